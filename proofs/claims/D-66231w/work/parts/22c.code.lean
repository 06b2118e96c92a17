/-! 60 PackedTree.parentOf(I)I; loop heads [8, 14] -/
set_option maxRecDepth 100000 in
theorem r_60_0 : ∀ (d : Nat) (l1 l2 l3 : Option Value) (v : Nat) (st : List Value) (M : Mem) (Q : Outcome → Mem → Prop), Wp d 60 0 [some (.ref v), l1, l2, l3] st M Q = Wp d 60 1 [some (.ref v), l1, l2, l3] (.ref v :: st) M Q := fun d l1 l2 l3 v st M Q => wA (show ins 60 0 = some (.aload_n 0, 1) by decide +kernel) rfl
set_option maxRecDepth 100000 in
theorem r_60_1 : ∀ (d : Nat) (ls : Lc) (a : Nat) (st : List Value) (M : Mem) (Q : Outcome → Mem → Prop), Wp d 60 1 ls (.ref a :: st) M Q = (fk 9 (kO M a) = true ∧ Wp d 60 4 ls (va_rf (mR M 9 a) :: st) M Q) := fun d ls a st M Q => w_getR (show ins 60 1 = some (.getfield 58, 3) by decide +kernel) (show fRes (mC 60) 58 = some (9, 1, false) by decide +kernel) (by decide +kernel)
set_option maxRecDepth 100000 in
theorem r_60_4 : ∀ (d : Nat) (ls : Lc) (a : Nat) (st : List Value) (M : Mem) (Q : Outcome → Mem → Prop), (smallR st = true) → Wp d 60 4 ls (.ref a :: st) M Q = (kO M a = 3 ∧ Ca d 60 4 ls 110 (.ref a :: []) st M Q) := fun d ls a st M Q h0 => w_virt1 (as := []) (show ins 60 4 = some (.invokevirtual 254, 3) by decide +kernel) (show mRes (mC 60) 254 = some (3, 3, [(3, 110)]) by decide +kernel) (by decide +kernel) rfl (by decide +kernel) (by decide +kernel) h0
set_option maxRecDepth 100000 in
theorem r_60_7 : ∀ (d : Nat) (l0 l1 l2 l3 : Option Value) (v : Nat) (st : List Value) (M : Mem) (Q : Outcome → Mem → Prop), (lo l1 = false) → Wp d 60 7 [l0, l1, l2, l3] (.ref v :: st) M Q = Wp d 60 8 [l0, l1, some (.ref v), l3] st M Q := fun d l0 l1 l2 l3 v st M Q hl => w_astore_n (show ins 60 7 = some (.astore_n 2, 1) by decide +kernel) (st1_S rfl rfl hl)
set_option maxRecDepth 100000 in
theorem r_60_7_1 : ∀ (d : Nat) (l0 l1 l2 l3 : Option Value) (st : List Value) (M : Mem) (Q : Outcome → Mem → Prop), (lo l1 = false) → Wp d 60 7 [l0, l1, l2, l3] (.null :: st) M Q = Wp d 60 8 [l0, l1, some (.null), l3] st M Q := fun d l0 l1 l2 l3 st M Q hl => w_astoreN_n (show ins 60 7 = some (.astore_n 2, 1) by decide +kernel) (st1_S rfl rfl hl)
set_option maxRecDepth 100000 in
theorem r_60_8 : ∀ (d : Nat) (l0 l1 l3 : Option Value) (v : Nat) (st : List Value) (M : Mem) (Q : Outcome → Mem → Prop), Wp d 60 8 [l0, l1, some (.ref v), l3] st M Q = Wp d 60 9 [l0, l1, some (.ref v), l3] (.ref v :: st) M Q := fun d l0 l1 l3 v st M Q => wA (show ins 60 8 = some (.aload_n 2, 1) by decide +kernel) rfl
set_option maxRecDepth 100000 in
theorem r_60_8_1 : ∀ (d : Nat) (l0 l1 l3 : Option Value) (st : List Value) (M : Mem) (Q : Outcome → Mem → Prop), Wp d 60 8 [l0, l1, some .null, l3] st M Q = Wp d 60 9 [l0, l1, some .null, l3] (.null :: st) M Q := fun d l0 l1 l3 st M Q => wA (show ins 60 8 = some (.aload_n 2, 1) by decide +kernel) rfl
set_option maxRecDepth 100000 in
theorem r_60_9 : ∀ (d : Nat) (ls : Lc) (st : List Value) (M : Mem) (Q : Outcome → Mem → Prop), Wp d 60 9 ls (.null :: st) M Q = Wp d 60 78 ls st M Q := fun d ls st M Q => w_ifnullN (show ins 60 9 = some (.ifnull 69, 3) by decide +kernel) rfl
set_option maxRecDepth 100000 in
theorem r_60_9_1 : ∀ (d : Nat) (ls : Lc) (v : Nat) (st : List Value) (M : Mem) (Q : Outcome → Mem → Prop), Wp d 60 9 ls (.ref v :: st) M Q = Wp d 60 12 ls st M Q := fun d ls v st M Q => w_ifnullR (show ins 60 9 = some (.ifnull 69, 3) by decide +kernel) (t := 78) rfl
set_option maxRecDepth 100000 in
theorem r_60_12 : ∀ (d : Nat) (ls : Lc) (st : List Value) (M : Mem) (Q : Outcome → Mem → Prop), Wp d 60 12 ls st M Q = Wp d 60 13 ls (.int (I 0) :: st) M Q := fun d ls st M Q => w_iconst (show ins 60 12 = some (.iconst 0, 1) by decide +kernel)
set_option maxRecDepth 100000 in
theorem r_60_13 : ∀ (d : Nat) (l0 l1 l2 l3 : Option Value) (v : Int32) (st : List Value) (M : Mem) (Q : Outcome → Mem → Prop), (lo l2 = false) → Wp d 60 13 [l0, l1, l2, l3] (.int v :: st) M Q = Wp d 60 14 [l0, l1, l2, some (.int v)] st M Q := fun d l0 l1 l2 l3 v st M Q hl => w_istore_n (show ins 60 13 = some (.istore_n 3, 1) by decide +kernel) (st1_S rfl rfl hl)
set_option maxRecDepth 100000 in
theorem r_60_14 : ∀ (d : Nat) (l0 l1 l2 : Option Value) (v : Int32) (st : List Value) (M : Mem) (Q : Outcome → Mem → Prop), Wp d 60 14 [l0, l1, l2, some (.int v)] st M Q = Wp d 60 15 [l0, l1, l2, some (.int v)] (.int v :: st) M Q := fun d l0 l1 l2 v st M Q => wA (show ins 60 14 = some (.iload_n 3, 1) by decide +kernel) rfl
set_option maxRecDepth 100000 in
theorem r_60_15 : ∀ (d : Nat) (l0 l1 l3 : Option Value) (v : Nat) (st : List Value) (M : Mem) (Q : Outcome → Mem → Prop), Wp d 60 15 [l0, l1, some (.ref v), l3] st M Q = Wp d 60 16 [l0, l1, some (.ref v), l3] (.ref v :: st) M Q := fun d l0 l1 l3 v st M Q => wA (show ins 60 15 = some (.aload_n 2, 1) by decide +kernel) rfl
set_option maxRecDepth 100000 in
theorem r_60_15_1 : ∀ (d : Nat) (l0 l1 l3 : Option Value) (st : List Value) (M : Mem) (Q : Outcome → Mem → Prop), Wp d 60 15 [l0, l1, some .null, l3] st M Q = Wp d 60 16 [l0, l1, some .null, l3] (.null :: st) M Q := fun d l0 l1 l3 st M Q => wA (show ins 60 15 = some (.aload_n 2, 1) by decide +kernel) rfl
set_option maxRecDepth 100000 in
theorem r_60_16 : ∀ (d : Nat) (ls : Lc) (a : Nat) (st : List Value) (M : Mem) (Q : Outcome → Mem → Prop), Wp d 60 16 ls (.ref a :: st) M Q = (fk 37 (kO M a) = true ∧ Wp d 60 19 ls (.int (mF M 37 a) :: st) M Q) := fun d ls a st M Q => w_getI (show ins 60 16 = some (.getfield 258, 3) by decide +kernel) (show fRes (mC 60) 258 = some (37, 5, true) by decide +kernel) (by decide +kernel)
set_option maxRecDepth 100000 in
theorem r_60_19 : ∀ (d : Nat) (ls : Lc) (a b : Int32) (st : List Value) (M : Mem) (Q : Outcome → Mem → Prop), Wp d 60 19 ls (.int b :: .int a :: st) M Q = Br (b ≤ a) d 60 67 22 ls st M Q := fun d ls a b st M Q => w_icmp (show ins 60 19 = some (.if_icmp .ge 48, 3) by decide +kernel) rfl rfl
set_option maxRecDepth 100000 in
theorem r_60_22 : ∀ (d : Nat) (l0 l1 l3 : Option Value) (v : Nat) (st : List Value) (M : Mem) (Q : Outcome → Mem → Prop), Wp d 60 22 [l0, l1, some (.ref v), l3] st M Q = Wp d 60 23 [l0, l1, some (.ref v), l3] (.ref v :: st) M Q := fun d l0 l1 l3 v st M Q => wA (show ins 60 22 = some (.aload_n 2, 1) by decide +kernel) rfl
set_option maxRecDepth 100000 in
theorem r_60_22_1 : ∀ (d : Nat) (l0 l1 l3 : Option Value) (st : List Value) (M : Mem) (Q : Outcome → Mem → Prop), Wp d 60 22 [l0, l1, some .null, l3] st M Q = Wp d 60 23 [l0, l1, some .null, l3] (.null :: st) M Q := fun d l0 l1 l3 st M Q => wA (show ins 60 22 = some (.aload_n 2, 1) by decide +kernel) rfl
set_option maxRecDepth 100000 in
theorem r_60_23 : ∀ (d : Nat) (ls : Lc) (a : Nat) (st : List Value) (M : Mem) (Q : Outcome → Mem → Prop), Wp d 60 23 ls (.ref a :: st) M Q = (fk 36 (kO M a) = true ∧ Wp d 60 26 ls (va_rf (mR M 36 a) :: st) M Q) := fun d ls a st M Q => w_getR (show ins 60 23 = some (.getfield 261, 3) by decide +kernel) (show fRes (mC 60) 261 = some (36, 5, true) by decide +kernel) (by decide +kernel)
set_option maxRecDepth 100000 in
theorem r_60_26 : ∀ (d : Nat) (l0 l1 l2 : Option Value) (v : Int32) (st : List Value) (M : Mem) (Q : Outcome → Mem → Prop), Wp d 60 26 [l0, l1, l2, some (.int v)] st M Q = Wp d 60 27 [l0, l1, l2, some (.int v)] (.int v :: st) M Q := fun d l0 l1 l2 v st M Q => wA (show ins 60 26 = some (.iload_n 3, 1) by decide +kernel) rfl
set_option maxRecDepth 100000 in
theorem r_60_27 : ∀ (d : Nat) (ls : Lc) (a : Nat) (j : Int32) (st : List Value) (M : Mem) (Q : Outcome → Mem → Prop), Wp d 60 27 ls (.int j :: .ref a :: st) M Q = ((((kX M a).1 = 0 ∨ (kX M a).1 = 8) ∧ inB j (kX M a).2 = true) ∧ Wp d 60 28 ls (.int (mA M a j.toNatClampNeg) :: st) M Q) := fun d ls a j st M Q => w_iaload (show ins 60 27 = some (.iaload, 1) by decide +kernel)
set_option maxRecDepth 100000 in
theorem r_60_28 : ∀ (d : Nat) (ls : Lc) (v0 : Value)  (st : List Value) (M : Mem) (Q : Outcome → Mem → Prop), (smallR st = true) → Wp d 60 28 ls (v0 :: st) M Q = Ca d 60 28 ls 61 [v0] st M Q := fun d ls v0 st M Q h0 => w_stat (as := [v0]) (show ins 60 28 = some (.invokestatic 264, 3) by decide +kernel) (show mRes (mC 60) 264 = some (0, 1, [(0, 61)]) by decide +kernel) (by decide +kernel) (by decide +kernel) rfl h0
set_option maxRecDepth 100000 in
theorem r_60_31 : ∀ (d : Nat) (ls : Lc) (st : List Value) (M : Mem) (Q : Outcome → Mem → Prop), Wp d 60 31 ls st M Q = Wp d 60 32 ls (.int (I 1) :: st) M Q := fun d ls st M Q => w_iconst (show ins 60 31 = some (.iconst 1, 1) by decide +kernel)
set_option maxRecDepth 100000 in
theorem r_60_32 : ∀ (d : Nat) (ls : Lc) (a b : Int32) (st : List Value) (M : Mem) (Q : Outcome → Mem → Prop), Wp d 60 32 ls (.int b :: .int a :: st) M Q = Br (¬ a = b) d 60 61 35 ls st M Q := fun d ls a b st M Q => w_icmp (show ins 60 32 = some (.if_icmp .ne 29, 3) by decide +kernel) rfl rfl
set_option maxRecDepth 100000 in
theorem r_60_35 : ∀ (d : Nat) (l0 l1 l3 : Option Value) (v : Nat) (st : List Value) (M : Mem) (Q : Outcome → Mem → Prop), Wp d 60 35 [l0, l1, some (.ref v), l3] st M Q = Wp d 60 36 [l0, l1, some (.ref v), l3] (.ref v :: st) M Q := fun d l0 l1 l3 v st M Q => wA (show ins 60 35 = some (.aload_n 2, 1) by decide +kernel) rfl
set_option maxRecDepth 100000 in
theorem r_60_35_1 : ∀ (d : Nat) (l0 l1 l3 : Option Value) (st : List Value) (M : Mem) (Q : Outcome → Mem → Prop), Wp d 60 35 [l0, l1, some .null, l3] st M Q = Wp d 60 36 [l0, l1, some .null, l3] (.null :: st) M Q := fun d l0 l1 l3 st M Q => wA (show ins 60 35 = some (.aload_n 2, 1) by decide +kernel) rfl
set_option maxRecDepth 100000 in
theorem r_60_36 : ∀ (d : Nat) (ls : Lc) (a : Nat) (st : List Value) (M : Mem) (Q : Outcome → Mem → Prop), Wp d 60 36 ls (.ref a :: st) M Q = (fk 35 (kO M a) = true ∧ Wp d 60 39 ls (va_rf (mR M 35 a) :: st) M Q) := fun d ls a st M Q => w_getR (show ins 60 36 = some (.getfield 159, 3) by decide +kernel) (show fRes (mC 60) 159 = some (35, 5, true) by decide +kernel) (by decide +kernel)
set_option maxRecDepth 100000 in
theorem r_60_39 : ∀ (d : Nat) (l0 l1 l3 : Option Value) (v : Nat) (st : List Value) (M : Mem) (Q : Outcome → Mem → Prop), Wp d 60 39 [l0, l1, some (.ref v), l3] st M Q = Wp d 60 40 [l0, l1, some (.ref v), l3] (.ref v :: st) M Q := fun d l0 l1 l3 v st M Q => wA (show ins 60 39 = some (.aload_n 2, 1) by decide +kernel) rfl
set_option maxRecDepth 100000 in
theorem r_60_39_1 : ∀ (d : Nat) (l0 l1 l3 : Option Value) (st : List Value) (M : Mem) (Q : Outcome → Mem → Prop), Wp d 60 39 [l0, l1, some .null, l3] st M Q = Wp d 60 40 [l0, l1, some .null, l3] (.null :: st) M Q := fun d l0 l1 l3 st M Q => wA (show ins 60 39 = some (.aload_n 2, 1) by decide +kernel) rfl
set_option maxRecDepth 100000 in
theorem r_60_40 : ∀ (d : Nat) (l0 l1 l2 : Option Value) (v : Int32) (st : List Value) (M : Mem) (Q : Outcome → Mem → Prop), Wp d 60 40 [l0, l1, l2, some (.int v)] st M Q = Wp d 60 41 [l0, l1, l2, some (.int v)] (.int v :: st) M Q := fun d l0 l1 l2 v st M Q => wA (show ins 60 40 = some (.iload_n 3, 1) by decide +kernel) rfl
set_option maxRecDepth 100000 in
theorem r_60_41 : ∀ (d : Nat) (ls : Lc) (v0 : Value) (a : Nat) (st : List Value) (M : Mem) (Q : Outcome → Mem → Prop), (smallR st = true) → Wp d 60 41 ls (v0 :: .ref a :: st) M Q = (kO M a = 5 ∧ Ca d 60 41 ls 126 (.ref a :: [v0]) st M Q) := fun d ls v0 a st M Q h0 => w_virt1 (as := [v0]) (show ins 60 41 = some (.invokevirtual 167, 3) by decide +kernel) (show mRes (mC 60) 167 = some (3, 5, [(5, 126)]) by decide +kernel) (by decide +kernel) rfl (by decide +kernel) (by decide +kernel) h0
set_option maxRecDepth 100000 in
theorem r_60_44 : ∀ (d : Nat) (ls : Lc) (v0 v1 : Value)  (st : List Value) (M : Mem) (Q : Outcome → Mem → Prop), (smallR st = true) → Wp d 60 44 ls (v1 :: v0 :: st) M Q = Ca d 60 44 ls 36 [v0, v1] st M Q := fun d ls v0 v1 st M Q h0 => w_stat (as := [v0, v1]) (show ins 60 44 = some (.invokestatic 3, 3) by decide +kernel) (show mRes (mC 60) 3 = some (0, 1, [(0, 36)]) by decide +kernel) (by decide +kernel) (by decide +kernel) rfl h0
set_option maxRecDepth 100000 in
theorem r_60_47 : ∀ (d : Nat) (l0 l2 l3 : Option Value) (v : Int32) (st : List Value) (M : Mem) (Q : Outcome → Mem → Prop), Wp d 60 47 [l0, some (.int v), l2, l3] st M Q = Wp d 60 48 [l0, some (.int v), l2, l3] (.int v :: st) M Q := fun d l0 l2 l3 v st M Q => wA (show ins 60 47 = some (.iload_n 1, 1) by decide +kernel) rfl
set_option maxRecDepth 100000 in
theorem r_60_48 : ∀ (d : Nat) (ls : Lc) (a b : Int32) (st : List Value) (M : Mem) (Q : Outcome → Mem → Prop), Wp d 60 48 ls (.int b :: .int a :: st) M Q = Br (¬ a = b) d 60 61 51 ls st M Q := fun d ls a b st M Q => w_icmp (show ins 60 48 = some (.if_icmp .ne 13, 3) by decide +kernel) rfl rfl
set_option maxRecDepth 100000 in
theorem r_60_51 : ∀ (d : Nat) (l0 l1 l3 : Option Value) (v : Nat) (st : List Value) (M : Mem) (Q : Outcome → Mem → Prop), Wp d 60 51 [l0, l1, some (.ref v), l3] st M Q = Wp d 60 52 [l0, l1, some (.ref v), l3] (.ref v :: st) M Q := fun d l0 l1 l3 v st M Q => wA (show ins 60 51 = some (.aload_n 2, 1) by decide +kernel) rfl
set_option maxRecDepth 100000 in
theorem r_60_51_1 : ∀ (d : Nat) (l0 l1 l3 : Option Value) (st : List Value) (M : Mem) (Q : Outcome → Mem → Prop), Wp d 60 51 [l0, l1, some .null, l3] st M Q = Wp d 60 52 [l0, l1, some .null, l3] (.null :: st) M Q := fun d l0 l1 l3 st M Q => wA (show ins 60 51 = some (.aload_n 2, 1) by decide +kernel) rfl
set_option maxRecDepth 100000 in
theorem r_60_52 : ∀ (d : Nat) (ls : Lc) (a : Nat) (st : List Value) (M : Mem) (Q : Outcome → Mem → Prop), Wp d 60 52 ls (.ref a :: st) M Q = (fk 36 (kO M a) = true ∧ Wp d 60 55 ls (va_rf (mR M 36 a) :: st) M Q) := fun d ls a st M Q => w_getR (show ins 60 52 = some (.getfield 261, 3) by decide +kernel) (show fRes (mC 60) 261 = some (36, 5, true) by decide +kernel) (by decide +kernel)
set_option maxRecDepth 100000 in
theorem r_60_55 : ∀ (d : Nat) (l0 l1 l2 : Option Value) (v : Int32) (st : List Value) (M : Mem) (Q : Outcome → Mem → Prop), Wp d 60 55 [l0, l1, l2, some (.int v)] st M Q = Wp d 60 56 [l0, l1, l2, some (.int v)] (.int v :: st) M Q := fun d l0 l1 l2 v st M Q => wA (show ins 60 55 = some (.iload_n 3, 1) by decide +kernel) rfl
set_option maxRecDepth 100000 in
theorem r_60_56 : ∀ (d : Nat) (ls : Lc) (a : Nat) (j : Int32) (st : List Value) (M : Mem) (Q : Outcome → Mem → Prop), Wp d 60 56 ls (.int j :: .ref a :: st) M Q = ((((kX M a).1 = 0 ∨ (kX M a).1 = 8) ∧ inB j (kX M a).2 = true) ∧ Wp d 60 57 ls (.int (mA M a j.toNatClampNeg) :: st) M Q) := fun d ls a j st M Q => w_iaload (show ins 60 56 = some (.iaload, 1) by decide +kernel)
set_option maxRecDepth 100000 in
theorem r_60_57 : ∀ (d : Nat) (ls : Lc) (v0 : Value)  (st : List Value) (M : Mem) (Q : Outcome → Mem → Prop), (smallR st = true) → Wp d 60 57 ls (v0 :: st) M Q = Ca d 60 57 ls 62 [v0] st M Q := fun d ls v0 st M Q h0 => w_stat (as := [v0]) (show ins 60 57 = some (.invokestatic 267, 3) by decide +kernel) (show mRes (mC 60) 267 = some (0, 1, [(0, 62)]) by decide +kernel) (by decide +kernel) (by decide +kernel) rfl h0
set_option maxRecDepth 100000 in
theorem r_60_60 : ∀ (d : Nat) (ls : Lc) (v : Int32) (M : Mem) (Q : Outcome → Mem → Prop), Wp d 60 60 ls [.int v] M Q = Q (.returned (some (.int v))) M := fun d ls v M Q => w_ireturn (show ins 60 60 = some (.ireturn, 1) by decide +kernel) (by decide +kernel)
set_option maxRecDepth 100000 in
theorem r_60_61 : ∀ (d : Nat) (l0 l1 l2 : Option Value) (z : Int) (st : List Value) (M : Mem) (Q : Outcome → Mem → Prop), (lo l2 = false) → Wp d 60 61 [l0, l1, l2, some (.int (I z))] st M Q = Wp d 60 64 [l0, l1, l2, some (.int (I (z + 1)))] st M Q := fun d l0 l1 l2 z st M Q hl => w_iinc (show ins 60 61 = some (.iinc 3 1, 3) by decide +kernel) rfl (st1_S rfl rfl hl)
set_option maxRecDepth 100000 in
theorem r_60_64 : ∀ (d : Nat) (ls : Lc) (st : List Value) (M : Mem) (Q : Outcome → Mem → Prop), Wp d 60 64 ls st M Q = Wp d 60 14 ls st M Q := fun d ls st M Q => w_goto (show ins 60 64 = some (.goto (-50), 3) by decide +kernel) rfl
set_option maxRecDepth 100000 in
theorem r_60_67 : ∀ (d : Nat) (l0 l1 l3 : Option Value) (v : Nat) (st : List Value) (M : Mem) (Q : Outcome → Mem → Prop), Wp d 60 67 [l0, l1, some (.ref v), l3] st M Q = Wp d 60 68 [l0, l1, some (.ref v), l3] (.ref v :: st) M Q := fun d l0 l1 l3 v st M Q => wA (show ins 60 67 = some (.aload_n 2, 1) by decide +kernel) rfl
set_option maxRecDepth 100000 in
theorem r_60_67_1 : ∀ (d : Nat) (l0 l1 l3 : Option Value) (st : List Value) (M : Mem) (Q : Outcome → Mem → Prop), Wp d 60 67 [l0, l1, some .null, l3] st M Q = Wp d 60 68 [l0, l1, some .null, l3] (.null :: st) M Q := fun d l0 l1 l3 st M Q => wA (show ins 60 67 = some (.aload_n 2, 1) by decide +kernel) rfl
set_option maxRecDepth 100000 in
theorem r_60_68 : ∀ (d : Nat) (ls : Lc) (a : Nat) (st : List Value) (M : Mem) (Q : Outcome → Mem → Prop), Wp d 60 68 ls (.ref a :: st) M Q = (fk 31 (kO M a) = true ∧ Wp d 60 71 ls (va_rf (mR M 31 a) :: st) M Q) := fun d ls a st M Q => w_getR (show ins 60 68 = some (.getfield 270, 3) by decide +kernel) (show fRes (mC 60) 270 = some (31, 5, false) by decide +kernel) (by decide +kernel)
set_option maxRecDepth 100000 in
theorem r_60_71 : ∀ (d : Nat) (ls : Lc) (st : List Value) (M : Mem) (Q : Outcome → Mem → Prop), Wp d 60 71 ls (.null :: st) M Q = Wp d 60 74 ls (.null :: st) M Q := fun d ls st M Q => w_castN (show ins 60 71 = some (.checkcast 160, 3) by decide +kernel)
set_option maxRecDepth 100000 in
theorem r_60_71_1 : ∀ (d : Nat) (ls : Lc) (a : Nat) (st : List Value) (M : Mem) (Q : Outcome → Mem → Prop), Wp d 60 71 ls (.ref a :: st) M Q = (kO M a = 5 ∧ Wp d 60 74 ls (.ref a :: st) M Q) := fun d ls a st M Q => w_cast (show ins 60 71 = some (.checkcast 160, 3) by decide +kernel) (show cRes (mC 60) 160 = some 5 by decide +kernel) (by decide +kernel)
set_option maxRecDepth 100000 in
theorem r_60_74 : ∀ (d : Nat) (l0 l1 l2 l3 : Option Value) (v : Nat) (st : List Value) (M : Mem) (Q : Outcome → Mem → Prop), (lo l1 = false) → Wp d 60 74 [l0, l1, l2, l3] (.ref v :: st) M Q = Wp d 60 75 [l0, l1, some (.ref v), l3] st M Q := fun d l0 l1 l2 l3 v st M Q hl => w_astore_n (show ins 60 74 = some (.astore_n 2, 1) by decide +kernel) (st1_S rfl rfl hl)
set_option maxRecDepth 100000 in
theorem r_60_74_1 : ∀ (d : Nat) (l0 l1 l2 l3 : Option Value) (st : List Value) (M : Mem) (Q : Outcome → Mem → Prop), (lo l1 = false) → Wp d 60 74 [l0, l1, l2, l3] (.null :: st) M Q = Wp d 60 75 [l0, l1, some (.null), l3] st M Q := fun d l0 l1 l2 l3 st M Q hl => w_astoreN_n (show ins 60 74 = some (.astore_n 2, 1) by decide +kernel) (st1_S rfl rfl hl)
set_option maxRecDepth 100000 in
theorem r_60_75 : ∀ (d : Nat) (ls : Lc) (st : List Value) (M : Mem) (Q : Outcome → Mem → Prop), Wp d 60 75 ls st M Q = Wp d 60 8 ls st M Q := fun d ls st M Q => w_goto (show ins 60 75 = some (.goto (-67), 3) by decide +kernel) rfl
set_option maxRecDepth 100000 in
theorem r_60_78 : ∀ (d : Nat) (ls : Lc) (st : List Value) (M : Mem) (Q : Outcome → Mem → Prop), Wp d 60 78 ls st M Q = Wp d 60 79 ls (.int (I (-1)) :: st) M Q := fun d ls st M Q => w_iconst (show ins 60 78 = some (.iconst (-1), 1) by decide +kernel)
set_option maxRecDepth 100000 in
theorem r_60_79 : ∀ (d : Nat) (ls : Lc) (v : Int32) (M : Mem) (Q : Outcome → Mem → Prop), Wp d 60 79 ls [.int v] M Q = Q (.returned (some (.int v))) M := fun d ls v M Q => w_ireturn (show ins 60 79 = some (.ireturn, 1) by decide +kernel) (by decide +kernel)
set_option maxRecDepth 100000 in
theorem w_60_8 : (type_of% r_60_8) ∧ (type_of% r_60_8_1) := ⟨r_60_8, r_60_8_1⟩
set_option maxRecDepth 100000 in
theorem w_60_14 : (type_of% r_60_14) := r_60_14
set_option maxRecDepth 100000 in
theorem W_60 : (type_of% r_60_0) ∧ (type_of% r_60_1) ∧ (type_of% r_60_4) ∧ (type_of% r_60_7) ∧ (type_of% r_60_7_1) ∧ (type_of% r_60_9) ∧ (type_of% r_60_9_1) ∧ (type_of% r_60_12) ∧ (type_of% r_60_13) ∧ (type_of% r_60_15) ∧ (type_of% r_60_15_1) ∧ (type_of% r_60_16) ∧ (type_of% r_60_19) ∧ (type_of% r_60_22) ∧ (type_of% r_60_22_1) ∧ (type_of% r_60_23) ∧ (type_of% r_60_26) ∧ (type_of% r_60_27) ∧ (type_of% r_60_28) ∧ (type_of% r_60_31) ∧ (type_of% r_60_32) ∧ (type_of% r_60_35) ∧ (type_of% r_60_35_1) ∧ (type_of% r_60_36) ∧ (type_of% r_60_39) ∧ (type_of% r_60_39_1) ∧ (type_of% r_60_40) ∧ (type_of% r_60_41) ∧ (type_of% r_60_44) ∧ (type_of% r_60_47) ∧ (type_of% r_60_48) ∧ (type_of% r_60_51) ∧ (type_of% r_60_51_1) ∧ (type_of% r_60_52) ∧ (type_of% r_60_55) ∧ (type_of% r_60_56) ∧ (type_of% r_60_57) ∧ (type_of% r_60_60) ∧ (type_of% r_60_61) ∧ (type_of% r_60_64) ∧ (type_of% r_60_67) ∧ (type_of% r_60_67_1) ∧ (type_of% r_60_68) ∧ (type_of% r_60_71) ∧ (type_of% r_60_71_1) ∧ (type_of% r_60_74) ∧ (type_of% r_60_74_1) ∧ (type_of% r_60_75) ∧ (type_of% r_60_78) ∧ (type_of% r_60_79) := ⟨r_60_0, r_60_1, r_60_4, r_60_7, r_60_7_1, r_60_9, r_60_9_1, r_60_12, r_60_13, r_60_15, r_60_15_1, r_60_16, r_60_19, r_60_22, r_60_22_1, r_60_23, r_60_26, r_60_27, r_60_28, r_60_31, r_60_32, r_60_35, r_60_35_1, r_60_36, r_60_39, r_60_39_1, r_60_40, r_60_41, r_60_44, r_60_47, r_60_48, r_60_51, r_60_51_1, r_60_52, r_60_55, r_60_56, r_60_57, r_60_60, r_60_61, r_60_64, r_60_67, r_60_67_1, r_60_68, r_60_71, r_60_71_1, r_60_74, r_60_74_1, r_60_75, r_60_78, r_60_79⟩
set_option maxRecDepth 100000 in
theorem ca_60 {d y pc : Nat} {ls : Lc} {a : Nat} {z0 : Int32} {r : List Value} {M : Mem} {Q : Outcome → Mem → Prop} (hd : 0 < d) (hw : Wp (d - 1) 60 0 [some (.ref a), some (.int z0), none, none] [] M (Cq d y pc ls r Q)) : Ca d y pc ls 60 [.ref a, .int z0] r M Q := ca_of (mq_get (by decide)) (by rfl) hd hw
/-! 61 PackedTree.kindOf(I)I; loop heads [] -/
set_option maxRecDepth 100000 in
theorem r_61_0 : ∀ (d : Nat) (v : Int32) (st : List Value) (M : Mem) (Q : Outcome → Mem → Prop), Wp d 61 0 [some (.int v)] st M Q = Wp d 61 1 [some (.int v)] (.int v :: st) M Q := fun d v st M Q => wA (show ins 61 0 = some (.iload_n 0, 1) by decide +kernel) rfl
set_option maxRecDepth 100000 in
theorem r_61_1 : ∀ (d : Nat) (ls : Lc) (st : List Value) (M : Mem) (Q : Outcome → Mem → Prop), Wp d 61 1 ls st M Q = Wp d 61 4 ls (.int (I 1024) :: st) M Q := fun d ls st M Q => w_sipush (show ins 61 1 = some (.sipush 1024, 3) by decide +kernel) (by decide)
set_option maxRecDepth 100000 in
theorem r_61_4 : ∀ (d : Nat) (ls : Lc) (a b : Int) (st : List Value) (M : Mem) (Q : Outcome → Mem → Prop), (0 ≤ a) → (a < 2147483648) → (0 < b) → (b < 2147483648) → Wp d 61 4 ls (.int (I b) :: .int (I a) :: st) M Q = Wp d 61 5 ls (.int (I (a / b)) :: st) M Q := fun d ls a b st M Q h0 h1 h2 h3 => w_idiv (show ins 61 4 = some (.idiv, 1) by decide +kernel) h0 h1 h2 h3
set_option maxRecDepth 100000 in
theorem r_61_5 : ∀ (d : Nat) (ls : Lc) (st : List Value) (M : Mem) (Q : Outcome → Mem → Prop), Wp d 61 5 ls st M Q = Wp d 61 6 ls (.int (I 4) :: st) M Q := fun d ls st M Q => w_iconst (show ins 61 5 = some (.iconst 4, 1) by decide +kernel)
set_option maxRecDepth 100000 in
theorem r_61_6 : ∀ (d : Nat) (ls : Lc) (a b : Int) (st : List Value) (M : Mem) (Q : Outcome → Mem → Prop), (0 ≤ a) → (a < 2147483648) → (0 < b) → (b < 2147483648) → Wp d 61 6 ls (.int (I b) :: .int (I a) :: st) M Q = Wp d 61 7 ls (.int (I (a % b)) :: st) M Q := fun d ls a b st M Q h0 h1 h2 h3 => w_irem (show ins 61 6 = some (.irem, 1) by decide +kernel) h0 h1 h2 h3
set_option maxRecDepth 100000 in
theorem r_61_7 : ∀ (d : Nat) (ls : Lc) (v : Int32) (M : Mem) (Q : Outcome → Mem → Prop), Wp d 61 7 ls [.int v] M Q = Q (.returned (some (.int v))) M := fun d ls v M Q => w_ireturn (show ins 61 7 = some (.ireturn, 1) by decide +kernel) (by decide +kernel)
set_option maxRecDepth 100000 in
theorem W_61 : (type_of% r_61_0) ∧ (type_of% r_61_1) ∧ (type_of% r_61_4) ∧ (type_of% r_61_5) ∧ (type_of% r_61_6) ∧ (type_of% r_61_7) := ⟨r_61_0, r_61_1, r_61_4, r_61_5, r_61_6, r_61_7⟩
set_option maxRecDepth 100000 in
theorem ca_61 {d y pc : Nat} {ls : Lc} {z0 : Int32} {r : List Value} {M : Mem} {Q : Outcome → Mem → Prop} (hd : 0 < d) (hw : Wp (d - 1) 61 0 [some (.int z0)] [] M (Cq d y pc ls r Q)) : Ca d y pc ls 61 [.int z0] r M Q := ca_of (mq_get (by decide)) (by rfl) hd hw
/-! 62 PackedTree.objectOf(I)I; loop heads [] -/
set_option maxRecDepth 100000 in
theorem r_62_0 : ∀ (d : Nat) (v : Int32) (st : List Value) (M : Mem) (Q : Outcome → Mem → Prop), Wp d 62 0 [some (.int v)] st M Q = Wp d 62 1 [some (.int v)] (.int v :: st) M Q := fun d v st M Q => wA (show ins 62 0 = some (.iload_n 0, 1) by decide +kernel) rfl
set_option maxRecDepth 100000 in
theorem r_62_1 : ∀ (d : Nat) (ls : Lc) (st : List Value) (M : Mem) (Q : Outcome → Mem → Prop), Wp d 62 1 ls st M Q = Wp d 62 4 ls (.int (I 1024) :: st) M Q := fun d ls st M Q => w_sipush (show ins 62 1 = some (.sipush 1024, 3) by decide +kernel) (by decide)
set_option maxRecDepth 100000 in
theorem r_62_4 : ∀ (d : Nat) (ls : Lc) (a b : Int) (st : List Value) (M : Mem) (Q : Outcome → Mem → Prop), (0 ≤ a) → (a < 2147483648) → (0 < b) → (b < 2147483648) → Wp d 62 4 ls (.int (I b) :: .int (I a) :: st) M Q = Wp d 62 5 ls (.int (I (a / b)) :: st) M Q := fun d ls a b st M Q h0 h1 h2 h3 => w_idiv (show ins 62 4 = some (.idiv, 1) by decide +kernel) h0 h1 h2 h3
set_option maxRecDepth 100000 in
theorem r_62_5 : ∀ (d : Nat) (ls : Lc) (st : List Value) (M : Mem) (Q : Outcome → Mem → Prop), Wp d 62 5 ls st M Q = Wp d 62 6 ls (.int (I 4) :: st) M Q := fun d ls st M Q => w_iconst (show ins 62 5 = some (.iconst 4, 1) by decide +kernel)
set_option maxRecDepth 100000 in
theorem r_62_6 : ∀ (d : Nat) (ls : Lc) (a b : Int) (st : List Value) (M : Mem) (Q : Outcome → Mem → Prop), (0 ≤ a) → (a < 2147483648) → (0 < b) → (b < 2147483648) → Wp d 62 6 ls (.int (I b) :: .int (I a) :: st) M Q = Wp d 62 7 ls (.int (I (a / b)) :: st) M Q := fun d ls a b st M Q h0 h1 h2 h3 => w_idiv (show ins 62 6 = some (.idiv, 1) by decide +kernel) h0 h1 h2 h3
set_option maxRecDepth 100000 in
theorem r_62_7 : ∀ (d : Nat) (ls : Lc) (v : Int32) (M : Mem) (Q : Outcome → Mem → Prop), Wp d 62 7 ls [.int v] M Q = Q (.returned (some (.int v))) M := fun d ls v M Q => w_ireturn (show ins 62 7 = some (.ireturn, 1) by decide +kernel) (by decide +kernel)
set_option maxRecDepth 100000 in
theorem W_62 : (type_of% r_62_0) ∧ (type_of% r_62_1) ∧ (type_of% r_62_4) ∧ (type_of% r_62_5) ∧ (type_of% r_62_6) ∧ (type_of% r_62_7) := ⟨r_62_0, r_62_1, r_62_4, r_62_5, r_62_6, r_62_7⟩
set_option maxRecDepth 100000 in
theorem ca_62 {d y pc : Nat} {ls : Lc} {z0 : Int32} {r : List Value} {M : Mem} {Q : Outcome → Mem → Prop} (hd : 0 < d) (hw : Wp (d - 1) 62 0 [some (.int z0)] [] M (Cq d y pc ls r Q)) : Ca d y pc ls 62 [.int z0] r M Q := ca_of (mq_get (by decide)) (by rfl) hd hw
/-! 63 PackedTree.write(IIJI)I; loop heads [18] -/
set_option maxRecDepth 100000 in
theorem r_63_0 : ∀ (d : Nat) (l1 l2 l3 l4 l5 l6 : Option Value) (v : Nat) (st : List Value) (M : Mem) (Q : Outcome → Mem → Prop), Wp d 63 0 [some (.ref v), l1, l2, l3, l4, l5, l6] st M Q = Wp d 63 1 [some (.ref v), l1, l2, l3, l4, l5, l6] (.ref v :: st) M Q := fun d l1 l2 l3 l4 l5 l6 v st M Q => wA (show ins 63 0 = some (.aload_n 0, 1) by decide +kernel) rfl
set_option maxRecDepth 100000 in
theorem r_63_1 : ∀ (d : Nat) (l0 l2 l3 l4 l5 l6 : Option Value) (v : Int32) (st : List Value) (M : Mem) (Q : Outcome → Mem → Prop), Wp d 63 1 [l0, some (.int v), l2, l3, l4, l5, l6] st M Q = Wp d 63 2 [l0, some (.int v), l2, l3, l4, l5, l6] (.int v :: st) M Q := fun d l0 l2 l3 l4 l5 l6 v st M Q => wA (show ins 63 1 = some (.iload_n 1, 1) by decide +kernel) rfl
set_option maxRecDepth 100000 in
theorem r_63_2 : ∀ (d : Nat) (l0 l1 l3 l4 l5 l6 : Option Value) (v : Int32) (st : List Value) (M : Mem) (Q : Outcome → Mem → Prop), Wp d 63 2 [l0, l1, some (.int v), l3, l4, l5, l6] st M Q = Wp d 63 3 [l0, l1, some (.int v), l3, l4, l5, l6] (.int v :: st) M Q := fun d l0 l1 l3 l4 l5 l6 v st M Q => wA (show ins 63 2 = some (.iload_n 2, 1) by decide +kernel) rfl
set_option maxRecDepth 100000 in
theorem r_63_3 : ∀ (d : Nat) (l0 l1 l2 l3 l4 l6 : Option Value) (v : Int32) (st : List Value) (M : Mem) (Q : Outcome → Mem → Prop), Wp d 63 3 [l0, l1, l2, l3, l4, some (.int v), l6] st M Q = Wp d 63 5 [l0, l1, l2, l3, l4, some (.int v), l6] (.int v :: st) M Q := fun d l0 l1 l2 l3 l4 l6 v st M Q => wA (show ins 63 3 = some (.iload 5, 2) by decide +kernel) rfl
set_option maxRecDepth 100000 in
theorem r_63_5 : ∀ (d : Nat) (ls : Lc) (st : List Value) (M : Mem) (Q : Outcome → Mem → Prop), Wp d 63 5 ls st M Q = Wp d 63 7 ls (.int (I 8) :: st) M Q := fun d ls st M Q => w_bipush (show ins 63 5 = some (.bipush 8, 2) by decide +kernel) (by decide)
set_option maxRecDepth 100000 in
theorem r_63_7 : ∀ (d : Nat) (ls : Lc) (v0 v1 v2 v3 : Value) (a : Nat) (st : List Value) (M : Mem) (Q : Outcome → Mem → Prop), (smallR st = true) → Wp d 63 7 ls (v3 :: v2 :: v1 :: v0 :: .ref a :: st) M Q = (kO M a = 1 ∧ Ca d 63 7 ls 64 (.ref a :: [v0, v1, v2, v3]) st M Q) := fun d ls v0 v1 v2 v3 a st M Q h0 => w_virt1 (as := [v0, v1, v2, v3]) (show ins 63 7 = some (.invokevirtual 294, 3) by decide +kernel) (show mRes (mC 63) 294 = some (3, 1, [(1, 64)]) by decide +kernel) (by decide +kernel) rfl (by decide +kernel) (by decide +kernel) h0
set_option maxRecDepth 100000 in
theorem r_63_10 : ∀ (d : Nat) (l1 l2 l3 l4 l5 l6 : Option Value) (v : Nat) (st : List Value) (M : Mem) (Q : Outcome → Mem → Prop), Wp d 63 10 [some (.ref v), l1, l2, l3, l4, l5, l6] st M Q = Wp d 63 11 [some (.ref v), l1, l2, l3, l4, l5, l6] (.ref v :: st) M Q := fun d l1 l2 l3 l4 l5 l6 v st M Q => wA (show ins 63 10 = some (.aload_n 0, 1) by decide +kernel) rfl
set_option maxRecDepth 100000 in
theorem r_63_11 : ∀ (d : Nat) (l0 l2 l3 l4 l5 l6 : Option Value) (v : Int32) (st : List Value) (M : Mem) (Q : Outcome → Mem → Prop), Wp d 63 11 [l0, some (.int v), l2, l3, l4, l5, l6] st M Q = Wp d 63 12 [l0, some (.int v), l2, l3, l4, l5, l6] (.int v :: st) M Q := fun d l0 l2 l3 l4 l5 l6 v st M Q => wA (show ins 63 11 = some (.iload_n 1, 1) by decide +kernel) rfl
set_option maxRecDepth 100000 in
theorem r_63_12 : ∀ (d : Nat) (ls : Lc) (v0 : Value) (a : Nat) (st : List Value) (M : Mem) (Q : Outcome → Mem → Prop), (smallR st = true) → Wp d 63 12 ls (v0 :: .ref a :: st) M Q = (kO M a = 1 ∧ Ca d 63 12 ls 65 (.ref a :: [v0]) st M Q) := fun d ls v0 a st M Q h0 => w_virt1 (as := [v0]) (show ins 63 12 = some (.invokevirtual 298, 3) by decide +kernel) (show mRes (mC 63) 298 = some (3, 1, [(1, 65)]) by decide +kernel) (by decide +kernel) rfl (by decide +kernel) (by decide +kernel) h0
set_option maxRecDepth 100000 in
theorem r_63_15 : ∀ (d : Nat) (ls : Lc) (st : List Value) (M : Mem) (Q : Outcome → Mem → Prop), Wp d 63 15 ls st M Q = Wp d 63 16 ls (.int (I 0) :: st) M Q := fun d ls st M Q => w_iconst (show ins 63 15 = some (.iconst 0, 1) by decide +kernel)
set_option maxRecDepth 100000 in
theorem r_63_16 : ∀ (d : Nat) (l0 l1 l2 l3 l4 l5 l6 : Option Value) (v : Int32) (st : List Value) (M : Mem) (Q : Outcome → Mem → Prop), (lo l5 = false) → Wp d 63 16 [l0, l1, l2, l3, l4, l5, l6] (.int v :: st) M Q = Wp d 63 18 [l0, l1, l2, l3, l4, l5, some (.int v)] st M Q := fun d l0 l1 l2 l3 l4 l5 l6 v st M Q hl => w_istore (show ins 63 16 = some (.istore 6, 2) by decide +kernel) (st1_S rfl rfl hl)
set_option maxRecDepth 100000 in
theorem r_63_18 : ∀ (d : Nat) (l0 l1 l2 l3 l4 l5 : Option Value) (v : Int32) (st : List Value) (M : Mem) (Q : Outcome → Mem → Prop), Wp d 63 18 [l0, l1, l2, l3, l4, l5, some (.int v)] st M Q = Wp d 63 20 [l0, l1, l2, l3, l4, l5, some (.int v)] (.int v :: st) M Q := fun d l0 l1 l2 l3 l4 l5 v st M Q => wA (show ins 63 18 = some (.iload 6, 2) by decide +kernel) rfl
set_option maxRecDepth 100000 in
theorem r_63_20 : ∀ (d : Nat) (l0 l1 l2 l3 l4 l6 : Option Value) (v : Int32) (st : List Value) (M : Mem) (Q : Outcome → Mem → Prop), Wp d 63 20 [l0, l1, l2, l3, l4, some (.int v), l6] st M Q = Wp d 63 22 [l0, l1, l2, l3, l4, some (.int v), l6] (.int v :: st) M Q := fun d l0 l1 l2 l3 l4 l6 v st M Q => wA (show ins 63 20 = some (.iload 5, 2) by decide +kernel) rfl
set_option maxRecDepth 100000 in
theorem r_63_22 : ∀ (d : Nat) (ls : Lc) (a b : Int32) (st : List Value) (M : Mem) (Q : Outcome → Mem → Prop), Wp d 63 22 ls (.int b :: .int a :: st) M Q = Br (b ≤ a) d 63 49 25 ls st M Q := fun d ls a b st M Q => w_icmp (show ins 63 22 = some (.if_icmp .ge 27, 3) by decide +kernel) rfl rfl
set_option maxRecDepth 100000 in
theorem r_63_25 : ∀ (d : Nat) (l1 l2 l3 l4 l5 l6 : Option Value) (v : Nat) (st : List Value) (M : Mem) (Q : Outcome → Mem → Prop), Wp d 63 25 [some (.ref v), l1, l2, l3, l4, l5, l6] st M Q = Wp d 63 26 [some (.ref v), l1, l2, l3, l4, l5, l6] (.ref v :: st) M Q := fun d l1 l2 l3 l4 l5 l6 v st M Q => wA (show ins 63 25 = some (.aload_n 0, 1) by decide +kernel) rfl
set_option maxRecDepth 100000 in
theorem r_63_26 : ∀ (d : Nat) (ls : Lc) (a : Nat) (st : List Value) (M : Mem) (Q : Outcome → Mem → Prop), Wp d 63 26 ls (.ref a :: st) M Q = (fk 3 (kO M a) = true ∧ Wp d 63 29 ls (va_rf (mR M 3 a) :: st) M Q) := fun d ls a st M Q => w_getR (show ins 63 26 = some (.getfield 29, 3) by decide +kernel) (show fRes (mC 63) 29 = some (3, 1, false) by decide +kernel) (by decide +kernel)
set_option maxRecDepth 100000 in
theorem r_63_29 : ∀ (d : Nat) (l0 l1 l3 l4 l5 l6 : Option Value) (v : Int32) (st : List Value) (M : Mem) (Q : Outcome → Mem → Prop), Wp d 63 29 [l0, l1, some (.int v), l3, l4, l5, l6] st M Q = Wp d 63 30 [l0, l1, some (.int v), l3, l4, l5, l6] (.int v :: st) M Q := fun d l0 l1 l3 l4 l5 l6 v st M Q => wA (show ins 63 29 = some (.iload_n 2, 1) by decide +kernel) rfl
set_option maxRecDepth 100000 in
theorem r_63_30 : ∀ (d : Nat) (l0 l1 l2 l3 l4 l5 : Option Value) (v : Int32) (st : List Value) (M : Mem) (Q : Outcome → Mem → Prop), Wp d 63 30 [l0, l1, l2, l3, l4, l5, some (.int v)] st M Q = Wp d 63 32 [l0, l1, l2, l3, l4, l5, some (.int v)] (.int v :: st) M Q := fun d l0 l1 l2 l3 l4 l5 v st M Q => wA (show ins 63 30 = some (.iload 6, 2) by decide +kernel) rfl
set_option maxRecDepth 100000 in
theorem r_63_32 : ∀ (d : Nat) (ls : Lc) (a b : Int) (st : List Value) (M : Mem) (Q : Outcome → Mem → Prop), Wp d 63 32 ls (.int (I b) :: .int (I a) :: st) M Q = Wp d 63 33 ls (.int (I (a + b)) :: st) M Q := fun d ls a b st M Q => w_iadd (show ins 63 32 = some (.iadd, 1) by decide +kernel)
set_option maxRecDepth 100000 in
theorem r_63_33 : ∀ (d : Nat) (l0 l1 l2 l4 l5 l6 : Option Value) (v : Int64) (st : List Value) (M : Mem) (Q : Outcome → Mem → Prop), Wp d 63 33 [l0, l1, l2, some (.long v), l4, l5, l6] st M Q = Wp d 63 34 [l0, l1, l2, some (.long v), l4, l5, l6] (.long v :: st) M Q := fun d l0 l1 l2 l4 l5 l6 v st M Q => wA (show ins 63 33 = some (.lload_n 3, 1) by decide +kernel) rfl
set_option maxRecDepth 100000 in
theorem r_63_34 : ∀ (d : Nat) (ls : Lc) (st : List Value) (M : Mem) (Q : Outcome → Mem → Prop), Wp d 63 34 ls st M Q = Wp d 63 36 ls (.int (I 8) :: st) M Q := fun d ls st M Q => w_bipush (show ins 63 34 = some (.bipush 8, 2) by decide +kernel) (by decide)
set_option maxRecDepth 100000 in
theorem r_63_36 : ∀ (d : Nat) (l0 l1 l2 l3 l4 l5 : Option Value) (v : Int32) (st : List Value) (M : Mem) (Q : Outcome → Mem → Prop), Wp d 63 36 [l0, l1, l2, l3, l4, l5, some (.int v)] st M Q = Wp d 63 38 [l0, l1, l2, l3, l4, l5, some (.int v)] (.int v :: st) M Q := fun d l0 l1 l2 l3 l4 l5 v st M Q => wA (show ins 63 36 = some (.iload 6, 2) by decide +kernel) rfl
set_option maxRecDepth 100000 in
theorem r_63_38 : ∀ (d : Nat) (ls : Lc) (a b : Int) (st : List Value) (M : Mem) (Q : Outcome → Mem → Prop), Wp d 63 38 ls (.int (I b) :: .int (I a) :: st) M Q = Wp d 63 39 ls (.int (I (a * b)) :: st) M Q := fun d ls a b st M Q => w_imul (show ins 63 38 = some (.imul, 1) by decide +kernel)
set_option maxRecDepth 100000 in
theorem r_63_39 : ∀ (d : Nat) (ls : Lc) (a : Int64) (b : Int32) (st : List Value) (M : Mem) (Q : Outcome → Mem → Prop), Wp d 63 39 ls (.int b :: .long a :: st) M Q = Wp d 63 40 ls (.long (a >>> (b.toInt64 &&& 63)) :: st) M Q := fun d ls a b st M Q => wA (show ins 63 39 = some (.lshr, 1) by decide +kernel) rfl
set_option maxRecDepth 100000 in
theorem r_63_40 : ∀ (d : Nat) (ls : Lc) (a : Int64) (st : List Value) (M : Mem) (Q : Outcome → Mem → Prop), Wp d 63 40 ls (.long a :: st) M Q = Wp d 63 41 ls (.int a.toInt32 :: st) M Q := fun d ls a st M Q => wA (show ins 63 40 = some (.l2i, 1) by decide +kernel) rfl
set_option maxRecDepth 100000 in
theorem r_63_41 : ∀ (d : Nat) (ls : Lc) (a : Int32) (st : List Value) (M : Mem) (Q : Outcome → Mem → Prop), Wp d 63 41 ls (.int a :: st) M Q = Wp d 63 42 ls (.int a.toInt8.toInt32 :: st) M Q := fun d ls a st M Q => wA (show ins 63 41 = some (.i2b, 1) by decide +kernel) rfl
set_option maxRecDepth 100000 in
theorem r_63_42 : ∀ (d : Nat) (ls : Lc) (a : Nat) (j v : Int32) (st : List Value) (M : Mem) (Q : Outcome → Mem → Prop), Wp d 63 42 ls (.int v :: .int j :: .ref a :: st) M Q = ((((kX M a).1 = 1 ∨ (kX M a).1 = 2) ∧ inB j (kX M a).2 = true) ∧ Wp d 63 43 ls st (sA M a j.toNatClampNeg (nrw (kX M a).1 v)) Q) := fun d ls a j v st M Q => w_bastore (show ins 63 42 = some (.bastore, 1) by decide +kernel)
set_option maxRecDepth 100000 in
theorem r_63_43 : ∀ (d : Nat) (l0 l1 l2 l3 l4 l5 : Option Value) (z : Int) (st : List Value) (M : Mem) (Q : Outcome → Mem → Prop), (lo l5 = false) → Wp d 63 43 [l0, l1, l2, l3, l4, l5, some (.int (I z))] st M Q = Wp d 63 46 [l0, l1, l2, l3, l4, l5, some (.int (I (z + 1)))] st M Q := fun d l0 l1 l2 l3 l4 l5 z st M Q hl => w_iinc (show ins 63 43 = some (.iinc 6 1, 3) by decide +kernel) rfl (st1_S rfl rfl hl)
set_option maxRecDepth 100000 in
theorem r_63_46 : ∀ (d : Nat) (ls : Lc) (st : List Value) (M : Mem) (Q : Outcome → Mem → Prop), Wp d 63 46 ls st M Q = Wp d 63 18 ls st M Q := fun d ls st M Q => w_goto (show ins 63 46 = some (.goto (-28), 3) by decide +kernel) rfl
set_option maxRecDepth 100000 in
theorem r_63_49 : ∀ (d : Nat) (l1 l2 l3 l4 l5 l6 : Option Value) (v : Nat) (st : List Value) (M : Mem) (Q : Outcome → Mem → Prop), Wp d 63 49 [some (.ref v), l1, l2, l3, l4, l5, l6] st M Q = Wp d 63 50 [some (.ref v), l1, l2, l3, l4, l5, l6] (.ref v :: st) M Q := fun d l1 l2 l3 l4 l5 l6 v st M Q => wA (show ins 63 49 = some (.aload_n 0, 1) by decide +kernel) rfl
set_option maxRecDepth 100000 in
theorem r_63_50 : ∀ (d : Nat) (l0 l2 l3 l4 l5 l6 : Option Value) (v : Int32) (st : List Value) (M : Mem) (Q : Outcome → Mem → Prop), Wp d 63 50 [l0, some (.int v), l2, l3, l4, l5, l6] st M Q = Wp d 63 51 [l0, some (.int v), l2, l3, l4, l5, l6] (.int v :: st) M Q := fun d l0 l2 l3 l4 l5 l6 v st M Q => wA (show ins 63 50 = some (.iload_n 1, 1) by decide +kernel) rfl
set_option maxRecDepth 100000 in
theorem r_63_51 : ∀ (d : Nat) (l1 l2 l3 l4 l5 l6 : Option Value) (v : Nat) (st : List Value) (M : Mem) (Q : Outcome → Mem → Prop), Wp d 63 51 [some (.ref v), l1, l2, l3, l4, l5, l6] st M Q = Wp d 63 52 [some (.ref v), l1, l2, l3, l4, l5, l6] (.ref v :: st) M Q := fun d l1 l2 l3 l4 l5 l6 v st M Q => wA (show ins 63 51 = some (.aload_n 0, 1) by decide +kernel) rfl
set_option maxRecDepth 100000 in
theorem r_63_52 : ∀ (d : Nat) (l0 l2 l3 l4 l5 l6 : Option Value) (v : Int32) (st : List Value) (M : Mem) (Q : Outcome → Mem → Prop), Wp d 63 52 [l0, some (.int v), l2, l3, l4, l5, l6] st M Q = Wp d 63 53 [l0, some (.int v), l2, l3, l4, l5, l6] (.int v :: st) M Q := fun d l0 l2 l3 l4 l5 l6 v st M Q => wA (show ins 63 52 = some (.iload_n 1, 1) by decide +kernel) rfl
set_option maxRecDepth 100000 in
theorem r_63_53 : ∀ (d : Nat) (ls : Lc) (v0 : Value) (a : Nat) (st : List Value) (M : Mem) (Q : Outcome → Mem → Prop), (smallR st = true) → Wp d 63 53 ls (v0 :: .ref a :: st) M Q = (kO M a = 1 ∧ Ca d 63 53 ls 47 (.ref a :: [v0]) st M Q) := fun d ls v0 a st M Q h0 => w_virt1 (as := [v0]) (show ins 63 53 = some (.invokevirtual 192, 3) by decide +kernel) (show mRes (mC 63) 192 = some (3, 1, [(1, 47)]) by decide +kernel) (by decide +kernel) rfl (by decide +kernel) (by decide +kernel) h0
set_option maxRecDepth 100000 in
theorem r_63_56 : ∀ (d : Nat) (l0 l1 l3 l4 l5 l6 : Option Value) (v : Int32) (st : List Value) (M : Mem) (Q : Outcome → Mem → Prop), Wp d 63 56 [l0, l1, some (.int v), l3, l4, l5, l6] st M Q = Wp d 63 57 [l0, l1, some (.int v), l3, l4, l5, l6] (.int v :: st) M Q := fun d l0 l1 l3 l4 l5 l6 v st M Q => wA (show ins 63 56 = some (.iload_n 2, 1) by decide +kernel) rfl
set_option maxRecDepth 100000 in
theorem r_63_57 : ∀ (d : Nat) (l0 l1 l2 l3 l4 l6 : Option Value) (v : Int32) (st : List Value) (M : Mem) (Q : Outcome → Mem → Prop), Wp d 63 57 [l0, l1, l2, l3, l4, some (.int v), l6] st M Q = Wp d 63 59 [l0, l1, l2, l3, l4, some (.int v), l6] (.int v :: st) M Q := fun d l0 l1 l2 l3 l4 l6 v st M Q => wA (show ins 63 57 = some (.iload 5, 2) by decide +kernel) rfl
set_option maxRecDepth 100000 in
theorem r_63_59 : ∀ (d : Nat) (ls : Lc) (a b : Int) (st : List Value) (M : Mem) (Q : Outcome → Mem → Prop), Wp d 63 59 ls (.int (I b) :: .int (I a) :: st) M Q = Wp d 63 60 ls (.int (I (a + b)) :: st) M Q := fun d ls a b st M Q => w_iadd (show ins 63 59 = some (.iadd, 1) by decide +kernel)
set_option maxRecDepth 100000 in
theorem r_63_60 : ∀ (d : Nat) (ls : Lc) (a b : Int32) (st : List Value) (M : Mem) (Q : Outcome → Mem → Prop), (smallR st = true) → Wp d 63 60 ls (.int b :: .int a :: st) M Q = Wp d 63 63 ls (.int (if a < b then b else a) :: st) M Q := fun d ls a b st M Q h0 => w_max (show ins 63 60 = some (.invokestatic 301, 3) by decide +kernel) (show mRes (mC 63) 301 = some (0, 9, [(0, 231)]) by decide +kernel) h0
set_option maxRecDepth 100000 in
theorem r_63_63 : ∀ (d : Nat) (ls : Lc) (v0 v1 : Value) (a : Nat) (st : List Value) (M : Mem) (Q : Outcome → Mem → Prop), (smallR st = true) → Wp d 63 63 ls (v1 :: v0 :: .ref a :: st) M Q = (kO M a = 1 ∧ Ca d 63 63 ls 66 (.ref a :: [v0, v1]) st M Q) := fun d ls v0 v1 a st M Q h0 => w_virt1 (as := [v0, v1]) (show ins 63 63 = some (.invokevirtual 306, 3) by decide +kernel) (show mRes (mC 63) 306 = some (3, 1, [(1, 66)]) by decide +kernel) (by decide +kernel) rfl (by decide +kernel) (by decide +kernel) h0
set_option maxRecDepth 100000 in
theorem r_63_66 : ∀ (d : Nat) (ls : Lc) (v : Int32) (M : Mem) (Q : Outcome → Mem → Prop), Wp d 63 66 ls [.int v] M Q = Q (.returned (some (.int v))) M := fun d ls v M Q => w_ireturn (show ins 63 66 = some (.ireturn, 1) by decide +kernel) (by decide +kernel)
set_option maxRecDepth 100000 in
theorem w_63_18 : (type_of% r_63_18) := r_63_18
set_option maxRecDepth 100000 in
theorem W_63 : (type_of% r_63_0) ∧ (type_of% r_63_1) ∧ (type_of% r_63_2) ∧ (type_of% r_63_3) ∧ (type_of% r_63_5) ∧ (type_of% r_63_7) ∧ (type_of% r_63_10) ∧ (type_of% r_63_11) ∧ (type_of% r_63_12) ∧ (type_of% r_63_15) ∧ (type_of% r_63_16) ∧ (type_of% r_63_20) ∧ (type_of% r_63_22) ∧ (type_of% r_63_25) ∧ (type_of% r_63_26) ∧ (type_of% r_63_29) ∧ (type_of% r_63_30) ∧ (type_of% r_63_32) ∧ (type_of% r_63_33) ∧ (type_of% r_63_34) ∧ (type_of% r_63_36) ∧ (type_of% r_63_38) ∧ (type_of% r_63_39) ∧ (type_of% r_63_40) ∧ (type_of% r_63_41) ∧ (type_of% r_63_42) ∧ (type_of% r_63_43) ∧ (type_of% r_63_46) ∧ (type_of% r_63_49) ∧ (type_of% r_63_50) ∧ (type_of% r_63_51) ∧ (type_of% r_63_52) ∧ (type_of% r_63_53) ∧ (type_of% r_63_56) ∧ (type_of% r_63_57) ∧ (type_of% r_63_59) ∧ (type_of% r_63_60) ∧ (type_of% r_63_63) ∧ (type_of% r_63_66) := ⟨r_63_0, r_63_1, r_63_2, r_63_3, r_63_5, r_63_7, r_63_10, r_63_11, r_63_12, r_63_15, r_63_16, r_63_20, r_63_22, r_63_25, r_63_26, r_63_29, r_63_30, r_63_32, r_63_33, r_63_34, r_63_36, r_63_38, r_63_39, r_63_40, r_63_41, r_63_42, r_63_43, r_63_46, r_63_49, r_63_50, r_63_51, r_63_52, r_63_53, r_63_56, r_63_57, r_63_59, r_63_60, r_63_63, r_63_66⟩
set_option maxRecDepth 100000 in
theorem ca_63 {d y pc : Nat} {ls : Lc} {a : Nat} {z0 : Int32} {z1 : Int32} {z2 : Int64} {z3 : Int32} {r : List Value} {M : Mem} {Q : Outcome → Mem → Prop} (hd : 0 < d) (hw : Wp (d - 1) 63 0 [some (.ref a), some (.int z0), some (.int z1), some (.long z2), none, some (.int z3), none] [] M (Cq d y pc ls r Q)) : Ca d y pc ls 63 [.ref a, .int z0, .int z1, .long z2, .int z3] r M Q := ca_of (mq_get (by decide)) (by rfl) hd hw
/-! 64 PackedTree.mayWrite(IIII)V; loop heads [] -/
set_option maxRecDepth 100000 in
theorem r_64_0 : ∀ (d : Nat) (l1 l2 l3 l4 : Option Value) (v : Nat) (st : List Value) (M : Mem) (Q : Outcome → Mem → Prop), Wp d 64 0 [some (.ref v), l1, l2, l3, l4] st M Q = Wp d 64 1 [some (.ref v), l1, l2, l3, l4] (.ref v :: st) M Q := fun d l1 l2 l3 l4 v st M Q => wA (show ins 64 0 = some (.aload_n 0, 1) by decide +kernel) rfl
set_option maxRecDepth 100000 in
theorem r_64_1 : ∀ (d : Nat) (ls : Lc) (a : Nat) (st : List Value) (M : Mem) (Q : Outcome → Mem → Prop), (smallR st = true) → Wp d 64 1 ls (.ref a :: st) M Q = (kO M a = 1 ∧ Ca d 64 1 ls 30 (.ref a :: []) st M Q) := fun d ls a st M Q h0 => w_virt1 (as := []) (show ins 64 1 = some (.invokevirtual 204, 3) by decide +kernel) (show mRes (mC 64) 204 = some (3, 1, [(1, 30)]) by decide +kernel) (by decide +kernel) rfl (by decide +kernel) (by decide +kernel) h0
set_option maxRecDepth 100000 in
theorem r_64_4 : ∀ (d : Nat) (l1 l2 l3 l4 : Option Value) (v : Nat) (st : List Value) (M : Mem) (Q : Outcome → Mem → Prop), Wp d 64 4 [some (.ref v), l1, l2, l3, l4] st M Q = Wp d 64 5 [some (.ref v), l1, l2, l3, l4] (.ref v :: st) M Q := fun d l1 l2 l3 l4 v st M Q => wA (show ins 64 4 = some (.aload_n 0, 1) by decide +kernel) rfl
set_option maxRecDepth 100000 in
theorem r_64_5 : ∀ (d : Nat) (l0 l2 l3 l4 : Option Value) (v : Int32) (st : List Value) (M : Mem) (Q : Outcome → Mem → Prop), Wp d 64 5 [l0, some (.int v), l2, l3, l4] st M Q = Wp d 64 6 [l0, some (.int v), l2, l3, l4] (.int v :: st) M Q := fun d l0 l2 l3 l4 v st M Q => wA (show ins 64 5 = some (.iload_n 1, 1) by decide +kernel) rfl
set_option maxRecDepth 100000 in
theorem r_64_6 : ∀ (d : Nat) (ls : Lc) (v0 : Value) (a : Nat) (st : List Value) (M : Mem) (Q : Outcome → Mem → Prop), (smallR st = true) → Wp d 64 6 ls (v0 :: .ref a :: st) M Q = (kO M a = 1 ∧ Ca d 64 6 ls 52 (.ref a :: [v0]) st M Q) := fun d ls v0 a st M Q h0 => w_virt1 (as := [v0]) (show ins 64 6 = some (.invokevirtual 239, 3) by decide +kernel) (show mRes (mC 64) 239 = some (3, 1, [(1, 52)]) by decide +kernel) (by decide +kernel) rfl (by decide +kernel) (by decide +kernel) h0
set_option maxRecDepth 100000 in
theorem r_64_9 : ∀ (d : Nat) (ls : Lc) (a : Int32) (st : List Value) (M : Mem) (Q : Outcome → Mem → Prop), Wp d 64 9 ls (.int a :: st) M Q = Br (a = I 0) d 64 29 12 ls st M Q := fun d ls a st M Q => w_if (show ins 64 9 = some (.ifCond .eq 20, 3) by decide +kernel) rfl rfl
set_option maxRecDepth 100000 in
theorem r_64_12 : ∀ (d : Nat) (l0 l1 l3 l4 : Option Value) (v : Int32) (st : List Value) (M : Mem) (Q : Outcome → Mem → Prop), Wp d 64 12 [l0, l1, some (.int v), l3, l4] st M Q = Wp d 64 13 [l0, l1, some (.int v), l3, l4] (.int v :: st) M Q := fun d l0 l1 l3 l4 v st M Q => wA (show ins 64 12 = some (.iload_n 2, 1) by decide +kernel) rfl
set_option maxRecDepth 100000 in
theorem r_64_13 : ∀ (d : Nat) (ls : Lc) (a : Int32) (st : List Value) (M : Mem) (Q : Outcome → Mem → Prop), Wp d 64 13 ls (.int a :: st) M Q = Br (a < I 0) d 64 29 16 ls st M Q := fun d ls a st M Q => w_if (show ins 64 13 = some (.ifCond .lt 16, 3) by decide +kernel) rfl rfl
set_option maxRecDepth 100000 in
theorem r_64_16 : ∀ (d : Nat) (l0 l1 l3 l4 : Option Value) (v : Int32) (st : List Value) (M : Mem) (Q : Outcome → Mem → Prop), Wp d 64 16 [l0, l1, some (.int v), l3, l4] st M Q = Wp d 64 17 [l0, l1, some (.int v), l3, l4] (.int v :: st) M Q := fun d l0 l1 l3 l4 v st M Q => wA (show ins 64 16 = some (.iload_n 2, 1) by decide +kernel) rfl
set_option maxRecDepth 100000 in
theorem r_64_17 : ∀ (d : Nat) (l1 l2 l3 l4 : Option Value) (v : Nat) (st : List Value) (M : Mem) (Q : Outcome → Mem → Prop), Wp d 64 17 [some (.ref v), l1, l2, l3, l4] st M Q = Wp d 64 18 [some (.ref v), l1, l2, l3, l4] (.ref v :: st) M Q := fun d l1 l2 l3 l4 v st M Q => wA (show ins 64 17 = some (.aload_n 0, 1) by decide +kernel) rfl
set_option maxRecDepth 100000 in
theorem r_64_18 : ∀ (d : Nat) (l0 l2 l3 l4 : Option Value) (v : Int32) (st : List Value) (M : Mem) (Q : Outcome → Mem → Prop), Wp d 64 18 [l0, some (.int v), l2, l3, l4] st M Q = Wp d 64 19 [l0, some (.int v), l2, l3, l4] (.int v :: st) M Q := fun d l0 l2 l3 l4 v st M Q => wA (show ins 64 18 = some (.iload_n 1, 1) by decide +kernel) rfl
set_option maxRecDepth 100000 in
theorem r_64_19 : ∀ (d : Nat) (ls : Lc) (v0 : Value) (a : Nat) (st : List Value) (M : Mem) (Q : Outcome → Mem → Prop), (smallR st = true) → Wp d 64 19 ls (v0 :: .ref a :: st) M Q = (kO M a = 1 ∧ Ca d 64 19 ls 47 (.ref a :: [v0]) st M Q) := fun d ls v0 a st M Q h0 => w_virt1 (as := [v0]) (show ins 64 19 = some (.invokevirtual 192, 3) by decide +kernel) (show mRes (mC 64) 192 = some (3, 1, [(1, 47)]) by decide +kernel) (by decide +kernel) rfl (by decide +kernel) (by decide +kernel) h0
set_option maxRecDepth 100000 in
theorem r_64_22 : ∀ (d : Nat) (ls : Lc) (a b : Int32) (st : List Value) (M : Mem) (Q : Outcome → Mem → Prop), Wp d 64 22 ls (.int b :: .int a :: st) M Q = Br (b < a) d 64 29 25 ls st M Q := fun d ls a b st M Q => w_icmp (show ins 64 22 = some (.if_icmp .gt 7, 3) by decide +kernel) rfl rfl
set_option maxRecDepth 100000 in
theorem r_64_25 : ∀ (d : Nat) (ls : Lc) (st : List Value) (M : Mem) (Q : Outcome → Mem → Prop), Wp d 64 25 ls st M Q = Wp d 64 26 ls (.int (I 1) :: st) M Q := fun d ls st M Q => w_iconst (show ins 64 25 = some (.iconst 1, 1) by decide +kernel)
set_option maxRecDepth 100000 in
theorem r_64_26 : ∀ (d : Nat) (ls : Lc) (st : List Value) (M : Mem) (Q : Outcome → Mem → Prop), Wp d 64 26 ls st M Q = Wp d 64 30 ls st M Q := fun d ls st M Q => w_goto (show ins 64 26 = some (.goto 4, 3) by decide +kernel) rfl
set_option maxRecDepth 100000 in
theorem r_64_29 : ∀ (d : Nat) (ls : Lc) (st : List Value) (M : Mem) (Q : Outcome → Mem → Prop), Wp d 64 29 ls st M Q = Wp d 64 30 ls (.int (I 0) :: st) M Q := fun d ls st M Q => w_iconst (show ins 64 29 = some (.iconst 0, 1) by decide +kernel)
set_option maxRecDepth 100000 in
theorem r_64_30 : ∀ (d : Nat) (ls : Lc) (v0 : Value)  (st : List Value) (M : Mem) (Q : Outcome → Mem → Prop), (smallR st = true) → Wp d 64 30 ls (v0 :: st) M Q = Ca d 64 30 ls 37 [v0] st M Q := fun d ls v0 st M Q h0 => w_stat (as := [v0]) (show ins 64 30 = some (.invokestatic 210, 3) by decide +kernel) (show mRes (mC 64) 210 = some (0, 1, [(0, 37)]) by decide +kernel) (by decide +kernel) (by decide +kernel) rfl h0
set_option maxRecDepth 100000 in
theorem r_64_33 : ∀ (d : Nat) (l0 l1 l2 l4 : Option Value) (v : Int32) (st : List Value) (M : Mem) (Q : Outcome → Mem → Prop), Wp d 64 33 [l0, l1, l2, some (.int v), l4] st M Q = Wp d 64 34 [l0, l1, l2, some (.int v), l4] (.int v :: st) M Q := fun d l0 l1 l2 l4 v st M Q => wA (show ins 64 33 = some (.iload_n 3, 1) by decide +kernel) rfl
set_option maxRecDepth 100000 in
theorem r_64_34 : ∀ (d : Nat) (ls : Lc) (st : List Value) (M : Mem) (Q : Outcome → Mem → Prop), Wp d 64 34 ls st M Q = Wp d 64 35 ls (.int (I 1) :: st) M Q := fun d ls st M Q => w_iconst (show ins 64 34 = some (.iconst 1, 1) by decide +kernel)
set_option maxRecDepth 100000 in
theorem r_64_35 : ∀ (d : Nat) (ls : Lc) (a b : Int32) (st : List Value) (M : Mem) (Q : Outcome → Mem → Prop), Wp d 64 35 ls (.int b :: .int a :: st) M Q = Br (a < b) d 64 57 38 ls st M Q := fun d ls a b st M Q => w_icmp (show ins 64 35 = some (.if_icmp .lt 22, 3) by decide +kernel) rfl rfl
set_option maxRecDepth 100000 in
theorem r_64_38 : ∀ (d : Nat) (l0 l1 l2 l4 : Option Value) (v : Int32) (st : List Value) (M : Mem) (Q : Outcome → Mem → Prop), Wp d 64 38 [l0, l1, l2, some (.int v), l4] st M Q = Wp d 64 39 [l0, l1, l2, some (.int v), l4] (.int v :: st) M Q := fun d l0 l1 l2 l4 v st M Q => wA (show ins 64 38 = some (.iload_n 3, 1) by decide +kernel) rfl
set_option maxRecDepth 100000 in
theorem r_64_39 : ∀ (d : Nat) (l0 l1 l2 l3 : Option Value) (v : Int32) (st : List Value) (M : Mem) (Q : Outcome → Mem → Prop), Wp d 64 39 [l0, l1, l2, l3, some (.int v)] st M Q = Wp d 64 41 [l0, l1, l2, l3, some (.int v)] (.int v :: st) M Q := fun d l0 l1 l2 l3 v st M Q => wA (show ins 64 39 = some (.iload 4, 2) by decide +kernel) rfl
set_option maxRecDepth 100000 in
theorem r_64_41 : ∀ (d : Nat) (ls : Lc) (a b : Int32) (st : List Value) (M : Mem) (Q : Outcome → Mem → Prop), Wp d 64 41 ls (.int b :: .int a :: st) M Q = Br (b < a) d 64 57 44 ls st M Q := fun d ls a b st M Q => w_icmp (show ins 64 41 = some (.if_icmp .gt 16, 3) by decide +kernel) rfl rfl
set_option maxRecDepth 100000 in
theorem r_64_44 : ∀ (d : Nat) (l0 l1 l3 l4 : Option Value) (v : Int32) (st : List Value) (M : Mem) (Q : Outcome → Mem → Prop), Wp d 64 44 [l0, l1, some (.int v), l3, l4] st M Q = Wp d 64 45 [l0, l1, some (.int v), l3, l4] (.int v :: st) M Q := fun d l0 l1 l3 l4 v st M Q => wA (show ins 64 44 = some (.iload_n 2, 1) by decide +kernel) rfl
set_option maxRecDepth 100000 in
theorem r_64_45 : ∀ (d : Nat) (l0 l1 l2 l4 : Option Value) (v : Int32) (st : List Value) (M : Mem) (Q : Outcome → Mem → Prop), Wp d 64 45 [l0, l1, l2, some (.int v), l4] st M Q = Wp d 64 46 [l0, l1, l2, some (.int v), l4] (.int v :: st) M Q := fun d l0 l1 l2 l4 v st M Q => wA (show ins 64 45 = some (.iload_n 3, 1) by decide +kernel) rfl
set_option maxRecDepth 100000 in
theorem r_64_46 : ∀ (d : Nat) (ls : Lc) (a b : Int) (st : List Value) (M : Mem) (Q : Outcome → Mem → Prop), Wp d 64 46 ls (.int (I b) :: .int (I a) :: st) M Q = Wp d 64 47 ls (.int (I (a + b)) :: st) M Q := fun d ls a b st M Q => w_iadd (show ins 64 46 = some (.iadd, 1) by decide +kernel)
set_option maxRecDepth 100000 in
theorem r_64_47 : ∀ (d : Nat) (ls : Lc) (st : List Value) (M : Mem) (Q : Outcome → Mem → Prop), Wp d 64 47 ls st M Q = Wp d 64 50 ls (.int (I 2048) :: st) M Q := fun d ls st M Q => w_sipush (show ins 64 47 = some (.sipush 2048, 3) by decide +kernel) (by decide)
set_option maxRecDepth 100000 in
theorem r_64_50 : ∀ (d : Nat) (ls : Lc) (a b : Int32) (st : List Value) (M : Mem) (Q : Outcome → Mem → Prop), Wp d 64 50 ls (.int b :: .int a :: st) M Q = Br (b < a) d 64 57 53 ls st M Q := fun d ls a b st M Q => w_icmp (show ins 64 50 = some (.if_icmp .gt 7, 3) by decide +kernel) rfl rfl
set_option maxRecDepth 100000 in
theorem r_64_53 : ∀ (d : Nat) (ls : Lc) (st : List Value) (M : Mem) (Q : Outcome → Mem → Prop), Wp d 64 53 ls st M Q = Wp d 64 54 ls (.int (I 1) :: st) M Q := fun d ls st M Q => w_iconst (show ins 64 53 = some (.iconst 1, 1) by decide +kernel)
set_option maxRecDepth 100000 in
theorem r_64_54 : ∀ (d : Nat) (ls : Lc) (st : List Value) (M : Mem) (Q : Outcome → Mem → Prop), Wp d 64 54 ls st M Q = Wp d 64 58 ls st M Q := fun d ls st M Q => w_goto (show ins 64 54 = some (.goto 4, 3) by decide +kernel) rfl
set_option maxRecDepth 100000 in
theorem r_64_57 : ∀ (d : Nat) (ls : Lc) (st : List Value) (M : Mem) (Q : Outcome → Mem → Prop), Wp d 64 57 ls st M Q = Wp d 64 58 ls (.int (I 0) :: st) M Q := fun d ls st M Q => w_iconst (show ins 64 57 = some (.iconst 0, 1) by decide +kernel)
set_option maxRecDepth 100000 in
theorem r_64_58 : ∀ (d : Nat) (ls : Lc) (v0 : Value)  (st : List Value) (M : Mem) (Q : Outcome → Mem → Prop), (smallR st = true) → Wp d 64 58 ls (v0 :: st) M Q = Ca d 64 58 ls 39 [v0] st M Q := fun d ls v0 st M Q h0 => w_stat (as := [v0]) (show ins 64 58 = some (.invokestatic 217, 3) by decide +kernel) (show mRes (mC 64) 217 = some (0, 1, [(0, 39)]) by decide +kernel) (by decide +kernel) (by decide +kernel) rfl h0
set_option maxRecDepth 100000 in
theorem r_64_61 : ∀ (d : Nat) (ls : Lc) (M : Mem) (Q : Outcome → Mem → Prop), Wp d 64 61 ls [] M Q = Q (.returned none) M := fun d ls M Q => w_return (show ins 64 61 = some (.return_, 1) by decide +kernel) (by decide +kernel)
set_option maxRecDepth 100000 in
theorem W_64 : (type_of% r_64_0) ∧ (type_of% r_64_1) ∧ (type_of% r_64_4) ∧ (type_of% r_64_5) ∧ (type_of% r_64_6) ∧ (type_of% r_64_9) ∧ (type_of% r_64_12) ∧ (type_of% r_64_13) ∧ (type_of% r_64_16) ∧ (type_of% r_64_17) ∧ (type_of% r_64_18) ∧ (type_of% r_64_19) ∧ (type_of% r_64_22) ∧ (type_of% r_64_25) ∧ (type_of% r_64_26) ∧ (type_of% r_64_29) ∧ (type_of% r_64_30) ∧ (type_of% r_64_33) ∧ (type_of% r_64_34) ∧ (type_of% r_64_35) ∧ (type_of% r_64_38) ∧ (type_of% r_64_39) ∧ (type_of% r_64_41) ∧ (type_of% r_64_44) ∧ (type_of% r_64_45) ∧ (type_of% r_64_46) ∧ (type_of% r_64_47) ∧ (type_of% r_64_50) ∧ (type_of% r_64_53) ∧ (type_of% r_64_54) ∧ (type_of% r_64_57) ∧ (type_of% r_64_58) ∧ (type_of% r_64_61) := ⟨r_64_0, r_64_1, r_64_4, r_64_5, r_64_6, r_64_9, r_64_12, r_64_13, r_64_16, r_64_17, r_64_18, r_64_19, r_64_22, r_64_25, r_64_26, r_64_29, r_64_30, r_64_33, r_64_34, r_64_35, r_64_38, r_64_39, r_64_41, r_64_44, r_64_45, r_64_46, r_64_47, r_64_50, r_64_53, r_64_54, r_64_57, r_64_58, r_64_61⟩
set_option maxRecDepth 100000 in
theorem ca_64 {d y pc : Nat} {ls : Lc} {a : Nat} {z0 : Int32} {z1 : Int32} {z2 : Int32} {z3 : Int32} {r : List Value} {M : Mem} {Q : Outcome → Mem → Prop} (hd : 0 < d) (hw : Wp (d - 1) 64 0 [some (.ref a), some (.int z0), some (.int z1), some (.int z2), some (.int z3)] [] M (Cq d y pc ls r Q)) : Ca d y pc ls 64 [.ref a, .int z0, .int z1, .int z2, .int z3] r M Q := ca_of (mq_get (by decide)) (by rfl) hd hw
/-! 65 PackedTree.readFile(I)V; loop heads [8, 60] -/
set_option maxRecDepth 100000 in
theorem r_65_0 : ∀ (d : Nat) (l1 l2 l3 l4 : Option Value) (v : Nat) (st : List Value) (M : Mem) (Q : Outcome → Mem → Prop), Wp d 65 0 [some (.ref v), l1, l2, l3, l4] st M Q = Wp d 65 1 [some (.ref v), l1, l2, l3, l4] (.ref v :: st) M Q := fun d l1 l2 l3 l4 v st M Q => wA (show ins 65 0 = some (.aload_n 0, 1) by decide +kernel) rfl
set_option maxRecDepth 100000 in
theorem r_65_1 : ∀ (d : Nat) (l0 l2 l3 l4 : Option Value) (v : Int32) (st : List Value) (M : Mem) (Q : Outcome → Mem → Prop), Wp d 65 1 [l0, some (.int v), l2, l3, l4] st M Q = Wp d 65 2 [l0, some (.int v), l2, l3, l4] (.int v :: st) M Q := fun d l0 l2 l3 l4 v st M Q => wA (show ins 65 1 = some (.iload_n 1, 1) by decide +kernel) rfl
set_option maxRecDepth 100000 in
theorem r_65_2 : ∀ (d : Nat) (ls : Lc) (v0 : Value) (a : Nat) (st : List Value) (M : Mem) (Q : Outcome → Mem → Prop), (smallR st = true) → Wp d 65 2 ls (v0 :: .ref a :: st) M Q = (kO M a = 1 ∧ Ca d 65 2 ls 56 (.ref a :: [v0]) st M Q) := fun d ls v0 a st M Q h0 => w_virt1 (as := [v0]) (show ins 65 2 = some (.invokevirtual 248, 3) by decide +kernel) (show mRes (mC 65) 248 = some (3, 1, [(1, 56)]) by decide +kernel) (by decide +kernel) rfl (by decide +kernel) (by decide +kernel) h0
set_option maxRecDepth 100000 in
theorem r_65_5 : ∀ (d : Nat) (l0 l1 l2 l3 l4 : Option Value) (v : Int32) (st : List Value) (M : Mem) (Q : Outcome → Mem → Prop), (lo l1 = false) → Wp d 65 5 [l0, l1, l2, l3, l4] (.int v :: st) M Q = Wp d 65 6 [l0, l1, some (.int v), l3, l4] st M Q := fun d l0 l1 l2 l3 l4 v st M Q hl => w_istore_n (show ins 65 5 = some (.istore_n 2, 1) by decide +kernel) (st1_S rfl rfl hl)
set_option maxRecDepth 100000 in
theorem r_65_6 : ∀ (d : Nat) (ls : Lc) (st : List Value) (M : Mem) (Q : Outcome → Mem → Prop), Wp d 65 6 ls st M Q = Wp d 65 7 ls (.int (I 0) :: st) M Q := fun d ls st M Q => w_iconst (show ins 65 6 = some (.iconst 0, 1) by decide +kernel)
set_option maxRecDepth 100000 in
theorem r_65_7 : ∀ (d : Nat) (l0 l1 l2 l3 l4 : Option Value) (v : Int32) (st : List Value) (M : Mem) (Q : Outcome → Mem → Prop), (lo l2 = false) → Wp d 65 7 [l0, l1, l2, l3, l4] (.int v :: st) M Q = Wp d 65 8 [l0, l1, l2, some (.int v), l4] st M Q := fun d l0 l1 l2 l3 l4 v st M Q hl => w_istore_n (show ins 65 7 = some (.istore_n 3, 1) by decide +kernel) (st1_S rfl rfl hl)
set_option maxRecDepth 100000 in
theorem r_65_8 : ∀ (d : Nat) (l0 l1 l2 l4 : Option Value) (v : Int32) (st : List Value) (M : Mem) (Q : Outcome → Mem → Prop), Wp d 65 8 [l0, l1, l2, some (.int v), l4] st M Q = Wp d 65 9 [l0, l1, l2, some (.int v), l4] (.int v :: st) M Q := fun d l0 l1 l2 l4 v st M Q => wA (show ins 65 8 = some (.iload_n 3, 1) by decide +kernel) rfl
set_option maxRecDepth 100000 in
theorem r_65_9 : ∀ (d : Nat) (l0 l1 l3 l4 : Option Value) (v : Int32) (st : List Value) (M : Mem) (Q : Outcome → Mem → Prop), Wp d 65 9 [l0, l1, some (.int v), l3, l4] st M Q = Wp d 65 10 [l0, l1, some (.int v), l3, l4] (.int v :: st) M Q := fun d l0 l1 l3 l4 v st M Q => wA (show ins 65 9 = some (.iload_n 2, 1) by decide +kernel) rfl
set_option maxRecDepth 100000 in
theorem r_65_10 : ∀ (d : Nat) (ls : Lc) (st : List Value) (M : Mem) (Q : Outcome → Mem → Prop), Wp d 65 10 ls st M Q = Wp d 65 13 ls (.int (I 128) :: st) M Q := fun d ls st M Q => w_sipush (show ins 65 10 = some (.sipush 128, 3) by decide +kernel) (by decide)
set_option maxRecDepth 100000 in
theorem r_65_13 : ∀ (d : Nat) (ls : Lc) (a b : Int) (st : List Value) (M : Mem) (Q : Outcome → Mem → Prop), Wp d 65 13 ls (.int (I b) :: .int (I a) :: st) M Q = Wp d 65 14 ls (.int (I (a * b)) :: st) M Q := fun d ls a b st M Q => w_imul (show ins 65 13 = some (.imul, 1) by decide +kernel)
set_option maxRecDepth 100000 in
theorem r_65_14 : ∀ (d : Nat) (ls : Lc) (a b : Int32) (st : List Value) (M : Mem) (Q : Outcome → Mem → Prop), Wp d 65 14 ls (.int b :: .int a :: st) M Q = Br (b ≤ a) d 65 50 17 ls st M Q := fun d ls a b st M Q => w_icmp (show ins 65 14 = some (.if_icmp .ge 36, 3) by decide +kernel) rfl rfl
set_option maxRecDepth 100000 in
theorem r_65_17 : ∀ (d : Nat) (l1 l2 l3 l4 : Option Value) (v : Nat) (st : List Value) (M : Mem) (Q : Outcome → Mem → Prop), Wp d 65 17 [some (.ref v), l1, l2, l3, l4] st M Q = Wp d 65 18 [some (.ref v), l1, l2, l3, l4] (.ref v :: st) M Q := fun d l1 l2 l3 l4 v st M Q => wA (show ins 65 17 = some (.aload_n 0, 1) by decide +kernel) rfl
set_option maxRecDepth 100000 in
theorem r_65_18 : ∀ (d : Nat) (ls : Lc) (a : Nat) (st : List Value) (M : Mem) (Q : Outcome → Mem → Prop), Wp d 65 18 ls (.ref a :: st) M Q = (fk 3 (kO M a) = true ∧ Wp d 65 21 ls (va_rf (mR M 3 a) :: st) M Q) := fun d ls a st M Q => w_getR (show ins 65 18 = some (.getfield 29, 3) by decide +kernel) (show fRes (mC 65) 29 = some (3, 1, false) by decide +kernel) (by decide +kernel)
set_option maxRecDepth 100000 in
theorem r_65_21 : ∀ (d : Nat) (l0 l1 l2 l4 : Option Value) (v : Int32) (st : List Value) (M : Mem) (Q : Outcome → Mem → Prop), Wp d 65 21 [l0, l1, l2, some (.int v), l4] st M Q = Wp d 65 22 [l0, l1, l2, some (.int v), l4] (.int v :: st) M Q := fun d l0 l1 l2 l4 v st M Q => wA (show ins 65 21 = some (.iload_n 3, 1) by decide +kernel) rfl
set_option maxRecDepth 100000 in
theorem r_65_22 : ∀ (d : Nat) (l1 l2 l3 l4 : Option Value) (v : Nat) (st : List Value) (M : Mem) (Q : Outcome → Mem → Prop), Wp d 65 22 [some (.ref v), l1, l2, l3, l4] st M Q = Wp d 65 23 [some (.ref v), l1, l2, l3, l4] (.ref v :: st) M Q := fun d l1 l2 l3 l4 v st M Q => wA (show ins 65 22 = some (.aload_n 0, 1) by decide +kernel) rfl
set_option maxRecDepth 100000 in
theorem r_65_23 : ∀ (d : Nat) (ls : Lc) (a : Nat) (st : List Value) (M : Mem) (Q : Outcome → Mem → Prop), Wp d 65 23 ls (.ref a :: st) M Q = (fk 4 (kO M a) = true ∧ Wp d 65 26 ls (va_rf (mR M 4 a) :: st) M Q) := fun d ls a st M Q => w_getR (show ins 65 23 = some (.getfield 15, 3) by decide +kernel) (show fRes (mC 65) 15 = some (4, 1, false) by decide +kernel) (by decide +kernel)
set_option maxRecDepth 100000 in
theorem r_65_26 : ∀ (d : Nat) (l1 l2 l3 l4 : Option Value) (v : Nat) (st : List Value) (M : Mem) (Q : Outcome → Mem → Prop), Wp d 65 26 [some (.ref v), l1, l2, l3, l4] st M Q = Wp d 65 27 [some (.ref v), l1, l2, l3, l4] (.ref v :: st) M Q := fun d l1 l2 l3 l4 v st M Q => wA (show ins 65 26 = some (.aload_n 0, 1) by decide +kernel) rfl
set_option maxRecDepth 100000 in
theorem r_65_27 : ∀ (d : Nat) (ls : Lc) (a : Nat) (st : List Value) (M : Mem) (Q : Outcome → Mem → Prop), Wp d 65 27 ls (.ref a :: st) M Q = (fk 5 (kO M a) = true ∧ Wp d 65 30 ls (va_rf (mR M 5 a) :: st) M Q) := fun d ls a st M Q => w_getR (show ins 65 27 = some (.getfield 32, 3) by decide +kernel) (show fRes (mC 65) 32 = some (5, 1, false) by decide +kernel) (by decide +kernel)
set_option maxRecDepth 100000 in
theorem r_65_30 : ∀ (d : Nat) (l0 l1 l2 l4 : Option Value) (v : Int32) (st : List Value) (M : Mem) (Q : Outcome → Mem → Prop), Wp d 65 30 [l0, l1, l2, some (.int v), l4] st M Q = Wp d 65 31 [l0, l1, l2, some (.int v), l4] (.int v :: st) M Q := fun d l0 l1 l2 l4 v st M Q => wA (show ins 65 30 = some (.iload_n 3, 1) by decide +kernel) rfl
set_option maxRecDepth 100000 in
theorem r_65_31 : ∀ (d : Nat) (ls : Lc) (st : List Value) (M : Mem) (Q : Outcome → Mem → Prop), Wp d 65 31 ls st M Q = Wp d 65 34 ls (.int (I 128) :: st) M Q := fun d ls st M Q => w_sipush (show ins 65 31 = some (.sipush 128, 3) by decide +kernel) (by decide)
set_option maxRecDepth 100000 in
theorem r_65_34 : ∀ (d : Nat) (ls : Lc) (a b : Int) (st : List Value) (M : Mem) (Q : Outcome → Mem → Prop), (0 ≤ a) → (a < 2147483648) → (0 < b) → (b < 2147483648) → Wp d 65 34 ls (.int (I b) :: .int (I a) :: st) M Q = Wp d 65 35 ls (.int (I (a / b)) :: st) M Q := fun d ls a b st M Q h0 h1 h2 h3 => w_idiv (show ins 65 34 = some (.idiv, 1) by decide +kernel) h0 h1 h2 h3
set_option maxRecDepth 100000 in
theorem r_65_35 : ∀ (d : Nat) (ls : Lc) (a : Nat) (j : Int32) (st : List Value) (M : Mem) (Q : Outcome → Mem → Prop), Wp d 65 35 ls (.int j :: .ref a :: st) M Q = ((((kX M a).1 = 0 ∨ (kX M a).1 = 8) ∧ inB j (kX M a).2 = true) ∧ Wp d 65 36 ls (.int (mA M a j.toNatClampNeg) :: st) M Q) := fun d ls a j st M Q => w_iaload (show ins 65 35 = some (.iaload, 1) by decide +kernel)
set_option maxRecDepth 100000 in
theorem r_65_36 : ∀ (d : Nat) (ls : Lc) (a : Nat) (j : Int32) (st : List Value) (M : Mem) (Q : Outcome → Mem → Prop), Wp d 65 36 ls (.int j :: .ref a :: st) M Q = ((((kX M a).1 = 4 ∨ (kX M a).1 = 5 ∨ (kX M a).1 = 6 ∨ (kX M a).1 = 7) ∧ inB j (kX M a).2 = true) ∧ Wp d 65 37 ls (va_rf (mQ M a j.toNatClampNeg) :: st) M Q) := fun d ls a j st M Q => w_aaload (show ins 65 36 = some (.aaload, 1) by decide +kernel)
set_option maxRecDepth 100000 in
theorem r_65_37 : ∀ (d : Nat) (l0 l1 l2 l4 : Option Value) (v : Int32) (st : List Value) (M : Mem) (Q : Outcome → Mem → Prop), Wp d 65 37 [l0, l1, l2, some (.int v), l4] st M Q = Wp d 65 38 [l0, l1, l2, some (.int v), l4] (.int v :: st) M Q := fun d l0 l1 l2 l4 v st M Q => wA (show ins 65 37 = some (.iload_n 3, 1) by decide +kernel) rfl
set_option maxRecDepth 100000 in
theorem r_65_38 : ∀ (d : Nat) (ls : Lc) (st : List Value) (M : Mem) (Q : Outcome → Mem → Prop), Wp d 65 38 ls st M Q = Wp d 65 41 ls (.int (I 128) :: st) M Q := fun d ls st M Q => w_sipush (show ins 65 38 = some (.sipush 128, 3) by decide +kernel) (by decide)
set_option maxRecDepth 100000 in
theorem r_65_41 : ∀ (d : Nat) (ls : Lc) (a b : Int) (st : List Value) (M : Mem) (Q : Outcome → Mem → Prop), (0 ≤ a) → (a < 2147483648) → (0 < b) → (b < 2147483648) → Wp d 65 41 ls (.int (I b) :: .int (I a) :: st) M Q = Wp d 65 42 ls (.int (I (a % b)) :: st) M Q := fun d ls a b st M Q h0 h1 h2 h3 => w_irem (show ins 65 41 = some (.irem, 1) by decide +kernel) h0 h1 h2 h3
set_option maxRecDepth 100000 in
theorem r_65_42 : ∀ (d : Nat) (ls : Lc) (a : Nat) (j : Int32) (st : List Value) (M : Mem) (Q : Outcome → Mem → Prop), Wp d 65 42 ls (.int j :: .ref a :: st) M Q = ((((kX M a).1 = 1 ∨ (kX M a).1 = 2) ∧ inB j (kX M a).2 = true) ∧ Wp d 65 43 ls (.int (mA M a j.toNatClampNeg) :: st) M Q) := fun d ls a j st M Q => w_baload (show ins 65 42 = some (.baload, 1) by decide +kernel)
set_option maxRecDepth 100000 in
theorem r_65_43 : ∀ (d : Nat) (ls : Lc) (a : Nat) (j v : Int32) (st : List Value) (M : Mem) (Q : Outcome → Mem → Prop), Wp d 65 43 ls (.int v :: .int j :: .ref a :: st) M Q = ((((kX M a).1 = 1 ∨ (kX M a).1 = 2) ∧ inB j (kX M a).2 = true) ∧ Wp d 65 44 ls st (sA M a j.toNatClampNeg (nrw (kX M a).1 v)) Q) := fun d ls a j v st M Q => w_bastore (show ins 65 43 = some (.bastore, 1) by decide +kernel)
set_option maxRecDepth 100000 in
theorem r_65_44 : ∀ (d : Nat) (l0 l1 l2 l4 : Option Value) (z : Int) (st : List Value) (M : Mem) (Q : Outcome → Mem → Prop), (lo l2 = false) → Wp d 65 44 [l0, l1, l2, some (.int (I z)), l4] st M Q = Wp d 65 47 [l0, l1, l2, some (.int (I (z + 1))), l4] st M Q := fun d l0 l1 l2 l4 z st M Q hl => w_iinc (show ins 65 44 = some (.iinc 3 1, 3) by decide +kernel) rfl (st1_S rfl rfl hl)
set_option maxRecDepth 100000 in
theorem r_65_47 : ∀ (d : Nat) (ls : Lc) (st : List Value) (M : Mem) (Q : Outcome → Mem → Prop), Wp d 65 47 ls st M Q = Wp d 65 8 ls st M Q := fun d ls st M Q => w_goto (show ins 65 47 = some (.goto (-39), 3) by decide +kernel) rfl
set_option maxRecDepth 100000 in
theorem r_65_50 : ∀ (d : Nat) (l1 l2 l3 l4 : Option Value) (v : Nat) (st : List Value) (M : Mem) (Q : Outcome → Mem → Prop), Wp d 65 50 [some (.ref v), l1, l2, l3, l4] st M Q = Wp d 65 51 [some (.ref v), l1, l2, l3, l4] (.ref v :: st) M Q := fun d l1 l2 l3 l4 v st M Q => wA (show ins 65 50 = some (.aload_n 0, 1) by decide +kernel) rfl
set_option maxRecDepth 100000 in
theorem r_65_51 : ∀ (d : Nat) (l0 l2 l3 l4 : Option Value) (v : Int32) (st : List Value) (M : Mem) (Q : Outcome → Mem → Prop), Wp d 65 51 [l0, some (.int v), l2, l3, l4] st M Q = Wp d 65 52 [l0, some (.int v), l2, l3, l4] (.int v :: st) M Q := fun d l0 l2 l3 l4 v st M Q => wA (show ins 65 51 = some (.iload_n 1, 1) by decide +kernel) rfl
set_option maxRecDepth 100000 in
theorem r_65_52 : ∀ (d : Nat) (ls : Lc) (st : List Value) (M : Mem) (Q : Outcome → Mem → Prop), Wp d 65 52 ls st M Q = Wp d 65 53 ls (.int (I 3) :: st) M Q := fun d ls st M Q => w_iconst (show ins 65 52 = some (.iconst 3, 1) by decide +kernel)
set_option maxRecDepth 100000 in
theorem r_65_53 : ∀ (d : Nat) (ls : Lc) (v0 v1 : Value) (a : Nat) (st : List Value) (M : Mem) (Q : Outcome → Mem → Prop), (smallR st = true) → Wp d 65 53 ls (v1 :: v0 :: .ref a :: st) M Q = (kO M a = 1 ∧ Ca d 65 53 ls 57 (.ref a :: [v0, v1]) st M Q) := fun d ls v0 v1 a st M Q h0 => w_virt1 (as := [v0, v1]) (show ins 65 53 = some (.invokevirtual 282, 3) by decide +kernel) (show mRes (mC 65) 282 = some (3, 1, [(1, 57)]) by decide +kernel) (by decide +kernel) rfl (by decide +kernel) (by decide +kernel) h0
set_option maxRecDepth 100000 in
theorem r_65_56 : ∀ (d : Nat) (l0 l1 l2 l3 l4 : Option Value) (v : Int32) (st : List Value) (M : Mem) (Q : Outcome → Mem → Prop), (lo l2 = false) → Wp d 65 56 [l0, l1, l2, l3, l4] (.int v :: st) M Q = Wp d 65 57 [l0, l1, l2, some (.int v), l4] st M Q := fun d l0 l1 l2 l3 l4 v st M Q hl => w_istore_n (show ins 65 56 = some (.istore_n 3, 1) by decide +kernel) (st1_S rfl rfl hl)
set_option maxRecDepth 100000 in
theorem r_65_57 : ∀ (d : Nat) (ls : Lc) (st : List Value) (M : Mem) (Q : Outcome → Mem → Prop), Wp d 65 57 ls st M Q = Wp d 65 58 ls (.int (I 0) :: st) M Q := fun d ls st M Q => w_iconst (show ins 65 57 = some (.iconst 0, 1) by decide +kernel)
set_option maxRecDepth 100000 in
theorem r_65_58 : ∀ (d : Nat) (l0 l1 l2 l3 l4 : Option Value) (v : Int32) (st : List Value) (M : Mem) (Q : Outcome → Mem → Prop), (lo l3 = false) → Wp d 65 58 [l0, l1, l2, l3, l4] (.int v :: st) M Q = Wp d 65 60 [l0, l1, l2, l3, some (.int v)] st M Q := fun d l0 l1 l2 l3 l4 v st M Q hl => w_istore (show ins 65 58 = some (.istore 4, 2) by decide +kernel) (st1_S rfl rfl hl)
set_option maxRecDepth 100000 in
theorem r_65_60 : ∀ (d : Nat) (l0 l1 l2 l3 : Option Value) (v : Int32) (st : List Value) (M : Mem) (Q : Outcome → Mem → Prop), Wp d 65 60 [l0, l1, l2, l3, some (.int v)] st M Q = Wp d 65 62 [l0, l1, l2, l3, some (.int v)] (.int v :: st) M Q := fun d l0 l1 l2 l3 v st M Q => wA (show ins 65 60 = some (.iload 4, 2) by decide +kernel) rfl
set_option maxRecDepth 100000 in
theorem r_65_62 : ∀ (d : Nat) (l0 l1 l2 l4 : Option Value) (v : Int32) (st : List Value) (M : Mem) (Q : Outcome → Mem → Prop), Wp d 65 62 [l0, l1, l2, some (.int v), l4] st M Q = Wp d 65 63 [l0, l1, l2, some (.int v), l4] (.int v :: st) M Q := fun d l0 l1 l2 l4 v st M Q => wA (show ins 65 62 = some (.iload_n 3, 1) by decide +kernel) rfl
set_option maxRecDepth 100000 in
theorem r_65_63 : ∀ (d : Nat) (ls : Lc) (a b : Int32) (st : List Value) (M : Mem) (Q : Outcome → Mem → Prop), Wp d 65 63 ls (.int b :: .int a :: st) M Q = Br (b ≤ a) d 65 116 66 ls st M Q := fun d ls a b st M Q => w_icmp (show ins 65 63 = some (.if_icmp .ge 53, 3) by decide +kernel) rfl rfl
set_option maxRecDepth 100000 in
theorem r_65_66 : ∀ (d : Nat) (l1 l2 l3 l4 : Option Value) (v : Nat) (st : List Value) (M : Mem) (Q : Outcome → Mem → Prop), Wp d 65 66 [some (.ref v), l1, l2, l3, l4] st M Q = Wp d 65 67 [some (.ref v), l1, l2, l3, l4] (.ref v :: st) M Q := fun d l1 l2 l3 l4 v st M Q => wA (show ins 65 66 = some (.aload_n 0, 1) by decide +kernel) rfl
set_option maxRecDepth 100000 in
theorem r_65_67 : ∀ (d : Nat) (ls : Lc) (a : Nat) (st : List Value) (M : Mem) (Q : Outcome → Mem → Prop), Wp d 65 67 ls (.ref a :: st) M Q = (fk 3 (kO M a) = true ∧ Wp d 65 70 ls (va_rf (mR M 3 a) :: st) M Q) := fun d ls a st M Q => w_getR (show ins 65 67 = some (.getfield 29, 3) by decide +kernel) (show fRes (mC 65) 29 = some (3, 1, false) by decide +kernel) (by decide +kernel)
set_option maxRecDepth 100000 in
theorem r_65_70 : ∀ (d : Nat) (l0 l1 l3 l4 : Option Value) (v : Int32) (st : List Value) (M : Mem) (Q : Outcome → Mem → Prop), Wp d 65 70 [l0, l1, some (.int v), l3, l4] st M Q = Wp d 65 71 [l0, l1, some (.int v), l3, l4] (.int v :: st) M Q := fun d l0 l1 l3 l4 v st M Q => wA (show ins 65 70 = some (.iload_n 2, 1) by decide +kernel) rfl
set_option maxRecDepth 100000 in
theorem r_65_71 : ∀ (d : Nat) (ls : Lc) (st : List Value) (M : Mem) (Q : Outcome → Mem → Prop), Wp d 65 71 ls st M Q = Wp d 65 74 ls (.int (I 128) :: st) M Q := fun d ls st M Q => w_sipush (show ins 65 71 = some (.sipush 128, 3) by decide +kernel) (by decide)
set_option maxRecDepth 100000 in
theorem r_65_74 : ∀ (d : Nat) (ls : Lc) (a b : Int) (st : List Value) (M : Mem) (Q : Outcome → Mem → Prop), Wp d 65 74 ls (.int (I b) :: .int (I a) :: st) M Q = Wp d 65 75 ls (.int (I (a * b)) :: st) M Q := fun d ls a b st M Q => w_imul (show ins 65 74 = some (.imul, 1) by decide +kernel)
set_option maxRecDepth 100000 in
theorem r_65_75 : ∀ (d : Nat) (l0 l1 l2 l3 : Option Value) (v : Int32) (st : List Value) (M : Mem) (Q : Outcome → Mem → Prop), Wp d 65 75 [l0, l1, l2, l3, some (.int v)] st M Q = Wp d 65 77 [l0, l1, l2, l3, some (.int v)] (.int v :: st) M Q := fun d l0 l1 l2 l3 v st M Q => wA (show ins 65 75 = some (.iload 4, 2) by decide +kernel) rfl
set_option maxRecDepth 100000 in
theorem r_65_77 : ∀ (d : Nat) (ls : Lc) (a b : Int) (st : List Value) (M : Mem) (Q : Outcome → Mem → Prop), Wp d 65 77 ls (.int (I b) :: .int (I a) :: st) M Q = Wp d 65 78 ls (.int (I (a + b)) :: st) M Q := fun d ls a b st M Q => w_iadd (show ins 65 77 = some (.iadd, 1) by decide +kernel)
set_option maxRecDepth 100000 in
theorem r_65_78 : ∀ (d : Nat) (l1 l2 l3 l4 : Option Value) (v : Nat) (st : List Value) (M : Mem) (Q : Outcome → Mem → Prop), Wp d 65 78 [some (.ref v), l1, l2, l3, l4] st M Q = Wp d 65 79 [some (.ref v), l1, l2, l3, l4] (.ref v :: st) M Q := fun d l1 l2 l3 l4 v st M Q => wA (show ins 65 78 = some (.aload_n 0, 1) by decide +kernel) rfl
set_option maxRecDepth 100000 in
theorem r_65_79 : ∀ (d : Nat) (ls : Lc) (a : Nat) (st : List Value) (M : Mem) (Q : Outcome → Mem → Prop), Wp d 65 79 ls (.ref a :: st) M Q = (fk 9 (kO M a) = true ∧ Wp d 65 82 ls (va_rf (mR M 9 a) :: st) M Q) := fun d ls a st M Q => w_getR (show ins 65 79 = some (.getfield 58, 3) by decide +kernel) (show fRes (mC 65) 58 = some (9, 1, false) by decide +kernel) (by decide +kernel)
set_option maxRecDepth 100000 in
theorem r_65_82 : ∀ (d : Nat) (ls : Lc) (a : Nat) (st : List Value) (M : Mem) (Q : Outcome → Mem → Prop), Wp d 65 82 ls (.ref a :: st) M Q = (fk 14 (kO M a) = true ∧ Wp d 65 85 ls (va_rf (mR M 14 a) :: st) M Q) := fun d ls a st M Q => w_getR (show ins 65 82 = some (.getfield 155, 3) by decide +kernel) (show fRes (mC 65) 155 = some (14, 3, true) by decide +kernel) (by decide +kernel)
set_option maxRecDepth 100000 in
theorem r_65_85 : ∀ (d : Nat) (ls : Lc) (a : Nat) (st : List Value) (M : Mem) (Q : Outcome → Mem → Prop), Wp d 65 85 ls (.ref a :: st) M Q = (fk 35 (kO M a) = true ∧ Wp d 65 88 ls (va_rf (mR M 35 a) :: st) M Q) := fun d ls a st M Q => w_getR (show ins 65 85 = some (.getfield 159, 3) by decide +kernel) (show fRes (mC 65) 159 = some (35, 5, true) by decide +kernel) (by decide +kernel)
set_option maxRecDepth 100000 in
theorem r_65_88 : ∀ (d : Nat) (l1 l2 l3 l4 : Option Value) (v : Nat) (st : List Value) (M : Mem) (Q : Outcome → Mem → Prop), Wp d 65 88 [some (.ref v), l1, l2, l3, l4] st M Q = Wp d 65 89 [some (.ref v), l1, l2, l3, l4] (.ref v :: st) M Q := fun d l1 l2 l3 l4 v st M Q => wA (show ins 65 88 = some (.aload_n 0, 1) by decide +kernel) rfl
set_option maxRecDepth 100000 in
theorem r_65_89 : ∀ (d : Nat) (ls : Lc) (a : Nat) (st : List Value) (M : Mem) (Q : Outcome → Mem → Prop), Wp d 65 89 ls (.ref a :: st) M Q = (fk 9 (kO M a) = true ∧ Wp d 65 92 ls (va_rf (mR M 9 a) :: st) M Q) := fun d ls a st M Q => w_getR (show ins 65 89 = some (.getfield 58, 3) by decide +kernel) (show fRes (mC 65) 58 = some (9, 1, false) by decide +kernel) (by decide +kernel)
set_option maxRecDepth 100000 in
theorem r_65_92 : ∀ (d : Nat) (ls : Lc) (a : Nat) (st : List Value) (M : Mem) (Q : Outcome → Mem → Prop), Wp d 65 92 ls (.ref a :: st) M Q = (fk 14 (kO M a) = true ∧ Wp d 65 95 ls (va_rf (mR M 14 a) :: st) M Q) := fun d ls a st M Q => w_getR (show ins 65 92 = some (.getfield 155, 3) by decide +kernel) (show fRes (mC 65) 155 = some (14, 3, true) by decide +kernel) (by decide +kernel)
set_option maxRecDepth 100000 in
theorem r_65_95 : ∀ (d : Nat) (l1 l2 l3 l4 : Option Value) (v : Nat) (st : List Value) (M : Mem) (Q : Outcome → Mem → Prop), Wp d 65 95 [some (.ref v), l1, l2, l3, l4] st M Q = Wp d 65 96 [some (.ref v), l1, l2, l3, l4] (.ref v :: st) M Q := fun d l1 l2 l3 l4 v st M Q => wA (show ins 65 95 = some (.aload_n 0, 1) by decide +kernel) rfl
set_option maxRecDepth 100000 in
theorem r_65_96 : ∀ (d : Nat) (ls : Lc) (a : Nat) (st : List Value) (M : Mem) (Q : Outcome → Mem → Prop), Wp d 65 96 ls (.ref a :: st) M Q = (fk 9 (kO M a) = true ∧ Wp d 65 99 ls (va_rf (mR M 9 a) :: st) M Q) := fun d ls a st M Q => w_getR (show ins 65 96 = some (.getfield 58, 3) by decide +kernel) (show fRes (mC 65) 58 = some (9, 1, false) by decide +kernel) (by decide +kernel)
set_option maxRecDepth 100000 in
theorem r_65_99 : ∀ (d : Nat) (ls : Lc) (a : Nat) (st : List Value) (M : Mem) (Q : Outcome → Mem → Prop), Wp d 65 99 ls (.ref a :: st) M Q = (fk 16 (kO M a) = true ∧ Wp d 65 102 ls (.int (mF M 16 a) :: st) M Q) := fun d ls a st M Q => w_getI (show ins 65 99 = some (.getfield 164, 3) by decide +kernel) (show fRes (mC 65) 164 = some (16, 3, true) by decide +kernel) (by decide +kernel)
set_option maxRecDepth 100000 in
theorem r_65_102 : ∀ (d : Nat) (ls : Lc) (v0 : Value) (a : Nat) (st : List Value) (M : Mem) (Q : Outcome → Mem → Prop), (smallR st = true) → Wp d 65 102 ls (v0 :: .ref a :: st) M Q = (kO M a = 5 ∧ Ca d 65 102 ls 126 (.ref a :: [v0]) st M Q) := fun d ls v0 a st M Q h0 => w_virt1 (as := [v0]) (show ins 65 102 = some (.invokevirtual 167, 3) by decide +kernel) (show mRes (mC 65) 167 = some (3, 5, [(5, 126)]) by decide +kernel) (by decide +kernel) rfl (by decide +kernel) (by decide +kernel) h0
set_option maxRecDepth 100000 in
theorem r_65_105 : ∀ (d : Nat) (l0 l1 l2 l3 : Option Value) (v : Int32) (st : List Value) (M : Mem) (Q : Outcome → Mem → Prop), Wp d 65 105 [l0, l1, l2, l3, some (.int v)] st M Q = Wp d 65 107 [l0, l1, l2, l3, some (.int v)] (.int v :: st) M Q := fun d l0 l1 l2 l3 v st M Q => wA (show ins 65 105 = some (.iload 4, 2) by decide +kernel) rfl
set_option maxRecDepth 100000 in
theorem r_65_107 : ∀ (d : Nat) (ls : Lc) (a b : Int) (st : List Value) (M : Mem) (Q : Outcome → Mem → Prop), Wp d 65 107 ls (.int (I b) :: .int (I a) :: st) M Q = Wp d 65 108 ls (.int (I (a + b)) :: st) M Q := fun d ls a b st M Q => w_iadd (show ins 65 107 = some (.iadd, 1) by decide +kernel)
set_option maxRecDepth 100000 in
theorem r_65_108 : ∀ (d : Nat) (ls : Lc) (a : Nat) (j : Int32) (st : List Value) (M : Mem) (Q : Outcome → Mem → Prop), Wp d 65 108 ls (.int j :: .ref a :: st) M Q = ((((kX M a).1 = 1 ∨ (kX M a).1 = 2) ∧ inB j (kX M a).2 = true) ∧ Wp d 65 109 ls (.int (mA M a j.toNatClampNeg) :: st) M Q) := fun d ls a j st M Q => w_baload (show ins 65 108 = some (.baload, 1) by decide +kernel)
set_option maxRecDepth 100000 in
theorem r_65_109 : ∀ (d : Nat) (ls : Lc) (a : Nat) (j v : Int32) (st : List Value) (M : Mem) (Q : Outcome → Mem → Prop), Wp d 65 109 ls (.int v :: .int j :: .ref a :: st) M Q = ((((kX M a).1 = 1 ∨ (kX M a).1 = 2) ∧ inB j (kX M a).2 = true) ∧ Wp d 65 110 ls st (sA M a j.toNatClampNeg (nrw (kX M a).1 v)) Q) := fun d ls a j v st M Q => w_bastore (show ins 65 109 = some (.bastore, 1) by decide +kernel)
set_option maxRecDepth 100000 in
theorem r_65_110 : ∀ (d : Nat) (l0 l1 l2 l3 : Option Value) (z : Int) (st : List Value) (M : Mem) (Q : Outcome → Mem → Prop), (lo l3 = false) → Wp d 65 110 [l0, l1, l2, l3, some (.int (I z))] st M Q = Wp d 65 113 [l0, l1, l2, l3, some (.int (I (z + 1)))] st M Q := fun d l0 l1 l2 l3 z st M Q hl => w_iinc (show ins 65 110 = some (.iinc 4 1, 3) by decide +kernel) rfl (st1_S rfl rfl hl)
set_option maxRecDepth 100000 in
theorem r_65_113 : ∀ (d : Nat) (ls : Lc) (st : List Value) (M : Mem) (Q : Outcome → Mem → Prop), Wp d 65 113 ls st M Q = Wp d 65 60 ls st M Q := fun d ls st M Q => w_goto (show ins 65 113 = some (.goto (-53), 3) by decide +kernel) rfl
set_option maxRecDepth 100000 in
theorem r_65_116 : ∀ (d : Nat) (ls : Lc) (M : Mem) (Q : Outcome → Mem → Prop), Wp d 65 116 ls [] M Q = Q (.returned none) M := fun d ls M Q => w_return (show ins 65 116 = some (.return_, 1) by decide +kernel) (by decide +kernel)
set_option maxRecDepth 100000 in
theorem w_65_8 : (type_of% r_65_8) := r_65_8
set_option maxRecDepth 100000 in
theorem w_65_60 : (type_of% r_65_60) := r_65_60
set_option maxRecDepth 100000 in
theorem W_65 : (type_of% r_65_0) ∧ (type_of% r_65_1) ∧ (type_of% r_65_2) ∧ (type_of% r_65_5) ∧ (type_of% r_65_6) ∧ (type_of% r_65_7) ∧ (type_of% r_65_9) ∧ (type_of% r_65_10) ∧ (type_of% r_65_13) ∧ (type_of% r_65_14) ∧ (type_of% r_65_17) ∧ (type_of% r_65_18) ∧ (type_of% r_65_21) ∧ (type_of% r_65_22) ∧ (type_of% r_65_23) ∧ (type_of% r_65_26) ∧ (type_of% r_65_27) ∧ (type_of% r_65_30) ∧ (type_of% r_65_31) ∧ (type_of% r_65_34) ∧ (type_of% r_65_35) ∧ (type_of% r_65_36) ∧ (type_of% r_65_37) ∧ (type_of% r_65_38) ∧ (type_of% r_65_41) ∧ (type_of% r_65_42) ∧ (type_of% r_65_43) ∧ (type_of% r_65_44) ∧ (type_of% r_65_47) ∧ (type_of% r_65_50) ∧ (type_of% r_65_51) ∧ (type_of% r_65_52) ∧ (type_of% r_65_53) ∧ (type_of% r_65_56) ∧ (type_of% r_65_57) ∧ (type_of% r_65_58) ∧ (type_of% r_65_62) ∧ (type_of% r_65_63) ∧ (type_of% r_65_66) ∧ (type_of% r_65_67) ∧ (type_of% r_65_70) ∧ (type_of% r_65_71) ∧ (type_of% r_65_74) ∧ (type_of% r_65_75) ∧ (type_of% r_65_77) ∧ (type_of% r_65_78) ∧ (type_of% r_65_79) ∧ (type_of% r_65_82) ∧ (type_of% r_65_85) ∧ (type_of% r_65_88) ∧ (type_of% r_65_89) ∧ (type_of% r_65_92) ∧ (type_of% r_65_95) ∧ (type_of% r_65_96) ∧ (type_of% r_65_99) ∧ (type_of% r_65_102) ∧ (type_of% r_65_105) ∧ (type_of% r_65_107) ∧ (type_of% r_65_108) ∧ (type_of% r_65_109) ∧ (type_of% r_65_110) ∧ (type_of% r_65_113) ∧ (type_of% r_65_116) := ⟨r_65_0, r_65_1, r_65_2, r_65_5, r_65_6, r_65_7, r_65_9, r_65_10, r_65_13, r_65_14, r_65_17, r_65_18, r_65_21, r_65_22, r_65_23, r_65_26, r_65_27, r_65_30, r_65_31, r_65_34, r_65_35, r_65_36, r_65_37, r_65_38, r_65_41, r_65_42, r_65_43, r_65_44, r_65_47, r_65_50, r_65_51, r_65_52, r_65_53, r_65_56, r_65_57, r_65_58, r_65_62, r_65_63, r_65_66, r_65_67, r_65_70, r_65_71, r_65_74, r_65_75, r_65_77, r_65_78, r_65_79, r_65_82, r_65_85, r_65_88, r_65_89, r_65_92, r_65_95, r_65_96, r_65_99, r_65_102, r_65_105, r_65_107, r_65_108, r_65_109, r_65_110, r_65_113, r_65_116⟩
set_option maxRecDepth 100000 in
theorem ca_65 {d y pc : Nat} {ls : Lc} {a : Nat} {z0 : Int32} {r : List Value} {M : Mem} {Q : Outcome → Mem → Prop} (hd : 0 < d) (hw : Wp (d - 1) 65 0 [some (.ref a), some (.int z0), none, none, none] [] M (Cq d y pc ls r Q)) : Ca d y pc ls 65 [.ref a, .int z0] r M Q := ca_of (mq_get (by decide)) (by rfl) hd hw
/-! 66 PackedTree.reformed(II)I; loop heads [] -/
set_option maxRecDepth 100000 in
theorem r_66_0 : ∀ (d : Nat) (l1 l2 l3 : Option Value) (v : Nat) (st : List Value) (M : Mem) (Q : Outcome → Mem → Prop), Wp d 66 0 [some (.ref v), l1, l2, l3] st M Q = Wp d 66 1 [some (.ref v), l1, l2, l3] (.ref v :: st) M Q := fun d l1 l2 l3 v st M Q => wA (show ins 66 0 = some (.aload_n 0, 1) by decide +kernel) rfl
set_option maxRecDepth 100000 in
theorem r_66_1 : ∀ (d : Nat) (ls : Lc) (a : Nat) (st : List Value) (M : Mem) (Q : Outcome → Mem → Prop), (smallR st = true) → Wp d 66 1 ls (.ref a :: st) M Q = (kO M a = 1 ∧ Ca d 66 1 ls 43 (.ref a :: []) st M Q) := fun d ls a st M Q h0 => w_virt1 (as := []) (show ins 66 1 = some (.invokevirtual 230, 3) by decide +kernel) (show mRes (mC 66) 230 = some (3, 1, [(1, 43)]) by decide +kernel) (by decide +kernel) rfl (by decide +kernel) (by decide +kernel) h0
set_option maxRecDepth 100000 in
theorem r_66_4 : ∀ (d : Nat) (l1 l2 l3 : Option Value) (v : Nat) (st : List Value) (M : Mem) (Q : Outcome → Mem → Prop), Wp d 66 4 [some (.ref v), l1, l2, l3] st M Q = Wp d 66 5 [some (.ref v), l1, l2, l3] (.ref v :: st) M Q := fun d l1 l2 l3 v st M Q => wA (show ins 66 4 = some (.aload_n 0, 1) by decide +kernel) rfl
set_option maxRecDepth 100000 in
theorem r_66_5 : ∀ (d : Nat) (l0 l2 l3 : Option Value) (v : Int32) (st : List Value) (M : Mem) (Q : Outcome → Mem → Prop), Wp d 66 5 [l0, some (.int v), l2, l3] st M Q = Wp d 66 6 [l0, some (.int v), l2, l3] (.int v :: st) M Q := fun d l0 l2 l3 v st M Q => wA (show ins 66 5 = some (.iload_n 1, 1) by decide +kernel) rfl
set_option maxRecDepth 100000 in
theorem r_66_6 : ∀ (d : Nat) (l0 l1 l3 : Option Value) (v : Int32) (st : List Value) (M : Mem) (Q : Outcome → Mem → Prop), Wp d 66 6 [l0, l1, some (.int v), l3] st M Q = Wp d 66 7 [l0, l1, some (.int v), l3] (.int v :: st) M Q := fun d l0 l1 l3 v st M Q => wA (show ins 66 6 = some (.iload_n 2, 1) by decide +kernel) rfl
set_option maxRecDepth 100000 in
theorem r_66_7 : ∀ (d : Nat) (ls : Lc) (v0 v1 : Value) (a : Nat) (st : List Value) (M : Mem) (Q : Outcome → Mem → Prop), (smallR st = true) → Wp d 66 7 ls (v1 :: v0 :: .ref a :: st) M Q = (kO M a = 1 ∧ Ca d 66 7 ls 67 (.ref a :: [v0, v1]) st M Q) := fun d ls v0 v1 a st M Q h0 => w_virt1 (as := [v0, v1]) (show ins 66 7 = some (.invokevirtual 291, 3) by decide +kernel) (show mRes (mC 66) 291 = some (3, 1, [(1, 67)]) by decide +kernel) (by decide +kernel) rfl (by decide +kernel) (by decide +kernel) h0
set_option maxRecDepth 100000 in
theorem r_66_10 : ∀ (d : Nat) (ls : Lc) (st : List Value) (M : Mem) (Q : Outcome → Mem → Prop), Wp d 66 10 ls st M Q = Wp d 66 20 ls st M Q := fun d ls st M Q => w_goto (show ins 66 10 = some (.goto 10, 3) by decide +kernel) rfl
set_option maxRecDepth 100000 in
theorem r_66_13 : ∀ (d : Nat) (l0 l1 l2 l3 : Option Value) (v : Nat) (st : List Value) (M : Mem) (Q : Outcome → Mem → Prop), (lo l2 = false) → Wp d 66 13 [l0, l1, l2, l3] (.ref v :: st) M Q = Wp d 66 14 [l0, l1, l2, some (.ref v)] st M Q := fun d l0 l1 l2 l3 v st M Q hl => w_astore_n (show ins 66 13 = some (.astore_n 3, 1) by decide +kernel) (st1_S rfl rfl hl)
set_option maxRecDepth 100000 in
theorem r_66_13_1 : ∀ (d : Nat) (l0 l1 l2 l3 : Option Value) (st : List Value) (M : Mem) (Q : Outcome → Mem → Prop), (lo l2 = false) → Wp d 66 13 [l0, l1, l2, l3] (.null :: st) M Q = Wp d 66 14 [l0, l1, l2, some (.null)] st M Q := fun d l0 l1 l2 l3 st M Q hl => w_astoreN_n (show ins 66 13 = some (.astore_n 3, 1) by decide +kernel) (st1_S rfl rfl hl)
set_option maxRecDepth 100000 in
theorem r_66_14 : ∀ (d : Nat) (l1 l2 l3 : Option Value) (v : Nat) (st : List Value) (M : Mem) (Q : Outcome → Mem → Prop), Wp d 66 14 [some (.ref v), l1, l2, l3] st M Q = Wp d 66 15 [some (.ref v), l1, l2, l3] (.ref v :: st) M Q := fun d l1 l2 l3 v st M Q => wA (show ins 66 14 = some (.aload_n 0, 1) by decide +kernel) rfl
set_option maxRecDepth 100000 in
theorem r_66_15 : ∀ (d : Nat) (ls : Lc) (a : Nat) (st : List Value) (M : Mem) (Q : Outcome → Mem → Prop), (smallR st = true) → Wp d 66 15 ls (.ref a :: st) M Q = (kO M a = 1 ∧ Ca d 66 15 ls 49 (.ref a :: []) st M Q) := fun d ls a st M Q h0 => w_virt1 (as := []) (show ins 66 15 = some (.invokevirtual 236, 3) by decide +kernel) (show mRes (mC 66) 236 = some (3, 1, [(1, 49)]) by decide +kernel) (by decide +kernel) rfl (by decide +kernel) (by decide +kernel) h0
set_option maxRecDepth 100000 in
theorem r_66_18 : ∀ (d : Nat) (l0 l1 l2 : Option Value) (v : Nat) (st : List Value) (M : Mem) (Q : Outcome → Mem → Prop), Wp d 66 18 [l0, l1, l2, some (.ref v)] st M Q = Wp d 66 19 [l0, l1, l2, some (.ref v)] (.ref v :: st) M Q := fun d l0 l1 l2 v st M Q => wA (show ins 66 18 = some (.aload_n 3, 1) by decide +kernel) rfl
set_option maxRecDepth 100000 in
theorem r_66_18_1 : ∀ (d : Nat) (l0 l1 l2 : Option Value) (st : List Value) (M : Mem) (Q : Outcome → Mem → Prop), Wp d 66 18 [l0, l1, l2, some .null] st M Q = Wp d 66 19 [l0, l1, l2, some .null] (.null :: st) M Q := fun d l0 l1 l2 st M Q => wA (show ins 66 18 = some (.aload_n 3, 1) by decide +kernel) rfl
set_option maxRecDepth 100000 in
theorem r_66_19 : ∀ (d : Nat) (ls : Lc) (a : Nat) (st : List Value) (M : Mem) (Q : Outcome → Mem → Prop), Wp d 66 19 ls (.ref a :: st) M Q = Th d 66 19 ls a M Q := fun d ls a st M Q => w_athrow (show ins 66 19 = some (.athrow, 1) by decide +kernel)
set_option maxRecDepth 100000 in
theorem r_66_20 : ∀ (d : Nat) (l0 l1 l3 : Option Value) (v : Int32) (st : List Value) (M : Mem) (Q : Outcome → Mem → Prop), Wp d 66 20 [l0, l1, some (.int v), l3] st M Q = Wp d 66 21 [l0, l1, some (.int v), l3] (.int v :: st) M Q := fun d l0 l1 l3 v st M Q => wA (show ins 66 20 = some (.iload_n 2, 1) by decide +kernel) rfl
set_option maxRecDepth 100000 in
theorem r_66_21 : ∀ (d : Nat) (ls : Lc) (v : Int32) (M : Mem) (Q : Outcome → Mem → Prop), Wp d 66 21 ls [.int v] M Q = Q (.returned (some (.int v))) M := fun d ls v M Q => w_ireturn (show ins 66 21 = some (.ireturn, 1) by decide +kernel) (by decide +kernel)
set_option maxRecDepth 100000 in
theorem W_66 : (type_of% r_66_0) ∧ (type_of% r_66_1) ∧ (type_of% r_66_4) ∧ (type_of% r_66_5) ∧ (type_of% r_66_6) ∧ (type_of% r_66_7) ∧ (type_of% r_66_10) ∧ (type_of% r_66_13) ∧ (type_of% r_66_13_1) ∧ (type_of% r_66_14) ∧ (type_of% r_66_15) ∧ (type_of% r_66_18) ∧ (type_of% r_66_18_1) ∧ (type_of% r_66_19) ∧ (type_of% r_66_20) ∧ (type_of% r_66_21) := ⟨r_66_0, r_66_1, r_66_4, r_66_5, r_66_6, r_66_7, r_66_10, r_66_13, r_66_13_1, r_66_14, r_66_15, r_66_18, r_66_18_1, r_66_19, r_66_20, r_66_21⟩
set_option maxRecDepth 100000 in
theorem ca_66 {d y pc : Nat} {ls : Lc} {a : Nat} {z0 : Int32} {z1 : Int32} {r : List Value} {M : Mem} {Q : Outcome → Mem → Prop} (hd : 0 < d) (hw : Wp (d - 1) 66 0 [some (.ref a), some (.int z0), some (.int z1), none] [] M (Cq d y pc ls r Q)) : Ca d y pc ls 66 [.ref a, .int z0, .int z1] r M Q := ca_of (mq_get (by decide)) (by rfl) hd hw
/-! 67 PackedTree.reform(II)V; loop heads [12, 37, 65, 97, 153, 218] -/
set_option maxRecDepth 100000 in
theorem r_67_0 : ∀ (d : Nat) (l1 l2 l3 l4 l5 l6 : Option Value) (v : Nat) (st : List Value) (M : Mem) (Q : Outcome → Mem → Prop), Wp d 67 0 [some (.ref v), l1, l2, l3, l4, l5, l6] st M Q = Wp d 67 1 [some (.ref v), l1, l2, l3, l4, l5, l6] (.ref v :: st) M Q := fun d l1 l2 l3 l4 l5 l6 v st M Q => wA (show ins 67 0 = some (.aload_n 0, 1) by decide +kernel) rfl
set_option maxRecDepth 100000 in
theorem r_67_1 : ∀ (d : Nat) (l0 l2 l3 l4 l5 l6 : Option Value) (v : Int32) (st : List Value) (M : Mem) (Q : Outcome → Mem → Prop), Wp d 67 1 [l0, some (.int v), l2, l3, l4, l5, l6] st M Q = Wp d 67 2 [l0, some (.int v), l2, l3, l4, l5, l6] (.int v :: st) M Q := fun d l0 l2 l3 l4 l5 l6 v st M Q => wA (show ins 67 1 = some (.iload_n 1, 1) by decide +kernel) rfl
set_option maxRecDepth 100000 in
theorem r_67_2 : ∀ (d : Nat) (ls : Lc) (v0 : Value) (a : Nat) (st : List Value) (M : Mem) (Q : Outcome → Mem → Prop), (smallR st = true) → Wp d 67 2 ls (v0 :: .ref a :: st) M Q = (kO M a = 1 ∧ Ca d 67 2 ls 56 (.ref a :: [v0]) st M Q) := fun d ls v0 a st M Q h0 => w_virt1 (as := [v0]) (show ins 67 2 = some (.invokevirtual 248, 3) by decide +kernel) (show mRes (mC 67) 248 = some (3, 1, [(1, 56)]) by decide +kernel) (by decide +kernel) rfl (by decide +kernel) (by decide +kernel) h0
set_option maxRecDepth 100000 in
theorem r_67_5 : ∀ (d : Nat) (l0 l1 l2 l3 l4 l5 l6 : Option Value) (v : Int32) (st : List Value) (M : Mem) (Q : Outcome → Mem → Prop), (lo l2 = false) → Wp d 67 5 [l0, l1, l2, l3, l4, l5, l6] (.int v :: st) M Q = Wp d 67 6 [l0, l1, l2, some (.int v), l4, l5, l6] st M Q := fun d l0 l1 l2 l3 l4 l5 l6 v st M Q hl => w_istore_n (show ins 67 5 = some (.istore_n 3, 1) by decide +kernel) (st1_S rfl rfl hl)
set_option maxRecDepth 100000 in
theorem r_67_6 : ∀ (d : Nat) (l0 l1 l3 l4 l5 l6 : Option Value) (v : Int32) (st : List Value) (M : Mem) (Q : Outcome → Mem → Prop), Wp d 67 6 [l0, l1, some (.int v), l3, l4, l5, l6] st M Q = Wp d 67 7 [l0, l1, some (.int v), l3, l4, l5, l6] (.int v :: st) M Q := fun d l0 l1 l3 l4 l5 l6 v st M Q => wA (show ins 67 6 = some (.iload_n 2, 1) by decide +kernel) rfl
set_option maxRecDepth 100000 in
theorem r_67_7 : ∀ (d : Nat) (ls : Lc) (v0 : Value)  (st : List Value) (M : Mem) (Q : Outcome → Mem → Prop), (smallR st = true) → Wp d 67 7 ls (v0 :: st) M Q = Ca d 67 7 ls 68 [v0] st M Q := fun d ls v0 st M Q h0 => w_stat (as := [v0]) (show ins 67 7 = some (.invokestatic 285, 3) by decide +kernel) (show mRes (mC 67) 285 = some (0, 1, [(0, 68)]) by decide +kernel) (by decide +kernel) (by decide +kernel) rfl h0
set_option maxRecDepth 100000 in
theorem r_67_10 : ∀ (d : Nat) (l0 l1 l2 l3 l4 l5 l6 : Option Value) (v : Int32) (st : List Value) (M : Mem) (Q : Outcome → Mem → Prop), (lo l3 = false) → Wp d 67 10 [l0, l1, l2, l3, l4, l5, l6] (.int v :: st) M Q = Wp d 67 12 [l0, l1, l2, l3, some (.int v), l5, l6] st M Q := fun d l0 l1 l2 l3 l4 l5 l6 v st M Q hl => w_istore (show ins 67 10 = some (.istore 4, 2) by decide +kernel) (st1_S rfl rfl hl)
set_option maxRecDepth 100000 in
theorem r_67_12 : ∀ (d : Nat) (l0 l1 l2 l4 l5 l6 : Option Value) (v : Int32) (st : List Value) (M : Mem) (Q : Outcome → Mem → Prop), Wp d 67 12 [l0, l1, l2, some (.int v), l4, l5, l6] st M Q = Wp d 67 13 [l0, l1, l2, some (.int v), l4, l5, l6] (.int v :: st) M Q := fun d l0 l1 l2 l4 l5 l6 v st M Q => wA (show ins 67 12 = some (.iload_n 3, 1) by decide +kernel) rfl
set_option maxRecDepth 100000 in
theorem r_67_13 : ∀ (d : Nat) (l0 l1 l2 l3 l5 l6 : Option Value) (v : Int32) (st : List Value) (M : Mem) (Q : Outcome → Mem → Prop), Wp d 67 13 [l0, l1, l2, l3, some (.int v), l5, l6] st M Q = Wp d 67 15 [l0, l1, l2, l3, some (.int v), l5, l6] (.int v :: st) M Q := fun d l0 l1 l2 l3 l5 l6 v st M Q => wA (show ins 67 13 = some (.iload 4, 2) by decide +kernel) rfl
set_option maxRecDepth 100000 in
theorem r_67_15 : ∀ (d : Nat) (ls : Lc) (a b : Int32) (st : List Value) (M : Mem) (Q : Outcome → Mem → Prop), Wp d 67 15 ls (.int b :: .int a :: st) M Q = Br (b ≤ a) d 67 37 18 ls st M Q := fun d ls a b st M Q => w_icmp (show ins 67 15 = some (.if_icmp .ge 22, 3) by decide +kernel) rfl rfl
set_option maxRecDepth 100000 in
theorem r_67_18 : ∀ (d : Nat) (l1 l2 l3 l4 l5 l6 : Option Value) (v : Nat) (st : List Value) (M : Mem) (Q : Outcome → Mem → Prop), Wp d 67 18 [some (.ref v), l1, l2, l3, l4, l5, l6] st M Q = Wp d 67 19 [some (.ref v), l1, l2, l3, l4, l5, l6] (.ref v :: st) M Q := fun d l1 l2 l3 l4 l5 l6 v st M Q => wA (show ins 67 18 = some (.aload_n 0, 1) by decide +kernel) rfl
set_option maxRecDepth 100000 in
theorem r_67_19 : ∀ (d : Nat) (ls : Lc) (a : Nat) (st : List Value) (M : Mem) (Q : Outcome → Mem → Prop), Wp d 67 19 ls (.ref a :: st) M Q = (fk 5 (kO M a) = true ∧ Wp d 67 22 ls (va_rf (mR M 5 a) :: st) M Q) := fun d ls a st M Q => w_getR (show ins 67 19 = some (.getfield 32, 3) by decide +kernel) (show fRes (mC 67) 32 = some (5, 1, false) by decide +kernel) (by decide +kernel)
set_option maxRecDepth 100000 in
theorem r_67_22 : ∀ (d : Nat) (l0 l1 l2 l4 l5 l6 : Option Value) (v : Int32) (st : List Value) (M : Mem) (Q : Outcome → Mem → Prop), Wp d 67 22 [l0, l1, l2, some (.int v), l4, l5, l6] st M Q = Wp d 67 23 [l0, l1, l2, some (.int v), l4, l5, l6] (.int v :: st) M Q := fun d l0 l1 l2 l4 l5 l6 v st M Q => wA (show ins 67 22 = some (.iload_n 3, 1) by decide +kernel) rfl
set_option maxRecDepth 100000 in
theorem r_67_23 : ∀ (d : Nat) (l0 l1 l2 l4 l5 l6 : Option Value) (z : Int) (st : List Value) (M : Mem) (Q : Outcome → Mem → Prop), (lo l2 = false) → Wp d 67 23 [l0, l1, l2, some (.int (I z)), l4, l5, l6] st M Q = Wp d 67 26 [l0, l1, l2, some (.int (I (z + 1))), l4, l5, l6] st M Q := fun d l0 l1 l2 l4 l5 l6 z st M Q hl => w_iinc (show ins 67 23 = some (.iinc 3 1, 3) by decide +kernel) rfl (st1_S rfl rfl hl)
set_option maxRecDepth 100000 in
theorem r_67_26 : ∀ (d : Nat) (l1 l2 l3 l4 l5 l6 : Option Value) (v : Nat) (st : List Value) (M : Mem) (Q : Outcome → Mem → Prop), Wp d 67 26 [some (.ref v), l1, l2, l3, l4, l5, l6] st M Q = Wp d 67 27 [some (.ref v), l1, l2, l3, l4, l5, l6] (.ref v :: st) M Q := fun d l1 l2 l3 l4 l5 l6 v st M Q => wA (show ins 67 26 = some (.aload_n 0, 1) by decide +kernel) rfl
set_option maxRecDepth 100000 in
theorem r_67_27 : ∀ (d : Nat) (ls : Lc) (a : Nat) (st : List Value) (M : Mem) (Q : Outcome → Mem → Prop), Wp d 67 27 ls (.ref a :: st) M Q = (fk 6 (kO M a) = true ∧ Wp d 67 30 ls (va_rf (mR M 6 a) :: st) M Q) := fun d ls a st M Q => w_getR (show ins 67 27 = some (.getfield 49, 3) by decide +kernel) (show fRes (mC 67) 49 = some (6, 1, false) by decide +kernel) (by decide +kernel)
set_option maxRecDepth 100000 in
theorem r_67_30 : ∀ (d : Nat) (ls : Lc) (a : Nat) (st : List Value) (M : Mem) (Q : Outcome → Mem → Prop), (smallR st = true) → Wp d 67 30 ls (.ref a :: st) M Q = (kO M a = 2 ∧ Ca d 67 30 ls 88 (.ref a :: []) st M Q) := fun d ls a st M Q h0 => w_virt1 (as := []) (show ins 67 30 = some (.invokevirtual 71, 3) by decide +kernel) (show mRes (mC 67) 71 = some (3, 2, [(2, 88)]) by decide +kernel) (by decide +kernel) rfl (by decide +kernel) (by decide +kernel) h0
set_option maxRecDepth 100000 in
theorem r_67_33 : ∀ (d : Nat) (ls : Lc) (a : Nat) (j v : Int32) (st : List Value) (M : Mem) (Q : Outcome → Mem → Prop), Wp d 67 33 ls (.int v :: .int j :: .ref a :: st) M Q = (((kX M a).1 = 0 ∧ inB j (kX M a).2 = true) ∧ Wp d 67 34 ls st (sA M a j.toNatClampNeg v) Q) := fun d ls a j v st M Q => w_iastore (show ins 67 33 = some (.iastore, 1) by decide +kernel)
set_option maxRecDepth 100000 in
theorem r_67_34 : ∀ (d : Nat) (ls : Lc) (st : List Value) (M : Mem) (Q : Outcome → Mem → Prop), Wp d 67 34 ls st M Q = Wp d 67 12 ls st M Q := fun d ls st M Q => w_goto (show ins 67 34 = some (.goto (-22), 3) by decide +kernel) rfl
set_option maxRecDepth 100000 in
theorem r_67_37 : ∀ (d : Nat) (l0 l1 l2 l4 l5 l6 : Option Value) (v : Int32) (st : List Value) (M : Mem) (Q : Outcome → Mem → Prop), Wp d 67 37 [l0, l1, l2, some (.int v), l4, l5, l6] st M Q = Wp d 67 38 [l0, l1, l2, some (.int v), l4, l5, l6] (.int v :: st) M Q := fun d l0 l1 l2 l4 l5 l6 v st M Q => wA (show ins 67 37 = some (.iload_n 3, 1) by decide +kernel) rfl
set_option maxRecDepth 100000 in
theorem r_67_38 : ∀ (d : Nat) (l0 l1 l2 l3 l5 l6 : Option Value) (v : Int32) (st : List Value) (M : Mem) (Q : Outcome → Mem → Prop), Wp d 67 38 [l0, l1, l2, l3, some (.int v), l5, l6] st M Q = Wp d 67 40 [l0, l1, l2, l3, some (.int v), l5, l6] (.int v :: st) M Q := fun d l0 l1 l2 l3 l5 l6 v st M Q => wA (show ins 67 38 = some (.iload 4, 2) by decide +kernel) rfl
set_option maxRecDepth 100000 in
theorem r_67_40 : ∀ (d : Nat) (ls : Lc) (a b : Int32) (st : List Value) (M : Mem) (Q : Outcome → Mem → Prop), Wp d 67 40 ls (.int b :: .int a :: st) M Q = Br (a ≤ b) d 67 62 43 ls st M Q := fun d ls a b st M Q => w_icmp (show ins 67 40 = some (.if_icmp .le 22, 3) by decide +kernel) rfl rfl
set_option maxRecDepth 100000 in
theorem r_67_43 : ∀ (d : Nat) (l1 l2 l3 l4 l5 l6 : Option Value) (v : Nat) (st : List Value) (M : Mem) (Q : Outcome → Mem → Prop), Wp d 67 43 [some (.ref v), l1, l2, l3, l4, l5, l6] st M Q = Wp d 67 44 [some (.ref v), l1, l2, l3, l4, l5, l6] (.ref v :: st) M Q := fun d l1 l2 l3 l4 l5 l6 v st M Q => wA (show ins 67 43 = some (.aload_n 0, 1) by decide +kernel) rfl
set_option maxRecDepth 100000 in
theorem r_67_44 : ∀ (d : Nat) (ls : Lc) (a : Nat) (st : List Value) (M : Mem) (Q : Outcome → Mem → Prop), Wp d 67 44 ls (.ref a :: st) M Q = (fk 6 (kO M a) = true ∧ Wp d 67 47 ls (va_rf (mR M 6 a) :: st) M Q) := fun d ls a st M Q => w_getR (show ins 67 44 = some (.getfield 49, 3) by decide +kernel) (show fRes (mC 67) 49 = some (6, 1, false) by decide +kernel) (by decide +kernel)
set_option maxRecDepth 100000 in
theorem r_67_47 : ∀ (d : Nat) (l1 l2 l3 l4 l5 l6 : Option Value) (v : Nat) (st : List Value) (M : Mem) (Q : Outcome → Mem → Prop), Wp d 67 47 [some (.ref v), l1, l2, l3, l4, l5, l6] st M Q = Wp d 67 48 [some (.ref v), l1, l2, l3, l4, l5, l6] (.ref v :: st) M Q := fun d l1 l2 l3 l4 l5 l6 v st M Q => wA (show ins 67 47 = some (.aload_n 0, 1) by decide +kernel) rfl
set_option maxRecDepth 100000 in
theorem r_67_48 : ∀ (d : Nat) (ls : Lc) (a : Nat) (st : List Value) (M : Mem) (Q : Outcome → Mem → Prop), Wp d 67 48 ls (.ref a :: st) M Q = (fk 5 (kO M a) = true ∧ Wp d 67 51 ls (va_rf (mR M 5 a) :: st) M Q) := fun d ls a st M Q => w_getR (show ins 67 48 = some (.getfield 32, 3) by decide +kernel) (show fRes (mC 67) 32 = some (5, 1, false) by decide +kernel) (by decide +kernel)
set_option maxRecDepth 100000 in
theorem r_67_51 : ∀ (d : Nat) (l0 l1 l2 l4 l5 l6 : Option Value) (z : Int) (st : List Value) (M : Mem) (Q : Outcome → Mem → Prop), (lo l2 = false) → Wp d 67 51 [l0, l1, l2, some (.int (I z)), l4, l5, l6] st M Q = Wp d 67 54 [l0, l1, l2, some (.int (I (z + (-1)))), l4, l5, l6] st M Q := fun d l0 l1 l2 l4 l5 l6 z st M Q hl => w_iinc (show ins 67 51 = some (.iinc 3 (-1), 3) by decide +kernel) rfl (st1_S rfl rfl hl)
set_option maxRecDepth 100000 in
theorem r_67_54 : ∀ (d : Nat) (l0 l1 l2 l4 l5 l6 : Option Value) (v : Int32) (st : List Value) (M : Mem) (Q : Outcome → Mem → Prop), Wp d 67 54 [l0, l1, l2, some (.int v), l4, l5, l6] st M Q = Wp d 67 55 [l0, l1, l2, some (.int v), l4, l5, l6] (.int v :: st) M Q := fun d l0 l1 l2 l4 l5 l6 v st M Q => wA (show ins 67 54 = some (.iload_n 3, 1) by decide +kernel) rfl
set_option maxRecDepth 100000 in
theorem r_67_55 : ∀ (d : Nat) (ls : Lc) (a : Nat) (j : Int32) (st : List Value) (M : Mem) (Q : Outcome → Mem → Prop), Wp d 67 55 ls (.int j :: .ref a :: st) M Q = ((((kX M a).1 = 0 ∨ (kX M a).1 = 8) ∧ inB j (kX M a).2 = true) ∧ Wp d 67 56 ls (.int (mA M a j.toNatClampNeg) :: st) M Q) := fun d ls a j st M Q => w_iaload (show ins 67 55 = some (.iaload, 1) by decide +kernel)
set_option maxRecDepth 100000 in
theorem r_67_56 : ∀ (d : Nat) (ls : Lc) (v0 : Value) (a : Nat) (st : List Value) (M : Mem) (Q : Outcome → Mem → Prop), (smallR st = true) → Wp d 67 56 ls (v0 :: .ref a :: st) M Q = (kO M a = 2 ∧ Ca d 67 56 ls 89 (.ref a :: [v0]) st M Q) := fun d ls v0 a st M Q h0 => w_virt1 (as := [v0]) (show ins 67 56 = some (.invokevirtual 251, 3) by decide +kernel) (show mRes (mC 67) 251 = some (3, 2, [(2, 89)]) by decide +kernel) (by decide +kernel) rfl (by decide +kernel) (by decide +kernel) h0
set_option maxRecDepth 100000 in
theorem r_67_59 : ∀ (d : Nat) (ls : Lc) (st : List Value) (M : Mem) (Q : Outcome → Mem → Prop), Wp d 67 59 ls st M Q = Wp d 67 37 ls st M Q := fun d ls st M Q => w_goto (show ins 67 59 = some (.goto (-22), 3) by decide +kernel) rfl
set_option maxRecDepth 100000 in
theorem r_67_62 : ∀ (d : Nat) (ls : Lc) (st : List Value) (M : Mem) (Q : Outcome → Mem → Prop), Wp d 67 62 ls st M Q = Wp d 67 63 ls (.int (I 0) :: st) M Q := fun d ls st M Q => w_iconst (show ins 67 62 = some (.iconst 0, 1) by decide +kernel)
set_option maxRecDepth 100000 in
theorem r_67_63 : ∀ (d : Nat) (l0 l1 l2 l3 l4 l5 l6 : Option Value) (v : Int32) (st : List Value) (M : Mem) (Q : Outcome → Mem → Prop), (lo l4 = false) → Wp d 67 63 [l0, l1, l2, l3, l4, l5, l6] (.int v :: st) M Q = Wp d 67 65 [l0, l1, l2, l3, l4, some (.int v), l6] st M Q := fun d l0 l1 l2 l3 l4 l5 l6 v st M Q hl => w_istore (show ins 67 63 = some (.istore 5, 2) by decide +kernel) (st1_S rfl rfl hl)
set_option maxRecDepth 100000 in
theorem r_67_65 : ∀ (d : Nat) (l0 l1 l2 l3 l4 l6 : Option Value) (v : Int32) (st : List Value) (M : Mem) (Q : Outcome → Mem → Prop), Wp d 67 65 [l0, l1, l2, l3, l4, some (.int v), l6] st M Q = Wp d 67 67 [l0, l1, l2, l3, l4, some (.int v), l6] (.int v :: st) M Q := fun d l0 l1 l2 l3 l4 l6 v st M Q => wA (show ins 67 65 = some (.iload 5, 2) by decide +kernel) rfl
set_option maxRecDepth 100000 in
theorem r_67_67 : ∀ (d : Nat) (l0 l1 l2 l3 l5 l6 : Option Value) (v : Int32) (st : List Value) (M : Mem) (Q : Outcome → Mem → Prop), Wp d 67 67 [l0, l1, l2, l3, some (.int v), l5, l6] st M Q = Wp d 67 69 [l0, l1, l2, l3, some (.int v), l5, l6] (.int v :: st) M Q := fun d l0 l1 l2 l3 l5 l6 v st M Q => wA (show ins 67 67 = some (.iload 4, 2) by decide +kernel) rfl
set_option maxRecDepth 100000 in
theorem r_67_69 : ∀ (d : Nat) (ls : Lc) (a b : Int32) (st : List Value) (M : Mem) (Q : Outcome → Mem → Prop), Wp d 67 69 ls (.int b :: .int a :: st) M Q = Br (b ≤ a) d 67 94 72 ls st M Q := fun d ls a b st M Q => w_icmp (show ins 67 69 = some (.if_icmp .ge 25, 3) by decide +kernel) rfl rfl
set_option maxRecDepth 100000 in
theorem r_67_72 : ∀ (d : Nat) (l1 l2 l3 l4 l5 l6 : Option Value) (v : Nat) (st : List Value) (M : Mem) (Q : Outcome → Mem → Prop), Wp d 67 72 [some (.ref v), l1, l2, l3, l4, l5, l6] st M Q = Wp d 67 73 [some (.ref v), l1, l2, l3, l4, l5, l6] (.ref v :: st) M Q := fun d l1 l2 l3 l4 l5 l6 v st M Q => wA (show ins 67 72 = some (.aload_n 0, 1) by decide +kernel) rfl
set_option maxRecDepth 100000 in
theorem r_67_73 : ∀ (d : Nat) (ls : Lc) (a : Nat) (st : List Value) (M : Mem) (Q : Outcome → Mem → Prop), Wp d 67 73 ls (.ref a :: st) M Q = (fk 4 (kO M a) = true ∧ Wp d 67 76 ls (va_rf (mR M 4 a) :: st) M Q) := fun d ls a st M Q => w_getR (show ins 67 73 = some (.getfield 15, 3) by decide +kernel) (show fRes (mC 67) 15 = some (4, 1, false) by decide +kernel) (by decide +kernel)
set_option maxRecDepth 100000 in
theorem r_67_76 : ∀ (d : Nat) (l1 l2 l3 l4 l5 l6 : Option Value) (v : Nat) (st : List Value) (M : Mem) (Q : Outcome → Mem → Prop), Wp d 67 76 [some (.ref v), l1, l2, l3, l4, l5, l6] st M Q = Wp d 67 77 [some (.ref v), l1, l2, l3, l4, l5, l6] (.ref v :: st) M Q := fun d l1 l2 l3 l4 l5 l6 v st M Q => wA (show ins 67 76 = some (.aload_n 0, 1) by decide +kernel) rfl
set_option maxRecDepth 100000 in
theorem r_67_77 : ∀ (d : Nat) (ls : Lc) (a : Nat) (st : List Value) (M : Mem) (Q : Outcome → Mem → Prop), Wp d 67 77 ls (.ref a :: st) M Q = (fk 5 (kO M a) = true ∧ Wp d 67 80 ls (va_rf (mR M 5 a) :: st) M Q) := fun d ls a st M Q => w_getR (show ins 67 77 = some (.getfield 32, 3) by decide +kernel) (show fRes (mC 67) 32 = some (5, 1, false) by decide +kernel) (by decide +kernel)
set_option maxRecDepth 100000 in
theorem r_67_80 : ∀ (d : Nat) (l0 l1 l2 l3 l4 l6 : Option Value) (v : Int32) (st : List Value) (M : Mem) (Q : Outcome → Mem → Prop), Wp d 67 80 [l0, l1, l2, l3, l4, some (.int v), l6] st M Q = Wp d 67 82 [l0, l1, l2, l3, l4, some (.int v), l6] (.int v :: st) M Q := fun d l0 l1 l2 l3 l4 l6 v st M Q => wA (show ins 67 80 = some (.iload 5, 2) by decide +kernel) rfl
set_option maxRecDepth 100000 in
theorem r_67_82 : ∀ (d : Nat) (ls : Lc) (a : Nat) (j : Int32) (st : List Value) (M : Mem) (Q : Outcome → Mem → Prop), Wp d 67 82 ls (.int j :: .ref a :: st) M Q = ((((kX M a).1 = 0 ∨ (kX M a).1 = 8) ∧ inB j (kX M a).2 = true) ∧ Wp d 67 83 ls (.int (mA M a j.toNatClampNeg) :: st) M Q) := fun d ls a j st M Q => w_iaload (show ins 67 82 = some (.iaload, 1) by decide +kernel)
set_option maxRecDepth 100000 in
theorem r_67_83 : ∀ (d : Nat) (ls : Lc) (a : Nat) (j : Int32) (st : List Value) (M : Mem) (Q : Outcome → Mem → Prop), Wp d 67 83 ls (.int j :: .ref a :: st) M Q = ((((kX M a).1 = 4 ∨ (kX M a).1 = 5 ∨ (kX M a).1 = 6 ∨ (kX M a).1 = 7) ∧ inB j (kX M a).2 = true) ∧ Wp d 67 84 ls (va_rf (mQ M a j.toNatClampNeg) :: st) M Q) := fun d ls a j st M Q => w_aaload (show ins 67 83 = some (.aaload, 1) by decide +kernel)
set_option maxRecDepth 100000 in
theorem r_67_84 : ∀ (d : Nat) (ls : Lc) (st : List Value) (M : Mem) (Q : Outcome → Mem → Prop), Wp d 67 84 ls st M Q = Wp d 67 85 ls (.int (I 0) :: st) M Q := fun d ls st M Q => w_iconst (show ins 67 84 = some (.iconst 0, 1) by decide +kernel)
set_option maxRecDepth 100000 in
theorem r_67_85 : ∀ (d : Nat) (ls : Lc) (v0 v1 : Value)  (st : List Value) (M : Mem) (Q : Outcome → Mem → Prop), (smallR st = true) → Wp d 67 85 ls (v1 :: v0 :: st) M Q = Ca d 67 85 ls 26 [v0, v1] st M Q := fun d ls v0 v1 st M Q h0 => w_stat (as := [v0, v1]) (show ins 67 85 = some (.invokestatic 288, 3) by decide +kernel) (show mRes (mC 67) 288 = some (0, 1, [(0, 26)]) by decide +kernel) (by decide +kernel) (by decide +kernel) rfl h0
set_option maxRecDepth 100000 in
theorem r_67_88 : ∀ (d : Nat) (l0 l1 l2 l3 l4 l6 : Option Value) (z : Int) (st : List Value) (M : Mem) (Q : Outcome → Mem → Prop), (lo l4 = false) → Wp d 67 88 [l0, l1, l2, l3, l4, some (.int (I z)), l6] st M Q = Wp d 67 91 [l0, l1, l2, l3, l4, some (.int (I (z + 1))), l6] st M Q := fun d l0 l1 l2 l3 l4 l6 z st M Q hl => w_iinc (show ins 67 88 = some (.iinc 5 1, 3) by decide +kernel) rfl (st1_S rfl rfl hl)
set_option maxRecDepth 100000 in
theorem r_67_91 : ∀ (d : Nat) (ls : Lc) (st : List Value) (M : Mem) (Q : Outcome → Mem → Prop), Wp d 67 91 ls st M Q = Wp d 67 65 ls st M Q := fun d ls st M Q => w_goto (show ins 67 91 = some (.goto (-26), 3) by decide +kernel) rfl
set_option maxRecDepth 100000 in
theorem r_67_94 : ∀ (d : Nat) (ls : Lc) (st : List Value) (M : Mem) (Q : Outcome → Mem → Prop), Wp d 67 94 ls st M Q = Wp d 67 95 ls (.int (I 0) :: st) M Q := fun d ls st M Q => w_iconst (show ins 67 94 = some (.iconst 0, 1) by decide +kernel)
set_option maxRecDepth 100000 in
theorem r_67_95 : ∀ (d : Nat) (l0 l1 l2 l3 l4 l5 l6 : Option Value) (v : Int32) (st : List Value) (M : Mem) (Q : Outcome → Mem → Prop), (lo l4 = false) → Wp d 67 95 [l0, l1, l2, l3, l4, l5, l6] (.int v :: st) M Q = Wp d 67 97 [l0, l1, l2, l3, l4, some (.int v), l6] st M Q := fun d l0 l1 l2 l3 l4 l5 l6 v st M Q hl => w_istore (show ins 67 95 = some (.istore 5, 2) by decide +kernel) (st1_S rfl rfl hl)
set_option maxRecDepth 100000 in
theorem r_67_97 : ∀ (d : Nat) (l0 l1 l2 l3 l4 l6 : Option Value) (v : Int32) (st : List Value) (M : Mem) (Q : Outcome → Mem → Prop), Wp d 67 97 [l0, l1, l2, l3, l4, some (.int v), l6] st M Q = Wp d 67 99 [l0, l1, l2, l3, l4, some (.int v), l6] (.int v :: st) M Q := fun d l0 l1 l2 l3 l4 l6 v st M Q => wA (show ins 67 97 = some (.iload 5, 2) by decide +kernel) rfl
set_option maxRecDepth 100000 in
theorem r_67_99 : ∀ (d : Nat) (l0 l1 l2 l3 l5 l6 : Option Value) (v : Int32) (st : List Value) (M : Mem) (Q : Outcome → Mem → Prop), Wp d 67 99 [l0, l1, l2, l3, some (.int v), l5, l6] st M Q = Wp d 67 101 [l0, l1, l2, l3, some (.int v), l5, l6] (.int v :: st) M Q := fun d l0 l1 l2 l3 l5 l6 v st M Q => wA (show ins 67 99 = some (.iload 4, 2) by decide +kernel) rfl
set_option maxRecDepth 100000 in
theorem r_67_101 : ∀ (d : Nat) (ls : Lc) (st : List Value) (M : Mem) (Q : Outcome → Mem → Prop), Wp d 67 101 ls st M Q = Wp d 67 104 ls (.int (I 128) :: st) M Q := fun d ls st M Q => w_sipush (show ins 67 101 = some (.sipush 128, 3) by decide +kernel) (by decide)
set_option maxRecDepth 100000 in
theorem r_67_104 : ∀ (d : Nat) (ls : Lc) (a b : Int) (st : List Value) (M : Mem) (Q : Outcome → Mem → Prop), Wp d 67 104 ls (.int (I b) :: .int (I a) :: st) M Q = Wp d 67 105 ls (.int (I (a * b)) :: st) M Q := fun d ls a b st M Q => w_imul (show ins 67 104 = some (.imul, 1) by decide +kernel)
set_option maxRecDepth 100000 in
theorem r_67_105 : ∀ (d : Nat) (ls : Lc) (a b : Int32) (st : List Value) (M : Mem) (Q : Outcome → Mem → Prop), Wp d 67 105 ls (.int b :: .int a :: st) M Q = Br (b ≤ a) d 67 150 108 ls st M Q := fun d ls a b st M Q => w_icmp (show ins 67 105 = some (.if_icmp .ge 45, 3) by decide +kernel) rfl rfl
set_option maxRecDepth 100000 in
theorem r_67_108 : ∀ (d : Nat) (l0 l1 l2 l3 l4 l6 : Option Value) (v : Int32) (st : List Value) (M : Mem) (Q : Outcome → Mem → Prop), Wp d 67 108 [l0, l1, l2, l3, l4, some (.int v), l6] st M Q = Wp d 67 110 [l0, l1, l2, l3, l4, some (.int v), l6] (.int v :: st) M Q := fun d l0 l1 l2 l3 l4 l6 v st M Q => wA (show ins 67 108 = some (.iload 5, 2) by decide +kernel) rfl
set_option maxRecDepth 100000 in
theorem r_67_110 : ∀ (d : Nat) (l0 l1 l3 l4 l5 l6 : Option Value) (v : Int32) (st : List Value) (M : Mem) (Q : Outcome → Mem → Prop), Wp d 67 110 [l0, l1, some (.int v), l3, l4, l5, l6] st M Q = Wp d 67 111 [l0, l1, some (.int v), l3, l4, l5, l6] (.int v :: st) M Q := fun d l0 l1 l3 l4 l5 l6 v st M Q => wA (show ins 67 110 = some (.iload_n 2, 1) by decide +kernel) rfl
set_option maxRecDepth 100000 in
theorem r_67_111 : ∀ (d : Nat) (ls : Lc) (a b : Int32) (st : List Value) (M : Mem) (Q : Outcome → Mem → Prop), Wp d 67 111 ls (.int b :: .int a :: st) M Q = Br (b ≤ a) d 67 150 114 ls st M Q := fun d ls a b st M Q => w_icmp (show ins 67 111 = some (.if_icmp .ge 39, 3) by decide +kernel) rfl rfl
set_option maxRecDepth 100000 in
theorem r_67_114 : ∀ (d : Nat) (l1 l2 l3 l4 l5 l6 : Option Value) (v : Nat) (st : List Value) (M : Mem) (Q : Outcome → Mem → Prop), Wp d 67 114 [some (.ref v), l1, l2, l3, l4, l5, l6] st M Q = Wp d 67 115 [some (.ref v), l1, l2, l3, l4, l5, l6] (.ref v :: st) M Q := fun d l1 l2 l3 l4 l5 l6 v st M Q => wA (show ins 67 114 = some (.aload_n 0, 1) by decide +kernel) rfl
set_option maxRecDepth 100000 in
theorem r_67_115 : ∀ (d : Nat) (ls : Lc) (a : Nat) (st : List Value) (M : Mem) (Q : Outcome → Mem → Prop), Wp d 67 115 ls (.ref a :: st) M Q = (fk 4 (kO M a) = true ∧ Wp d 67 118 ls (va_rf (mR M 4 a) :: st) M Q) := fun d ls a st M Q => w_getR (show ins 67 115 = some (.getfield 15, 3) by decide +kernel) (show fRes (mC 67) 15 = some (4, 1, false) by decide +kernel) (by decide +kernel)
set_option maxRecDepth 100000 in
theorem r_67_118 : ∀ (d : Nat) (l1 l2 l3 l4 l5 l6 : Option Value) (v : Nat) (st : List Value) (M : Mem) (Q : Outcome → Mem → Prop), Wp d 67 118 [some (.ref v), l1, l2, l3, l4, l5, l6] st M Q = Wp d 67 119 [some (.ref v), l1, l2, l3, l4, l5, l6] (.ref v :: st) M Q := fun d l1 l2 l3 l4 l5 l6 v st M Q => wA (show ins 67 118 = some (.aload_n 0, 1) by decide +kernel) rfl
set_option maxRecDepth 100000 in
theorem r_67_119 : ∀ (d : Nat) (ls : Lc) (a : Nat) (st : List Value) (M : Mem) (Q : Outcome → Mem → Prop), Wp d 67 119 ls (.ref a :: st) M Q = (fk 5 (kO M a) = true ∧ Wp d 67 122 ls (va_rf (mR M 5 a) :: st) M Q) := fun d ls a st M Q => w_getR (show ins 67 119 = some (.getfield 32, 3) by decide +kernel) (show fRes (mC 67) 32 = some (5, 1, false) by decide +kernel) (by decide +kernel)
set_option maxRecDepth 100000 in
theorem r_67_122 : ∀ (d : Nat) (l0 l1 l2 l3 l4 l6 : Option Value) (v : Int32) (st : List Value) (M : Mem) (Q : Outcome → Mem → Prop), Wp d 67 122 [l0, l1, l2, l3, l4, some (.int v), l6] st M Q = Wp d 67 124 [l0, l1, l2, l3, l4, some (.int v), l6] (.int v :: st) M Q := fun d l0 l1 l2 l3 l4 l6 v st M Q => wA (show ins 67 122 = some (.iload 5, 2) by decide +kernel) rfl
set_option maxRecDepth 100000 in
theorem r_67_124 : ∀ (d : Nat) (ls : Lc) (st : List Value) (M : Mem) (Q : Outcome → Mem → Prop), Wp d 67 124 ls st M Q = Wp d 67 127 ls (.int (I 128) :: st) M Q := fun d ls st M Q => w_sipush (show ins 67 124 = some (.sipush 128, 3) by decide +kernel) (by decide)
set_option maxRecDepth 100000 in
theorem r_67_127 : ∀ (d : Nat) (ls : Lc) (a b : Int) (st : List Value) (M : Mem) (Q : Outcome → Mem → Prop), (0 ≤ a) → (a < 2147483648) → (0 < b) → (b < 2147483648) → Wp d 67 127 ls (.int (I b) :: .int (I a) :: st) M Q = Wp d 67 128 ls (.int (I (a / b)) :: st) M Q := fun d ls a b st M Q h0 h1 h2 h3 => w_idiv (show ins 67 127 = some (.idiv, 1) by decide +kernel) h0 h1 h2 h3
set_option maxRecDepth 100000 in
theorem r_67_128 : ∀ (d : Nat) (ls : Lc) (a : Nat) (j : Int32) (st : List Value) (M : Mem) (Q : Outcome → Mem → Prop), Wp d 67 128 ls (.int j :: .ref a :: st) M Q = ((((kX M a).1 = 0 ∨ (kX M a).1 = 8) ∧ inB j (kX M a).2 = true) ∧ Wp d 67 129 ls (.int (mA M a j.toNatClampNeg) :: st) M Q) := fun d ls a j st M Q => w_iaload (show ins 67 128 = some (.iaload, 1) by decide +kernel)
set_option maxRecDepth 100000 in
theorem r_67_129 : ∀ (d : Nat) (ls : Lc) (a : Nat) (j : Int32) (st : List Value) (M : Mem) (Q : Outcome → Mem → Prop), Wp d 67 129 ls (.int j :: .ref a :: st) M Q = ((((kX M a).1 = 4 ∨ (kX M a).1 = 5 ∨ (kX M a).1 = 6 ∨ (kX M a).1 = 7) ∧ inB j (kX M a).2 = true) ∧ Wp d 67 130 ls (va_rf (mQ M a j.toNatClampNeg) :: st) M Q) := fun d ls a j st M Q => w_aaload (show ins 67 129 = some (.aaload, 1) by decide +kernel)
set_option maxRecDepth 100000 in
theorem r_67_130 : ∀ (d : Nat) (l0 l1 l2 l3 l4 l6 : Option Value) (v : Int32) (st : List Value) (M : Mem) (Q : Outcome → Mem → Prop), Wp d 67 130 [l0, l1, l2, l3, l4, some (.int v), l6] st M Q = Wp d 67 132 [l0, l1, l2, l3, l4, some (.int v), l6] (.int v :: st) M Q := fun d l0 l1 l2 l3 l4 l6 v st M Q => wA (show ins 67 130 = some (.iload 5, 2) by decide +kernel) rfl
set_option maxRecDepth 100000 in
theorem r_67_132 : ∀ (d : Nat) (ls : Lc) (st : List Value) (M : Mem) (Q : Outcome → Mem → Prop), Wp d 67 132 ls st M Q = Wp d 67 135 ls (.int (I 128) :: st) M Q := fun d ls st M Q => w_sipush (show ins 67 132 = some (.sipush 128, 3) by decide +kernel) (by decide)
set_option maxRecDepth 100000 in
theorem r_67_135 : ∀ (d : Nat) (ls : Lc) (a b : Int) (st : List Value) (M : Mem) (Q : Outcome → Mem → Prop), (0 ≤ a) → (a < 2147483648) → (0 < b) → (b < 2147483648) → Wp d 67 135 ls (.int (I b) :: .int (I a) :: st) M Q = Wp d 67 136 ls (.int (I (a % b)) :: st) M Q := fun d ls a b st M Q h0 h1 h2 h3 => w_irem (show ins 67 135 = some (.irem, 1) by decide +kernel) h0 h1 h2 h3
set_option maxRecDepth 100000 in
theorem r_67_136 : ∀ (d : Nat) (l1 l2 l3 l4 l5 l6 : Option Value) (v : Nat) (st : List Value) (M : Mem) (Q : Outcome → Mem → Prop), Wp d 67 136 [some (.ref v), l1, l2, l3, l4, l5, l6] st M Q = Wp d 67 137 [some (.ref v), l1, l2, l3, l4, l5, l6] (.ref v :: st) M Q := fun d l1 l2 l3 l4 l5 l6 v st M Q => wA (show ins 67 136 = some (.aload_n 0, 1) by decide +kernel) rfl
set_option maxRecDepth 100000 in
theorem r_67_137 : ∀ (d : Nat) (ls : Lc) (a : Nat) (st : List Value) (M : Mem) (Q : Outcome → Mem → Prop), Wp d 67 137 ls (.ref a :: st) M Q = (fk 3 (kO M a) = true ∧ Wp d 67 140 ls (va_rf (mR M 3 a) :: st) M Q) := fun d ls a st M Q => w_getR (show ins 67 137 = some (.getfield 29, 3) by decide +kernel) (show fRes (mC 67) 29 = some (3, 1, false) by decide +kernel) (by decide +kernel)
set_option maxRecDepth 100000 in
theorem r_67_140 : ∀ (d : Nat) (l0 l1 l2 l3 l4 l6 : Option Value) (v : Int32) (st : List Value) (M : Mem) (Q : Outcome → Mem → Prop), Wp d 67 140 [l0, l1, l2, l3, l4, some (.int v), l6] st M Q = Wp d 67 142 [l0, l1, l2, l3, l4, some (.int v), l6] (.int v :: st) M Q := fun d l0 l1 l2 l3 l4 l6 v st M Q => wA (show ins 67 140 = some (.iload 5, 2) by decide +kernel) rfl
set_option maxRecDepth 100000 in
theorem r_67_142 : ∀ (d : Nat) (ls : Lc) (a : Nat) (j : Int32) (st : List Value) (M : Mem) (Q : Outcome → Mem → Prop), Wp d 67 142 ls (.int j :: .ref a :: st) M Q = ((((kX M a).1 = 1 ∨ (kX M a).1 = 2) ∧ inB j (kX M a).2 = true) ∧ Wp d 67 143 ls (.int (mA M a j.toNatClampNeg) :: st) M Q) := fun d ls a j st M Q => w_baload (show ins 67 142 = some (.baload, 1) by decide +kernel)
set_option maxRecDepth 100000 in
theorem r_67_143 : ∀ (d : Nat) (ls : Lc) (a : Nat) (j v : Int32) (st : List Value) (M : Mem) (Q : Outcome → Mem → Prop), Wp d 67 143 ls (.int v :: .int j :: .ref a :: st) M Q = ((((kX M a).1 = 1 ∨ (kX M a).1 = 2) ∧ inB j (kX M a).2 = true) ∧ Wp d 67 144 ls st (sA M a j.toNatClampNeg (nrw (kX M a).1 v)) Q) := fun d ls a j v st M Q => w_bastore (show ins 67 143 = some (.bastore, 1) by decide +kernel)
set_option maxRecDepth 100000 in
theorem r_67_144 : ∀ (d : Nat) (l0 l1 l2 l3 l4 l6 : Option Value) (z : Int) (st : List Value) (M : Mem) (Q : Outcome → Mem → Prop), (lo l4 = false) → Wp d 67 144 [l0, l1, l2, l3, l4, some (.int (I z)), l6] st M Q = Wp d 67 147 [l0, l1, l2, l3, l4, some (.int (I (z + 1))), l6] st M Q := fun d l0 l1 l2 l3 l4 l6 z st M Q hl => w_iinc (show ins 67 144 = some (.iinc 5 1, 3) by decide +kernel) rfl (st1_S rfl rfl hl)
set_option maxRecDepth 100000 in
theorem r_67_147 : ∀ (d : Nat) (ls : Lc) (st : List Value) (M : Mem) (Q : Outcome → Mem → Prop), Wp d 67 147 ls st M Q = Wp d 67 97 ls st M Q := fun d ls st M Q => w_goto (show ins 67 147 = some (.goto (-50), 3) by decide +kernel) rfl
set_option maxRecDepth 100000 in
theorem r_67_150 : ∀ (d : Nat) (ls : Lc) (st : List Value) (M : Mem) (Q : Outcome → Mem → Prop), Wp d 67 150 ls st M Q = Wp d 67 151 ls (.int (I 0) :: st) M Q := fun d ls st M Q => w_iconst (show ins 67 150 = some (.iconst 0, 1) by decide +kernel)
set_option maxRecDepth 100000 in
theorem r_67_151 : ∀ (d : Nat) (l0 l1 l2 l3 l4 l5 l6 : Option Value) (v : Int32) (st : List Value) (M : Mem) (Q : Outcome → Mem → Prop), (lo l4 = false) → Wp d 67 151 [l0, l1, l2, l3, l4, l5, l6] (.int v :: st) M Q = Wp d 67 153 [l0, l1, l2, l3, l4, some (.int v), l6] st M Q := fun d l0 l1 l2 l3 l4 l5 l6 v st M Q hl => w_istore (show ins 67 151 = some (.istore 5, 2) by decide +kernel) (st1_S rfl rfl hl)
set_option maxRecDepth 100000 in
theorem r_67_153 : ∀ (d : Nat) (l0 l1 l2 l3 l4 l6 : Option Value) (v : Int32) (st : List Value) (M : Mem) (Q : Outcome → Mem → Prop), Wp d 67 153 [l0, l1, l2, l3, l4, some (.int v), l6] st M Q = Wp d 67 155 [l0, l1, l2, l3, l4, some (.int v), l6] (.int v :: st) M Q := fun d l0 l1 l2 l3 l4 l6 v st M Q => wA (show ins 67 153 = some (.iload 5, 2) by decide +kernel) rfl
set_option maxRecDepth 100000 in
theorem r_67_155 : ∀ (d : Nat) (l0 l1 l2 l3 l5 l6 : Option Value) (v : Int32) (st : List Value) (M : Mem) (Q : Outcome → Mem → Prop), Wp d 67 155 [l0, l1, l2, l3, some (.int v), l5, l6] st M Q = Wp d 67 157 [l0, l1, l2, l3, some (.int v), l5, l6] (.int v :: st) M Q := fun d l0 l1 l2 l3 l5 l6 v st M Q => wA (show ins 67 155 = some (.iload 4, 2) by decide +kernel) rfl
set_option maxRecDepth 100000 in
theorem r_67_157 : ∀ (d : Nat) (ls : Lc) (a b : Int32) (st : List Value) (M : Mem) (Q : Outcome → Mem → Prop), Wp d 67 157 ls (.int b :: .int a :: st) M Q = Br (b ≤ a) d 67 188 160 ls st M Q := fun d ls a b st M Q => w_icmp (show ins 67 157 = some (.if_icmp .ge 31, 3) by decide +kernel) rfl rfl
set_option maxRecDepth 100000 in
theorem r_67_160 : ∀ (d : Nat) (l1 l2 l3 l4 l5 l6 : Option Value) (v : Nat) (st : List Value) (M : Mem) (Q : Outcome → Mem → Prop), Wp d 67 160 [some (.ref v), l1, l2, l3, l4, l5, l6] st M Q = Wp d 67 161 [some (.ref v), l1, l2, l3, l4, l5, l6] (.ref v :: st) M Q := fun d l1 l2 l3 l4 l5 l6 v st M Q => wA (show ins 67 160 = some (.aload_n 0, 1) by decide +kernel) rfl
set_option maxRecDepth 100000 in
theorem r_67_161 : ∀ (d : Nat) (ls : Lc) (a : Nat) (st : List Value) (M : Mem) (Q : Outcome → Mem → Prop), Wp d 67 161 ls (.ref a :: st) M Q = (fk 0 (kO M a) = true ∧ Wp d 67 164 ls (va_rf (mR M 0 a) :: st) M Q) := fun d ls a st M Q => w_getR (show ins 67 161 = some (.getfield 25, 3) by decide +kernel) (show fRes (mC 67) 25 = some (0, 1, false) by decide +kernel) (by decide +kernel)
set_option maxRecDepth 100000 in
theorem r_67_164 : ∀ (d : Nat) (ls : Lc) (st : List Value) (M : Mem) (Q : Outcome → Mem → Prop), Wp d 67 164 ls st M Q = Wp d 67 165 ls (.int (I 2) :: st) M Q := fun d ls st M Q => w_iconst (show ins 67 164 = some (.iconst 2, 1) by decide +kernel)
set_option maxRecDepth 100000 in
theorem r_67_165 : ∀ (d : Nat) (l0 l1 l2 l3 l4 l6 : Option Value) (v : Int32) (st : List Value) (M : Mem) (Q : Outcome → Mem → Prop), Wp d 67 165 [l0, l1, l2, l3, l4, some (.int v), l6] st M Q = Wp d 67 167 [l0, l1, l2, l3, l4, some (.int v), l6] (.int v :: st) M Q := fun d l0 l1 l2 l3 l4 l6 v st M Q => wA (show ins 67 165 = some (.iload 5, 2) by decide +kernel) rfl
set_option maxRecDepth 100000 in
theorem r_67_167 : ∀ (d : Nat) (ls : Lc) (a b : Int) (st : List Value) (M : Mem) (Q : Outcome → Mem → Prop), Wp d 67 167 ls (.int (I b) :: .int (I a) :: st) M Q = Wp d 67 168 ls (.int (I (a * b)) :: st) M Q := fun d ls a b st M Q => w_imul (show ins 67 167 = some (.imul, 1) by decide +kernel)
set_option maxRecDepth 100000 in
theorem r_67_168 : ∀ (d : Nat) (ls : Lc) (st : List Value) (M : Mem) (Q : Outcome → Mem → Prop), Wp d 67 168 ls st M Q = Wp d 67 169 ls (.int (I 2) :: st) M Q := fun d ls st M Q => w_iconst (show ins 67 168 = some (.iconst 2, 1) by decide +kernel)
set_option maxRecDepth 100000 in
theorem r_67_169 : ∀ (d : Nat) (l1 l2 l3 l4 l5 l6 : Option Value) (v : Nat) (st : List Value) (M : Mem) (Q : Outcome → Mem → Prop), Wp d 67 169 [some (.ref v), l1, l2, l3, l4, l5, l6] st M Q = Wp d 67 170 [some (.ref v), l1, l2, l3, l4, l5, l6] (.ref v :: st) M Q := fun d l1 l2 l3 l4 l5 l6 v st M Q => wA (show ins 67 169 = some (.aload_n 0, 1) by decide +kernel) rfl
set_option maxRecDepth 100000 in
theorem r_67_170 : ∀ (d : Nat) (ls : Lc) (a : Nat) (st : List Value) (M : Mem) (Q : Outcome → Mem → Prop), Wp d 67 170 ls (.ref a :: st) M Q = (fk 5 (kO M a) = true ∧ Wp d 67 173 ls (va_rf (mR M 5 a) :: st) M Q) := fun d ls a st M Q => w_getR (show ins 67 170 = some (.getfield 32, 3) by decide +kernel) (show fRes (mC 67) 32 = some (5, 1, false) by decide +kernel) (by decide +kernel)
set_option maxRecDepth 100000 in
theorem r_67_173 : ∀ (d : Nat) (l0 l1 l2 l3 l4 l6 : Option Value) (v : Int32) (st : List Value) (M : Mem) (Q : Outcome → Mem → Prop), Wp d 67 173 [l0, l1, l2, l3, l4, some (.int v), l6] st M Q = Wp d 67 175 [l0, l1, l2, l3, l4, some (.int v), l6] (.int v :: st) M Q := fun d l0 l1 l2 l3 l4 l6 v st M Q => wA (show ins 67 173 = some (.iload 5, 2) by decide +kernel) rfl
set_option maxRecDepth 100000 in
theorem r_67_175 : ∀ (d : Nat) (ls : Lc) (a : Nat) (j : Int32) (st : List Value) (M : Mem) (Q : Outcome → Mem → Prop), Wp d 67 175 ls (.int j :: .ref a :: st) M Q = ((((kX M a).1 = 0 ∨ (kX M a).1 = 8) ∧ inB j (kX M a).2 = true) ∧ Wp d 67 176 ls (.int (mA M a j.toNatClampNeg) :: st) M Q) := fun d ls a j st M Q => w_iaload (show ins 67 175 = some (.iaload, 1) by decide +kernel)
set_option maxRecDepth 100000 in
theorem r_67_176 : ∀ (d : Nat) (ls : Lc) (st : List Value) (M : Mem) (Q : Outcome → Mem → Prop), Wp d 67 176 ls st M Q = Wp d 67 178 ls (.int (I 8) :: st) M Q := fun d ls st M Q => w_bipush (show ins 67 176 = some (.bipush 8, 2) by decide +kernel) (by decide)
set_option maxRecDepth 100000 in
theorem r_67_178 : ∀ (d : Nat) (ls : Lc) (a b : Int32) (st : List Value) (M : Mem) (Q : Outcome → Mem → Prop), Wp d 67 178 ls (.int b :: .int a :: st) M Q = Wp d 67 179 ls (.int (a <<< (b &&& 31)) :: st) M Q := fun d ls a b st M Q => wA (show ins 67 178 = some (.ishl, 1) by decide +kernel) rfl
set_option maxRecDepth 100000 in
theorem r_67_179 : ∀ (d : Nat) (ls : Lc) (v0 v1 v2 v3 : Value)  (st : List Value) (M : Mem) (Q : Outcome → Mem → Prop), (smallR st = true) → Wp d 67 179 ls (v3 :: v2 :: v1 :: v0 :: st) M Q = Ca d 67 179 ls 23 [v0, v1, v2, v3] st M Q := fun d ls v0 v1 v2 v3 st M Q h0 => w_stat (as := [v0, v1, v2, v3]) (show ins 67 179 = some (.invokestatic 185, 3) by decide +kernel) (show mRes (mC 67) 185 = some (0, 1, [(0, 23)]) by decide +kernel) (by decide +kernel) (by decide +kernel) rfl h0
set_option maxRecDepth 100000 in
theorem r_67_182 : ∀ (d : Nat) (l0 l1 l2 l3 l4 l6 : Option Value) (z : Int) (st : List Value) (M : Mem) (Q : Outcome → Mem → Prop), (lo l4 = false) → Wp d 67 182 [l0, l1, l2, l3, l4, some (.int (I z)), l6] st M Q = Wp d 67 185 [l0, l1, l2, l3, l4, some (.int (I (z + 1))), l6] st M Q := fun d l0 l1 l2 l3 l4 l6 z st M Q hl => w_iinc (show ins 67 182 = some (.iinc 5 1, 3) by decide +kernel) rfl (st1_S rfl rfl hl)
set_option maxRecDepth 100000 in
theorem r_67_185 : ∀ (d : Nat) (ls : Lc) (st : List Value) (M : Mem) (Q : Outcome → Mem → Prop), Wp d 67 185 ls st M Q = Wp d 67 153 ls st M Q := fun d ls st M Q => w_goto (show ins 67 185 = some (.goto (-32), 3) by decide +kernel) rfl
set_option maxRecDepth 100000 in
theorem r_67_188 : ∀ (d : Nat) (l1 l2 l3 l4 l5 l6 : Option Value) (v : Nat) (st : List Value) (M : Mem) (Q : Outcome → Mem → Prop), Wp d 67 188 [some (.ref v), l1, l2, l3, l4, l5, l6] st M Q = Wp d 67 189 [some (.ref v), l1, l2, l3, l4, l5, l6] (.ref v :: st) M Q := fun d l1 l2 l3 l4 l5 l6 v st M Q => wA (show ins 67 188 = some (.aload_n 0, 1) by decide +kernel) rfl
set_option maxRecDepth 100000 in
theorem r_67_189 : ∀ (d : Nat) (ls : Lc) (a : Nat) (st : List Value) (M : Mem) (Q : Outcome → Mem → Prop), Wp d 67 189 ls (.ref a :: st) M Q = (fk 9 (kO M a) = true ∧ Wp d 67 192 ls (va_rf (mR M 9 a) :: st) M Q) := fun d ls a st M Q => w_getR (show ins 67 189 = some (.getfield 58, 3) by decide +kernel) (show fRes (mC 67) 58 = some (9, 1, false) by decide +kernel) (by decide +kernel)
set_option maxRecDepth 100000 in
theorem r_67_192 : ∀ (d : Nat) (l0 l2 l3 l4 l5 l6 : Option Value) (v : Int32) (st : List Value) (M : Mem) (Q : Outcome → Mem → Prop), Wp d 67 192 [l0, some (.int v), l2, l3, l4, l5, l6] st M Q = Wp d 67 193 [l0, some (.int v), l2, l3, l4, l5, l6] (.int v :: st) M Q := fun d l0 l2 l3 l4 l5 l6 v st M Q => wA (show ins 67 192 = some (.iload_n 1, 1) by decide +kernel) rfl
set_option maxRecDepth 100000 in
theorem r_67_193 : ∀ (d : Nat) (ls : Lc) (st : List Value) (M : Mem) (Q : Outcome → Mem → Prop), Wp d 67 193 ls st M Q = Wp d 67 194 ls (.int (I 2) :: st) M Q := fun d ls st M Q => w_iconst (show ins 67 193 = some (.iconst 2, 1) by decide +kernel)
set_option maxRecDepth 100000 in
theorem r_67_194 : ∀ (d : Nat) (ls : Lc) (st : List Value) (M : Mem) (Q : Outcome → Mem → Prop), Wp d 67 194 ls st M Q = Wp d 67 195 ls (.int (I 0) :: st) M Q := fun d ls st M Q => w_iconst (show ins 67 194 = some (.iconst 0, 1) by decide +kernel)
set_option maxRecDepth 100000 in
theorem r_67_195 : ∀ (d : Nat) (ls : Lc) (v0 v1 v2 : Value)  (st : List Value) (M : Mem) (Q : Outcome → Mem → Prop), (smallR st = true) → Wp d 67 195 ls (v2 :: v1 :: v0 :: st) M Q = Ca d 67 195 ls 24 [v0, v1, v2] st M Q := fun d ls v0 v1 v2 st M Q h0 => w_stat (as := [v0, v1, v2]) (show ins 67 195 = some (.invokestatic 82, 3) by decide +kernel) (show mRes (mC 67) 82 = some (0, 1, [(0, 24)]) by decide +kernel) (by decide +kernel) (by decide +kernel) rfl h0
set_option maxRecDepth 100000 in
theorem r_67_198 : ∀ (d : Nat) (l1 l2 l3 l4 l5 l6 : Option Value) (v : Nat) (st : List Value) (M : Mem) (Q : Outcome → Mem → Prop), Wp d 67 198 [some (.ref v), l1, l2, l3, l4, l5, l6] st M Q = Wp d 67 199 [some (.ref v), l1, l2, l3, l4, l5, l6] (.ref v :: st) M Q := fun d l1 l2 l3 l4 l5 l6 v st M Q => wA (show ins 67 198 = some (.aload_n 0, 1) by decide +kernel) rfl
set_option maxRecDepth 100000 in
theorem r_67_199 : ∀ (d : Nat) (ls : Lc) (a : Nat) (st : List Value) (M : Mem) (Q : Outcome → Mem → Prop), Wp d 67 199 ls (.ref a :: st) M Q = (fk 0 (kO M a) = true ∧ Wp d 67 202 ls (va_rf (mR M 0 a) :: st) M Q) := fun d ls a st M Q => w_getR (show ins 67 199 = some (.getfield 25, 3) by decide +kernel) (show fRes (mC 67) 25 = some (0, 1, false) by decide +kernel) (by decide +kernel)
set_option maxRecDepth 100000 in
theorem r_67_202 : ∀ (d : Nat) (ls : Lc) (st : List Value) (M : Mem) (Q : Outcome → Mem → Prop), Wp d 67 202 ls st M Q = Wp d 67 203 ls (.int (I 2) :: st) M Q := fun d ls st M Q => w_iconst (show ins 67 202 = some (.iconst 2, 1) by decide +kernel)
set_option maxRecDepth 100000 in
theorem r_67_203 : ∀ (d : Nat) (l0 l1 l2 l3 l5 l6 : Option Value) (v : Int32) (st : List Value) (M : Mem) (Q : Outcome → Mem → Prop), Wp d 67 203 [l0, l1, l2, l3, some (.int v), l5, l6] st M Q = Wp d 67 205 [l0, l1, l2, l3, some (.int v), l5, l6] (.int v :: st) M Q := fun d l0 l1 l2 l3 l5 l6 v st M Q => wA (show ins 67 203 = some (.iload 4, 2) by decide +kernel) rfl
set_option maxRecDepth 100000 in
theorem r_67_205 : ∀ (d : Nat) (ls : Lc) (a b : Int) (st : List Value) (M : Mem) (Q : Outcome → Mem → Prop), Wp d 67 205 ls (.int (I b) :: .int (I a) :: st) M Q = Wp d 67 206 ls (.int (I (a * b)) :: st) M Q := fun d ls a b st M Q => w_imul (show ins 67 205 = some (.imul, 1) by decide +kernel)
set_option maxRecDepth 100000 in
theorem r_67_206 : ∀ (d : Nat) (ls : Lc) (v0 v1 v2 : Value) (a : Nat) (st : List Value) (M : Mem) (Q : Outcome → Mem → Prop), (smallR st = true) → Wp d 67 206 ls (v2 :: v1 :: v0 :: .ref a :: st) M Q = (kO M a = 3 ∧ Ca d 67 206 ls 97 (.ref a :: [v0, v1, v2]) st M Q) := fun d ls v0 v1 v2 a st M Q h0 => w_virt1 (as := [v0, v1, v2]) (show ins 67 206 = some (.invokevirtual 85, 3) by decide +kernel) (show mRes (mC 67) 85 = some (3, 3, [(3, 97)]) by decide +kernel) (by decide +kernel) rfl (by decide +kernel) (by decide +kernel) h0
set_option maxRecDepth 100000 in
theorem r_67_209 : ∀ (d : Nat) (l0 l1 l3 l4 l5 l6 : Option Value) (v : Int32) (st : List Value) (M : Mem) (Q : Outcome → Mem → Prop), Wp d 67 209 [l0, l1, some (.int v), l3, l4, l5, l6] st M Q = Wp d 67 210 [l0, l1, some (.int v), l3, l4, l5, l6] (.int v :: st) M Q := fun d l0 l1 l3 l4 l5 l6 v st M Q => wA (show ins 67 209 = some (.iload_n 2, 1) by decide +kernel) rfl
set_option maxRecDepth 100000 in
theorem r_67_210 : ∀ (d : Nat) (ls : Lc) (v0 : Value)  (st : List Value) (M : Mem) (Q : Outcome → Mem → Prop), (smallR st = true) → Wp d 67 210 ls (v0 :: st) M Q = Ca d 67 210 ls 69 [v0] st M Q := fun d ls v0 st M Q h0 => w_stat (as := [v0]) (show ins 67 210 = some (.invokestatic 279, 3) by decide +kernel) (show mRes (mC 67) 279 = some (0, 1, [(0, 69)]) by decide +kernel) (by decide +kernel) (by decide +kernel) rfl h0
set_option maxRecDepth 100000 in
theorem r_67_213 : ∀ (d : Nat) (l0 l1 l2 l3 l4 l5 l6 : Option Value) (v : Int32) (st : List Value) (M : Mem) (Q : Outcome → Mem → Prop), (lo l4 = false) → Wp d 67 213 [l0, l1, l2, l3, l4, l5, l6] (.int v :: st) M Q = Wp d 67 215 [l0, l1, l2, l3, l4, some (.int v), l6] st M Q := fun d l0 l1 l2 l3 l4 l5 l6 v st M Q hl => w_istore (show ins 67 213 = some (.istore 5, 2) by decide +kernel) (st1_S rfl rfl hl)
set_option maxRecDepth 100000 in
theorem r_67_215 : ∀ (d : Nat) (ls : Lc) (st : List Value) (M : Mem) (Q : Outcome → Mem → Prop), Wp d 67 215 ls st M Q = Wp d 67 216 ls (.int (I 0) :: st) M Q := fun d ls st M Q => w_iconst (show ins 67 215 = some (.iconst 0, 1) by decide +kernel)
set_option maxRecDepth 100000 in
theorem r_67_216 : ∀ (d : Nat) (l0 l1 l2 l3 l4 l5 l6 : Option Value) (v : Int32) (st : List Value) (M : Mem) (Q : Outcome → Mem → Prop), (lo l5 = false) → Wp d 67 216 [l0, l1, l2, l3, l4, l5, l6] (.int v :: st) M Q = Wp d 67 218 [l0, l1, l2, l3, l4, l5, some (.int v)] st M Q := fun d l0 l1 l2 l3 l4 l5 l6 v st M Q hl => w_istore (show ins 67 216 = some (.istore 6, 2) by decide +kernel) (st1_S rfl rfl hl)
set_option maxRecDepth 100000 in
theorem r_67_218 : ∀ (d : Nat) (l0 l1 l2 l3 l4 l5 : Option Value) (v : Int32) (st : List Value) (M : Mem) (Q : Outcome → Mem → Prop), Wp d 67 218 [l0, l1, l2, l3, l4, l5, some (.int v)] st M Q = Wp d 67 220 [l0, l1, l2, l3, l4, l5, some (.int v)] (.int v :: st) M Q := fun d l0 l1 l2 l3 l4 l5 v st M Q => wA (show ins 67 218 = some (.iload 6, 2) by decide +kernel) rfl
set_option maxRecDepth 100000 in
theorem r_67_220 : ∀ (d : Nat) (l0 l1 l2 l3 l4 l6 : Option Value) (v : Int32) (st : List Value) (M : Mem) (Q : Outcome → Mem → Prop), Wp d 67 220 [l0, l1, l2, l3, l4, some (.int v), l6] st M Q = Wp d 67 222 [l0, l1, l2, l3, l4, some (.int v), l6] (.int v :: st) M Q := fun d l0 l1 l2 l3 l4 l6 v st M Q => wA (show ins 67 220 = some (.iload 5, 2) by decide +kernel) rfl
set_option maxRecDepth 100000 in
theorem r_67_222 : ∀ (d : Nat) (ls : Lc) (a b : Int32) (st : List Value) (M : Mem) (Q : Outcome → Mem → Prop), Wp d 67 222 ls (.int b :: .int a :: st) M Q = Br (b ≤ a) d 67 252 225 ls st M Q := fun d ls a b st M Q => w_icmp (show ins 67 222 = some (.if_icmp .ge 30, 3) by decide +kernel) rfl rfl
set_option maxRecDepth 100000 in
theorem r_67_225 : ∀ (d : Nat) (l1 l2 l3 l4 l5 l6 : Option Value) (v : Nat) (st : List Value) (M : Mem) (Q : Outcome → Mem → Prop), Wp d 67 225 [some (.ref v), l1, l2, l3, l4, l5, l6] st M Q = Wp d 67 226 [some (.ref v), l1, l2, l3, l4, l5, l6] (.ref v :: st) M Q := fun d l1 l2 l3 l4 l5 l6 v st M Q => wA (show ins 67 225 = some (.aload_n 0, 1) by decide +kernel) rfl
set_option maxRecDepth 100000 in
theorem r_67_226 : ∀ (d : Nat) (ls : Lc) (a : Nat) (st : List Value) (M : Mem) (Q : Outcome → Mem → Prop), Wp d 67 226 ls (.ref a :: st) M Q = (fk 0 (kO M a) = true ∧ Wp d 67 229 ls (va_rf (mR M 0 a) :: st) M Q) := fun d ls a st M Q => w_getR (show ins 67 226 = some (.getfield 25, 3) by decide +kernel) (show fRes (mC 67) 25 = some (0, 1, false) by decide +kernel) (by decide +kernel)
set_option maxRecDepth 100000 in
theorem r_67_229 : ∀ (d : Nat) (l0 l1 l2 l3 l4 l5 : Option Value) (v : Int32) (st : List Value) (M : Mem) (Q : Outcome → Mem → Prop), Wp d 67 229 [l0, l1, l2, l3, l4, l5, some (.int v)] st M Q = Wp d 67 231 [l0, l1, l2, l3, l4, l5, some (.int v)] (.int v :: st) M Q := fun d l0 l1 l2 l3 l4 l5 v st M Q => wA (show ins 67 229 = some (.iload 6, 2) by decide +kernel) rfl
set_option maxRecDepth 100000 in
theorem r_67_231 : ∀ (d : Nat) (l1 l2 l3 l4 l5 l6 : Option Value) (v : Nat) (st : List Value) (M : Mem) (Q : Outcome → Mem → Prop), Wp d 67 231 [some (.ref v), l1, l2, l3, l4, l5, l6] st M Q = Wp d 67 232 [some (.ref v), l1, l2, l3, l4, l5, l6] (.ref v :: st) M Q := fun d l1 l2 l3 l4 l5 l6 v st M Q => wA (show ins 67 231 = some (.aload_n 0, 1) by decide +kernel) rfl
set_option maxRecDepth 100000 in
theorem r_67_232 : ∀ (d : Nat) (ls : Lc) (a : Nat) (st : List Value) (M : Mem) (Q : Outcome → Mem → Prop), Wp d 67 232 ls (.ref a :: st) M Q = (fk 3 (kO M a) = true ∧ Wp d 67 235 ls (va_rf (mR M 3 a) :: st) M Q) := fun d ls a st M Q => w_getR (show ins 67 232 = some (.getfield 29, 3) by decide +kernel) (show fRes (mC 67) 29 = some (3, 1, false) by decide +kernel) (by decide +kernel)
set_option maxRecDepth 100000 in
theorem r_67_235 : ∀ (d : Nat) (l0 l1 l2 l3 l5 l6 : Option Value) (v : Int32) (st : List Value) (M : Mem) (Q : Outcome → Mem → Prop), Wp d 67 235 [l0, l1, l2, l3, some (.int v), l5, l6] st M Q = Wp d 67 237 [l0, l1, l2, l3, some (.int v), l5, l6] (.int v :: st) M Q := fun d l0 l1 l2 l3 l5 l6 v st M Q => wA (show ins 67 235 = some (.iload 4, 2) by decide +kernel) rfl
set_option maxRecDepth 100000 in
theorem r_67_237 : ∀ (d : Nat) (ls : Lc) (st : List Value) (M : Mem) (Q : Outcome → Mem → Prop), Wp d 67 237 ls st M Q = Wp d 67 240 ls (.int (I 128) :: st) M Q := fun d ls st M Q => w_sipush (show ins 67 237 = some (.sipush 128, 3) by decide +kernel) (by decide)
set_option maxRecDepth 100000 in
theorem r_67_240 : ∀ (d : Nat) (ls : Lc) (a b : Int) (st : List Value) (M : Mem) (Q : Outcome → Mem → Prop), Wp d 67 240 ls (.int (I b) :: .int (I a) :: st) M Q = Wp d 67 241 ls (.int (I (a * b)) :: st) M Q := fun d ls a b st M Q => w_imul (show ins 67 240 = some (.imul, 1) by decide +kernel)
set_option maxRecDepth 100000 in
theorem r_67_241 : ∀ (d : Nat) (l0 l1 l2 l3 l4 l5 : Option Value) (v : Int32) (st : List Value) (M : Mem) (Q : Outcome → Mem → Prop), Wp d 67 241 [l0, l1, l2, l3, l4, l5, some (.int v)] st M Q = Wp d 67 243 [l0, l1, l2, l3, l4, l5, some (.int v)] (.int v :: st) M Q := fun d l0 l1 l2 l3 l4 l5 v st M Q => wA (show ins 67 241 = some (.iload 6, 2) by decide +kernel) rfl
set_option maxRecDepth 100000 in
theorem r_67_243 : ∀ (d : Nat) (ls : Lc) (a b : Int) (st : List Value) (M : Mem) (Q : Outcome → Mem → Prop), Wp d 67 243 ls (.int (I b) :: .int (I a) :: st) M Q = Wp d 67 244 ls (.int (I (a + b)) :: st) M Q := fun d ls a b st M Q => w_iadd (show ins 67 243 = some (.iadd, 1) by decide +kernel)
set_option maxRecDepth 100000 in
theorem r_67_244 : ∀ (d : Nat) (ls : Lc) (a : Nat) (j : Int32) (st : List Value) (M : Mem) (Q : Outcome → Mem → Prop), Wp d 67 244 ls (.int j :: .ref a :: st) M Q = ((((kX M a).1 = 1 ∨ (kX M a).1 = 2) ∧ inB j (kX M a).2 = true) ∧ Wp d 67 245 ls (.int (mA M a j.toNatClampNeg) :: st) M Q) := fun d ls a j st M Q => w_baload (show ins 67 244 = some (.baload, 1) by decide +kernel)
set_option maxRecDepth 100000 in
theorem r_67_245 : ∀ (d : Nat) (ls : Lc) (a : Nat) (j v : Int32) (st : List Value) (M : Mem) (Q : Outcome → Mem → Prop), Wp d 67 245 ls (.int v :: .int j :: .ref a :: st) M Q = ((((kX M a).1 = 1 ∨ (kX M a).1 = 2) ∧ inB j (kX M a).2 = true) ∧ Wp d 67 246 ls st (sA M a j.toNatClampNeg (nrw (kX M a).1 v)) Q) := fun d ls a j v st M Q => w_bastore (show ins 67 245 = some (.bastore, 1) by decide +kernel)
set_option maxRecDepth 100000 in
theorem r_67_246 : ∀ (d : Nat) (l0 l1 l2 l3 l4 l5 : Option Value) (z : Int) (st : List Value) (M : Mem) (Q : Outcome → Mem → Prop), (lo l5 = false) → Wp d 67 246 [l0, l1, l2, l3, l4, l5, some (.int (I z))] st M Q = Wp d 67 249 [l0, l1, l2, l3, l4, l5, some (.int (I (z + 1)))] st M Q := fun d l0 l1 l2 l3 l4 l5 z st M Q hl => w_iinc (show ins 67 246 = some (.iinc 6 1, 3) by decide +kernel) rfl (st1_S rfl rfl hl)
set_option maxRecDepth 100000 in
theorem r_67_249 : ∀ (d : Nat) (ls : Lc) (st : List Value) (M : Mem) (Q : Outcome → Mem → Prop), Wp d 67 249 ls st M Q = Wp d 67 218 ls st M Q := fun d ls st M Q => w_goto (show ins 67 249 = some (.goto (-31), 3) by decide +kernel) rfl
set_option maxRecDepth 100000 in
theorem r_67_252 : ∀ (d : Nat) (l1 l2 l3 l4 l5 l6 : Option Value) (v : Nat) (st : List Value) (M : Mem) (Q : Outcome → Mem → Prop), Wp d 67 252 [some (.ref v), l1, l2, l3, l4, l5, l6] st M Q = Wp d 67 253 [some (.ref v), l1, l2, l3, l4, l5, l6] (.ref v :: st) M Q := fun d l1 l2 l3 l4 l5 l6 v st M Q => wA (show ins 67 252 = some (.aload_n 0, 1) by decide +kernel) rfl
set_option maxRecDepth 100000 in
theorem r_67_253 : ∀ (d : Nat) (ls : Lc) (a : Nat) (st : List Value) (M : Mem) (Q : Outcome → Mem → Prop), Wp d 67 253 ls (.ref a :: st) M Q = (fk 9 (kO M a) = true ∧ Wp d 67 256 ls (va_rf (mR M 9 a) :: st) M Q) := fun d ls a st M Q => w_getR (show ins 67 253 = some (.getfield 58, 3) by decide +kernel) (show fRes (mC 67) 58 = some (9, 1, false) by decide +kernel) (by decide +kernel)
set_option maxRecDepth 100000 in
theorem r_67_256 : ∀ (d : Nat) (l0 l2 l3 l4 l5 l6 : Option Value) (v : Int32) (st : List Value) (M : Mem) (Q : Outcome → Mem → Prop), Wp d 67 256 [l0, some (.int v), l2, l3, l4, l5, l6] st M Q = Wp d 67 257 [l0, some (.int v), l2, l3, l4, l5, l6] (.int v :: st) M Q := fun d l0 l2 l3 l4 l5 l6 v st M Q => wA (show ins 67 256 = some (.iload_n 1, 1) by decide +kernel) rfl
set_option maxRecDepth 100000 in
theorem r_67_257 : ∀ (d : Nat) (ls : Lc) (st : List Value) (M : Mem) (Q : Outcome → Mem → Prop), Wp d 67 257 ls st M Q = Wp d 67 258 ls (.int (I 3) :: st) M Q := fun d ls st M Q => w_iconst (show ins 67 257 = some (.iconst 3, 1) by decide +kernel)
set_option maxRecDepth 100000 in
theorem r_67_258 : ∀ (d : Nat) (ls : Lc) (st : List Value) (M : Mem) (Q : Outcome → Mem → Prop), Wp d 67 258 ls st M Q = Wp d 67 259 ls (.int (I 0) :: st) M Q := fun d ls st M Q => w_iconst (show ins 67 258 = some (.iconst 0, 1) by decide +kernel)
set_option maxRecDepth 100000 in
theorem r_67_259 : ∀ (d : Nat) (ls : Lc) (v0 v1 v2 : Value)  (st : List Value) (M : Mem) (Q : Outcome → Mem → Prop), (smallR st = true) → Wp d 67 259 ls (v2 :: v1 :: v0 :: st) M Q = Ca d 67 259 ls 24 [v0, v1, v2] st M Q := fun d ls v0 v1 v2 st M Q h0 => w_stat (as := [v0, v1, v2]) (show ins 67 259 = some (.invokestatic 82, 3) by decide +kernel) (show mRes (mC 67) 82 = some (0, 1, [(0, 24)]) by decide +kernel) (by decide +kernel) (by decide +kernel) rfl h0
set_option maxRecDepth 100000 in
theorem r_67_262 : ∀ (d : Nat) (l1 l2 l3 l4 l5 l6 : Option Value) (v : Nat) (st : List Value) (M : Mem) (Q : Outcome → Mem → Prop), Wp d 67 262 [some (.ref v), l1, l2, l3, l4, l5, l6] st M Q = Wp d 67 263 [some (.ref v), l1, l2, l3, l4, l5, l6] (.ref v :: st) M Q := fun d l1 l2 l3 l4 l5 l6 v st M Q => wA (show ins 67 262 = some (.aload_n 0, 1) by decide +kernel) rfl
set_option maxRecDepth 100000 in
theorem r_67_263 : ∀ (d : Nat) (ls : Lc) (a : Nat) (st : List Value) (M : Mem) (Q : Outcome → Mem → Prop), Wp d 67 263 ls (.ref a :: st) M Q = (fk 0 (kO M a) = true ∧ Wp d 67 266 ls (va_rf (mR M 0 a) :: st) M Q) := fun d ls a st M Q => w_getR (show ins 67 263 = some (.getfield 25, 3) by decide +kernel) (show fRes (mC 67) 25 = some (0, 1, false) by decide +kernel) (by decide +kernel)
set_option maxRecDepth 100000 in
theorem r_67_266 : ∀ (d : Nat) (l0 l1 l2 l3 l4 l6 : Option Value) (v : Int32) (st : List Value) (M : Mem) (Q : Outcome → Mem → Prop), Wp d 67 266 [l0, l1, l2, l3, l4, some (.int v), l6] st M Q = Wp d 67 268 [l0, l1, l2, l3, l4, some (.int v), l6] (.int v :: st) M Q := fun d l0 l1 l2 l3 l4 l6 v st M Q => wA (show ins 67 266 = some (.iload 5, 2) by decide +kernel) rfl
set_option maxRecDepth 100000 in
theorem r_67_268 : ∀ (d : Nat) (ls : Lc) (v0 v1 v2 : Value) (a : Nat) (st : List Value) (M : Mem) (Q : Outcome → Mem → Prop), (smallR st = true) → Wp d 67 268 ls (v2 :: v1 :: v0 :: .ref a :: st) M Q = (kO M a = 3 ∧ Ca d 67 268 ls 97 (.ref a :: [v0, v1, v2]) st M Q) := fun d ls v0 v1 v2 a st M Q h0 => w_virt1 (as := [v0, v1, v2]) (show ins 67 268 = some (.invokevirtual 85, 3) by decide +kernel) (show mRes (mC 67) 85 = some (3, 3, [(3, 97)]) by decide +kernel) (by decide +kernel) rfl (by decide +kernel) (by decide +kernel) h0
set_option maxRecDepth 100000 in
theorem r_67_271 : ∀ (d : Nat) (l1 l2 l3 l4 l5 l6 : Option Value) (v : Nat) (st : List Value) (M : Mem) (Q : Outcome → Mem → Prop), Wp d 67 271 [some (.ref v), l1, l2, l3, l4, l5, l6] st M Q = Wp d 67 272 [some (.ref v), l1, l2, l3, l4, l5, l6] (.ref v :: st) M Q := fun d l1 l2 l3 l4 l5 l6 v st M Q => wA (show ins 67 271 = some (.aload_n 0, 1) by decide +kernel) rfl
set_option maxRecDepth 100000 in
theorem r_67_272 : ∀ (d : Nat) (l0 l2 l3 l4 l5 l6 : Option Value) (v : Int32) (st : List Value) (M : Mem) (Q : Outcome → Mem → Prop), Wp d 67 272 [l0, some (.int v), l2, l3, l4, l5, l6] st M Q = Wp d 67 273 [l0, some (.int v), l2, l3, l4, l5, l6] (.int v :: st) M Q := fun d l0 l2 l3 l4 l5 l6 v st M Q => wA (show ins 67 272 = some (.iload_n 1, 1) by decide +kernel) rfl
set_option maxRecDepth 100000 in
theorem r_67_273 : ∀ (d : Nat) (l1 l2 l3 l4 l5 l6 : Option Value) (v : Nat) (st : List Value) (M : Mem) (Q : Outcome → Mem → Prop), Wp d 67 273 [some (.ref v), l1, l2, l3, l4, l5, l6] st M Q = Wp d 67 274 [some (.ref v), l1, l2, l3, l4, l5, l6] (.ref v :: st) M Q := fun d l1 l2 l3 l4 l5 l6 v st M Q => wA (show ins 67 273 = some (.aload_n 0, 1) by decide +kernel) rfl
set_option maxRecDepth 100000 in
theorem r_67_274 : ∀ (d : Nat) (l0 l2 l3 l4 l5 l6 : Option Value) (v : Int32) (st : List Value) (M : Mem) (Q : Outcome → Mem → Prop), Wp d 67 274 [l0, some (.int v), l2, l3, l4, l5, l6] st M Q = Wp d 67 275 [l0, some (.int v), l2, l3, l4, l5, l6] (.int v :: st) M Q := fun d l0 l2 l3 l4 l5 l6 v st M Q => wA (show ins 67 274 = some (.iload_n 1, 1) by decide +kernel) rfl
set_option maxRecDepth 100000 in
theorem r_67_275 : ∀ (d : Nat) (ls : Lc) (v0 : Value) (a : Nat) (st : List Value) (M : Mem) (Q : Outcome → Mem → Prop), (smallR st = true) → Wp d 67 275 ls (v0 :: .ref a :: st) M Q = (kO M a = 1 ∧ Ca d 67 275 ls 46 (.ref a :: [v0]) st M Q) := fun d ls v0 a st M Q h0 => w_virt1 (as := [v0]) (show ins 67 275 = some (.invokevirtual 189, 3) by decide +kernel) (show mRes (mC 67) 189 = some (3, 1, [(1, 46)]) by decide +kernel) (by decide +kernel) rfl (by decide +kernel) (by decide +kernel) h0
set_option maxRecDepth 100000 in
theorem r_67_278 : ∀ (d : Nat) (l0 l1 l3 l4 l5 l6 : Option Value) (v : Int32) (st : List Value) (M : Mem) (Q : Outcome → Mem → Prop), Wp d 67 278 [l0, l1, some (.int v), l3, l4, l5, l6] st M Q = Wp d 67 279 [l0, l1, some (.int v), l3, l4, l5, l6] (.int v :: st) M Q := fun d l0 l1 l3 l4 l5 l6 v st M Q => wA (show ins 67 278 = some (.iload_n 2, 1) by decide +kernel) rfl
set_option maxRecDepth 100000 in
theorem r_67_279 : ∀ (d : Nat) (ls : Lc) (v0 v1 v2 : Value) (a : Nat) (st : List Value) (M : Mem) (Q : Outcome → Mem → Prop), (smallR st = true) → Wp d 67 279 ls (v2 :: v1 :: v0 :: .ref a :: st) M Q = (kO M a = 1 ∧ Ca d 67 279 ls 48 (.ref a :: [v0, v1, v2]) st M Q) := fun d ls v0 v1 v2 a st M Q h0 => w_virt1 (as := [v0, v1, v2]) (show ins 67 279 = some (.invokevirtual 195, 3) by decide +kernel) (show mRes (mC 67) 195 = some (3, 1, [(1, 48)]) by decide +kernel) (by decide +kernel) rfl (by decide +kernel) (by decide +kernel) h0
set_option maxRecDepth 100000 in
theorem r_67_282 : ∀ (d : Nat) (ls : Lc) (M : Mem) (Q : Outcome → Mem → Prop), Wp d 67 282 ls [] M Q = Q (.returned none) M := fun d ls M Q => w_return (show ins 67 282 = some (.return_, 1) by decide +kernel) (by decide +kernel)
set_option maxRecDepth 100000 in
theorem w_67_12 : (type_of% r_67_12) := r_67_12
set_option maxRecDepth 100000 in
theorem w_67_37 : (type_of% r_67_37) := r_67_37
set_option maxRecDepth 100000 in
theorem w_67_65 : (type_of% r_67_65) := r_67_65
set_option maxRecDepth 100000 in
theorem w_67_97 : (type_of% r_67_97) := r_67_97
set_option maxRecDepth 100000 in
theorem w_67_153 : (type_of% r_67_153) := r_67_153
set_option maxRecDepth 100000 in
theorem w_67_218 : (type_of% r_67_218) := r_67_218
set_option maxRecDepth 100000 in
theorem W_67 : (type_of% r_67_0) ∧ (type_of% r_67_1) ∧ (type_of% r_67_2) ∧ (type_of% r_67_5) ∧ (type_of% r_67_6) ∧ (type_of% r_67_7) ∧ (type_of% r_67_10) ∧ (type_of% r_67_13) ∧ (type_of% r_67_15) ∧ (type_of% r_67_18) ∧ (type_of% r_67_19) ∧ (type_of% r_67_22) ∧ (type_of% r_67_23) ∧ (type_of% r_67_26) ∧ (type_of% r_67_27) ∧ (type_of% r_67_30) ∧ (type_of% r_67_33) ∧ (type_of% r_67_34) ∧ (type_of% r_67_38) ∧ (type_of% r_67_40) ∧ (type_of% r_67_43) ∧ (type_of% r_67_44) ∧ (type_of% r_67_47) ∧ (type_of% r_67_48) ∧ (type_of% r_67_51) ∧ (type_of% r_67_54) ∧ (type_of% r_67_55) ∧ (type_of% r_67_56) ∧ (type_of% r_67_59) ∧ (type_of% r_67_62) ∧ (type_of% r_67_63) ∧ (type_of% r_67_67) ∧ (type_of% r_67_69) ∧ (type_of% r_67_72) ∧ (type_of% r_67_73) ∧ (type_of% r_67_76) ∧ (type_of% r_67_77) ∧ (type_of% r_67_80) ∧ (type_of% r_67_82) ∧ (type_of% r_67_83) ∧ (type_of% r_67_84) ∧ (type_of% r_67_85) ∧ (type_of% r_67_88) ∧ (type_of% r_67_91) ∧ (type_of% r_67_94) ∧ (type_of% r_67_95) ∧ (type_of% r_67_99) ∧ (type_of% r_67_101) ∧ (type_of% r_67_104) ∧ (type_of% r_67_105) ∧ (type_of% r_67_108) ∧ (type_of% r_67_110) ∧ (type_of% r_67_111) ∧ (type_of% r_67_114) ∧ (type_of% r_67_115) ∧ (type_of% r_67_118) ∧ (type_of% r_67_119) ∧ (type_of% r_67_122) ∧ (type_of% r_67_124) ∧ (type_of% r_67_127) ∧ (type_of% r_67_128) ∧ (type_of% r_67_129) ∧ (type_of% r_67_130) ∧ (type_of% r_67_132) ∧ (type_of% r_67_135) ∧ (type_of% r_67_136) ∧ (type_of% r_67_137) ∧ (type_of% r_67_140) ∧ (type_of% r_67_142) ∧ (type_of% r_67_143) ∧ (type_of% r_67_144) ∧ (type_of% r_67_147) ∧ (type_of% r_67_150) ∧ (type_of% r_67_151) ∧ (type_of% r_67_155) ∧ (type_of% r_67_157) ∧ (type_of% r_67_160) ∧ (type_of% r_67_161) ∧ (type_of% r_67_164) ∧ (type_of% r_67_165) ∧ (type_of% r_67_167) ∧ (type_of% r_67_168) ∧ (type_of% r_67_169) ∧ (type_of% r_67_170) ∧ (type_of% r_67_173) ∧ (type_of% r_67_175) ∧ (type_of% r_67_176) ∧ (type_of% r_67_178) ∧ (type_of% r_67_179) ∧ (type_of% r_67_182) ∧ (type_of% r_67_185) ∧ (type_of% r_67_188) ∧ (type_of% r_67_189) ∧ (type_of% r_67_192) ∧ (type_of% r_67_193) ∧ (type_of% r_67_194) ∧ (type_of% r_67_195) ∧ (type_of% r_67_198) ∧ (type_of% r_67_199) ∧ (type_of% r_67_202) ∧ (type_of% r_67_203) ∧ (type_of% r_67_205) ∧ (type_of% r_67_206) ∧ (type_of% r_67_209) ∧ (type_of% r_67_210) ∧ (type_of% r_67_213) ∧ (type_of% r_67_215) ∧ (type_of% r_67_216) ∧ (type_of% r_67_220) ∧ (type_of% r_67_222) ∧ (type_of% r_67_225) ∧ (type_of% r_67_226) ∧ (type_of% r_67_229) ∧ (type_of% r_67_231) ∧ (type_of% r_67_232) ∧ (type_of% r_67_235) ∧ (type_of% r_67_237) ∧ (type_of% r_67_240) ∧ (type_of% r_67_241) ∧ (type_of% r_67_243) ∧ (type_of% r_67_244) ∧ (type_of% r_67_245) ∧ (type_of% r_67_246) ∧ (type_of% r_67_249) ∧ (type_of% r_67_252) ∧ (type_of% r_67_253) ∧ (type_of% r_67_256) ∧ (type_of% r_67_257) ∧ (type_of% r_67_258) ∧ (type_of% r_67_259) ∧ (type_of% r_67_262) ∧ (type_of% r_67_263) ∧ (type_of% r_67_266) ∧ (type_of% r_67_268) ∧ (type_of% r_67_271) ∧ (type_of% r_67_272) ∧ (type_of% r_67_273) ∧ (type_of% r_67_274) ∧ (type_of% r_67_275) ∧ (type_of% r_67_278) ∧ (type_of% r_67_279) ∧ (type_of% r_67_282) := ⟨r_67_0, r_67_1, r_67_2, r_67_5, r_67_6, r_67_7, r_67_10, r_67_13, r_67_15, r_67_18, r_67_19, r_67_22, r_67_23, r_67_26, r_67_27, r_67_30, r_67_33, r_67_34, r_67_38, r_67_40, r_67_43, r_67_44, r_67_47, r_67_48, r_67_51, r_67_54, r_67_55, r_67_56, r_67_59, r_67_62, r_67_63, r_67_67, r_67_69, r_67_72, r_67_73, r_67_76, r_67_77, r_67_80, r_67_82, r_67_83, r_67_84, r_67_85, r_67_88, r_67_91, r_67_94, r_67_95, r_67_99, r_67_101, r_67_104, r_67_105, r_67_108, r_67_110, r_67_111, r_67_114, r_67_115, r_67_118, r_67_119, r_67_122, r_67_124, r_67_127, r_67_128, r_67_129, r_67_130, r_67_132, r_67_135, r_67_136, r_67_137, r_67_140, r_67_142, r_67_143, r_67_144, r_67_147, r_67_150, r_67_151, r_67_155, r_67_157, r_67_160, r_67_161, r_67_164, r_67_165, r_67_167, r_67_168, r_67_169, r_67_170, r_67_173, r_67_175, r_67_176, r_67_178, r_67_179, r_67_182, r_67_185, r_67_188, r_67_189, r_67_192, r_67_193, r_67_194, r_67_195, r_67_198, r_67_199, r_67_202, r_67_203, r_67_205, r_67_206, r_67_209, r_67_210, r_67_213, r_67_215, r_67_216, r_67_220, r_67_222, r_67_225, r_67_226, r_67_229, r_67_231, r_67_232, r_67_235, r_67_237, r_67_240, r_67_241, r_67_243, r_67_244, r_67_245, r_67_246, r_67_249, r_67_252, r_67_253, r_67_256, r_67_257, r_67_258, r_67_259, r_67_262, r_67_263, r_67_266, r_67_268, r_67_271, r_67_272, r_67_273, r_67_274, r_67_275, r_67_278, r_67_279, r_67_282⟩
set_option maxRecDepth 100000 in
theorem ca_67 {d y pc : Nat} {ls : Lc} {a : Nat} {z0 : Int32} {z1 : Int32} {r : List Value} {M : Mem} {Q : Outcome → Mem → Prop} (hd : 0 < d) (hw : Wp (d - 1) 67 0 [some (.ref a), some (.int z0), some (.int z1), none, none, none, none] [] M (Cq d y pc ls r Q)) : Ca d y pc ls 67 [.ref a, .int z0, .int z1] r M Q := ca_of (mq_get (by decide)) (by rfl) hd hw
/-! 68 PackedTree.blocksOf(I)I; loop heads [] -/
set_option maxRecDepth 100000 in
theorem r_68_0 : ∀ (d : Nat) (v : Int32) (st : List Value) (M : Mem) (Q : Outcome → Mem → Prop), Wp d 68 0 [some (.int v)] st M Q = Wp d 68 1 [some (.int v)] (.int v :: st) M Q := fun d v st M Q => wA (show ins 68 0 = some (.iload_n 0, 1) by decide +kernel) rfl
set_option maxRecDepth 100000 in
theorem r_68_1 : ∀ (d : Nat) (ls : Lc) (st : List Value) (M : Mem) (Q : Outcome → Mem → Prop), Wp d 68 1 ls st M Q = Wp d 68 4 ls (.int (I 128) :: st) M Q := fun d ls st M Q => w_sipush (show ins 68 1 = some (.sipush 128, 3) by decide +kernel) (by decide)
set_option maxRecDepth 100000 in
theorem r_68_4 : ∀ (d : Nat) (ls : Lc) (a b : Int) (st : List Value) (M : Mem) (Q : Outcome → Mem → Prop), (0 ≤ a) → (a < 2147483648) → (0 < b) → (b < 2147483648) → Wp d 68 4 ls (.int (I b) :: .int (I a) :: st) M Q = Wp d 68 5 ls (.int (I (a / b)) :: st) M Q := fun d ls a b st M Q h0 h1 h2 h3 => w_idiv (show ins 68 4 = some (.idiv, 1) by decide +kernel) h0 h1 h2 h3
set_option maxRecDepth 100000 in
theorem r_68_5 : ∀ (d : Nat) (v : Int32) (st : List Value) (M : Mem) (Q : Outcome → Mem → Prop), Wp d 68 5 [some (.int v)] st M Q = Wp d 68 6 [some (.int v)] (.int v :: st) M Q := fun d v st M Q => wA (show ins 68 5 = some (.iload_n 0, 1) by decide +kernel) rfl
set_option maxRecDepth 100000 in
theorem r_68_6 : ∀ (d : Nat) (ls : Lc) (st : List Value) (M : Mem) (Q : Outcome → Mem → Prop), Wp d 68 6 ls st M Q = Wp d 68 9 ls (.int (I 128) :: st) M Q := fun d ls st M Q => w_sipush (show ins 68 6 = some (.sipush 128, 3) by decide +kernel) (by decide)
set_option maxRecDepth 100000 in
theorem r_68_9 : ∀ (d : Nat) (ls : Lc) (a b : Int) (st : List Value) (M : Mem) (Q : Outcome → Mem → Prop), (0 ≤ a) → (a < 2147483648) → (0 < b) → (b < 2147483648) → Wp d 68 9 ls (.int (I b) :: .int (I a) :: st) M Q = Wp d 68 10 ls (.int (I (a % b)) :: st) M Q := fun d ls a b st M Q h0 h1 h2 h3 => w_irem (show ins 68 9 = some (.irem, 1) by decide +kernel) h0 h1 h2 h3
set_option maxRecDepth 100000 in
theorem r_68_10 : ∀ (d : Nat) (v : Int32) (st : List Value) (M : Mem) (Q : Outcome → Mem → Prop), Wp d 68 10 [some (.int v)] st M Q = Wp d 68 11 [some (.int v)] (.int v :: st) M Q := fun d v st M Q => wA (show ins 68 10 = some (.iload_n 0, 1) by decide +kernel) rfl
set_option maxRecDepth 100000 in
theorem r_68_11 : ∀ (d : Nat) (ls : Lc) (v0 : Value)  (st : List Value) (M : Mem) (Q : Outcome → Mem → Prop), (smallR st = true) → Wp d 68 11 ls (v0 :: st) M Q = Ca d 68 11 ls 69 [v0] st M Q := fun d ls v0 st M Q h0 => w_stat (as := [v0]) (show ins 68 11 = some (.invokestatic 279, 3) by decide +kernel) (show mRes (mC 68) 279 = some (0, 1, [(0, 69)]) by decide +kernel) (by decide +kernel) (by decide +kernel) rfl h0
set_option maxRecDepth 100000 in
theorem r_68_14 : ∀ (d : Nat) (ls : Lc) (a b : Int32) (st : List Value) (M : Mem) (Q : Outcome → Mem → Prop), Wp d 68 14 ls (.int b :: .int a :: st) M Q = Br (a ≤ b) d 68 21 17 ls st M Q := fun d ls a b st M Q => w_icmp (show ins 68 14 = some (.if_icmp .le 7, 3) by decide +kernel) rfl rfl
set_option maxRecDepth 100000 in
theorem r_68_17 : ∀ (d : Nat) (ls : Lc) (st : List Value) (M : Mem) (Q : Outcome → Mem → Prop), Wp d 68 17 ls st M Q = Wp d 68 18 ls (.int (I 1) :: st) M Q := fun d ls st M Q => w_iconst (show ins 68 17 = some (.iconst 1, 1) by decide +kernel)
set_option maxRecDepth 100000 in
theorem r_68_18 : ∀ (d : Nat) (ls : Lc) (st : List Value) (M : Mem) (Q : Outcome → Mem → Prop), Wp d 68 18 ls st M Q = Wp d 68 22 ls st M Q := fun d ls st M Q => w_goto (show ins 68 18 = some (.goto 4, 3) by decide +kernel) rfl
set_option maxRecDepth 100000 in
theorem r_68_21 : ∀ (d : Nat) (ls : Lc) (st : List Value) (M : Mem) (Q : Outcome → Mem → Prop), Wp d 68 21 ls st M Q = Wp d 68 22 ls (.int (I 0) :: st) M Q := fun d ls st M Q => w_iconst (show ins 68 21 = some (.iconst 0, 1) by decide +kernel)
set_option maxRecDepth 100000 in
theorem r_68_22 : ∀ (d : Nat) (ls : Lc) (a b : Int) (st : List Value) (M : Mem) (Q : Outcome → Mem → Prop), Wp d 68 22 ls (.int (I b) :: .int (I a) :: st) M Q = Wp d 68 23 ls (.int (I (a + b)) :: st) M Q := fun d ls a b st M Q => w_iadd (show ins 68 22 = some (.iadd, 1) by decide +kernel)
set_option maxRecDepth 100000 in
theorem r_68_23 : ∀ (d : Nat) (ls : Lc) (v : Int32) (M : Mem) (Q : Outcome → Mem → Prop), Wp d 68 23 ls [.int v] M Q = Q (.returned (some (.int v))) M := fun d ls v M Q => w_ireturn (show ins 68 23 = some (.ireturn, 1) by decide +kernel) (by decide +kernel)
set_option maxRecDepth 100000 in
theorem W_68 : (type_of% r_68_0) ∧ (type_of% r_68_1) ∧ (type_of% r_68_4) ∧ (type_of% r_68_5) ∧ (type_of% r_68_6) ∧ (type_of% r_68_9) ∧ (type_of% r_68_10) ∧ (type_of% r_68_11) ∧ (type_of% r_68_14) ∧ (type_of% r_68_17) ∧ (type_of% r_68_18) ∧ (type_of% r_68_21) ∧ (type_of% r_68_22) ∧ (type_of% r_68_23) := ⟨r_68_0, r_68_1, r_68_4, r_68_5, r_68_6, r_68_9, r_68_10, r_68_11, r_68_14, r_68_17, r_68_18, r_68_21, r_68_22, r_68_23⟩
set_option maxRecDepth 100000 in
theorem ca_68 {d y pc : Nat} {ls : Lc} {z0 : Int32} {r : List Value} {M : Mem} {Q : Outcome → Mem → Prop} (hd : 0 < d) (hw : Wp (d - 1) 68 0 [some (.int z0)] [] M (Cq d y pc ls r Q)) : Ca d y pc ls 68 [.int z0] r M Q := ca_of (mq_get (by decide)) (by rfl) hd hw
/-! 69 PackedTree.tailOf(I)I; loop heads [] -/
set_option maxRecDepth 100000 in
theorem r_69_0 : ∀ (d : Nat) (l1 : Option Value) (v : Int32) (st : List Value) (M : Mem) (Q : Outcome → Mem → Prop), Wp d 69 0 [some (.int v), l1] st M Q = Wp d 69 1 [some (.int v), l1] (.int v :: st) M Q := fun d l1 v st M Q => wA (show ins 69 0 = some (.iload_n 0, 1) by decide +kernel) rfl
set_option maxRecDepth 100000 in
theorem r_69_1 : ∀ (d : Nat) (ls : Lc) (st : List Value) (M : Mem) (Q : Outcome → Mem → Prop), Wp d 69 1 ls st M Q = Wp d 69 4 ls (.int (I 128) :: st) M Q := fun d ls st M Q => w_sipush (show ins 69 1 = some (.sipush 128, 3) by decide +kernel) (by decide)
set_option maxRecDepth 100000 in
theorem r_69_4 : ∀ (d : Nat) (ls : Lc) (a b : Int) (st : List Value) (M : Mem) (Q : Outcome → Mem → Prop), (0 ≤ a) → (a < 2147483648) → (0 < b) → (b < 2147483648) → Wp d 69 4 ls (.int (I b) :: .int (I a) :: st) M Q = Wp d 69 5 ls (.int (I (a % b)) :: st) M Q := fun d ls a b st M Q h0 h1 h2 h3 => w_irem (show ins 69 4 = some (.irem, 1) by decide +kernel) h0 h1 h2 h3
set_option maxRecDepth 100000 in
theorem r_69_5 : ∀ (d : Nat) (l0 l1 : Option Value) (v : Int32) (st : List Value) (M : Mem) (Q : Outcome → Mem → Prop), (lo l0 = false) → Wp d 69 5 [l0, l1] (.int v :: st) M Q = Wp d 69 6 [l0, some (.int v)] st M Q := fun d l0 l1 v st M Q hl => w_istore_n (show ins 69 5 = some (.istore_n 1, 1) by decide +kernel) (st1_S rfl rfl hl)
set_option maxRecDepth 100000 in
theorem r_69_6 : ∀ (d : Nat) (l0 : Option Value) (v : Int32) (st : List Value) (M : Mem) (Q : Outcome → Mem → Prop), Wp d 69 6 [l0, some (.int v)] st M Q = Wp d 69 7 [l0, some (.int v)] (.int v :: st) M Q := fun d l0 v st M Q => wA (show ins 69 6 = some (.iload_n 1, 1) by decide +kernel) rfl
set_option maxRecDepth 100000 in
theorem r_69_7 : ∀ (d : Nat) (ls : Lc) (st : List Value) (M : Mem) (Q : Outcome → Mem → Prop), Wp d 69 7 ls st M Q = Wp d 69 9 ls (.int (I 40) :: st) M Q := fun d ls st M Q => w_bipush (show ins 69 7 = some (.bipush 40, 2) by decide +kernel) (by decide)
set_option maxRecDepth 100000 in
theorem r_69_9 : ∀ (d : Nat) (ls : Lc) (a b : Int32) (st : List Value) (M : Mem) (Q : Outcome → Mem → Prop), Wp d 69 9 ls (.int b :: .int a :: st) M Q = Br (b < a) d 69 23 12 ls st M Q := fun d ls a b st M Q => w_icmp (show ins 69 9 = some (.if_icmp .gt 14, 3) by decide +kernel) rfl rfl
set_option maxRecDepth 100000 in
theorem r_69_12 : ∀ (d : Nat) (l1 : Option Value) (v : Int32) (st : List Value) (M : Mem) (Q : Outcome → Mem → Prop), Wp d 69 12 [some (.int v), l1] st M Q = Wp d 69 13 [some (.int v), l1] (.int v :: st) M Q := fun d l1 v st M Q => wA (show ins 69 12 = some (.iload_n 0, 1) by decide +kernel) rfl
set_option maxRecDepth 100000 in
theorem r_69_13 : ∀ (d : Nat) (ls : Lc) (st : List Value) (M : Mem) (Q : Outcome → Mem → Prop), Wp d 69 13 ls st M Q = Wp d 69 16 ls (.int (I 512) :: st) M Q := fun d ls st M Q => w_sipush (show ins 69 13 = some (.sipush 512, 3) by decide +kernel) (by decide)
set_option maxRecDepth 100000 in
theorem r_69_16 : ∀ (d : Nat) (ls : Lc) (a b : Int32) (st : List Value) (M : Mem) (Q : Outcome → Mem → Prop), Wp d 69 16 ls (.int b :: .int a :: st) M Q = Br (b < a) d 69 23 19 ls st M Q := fun d ls a b st M Q => w_icmp (show ins 69 16 = some (.if_icmp .gt 7, 3) by decide +kernel) rfl rfl
set_option maxRecDepth 100000 in
theorem r_69_19 : ∀ (d : Nat) (l0 : Option Value) (v : Int32) (st : List Value) (M : Mem) (Q : Outcome → Mem → Prop), Wp d 69 19 [l0, some (.int v)] st M Q = Wp d 69 20 [l0, some (.int v)] (.int v :: st) M Q := fun d l0 v st M Q => wA (show ins 69 19 = some (.iload_n 1, 1) by decide +kernel) rfl
set_option maxRecDepth 100000 in
theorem r_69_20 : ∀ (d : Nat) (ls : Lc) (st : List Value) (M : Mem) (Q : Outcome → Mem → Prop), Wp d 69 20 ls st M Q = Wp d 69 24 ls st M Q := fun d ls st M Q => w_goto (show ins 69 20 = some (.goto 4, 3) by decide +kernel) rfl
set_option maxRecDepth 100000 in
theorem r_69_23 : ∀ (d : Nat) (ls : Lc) (st : List Value) (M : Mem) (Q : Outcome → Mem → Prop), Wp d 69 23 ls st M Q = Wp d 69 24 ls (.int (I 0) :: st) M Q := fun d ls st M Q => w_iconst (show ins 69 23 = some (.iconst 0, 1) by decide +kernel)
set_option maxRecDepth 100000 in
theorem r_69_24 : ∀ (d : Nat) (ls : Lc) (v : Int32) (M : Mem) (Q : Outcome → Mem → Prop), Wp d 69 24 ls [.int v] M Q = Q (.returned (some (.int v))) M := fun d ls v M Q => w_ireturn (show ins 69 24 = some (.ireturn, 1) by decide +kernel) (by decide +kernel)
set_option maxRecDepth 100000 in
theorem W_69 : (type_of% r_69_0) ∧ (type_of% r_69_1) ∧ (type_of% r_69_4) ∧ (type_of% r_69_5) ∧ (type_of% r_69_6) ∧ (type_of% r_69_7) ∧ (type_of% r_69_9) ∧ (type_of% r_69_12) ∧ (type_of% r_69_13) ∧ (type_of% r_69_16) ∧ (type_of% r_69_19) ∧ (type_of% r_69_20) ∧ (type_of% r_69_23) ∧ (type_of% r_69_24) := ⟨r_69_0, r_69_1, r_69_4, r_69_5, r_69_6, r_69_7, r_69_9, r_69_12, r_69_13, r_69_16, r_69_19, r_69_20, r_69_23, r_69_24⟩
set_option maxRecDepth 100000 in
theorem ca_69 {d y pc : Nat} {ls : Lc} {z0 : Int32} {r : List Value} {M : Mem} {Q : Outcome → Mem → Prop} (hd : 0 < d) (hw : Wp (d - 1) 69 0 [some (.int z0), none] [] M (Cq d y pc ls r Q)) : Ca d y pc ls 69 [.int z0] r M Q := ca_of (mq_get (by decide)) (by rfl) hd hw
/-! 70 PackedTree.fill(IIII)I; loop heads [19] -/
set_option maxRecDepth 100000 in
theorem r_70_0 : ∀ (d : Nat) (l1 l2 l3 l4 l5 : Option Value) (v : Nat) (st : List Value) (M : Mem) (Q : Outcome → Mem → Prop), Wp d 70 0 [some (.ref v), l1, l2, l3, l4, l5] st M Q = Wp d 70 1 [some (.ref v), l1, l2, l3, l4, l5] (.ref v :: st) M Q := fun d l1 l2 l3 l4 l5 v st M Q => wA (show ins 70 0 = some (.aload_n 0, 1) by decide +kernel) rfl
set_option maxRecDepth 100000 in
theorem r_70_1 : ∀ (d : Nat) (l0 l2 l3 l4 l5 : Option Value) (v : Int32) (st : List Value) (M : Mem) (Q : Outcome → Mem → Prop), Wp d 70 1 [l0, some (.int v), l2, l3, l4, l5] st M Q = Wp d 70 2 [l0, some (.int v), l2, l3, l4, l5] (.int v :: st) M Q := fun d l0 l2 l3 l4 l5 v st M Q => wA (show ins 70 1 = some (.iload_n 1, 1) by decide +kernel) rfl
set_option maxRecDepth 100000 in
theorem r_70_2 : ∀ (d : Nat) (l0 l1 l3 l4 l5 : Option Value) (v : Int32) (st : List Value) (M : Mem) (Q : Outcome → Mem → Prop), Wp d 70 2 [l0, l1, some (.int v), l3, l4, l5] st M Q = Wp d 70 3 [l0, l1, some (.int v), l3, l4, l5] (.int v :: st) M Q := fun d l0 l1 l3 l4 l5 v st M Q => wA (show ins 70 2 = some (.iload_n 2, 1) by decide +kernel) rfl
set_option maxRecDepth 100000 in
theorem r_70_3 : ∀ (d : Nat) (l0 l1 l2 l3 l5 : Option Value) (v : Int32) (st : List Value) (M : Mem) (Q : Outcome → Mem → Prop), Wp d 70 3 [l0, l1, l2, l3, some (.int v), l5] st M Q = Wp d 70 5 [l0, l1, l2, l3, some (.int v), l5] (.int v :: st) M Q := fun d l0 l1 l2 l3 l5 v st M Q => wA (show ins 70 3 = some (.iload 4, 2) by decide +kernel) rfl
set_option maxRecDepth 100000 in
theorem r_70_5 : ∀ (d : Nat) (ls : Lc) (st : List Value) (M : Mem) (Q : Outcome → Mem → Prop), Wp d 70 5 ls st M Q = Wp d 70 8 ls (.int (I 512) :: st) M Q := fun d ls st M Q => w_sipush (show ins 70 5 = some (.sipush 512, 3) by decide +kernel) (by decide)
set_option maxRecDepth 100000 in
theorem r_70_8 : ∀ (d : Nat) (ls : Lc) (v0 v1 v2 v3 : Value) (a : Nat) (st : List Value) (M : Mem) (Q : Outcome → Mem → Prop), (smallR st = true) → Wp d 70 8 ls (v3 :: v2 :: v1 :: v0 :: .ref a :: st) M Q = (kO M a = 1 ∧ Ca d 70 8 ls 64 (.ref a :: [v0, v1, v2, v3]) st M Q) := fun d ls v0 v1 v2 v3 a st M Q h0 => w_virt1 (as := [v0, v1, v2, v3]) (show ins 70 8 = some (.invokevirtual 294, 3) by decide +kernel) (show mRes (mC 70) 294 = some (3, 1, [(1, 64)]) by decide +kernel) (by decide +kernel) rfl (by decide +kernel) (by decide +kernel) h0
set_option maxRecDepth 100000 in
theorem r_70_11 : ∀ (d : Nat) (l1 l2 l3 l4 l5 : Option Value) (v : Nat) (st : List Value) (M : Mem) (Q : Outcome → Mem → Prop), Wp d 70 11 [some (.ref v), l1, l2, l3, l4, l5] st M Q = Wp d 70 12 [some (.ref v), l1, l2, l3, l4, l5] (.ref v :: st) M Q := fun d l1 l2 l3 l4 l5 v st M Q => wA (show ins 70 11 = some (.aload_n 0, 1) by decide +kernel) rfl
set_option maxRecDepth 100000 in
theorem r_70_12 : ∀ (d : Nat) (l0 l2 l3 l4 l5 : Option Value) (v : Int32) (st : List Value) (M : Mem) (Q : Outcome → Mem → Prop), Wp d 70 12 [l0, some (.int v), l2, l3, l4, l5] st M Q = Wp d 70 13 [l0, some (.int v), l2, l3, l4, l5] (.int v :: st) M Q := fun d l0 l2 l3 l4 l5 v st M Q => wA (show ins 70 12 = some (.iload_n 1, 1) by decide +kernel) rfl
set_option maxRecDepth 100000 in
theorem r_70_13 : ∀ (d : Nat) (ls : Lc) (v0 : Value) (a : Nat) (st : List Value) (M : Mem) (Q : Outcome → Mem → Prop), (smallR st = true) → Wp d 70 13 ls (v0 :: .ref a :: st) M Q = (kO M a = 1 ∧ Ca d 70 13 ls 65 (.ref a :: [v0]) st M Q) := fun d ls v0 a st M Q h0 => w_virt1 (as := [v0]) (show ins 70 13 = some (.invokevirtual 298, 3) by decide +kernel) (show mRes (mC 70) 298 = some (3, 1, [(1, 65)]) by decide +kernel) (by decide +kernel) rfl (by decide +kernel) (by decide +kernel) h0
set_option maxRecDepth 100000 in
theorem r_70_16 : ∀ (d : Nat) (ls : Lc) (st : List Value) (M : Mem) (Q : Outcome → Mem → Prop), Wp d 70 16 ls st M Q = Wp d 70 17 ls (.int (I 0) :: st) M Q := fun d ls st M Q => w_iconst (show ins 70 16 = some (.iconst 0, 1) by decide +kernel)
set_option maxRecDepth 100000 in
theorem r_70_17 : ∀ (d : Nat) (l0 l1 l2 l3 l4 l5 : Option Value) (v : Int32) (st : List Value) (M : Mem) (Q : Outcome → Mem → Prop), (lo l4 = false) → Wp d 70 17 [l0, l1, l2, l3, l4, l5] (.int v :: st) M Q = Wp d 70 19 [l0, l1, l2, l3, l4, some (.int v)] st M Q := fun d l0 l1 l2 l3 l4 l5 v st M Q hl => w_istore (show ins 70 17 = some (.istore 5, 2) by decide +kernel) (st1_S rfl rfl hl)
set_option maxRecDepth 100000 in
theorem r_70_19 : ∀ (d : Nat) (l0 l1 l2 l3 l4 : Option Value) (v : Int32) (st : List Value) (M : Mem) (Q : Outcome → Mem → Prop), Wp d 70 19 [l0, l1, l2, l3, l4, some (.int v)] st M Q = Wp d 70 21 [l0, l1, l2, l3, l4, some (.int v)] (.int v :: st) M Q := fun d l0 l1 l2 l3 l4 v st M Q => wA (show ins 70 19 = some (.iload 5, 2) by decide +kernel) rfl
set_option maxRecDepth 100000 in
theorem r_70_21 : ∀ (d : Nat) (l0 l1 l2 l3 l5 : Option Value) (v : Int32) (st : List Value) (M : Mem) (Q : Outcome → Mem → Prop), Wp d 70 21 [l0, l1, l2, l3, some (.int v), l5] st M Q = Wp d 70 23 [l0, l1, l2, l3, some (.int v), l5] (.int v :: st) M Q := fun d l0 l1 l2 l3 l5 v st M Q => wA (show ins 70 21 = some (.iload 4, 2) by decide +kernel) rfl
set_option maxRecDepth 100000 in
theorem r_70_23 : ∀ (d : Nat) (ls : Lc) (a b : Int32) (st : List Value) (M : Mem) (Q : Outcome → Mem → Prop), Wp d 70 23 ls (.int b :: .int a :: st) M Q = Br (b ≤ a) d 70 49 26 ls st M Q := fun d ls a b st M Q => w_icmp (show ins 70 23 = some (.if_icmp .ge 26, 3) by decide +kernel) rfl rfl
set_option maxRecDepth 100000 in
theorem r_70_26 : ∀ (d : Nat) (l1 l2 l3 l4 l5 : Option Value) (v : Nat) (st : List Value) (M : Mem) (Q : Outcome → Mem → Prop), Wp d 70 26 [some (.ref v), l1, l2, l3, l4, l5] st M Q = Wp d 70 27 [some (.ref v), l1, l2, l3, l4, l5] (.ref v :: st) M Q := fun d l1 l2 l3 l4 l5 v st M Q => wA (show ins 70 26 = some (.aload_n 0, 1) by decide +kernel) rfl
set_option maxRecDepth 100000 in
theorem r_70_27 : ∀ (d : Nat) (ls : Lc) (a : Nat) (st : List Value) (M : Mem) (Q : Outcome → Mem → Prop), Wp d 70 27 ls (.ref a :: st) M Q = (fk 3 (kO M a) = true ∧ Wp d 70 30 ls (va_rf (mR M 3 a) :: st) M Q) := fun d ls a st M Q => w_getR (show ins 70 27 = some (.getfield 29, 3) by decide +kernel) (show fRes (mC 70) 29 = some (3, 1, false) by decide +kernel) (by decide +kernel)
set_option maxRecDepth 100000 in
theorem r_70_30 : ∀ (d : Nat) (l0 l1 l3 l4 l5 : Option Value) (v : Int32) (st : List Value) (M : Mem) (Q : Outcome → Mem → Prop), Wp d 70 30 [l0, l1, some (.int v), l3, l4, l5] st M Q = Wp d 70 31 [l0, l1, some (.int v), l3, l4, l5] (.int v :: st) M Q := fun d l0 l1 l3 l4 l5 v st M Q => wA (show ins 70 30 = some (.iload_n 2, 1) by decide +kernel) rfl
set_option maxRecDepth 100000 in
theorem r_70_31 : ∀ (d : Nat) (l0 l1 l2 l3 l4 : Option Value) (v : Int32) (st : List Value) (M : Mem) (Q : Outcome → Mem → Prop), Wp d 70 31 [l0, l1, l2, l3, l4, some (.int v)] st M Q = Wp d 70 33 [l0, l1, l2, l3, l4, some (.int v)] (.int v :: st) M Q := fun d l0 l1 l2 l3 l4 v st M Q => wA (show ins 70 31 = some (.iload 5, 2) by decide +kernel) rfl
set_option maxRecDepth 100000 in
theorem r_70_33 : ∀ (d : Nat) (ls : Lc) (a b : Int) (st : List Value) (M : Mem) (Q : Outcome → Mem → Prop), Wp d 70 33 ls (.int (I b) :: .int (I a) :: st) M Q = Wp d 70 34 ls (.int (I (a + b)) :: st) M Q := fun d ls a b st M Q => w_iadd (show ins 70 33 = some (.iadd, 1) by decide +kernel)
set_option maxRecDepth 100000 in
theorem r_70_34 : ∀ (d : Nat) (l0 l1 l2 l4 l5 : Option Value) (v : Int32) (st : List Value) (M : Mem) (Q : Outcome → Mem → Prop), Wp d 70 34 [l0, l1, l2, some (.int v), l4, l5] st M Q = Wp d 70 35 [l0, l1, l2, some (.int v), l4, l5] (.int v :: st) M Q := fun d l0 l1 l2 l4 l5 v st M Q => wA (show ins 70 34 = some (.iload_n 3, 1) by decide +kernel) rfl
set_option maxRecDepth 100000 in
theorem r_70_35 : ∀ (d : Nat) (ls : Lc) (st : List Value) (M : Mem) (Q : Outcome → Mem → Prop), Wp d 70 35 ls st M Q = Wp d 70 37 ls (.int (I 7) :: st) M Q := fun d ls st M Q => w_bipush (show ins 70 35 = some (.bipush 7, 2) by decide +kernel) (by decide)
set_option maxRecDepth 100000 in
theorem r_70_37 : ∀ (d : Nat) (l0 l1 l2 l3 l4 : Option Value) (v : Int32) (st : List Value) (M : Mem) (Q : Outcome → Mem → Prop), Wp d 70 37 [l0, l1, l2, l3, l4, some (.int v)] st M Q = Wp d 70 39 [l0, l1, l2, l3, l4, some (.int v)] (.int v :: st) M Q := fun d l0 l1 l2 l3 l4 v st M Q => wA (show ins 70 37 = some (.iload 5, 2) by decide +kernel) rfl
set_option maxRecDepth 100000 in
theorem r_70_39 : ∀ (d : Nat) (ls : Lc) (a b : Int) (st : List Value) (M : Mem) (Q : Outcome → Mem → Prop), Wp d 70 39 ls (.int (I b) :: .int (I a) :: st) M Q = Wp d 70 40 ls (.int (I (a * b)) :: st) M Q := fun d ls a b st M Q => w_imul (show ins 70 39 = some (.imul, 1) by decide +kernel)
set_option maxRecDepth 100000 in
theorem r_70_40 : ∀ (d : Nat) (ls : Lc) (a b : Int) (st : List Value) (M : Mem) (Q : Outcome → Mem → Prop), Wp d 70 40 ls (.int (I b) :: .int (I a) :: st) M Q = Wp d 70 41 ls (.int (I (a + b)) :: st) M Q := fun d ls a b st M Q => w_iadd (show ins 70 40 = some (.iadd, 1) by decide +kernel)
set_option maxRecDepth 100000 in
theorem r_70_41 : ∀ (d : Nat) (ls : Lc) (a : Int32) (st : List Value) (M : Mem) (Q : Outcome → Mem → Prop), Wp d 70 41 ls (.int a :: st) M Q = Wp d 70 42 ls (.int a.toInt8.toInt32 :: st) M Q := fun d ls a st M Q => wA (show ins 70 41 = some (.i2b, 1) by decide +kernel) rfl
set_option maxRecDepth 100000 in
theorem r_70_42 : ∀ (d : Nat) (ls : Lc) (a : Nat) (j v : Int32) (st : List Value) (M : Mem) (Q : Outcome → Mem → Prop), Wp d 70 42 ls (.int v :: .int j :: .ref a :: st) M Q = ((((kX M a).1 = 1 ∨ (kX M a).1 = 2) ∧ inB j (kX M a).2 = true) ∧ Wp d 70 43 ls st (sA M a j.toNatClampNeg (nrw (kX M a).1 v)) Q) := fun d ls a j v st M Q => w_bastore (show ins 70 42 = some (.bastore, 1) by decide +kernel)
set_option maxRecDepth 100000 in
theorem r_70_43 : ∀ (d : Nat) (l0 l1 l2 l3 l4 : Option Value) (z : Int) (st : List Value) (M : Mem) (Q : Outcome → Mem → Prop), (lo l4 = false) → Wp d 70 43 [l0, l1, l2, l3, l4, some (.int (I z))] st M Q = Wp d 70 46 [l0, l1, l2, l3, l4, some (.int (I (z + 1)))] st M Q := fun d l0 l1 l2 l3 l4 z st M Q hl => w_iinc (show ins 70 43 = some (.iinc 5 1, 3) by decide +kernel) rfl (st1_S rfl rfl hl)
set_option maxRecDepth 100000 in
theorem r_70_46 : ∀ (d : Nat) (ls : Lc) (st : List Value) (M : Mem) (Q : Outcome → Mem → Prop), Wp d 70 46 ls st M Q = Wp d 70 19 ls st M Q := fun d ls st M Q => w_goto (show ins 70 46 = some (.goto (-27), 3) by decide +kernel) rfl
set_option maxRecDepth 100000 in
theorem r_70_49 : ∀ (d : Nat) (l1 l2 l3 l4 l5 : Option Value) (v : Nat) (st : List Value) (M : Mem) (Q : Outcome → Mem → Prop), Wp d 70 49 [some (.ref v), l1, l2, l3, l4, l5] st M Q = Wp d 70 50 [some (.ref v), l1, l2, l3, l4, l5] (.ref v :: st) M Q := fun d l1 l2 l3 l4 l5 v st M Q => wA (show ins 70 49 = some (.aload_n 0, 1) by decide +kernel) rfl
set_option maxRecDepth 100000 in
theorem r_70_50 : ∀ (d : Nat) (l0 l2 l3 l4 l5 : Option Value) (v : Int32) (st : List Value) (M : Mem) (Q : Outcome → Mem → Prop), Wp d 70 50 [l0, some (.int v), l2, l3, l4, l5] st M Q = Wp d 70 51 [l0, some (.int v), l2, l3, l4, l5] (.int v :: st) M Q := fun d l0 l2 l3 l4 l5 v st M Q => wA (show ins 70 50 = some (.iload_n 1, 1) by decide +kernel) rfl
set_option maxRecDepth 100000 in
theorem r_70_51 : ∀ (d : Nat) (l1 l2 l3 l4 l5 : Option Value) (v : Nat) (st : List Value) (M : Mem) (Q : Outcome → Mem → Prop), Wp d 70 51 [some (.ref v), l1, l2, l3, l4, l5] st M Q = Wp d 70 52 [some (.ref v), l1, l2, l3, l4, l5] (.ref v :: st) M Q := fun d l1 l2 l3 l4 l5 v st M Q => wA (show ins 70 51 = some (.aload_n 0, 1) by decide +kernel) rfl
set_option maxRecDepth 100000 in
theorem r_70_52 : ∀ (d : Nat) (l0 l2 l3 l4 l5 : Option Value) (v : Int32) (st : List Value) (M : Mem) (Q : Outcome → Mem → Prop), Wp d 70 52 [l0, some (.int v), l2, l3, l4, l5] st M Q = Wp d 70 53 [l0, some (.int v), l2, l3, l4, l5] (.int v :: st) M Q := fun d l0 l2 l3 l4 l5 v st M Q => wA (show ins 70 52 = some (.iload_n 1, 1) by decide +kernel) rfl
set_option maxRecDepth 100000 in
theorem r_70_53 : ∀ (d : Nat) (ls : Lc) (v0 : Value) (a : Nat) (st : List Value) (M : Mem) (Q : Outcome → Mem → Prop), (smallR st = true) → Wp d 70 53 ls (v0 :: .ref a :: st) M Q = (kO M a = 1 ∧ Ca d 70 53 ls 47 (.ref a :: [v0]) st M Q) := fun d ls v0 a st M Q h0 => w_virt1 (as := [v0]) (show ins 70 53 = some (.invokevirtual 192, 3) by decide +kernel) (show mRes (mC 70) 192 = some (3, 1, [(1, 47)]) by decide +kernel) (by decide +kernel) rfl (by decide +kernel) (by decide +kernel) h0
set_option maxRecDepth 100000 in
theorem r_70_56 : ∀ (d : Nat) (l0 l1 l3 l4 l5 : Option Value) (v : Int32) (st : List Value) (M : Mem) (Q : Outcome → Mem → Prop), Wp d 70 56 [l0, l1, some (.int v), l3, l4, l5] st M Q = Wp d 70 57 [l0, l1, some (.int v), l3, l4, l5] (.int v :: st) M Q := fun d l0 l1 l3 l4 l5 v st M Q => wA (show ins 70 56 = some (.iload_n 2, 1) by decide +kernel) rfl
set_option maxRecDepth 100000 in
theorem r_70_57 : ∀ (d : Nat) (l0 l1 l2 l3 l5 : Option Value) (v : Int32) (st : List Value) (M : Mem) (Q : Outcome → Mem → Prop), Wp d 70 57 [l0, l1, l2, l3, some (.int v), l5] st M Q = Wp d 70 59 [l0, l1, l2, l3, some (.int v), l5] (.int v :: st) M Q := fun d l0 l1 l2 l3 l5 v st M Q => wA (show ins 70 57 = some (.iload 4, 2) by decide +kernel) rfl
set_option maxRecDepth 100000 in
theorem r_70_59 : ∀ (d : Nat) (ls : Lc) (a b : Int) (st : List Value) (M : Mem) (Q : Outcome → Mem → Prop), Wp d 70 59 ls (.int (I b) :: .int (I a) :: st) M Q = Wp d 70 60 ls (.int (I (a + b)) :: st) M Q := fun d ls a b st M Q => w_iadd (show ins 70 59 = some (.iadd, 1) by decide +kernel)
set_option maxRecDepth 100000 in
theorem r_70_60 : ∀ (d : Nat) (ls : Lc) (a b : Int32) (st : List Value) (M : Mem) (Q : Outcome → Mem → Prop), (smallR st = true) → Wp d 70 60 ls (.int b :: .int a :: st) M Q = Wp d 70 63 ls (.int (if a < b then b else a) :: st) M Q := fun d ls a b st M Q h0 => w_max (show ins 70 60 = some (.invokestatic 301, 3) by decide +kernel) (show mRes (mC 70) 301 = some (0, 9, [(0, 231)]) by decide +kernel) h0
set_option maxRecDepth 100000 in
theorem r_70_63 : ∀ (d : Nat) (ls : Lc) (v0 v1 : Value) (a : Nat) (st : List Value) (M : Mem) (Q : Outcome → Mem → Prop), (smallR st = true) → Wp d 70 63 ls (v1 :: v0 :: .ref a :: st) M Q = (kO M a = 1 ∧ Ca d 70 63 ls 66 (.ref a :: [v0, v1]) st M Q) := fun d ls v0 v1 a st M Q h0 => w_virt1 (as := [v0, v1]) (show ins 70 63 = some (.invokevirtual 306, 3) by decide +kernel) (show mRes (mC 70) 306 = some (3, 1, [(1, 66)]) by decide +kernel) (by decide +kernel) rfl (by decide +kernel) (by decide +kernel) h0
set_option maxRecDepth 100000 in
theorem r_70_66 : ∀ (d : Nat) (ls : Lc) (v : Int32) (M : Mem) (Q : Outcome → Mem → Prop), Wp d 70 66 ls [.int v] M Q = Q (.returned (some (.int v))) M := fun d ls v M Q => w_ireturn (show ins 70 66 = some (.ireturn, 1) by decide +kernel) (by decide +kernel)
set_option maxRecDepth 100000 in
theorem w_70_19 : (type_of% r_70_19) := r_70_19
set_option maxRecDepth 100000 in
theorem W_70 : (type_of% r_70_0) ∧ (type_of% r_70_1) ∧ (type_of% r_70_2) ∧ (type_of% r_70_3) ∧ (type_of% r_70_5) ∧ (type_of% r_70_8) ∧ (type_of% r_70_11) ∧ (type_of% r_70_12) ∧ (type_of% r_70_13) ∧ (type_of% r_70_16) ∧ (type_of% r_70_17) ∧ (type_of% r_70_21) ∧ (type_of% r_70_23) ∧ (type_of% r_70_26) ∧ (type_of% r_70_27) ∧ (type_of% r_70_30) ∧ (type_of% r_70_31) ∧ (type_of% r_70_33) ∧ (type_of% r_70_34) ∧ (type_of% r_70_35) ∧ (type_of% r_70_37) ∧ (type_of% r_70_39) ∧ (type_of% r_70_40) ∧ (type_of% r_70_41) ∧ (type_of% r_70_42) ∧ (type_of% r_70_43) ∧ (type_of% r_70_46) ∧ (type_of% r_70_49) ∧ (type_of% r_70_50) ∧ (type_of% r_70_51) ∧ (type_of% r_70_52) ∧ (type_of% r_70_53) ∧ (type_of% r_70_56) ∧ (type_of% r_70_57) ∧ (type_of% r_70_59) ∧ (type_of% r_70_60) ∧ (type_of% r_70_63) ∧ (type_of% r_70_66) := ⟨r_70_0, r_70_1, r_70_2, r_70_3, r_70_5, r_70_8, r_70_11, r_70_12, r_70_13, r_70_16, r_70_17, r_70_21, r_70_23, r_70_26, r_70_27, r_70_30, r_70_31, r_70_33, r_70_34, r_70_35, r_70_37, r_70_39, r_70_40, r_70_41, r_70_42, r_70_43, r_70_46, r_70_49, r_70_50, r_70_51, r_70_52, r_70_53, r_70_56, r_70_57, r_70_59, r_70_60, r_70_63, r_70_66⟩
set_option maxRecDepth 100000 in
theorem ca_70 {d y pc : Nat} {ls : Lc} {a : Nat} {z0 : Int32} {z1 : Int32} {z2 : Int32} {z3 : Int32} {r : List Value} {M : Mem} {Q : Outcome → Mem → Prop} (hd : 0 < d) (hw : Wp (d - 1) 70 0 [some (.ref a), some (.int z0), some (.int z1), some (.int z2), some (.int z3), none] [] M (Cq d y pc ls r Q)) : Ca d y pc ls 70 [.ref a, .int z0, .int z1, .int z2, .int z3] r M Q := ca_of (mq_get (by decide)) (by rfl) hd hw
/-! 71 PackedTree.cut(II)I; loop heads [] -/
set_option maxRecDepth 100000 in
theorem r_71_0 : ∀ (d : Nat) (l1 l2 : Option Value) (v : Nat) (st : List Value) (M : Mem) (Q : Outcome → Mem → Prop), Wp d 71 0 [some (.ref v), l1, l2] st M Q = Wp d 71 1 [some (.ref v), l1, l2] (.ref v :: st) M Q := fun d l1 l2 v st M Q => wA (show ins 71 0 = some (.aload_n 0, 1) by decide +kernel) rfl
set_option maxRecDepth 100000 in
theorem r_71_1 : ∀ (d : Nat) (ls : Lc) (a : Nat) (st : List Value) (M : Mem) (Q : Outcome → Mem → Prop), (smallR st = true) → Wp d 71 1 ls (.ref a :: st) M Q = (kO M a = 1 ∧ Ca d 71 1 ls 30 (.ref a :: []) st M Q) := fun d ls a st M Q h0 => w_virt1 (as := []) (show ins 71 1 = some (.invokevirtual 204, 3) by decide +kernel) (show mRes (mC 71) 204 = some (3, 1, [(1, 30)]) by decide +kernel) (by decide +kernel) rfl (by decide +kernel) (by decide +kernel) h0
set_option maxRecDepth 100000 in
theorem r_71_4 : ∀ (d : Nat) (l1 l2 : Option Value) (v : Nat) (st : List Value) (M : Mem) (Q : Outcome → Mem → Prop), Wp d 71 4 [some (.ref v), l1, l2] st M Q = Wp d 71 5 [some (.ref v), l1, l2] (.ref v :: st) M Q := fun d l1 l2 v st M Q => wA (show ins 71 4 = some (.aload_n 0, 1) by decide +kernel) rfl
set_option maxRecDepth 100000 in
theorem r_71_5 : ∀ (d : Nat) (l0 l2 : Option Value) (v : Int32) (st : List Value) (M : Mem) (Q : Outcome → Mem → Prop), Wp d 71 5 [l0, some (.int v), l2] st M Q = Wp d 71 6 [l0, some (.int v), l2] (.int v :: st) M Q := fun d l0 l2 v st M Q => wA (show ins 71 5 = some (.iload_n 1, 1) by decide +kernel) rfl
set_option maxRecDepth 100000 in
theorem r_71_6 : ∀ (d : Nat) (ls : Lc) (v0 : Value) (a : Nat) (st : List Value) (M : Mem) (Q : Outcome → Mem → Prop), (smallR st = true) → Wp d 71 6 ls (v0 :: .ref a :: st) M Q = (kO M a = 1 ∧ Ca d 71 6 ls 52 (.ref a :: [v0]) st M Q) := fun d ls v0 a st M Q h0 => w_virt1 (as := [v0]) (show ins 71 6 = some (.invokevirtual 239, 3) by decide +kernel) (show mRes (mC 71) 239 = some (3, 1, [(1, 52)]) by decide +kernel) (by decide +kernel) rfl (by decide +kernel) (by decide +kernel) h0
set_option maxRecDepth 100000 in
theorem r_71_9 : ∀ (d : Nat) (ls : Lc) (v0 : Value)  (st : List Value) (M : Mem) (Q : Outcome → Mem → Prop), (smallR st = true) → Wp d 71 9 ls (v0 :: st) M Q = Ca d 71 9 ls 37 [v0] st M Q := fun d ls v0 st M Q h0 => w_stat (as := [v0]) (show ins 71 9 = some (.invokestatic 210, 3) by decide +kernel) (show mRes (mC 71) 210 = some (0, 1, [(0, 37)]) by decide +kernel) (by decide +kernel) (by decide +kernel) rfl h0
set_option maxRecDepth 100000 in
theorem r_71_12 : ∀ (d : Nat) (l0 l1 : Option Value) (v : Int32) (st : List Value) (M : Mem) (Q : Outcome → Mem → Prop), Wp d 71 12 [l0, l1, some (.int v)] st M Q = Wp d 71 13 [l0, l1, some (.int v)] (.int v :: st) M Q := fun d l0 l1 v st M Q => wA (show ins 71 12 = some (.iload_n 2, 1) by decide +kernel) rfl
set_option maxRecDepth 100000 in
theorem r_71_13 : ∀ (d : Nat) (ls : Lc) (a : Int32) (st : List Value) (M : Mem) (Q : Outcome → Mem → Prop), Wp d 71 13 ls (.int a :: st) M Q = Br (a < I 0) d 71 29 16 ls st M Q := fun d ls a st M Q => w_if (show ins 71 13 = some (.ifCond .lt 16, 3) by decide +kernel) rfl rfl
set_option maxRecDepth 100000 in
theorem r_71_16 : ∀ (d : Nat) (l0 l1 : Option Value) (v : Int32) (st : List Value) (M : Mem) (Q : Outcome → Mem → Prop), Wp d 71 16 [l0, l1, some (.int v)] st M Q = Wp d 71 17 [l0, l1, some (.int v)] (.int v :: st) M Q := fun d l0 l1 v st M Q => wA (show ins 71 16 = some (.iload_n 2, 1) by decide +kernel) rfl
set_option maxRecDepth 100000 in
theorem r_71_17 : ∀ (d : Nat) (l1 l2 : Option Value) (v : Nat) (st : List Value) (M : Mem) (Q : Outcome → Mem → Prop), Wp d 71 17 [some (.ref v), l1, l2] st M Q = Wp d 71 18 [some (.ref v), l1, l2] (.ref v :: st) M Q := fun d l1 l2 v st M Q => wA (show ins 71 17 = some (.aload_n 0, 1) by decide +kernel) rfl
set_option maxRecDepth 100000 in
theorem r_71_18 : ∀ (d : Nat) (l0 l2 : Option Value) (v : Int32) (st : List Value) (M : Mem) (Q : Outcome → Mem → Prop), Wp d 71 18 [l0, some (.int v), l2] st M Q = Wp d 71 19 [l0, some (.int v), l2] (.int v :: st) M Q := fun d l0 l2 v st M Q => wA (show ins 71 18 = some (.iload_n 1, 1) by decide +kernel) rfl
set_option maxRecDepth 100000 in
theorem r_71_19 : ∀ (d : Nat) (ls : Lc) (v0 : Value) (a : Nat) (st : List Value) (M : Mem) (Q : Outcome → Mem → Prop), (smallR st = true) → Wp d 71 19 ls (v0 :: .ref a :: st) M Q = (kO M a = 1 ∧ Ca d 71 19 ls 47 (.ref a :: [v0]) st M Q) := fun d ls v0 a st M Q h0 => w_virt1 (as := [v0]) (show ins 71 19 = some (.invokevirtual 192, 3) by decide +kernel) (show mRes (mC 71) 192 = some (3, 1, [(1, 47)]) by decide +kernel) (by decide +kernel) rfl (by decide +kernel) (by decide +kernel) h0
set_option maxRecDepth 100000 in
theorem r_71_22 : ∀ (d : Nat) (ls : Lc) (a b : Int32) (st : List Value) (M : Mem) (Q : Outcome → Mem → Prop), Wp d 71 22 ls (.int b :: .int a :: st) M Q = Br (b < a) d 71 29 25 ls st M Q := fun d ls a b st M Q => w_icmp (show ins 71 22 = some (.if_icmp .gt 7, 3) by decide +kernel) rfl rfl
set_option maxRecDepth 100000 in
theorem r_71_25 : ∀ (d : Nat) (ls : Lc) (st : List Value) (M : Mem) (Q : Outcome → Mem → Prop), Wp d 71 25 ls st M Q = Wp d 71 26 ls (.int (I 1) :: st) M Q := fun d ls st M Q => w_iconst (show ins 71 25 = some (.iconst 1, 1) by decide +kernel)
set_option maxRecDepth 100000 in
theorem r_71_26 : ∀ (d : Nat) (ls : Lc) (st : List Value) (M : Mem) (Q : Outcome → Mem → Prop), Wp d 71 26 ls st M Q = Wp d 71 30 ls st M Q := fun d ls st M Q => w_goto (show ins 71 26 = some (.goto 4, 3) by decide +kernel) rfl
set_option maxRecDepth 100000 in
theorem r_71_29 : ∀ (d : Nat) (ls : Lc) (st : List Value) (M : Mem) (Q : Outcome → Mem → Prop), Wp d 71 29 ls st M Q = Wp d 71 30 ls (.int (I 0) :: st) M Q := fun d ls st M Q => w_iconst (show ins 71 29 = some (.iconst 0, 1) by decide +kernel)
set_option maxRecDepth 100000 in
theorem r_71_30 : ∀ (d : Nat) (ls : Lc) (v0 : Value)  (st : List Value) (M : Mem) (Q : Outcome → Mem → Prop), (smallR st = true) → Wp d 71 30 ls (v0 :: st) M Q = Ca d 71 30 ls 39 [v0] st M Q := fun d ls v0 st M Q h0 => w_stat (as := [v0]) (show ins 71 30 = some (.invokestatic 217, 3) by decide +kernel) (show mRes (mC 71) 217 = some (0, 1, [(0, 39)]) by decide +kernel) (by decide +kernel) (by decide +kernel) rfl h0
set_option maxRecDepth 100000 in
theorem r_71_33 : ∀ (d : Nat) (l1 l2 : Option Value) (v : Nat) (st : List Value) (M : Mem) (Q : Outcome → Mem → Prop), Wp d 71 33 [some (.ref v), l1, l2] st M Q = Wp d 71 34 [some (.ref v), l1, l2] (.ref v :: st) M Q := fun d l1 l2 v st M Q => wA (show ins 71 33 = some (.aload_n 0, 1) by decide +kernel) rfl
set_option maxRecDepth 100000 in
theorem r_71_34 : ∀ (d : Nat) (l0 l2 : Option Value) (v : Int32) (st : List Value) (M : Mem) (Q : Outcome → Mem → Prop), Wp d 71 34 [l0, some (.int v), l2] st M Q = Wp d 71 35 [l0, some (.int v), l2] (.int v :: st) M Q := fun d l0 l2 v st M Q => wA (show ins 71 34 = some (.iload_n 1, 1) by decide +kernel) rfl
set_option maxRecDepth 100000 in
theorem r_71_35 : ∀ (d : Nat) (ls : Lc) (v0 : Value) (a : Nat) (st : List Value) (M : Mem) (Q : Outcome → Mem → Prop), (smallR st = true) → Wp d 71 35 ls (v0 :: .ref a :: st) M Q = (kO M a = 1 ∧ Ca d 71 35 ls 65 (.ref a :: [v0]) st M Q) := fun d ls v0 a st M Q h0 => w_virt1 (as := [v0]) (show ins 71 35 = some (.invokevirtual 298, 3) by decide +kernel) (show mRes (mC 71) 298 = some (3, 1, [(1, 65)]) by decide +kernel) (by decide +kernel) rfl (by decide +kernel) (by decide +kernel) h0
set_option maxRecDepth 100000 in
theorem r_71_38 : ∀ (d : Nat) (l1 l2 : Option Value) (v : Nat) (st : List Value) (M : Mem) (Q : Outcome → Mem → Prop), Wp d 71 38 [some (.ref v), l1, l2] st M Q = Wp d 71 39 [some (.ref v), l1, l2] (.ref v :: st) M Q := fun d l1 l2 v st M Q => wA (show ins 71 38 = some (.aload_n 0, 1) by decide +kernel) rfl
set_option maxRecDepth 100000 in
theorem r_71_39 : ∀ (d : Nat) (l0 l2 : Option Value) (v : Int32) (st : List Value) (M : Mem) (Q : Outcome → Mem → Prop), Wp d 71 39 [l0, some (.int v), l2] st M Q = Wp d 71 40 [l0, some (.int v), l2] (.int v :: st) M Q := fun d l0 l2 v st M Q => wA (show ins 71 39 = some (.iload_n 1, 1) by decide +kernel) rfl
set_option maxRecDepth 100000 in
theorem r_71_40 : ∀ (d : Nat) (l0 l1 : Option Value) (v : Int32) (st : List Value) (M : Mem) (Q : Outcome → Mem → Prop), Wp d 71 40 [l0, l1, some (.int v)] st M Q = Wp d 71 41 [l0, l1, some (.int v)] (.int v :: st) M Q := fun d l0 l1 v st M Q => wA (show ins 71 40 = some (.iload_n 2, 1) by decide +kernel) rfl
set_option maxRecDepth 100000 in
theorem r_71_41 : ∀ (d : Nat) (ls : Lc) (v0 v1 : Value) (a : Nat) (st : List Value) (M : Mem) (Q : Outcome → Mem → Prop), (smallR st = true) → Wp d 71 41 ls (v1 :: v0 :: .ref a :: st) M Q = (kO M a = 1 ∧ Ca d 71 41 ls 66 (.ref a :: [v0, v1]) st M Q) := fun d ls v0 v1 a st M Q h0 => w_virt1 (as := [v0, v1]) (show ins 71 41 = some (.invokevirtual 306, 3) by decide +kernel) (show mRes (mC 71) 306 = some (3, 1, [(1, 66)]) by decide +kernel) (by decide +kernel) rfl (by decide +kernel) (by decide +kernel) h0
set_option maxRecDepth 100000 in
theorem r_71_44 : ∀ (d : Nat) (ls : Lc) (v0 : Value)  (st : List Value) (M : Mem) (Q : Outcome → Mem → Prop), (smallR st = true) → Wp d 71 44 ls (v0 :: st) M Q = Ca d 71 44 ls 68 [v0] st M Q := fun d ls v0 st M Q h0 => w_stat (as := [v0]) (show ins 71 44 = some (.invokestatic 285, 3) by decide +kernel) (show mRes (mC 71) 285 = some (0, 1, [(0, 68)]) by decide +kernel) (by decide +kernel) (by decide +kernel) rfl h0
set_option maxRecDepth 100000 in
theorem r_71_47 : ∀ (d : Nat) (ls : Lc) (v : Int32) (M : Mem) (Q : Outcome → Mem → Prop), Wp d 71 47 ls [.int v] M Q = Q (.returned (some (.int v))) M := fun d ls v M Q => w_ireturn (show ins 71 47 = some (.ireturn, 1) by decide +kernel) (by decide +kernel)
set_option maxRecDepth 100000 in
theorem W_71 : (type_of% r_71_0) ∧ (type_of% r_71_1) ∧ (type_of% r_71_4) ∧ (type_of% r_71_5) ∧ (type_of% r_71_6) ∧ (type_of% r_71_9) ∧ (type_of% r_71_12) ∧ (type_of% r_71_13) ∧ (type_of% r_71_16) ∧ (type_of% r_71_17) ∧ (type_of% r_71_18) ∧ (type_of% r_71_19) ∧ (type_of% r_71_22) ∧ (type_of% r_71_25) ∧ (type_of% r_71_26) ∧ (type_of% r_71_29) ∧ (type_of% r_71_30) ∧ (type_of% r_71_33) ∧ (type_of% r_71_34) ∧ (type_of% r_71_35) ∧ (type_of% r_71_38) ∧ (type_of% r_71_39) ∧ (type_of% r_71_40) ∧ (type_of% r_71_41) ∧ (type_of% r_71_44) ∧ (type_of% r_71_47) := ⟨r_71_0, r_71_1, r_71_4, r_71_5, r_71_6, r_71_9, r_71_12, r_71_13, r_71_16, r_71_17, r_71_18, r_71_19, r_71_22, r_71_25, r_71_26, r_71_29, r_71_30, r_71_33, r_71_34, r_71_35, r_71_38, r_71_39, r_71_40, r_71_41, r_71_44, r_71_47⟩
set_option maxRecDepth 100000 in
theorem ca_71 {d y pc : Nat} {ls : Lc} {a : Nat} {z0 : Int32} {z1 : Int32} {r : List Value} {M : Mem} {Q : Outcome → Mem → Prop} (hd : 0 < d) (hw : Wp (d - 1) 71 0 [some (.ref a), some (.int z0), some (.int z1)] [] M (Cq d y pc ls r Q)) : Ca d y pc ls 71 [.ref a, .int z0, .int z1] r M Q := ca_of (mq_get (by decide)) (by rfl) hd hw
/-! 72 PackedTree.read(II)I; loop heads [] -/
set_option maxRecDepth 100000 in
theorem r_72_0 : ∀ (d : Nat) (l1 l2 l3 l4 : Option Value) (v : Nat) (st : List Value) (M : Mem) (Q : Outcome → Mem → Prop), Wp d 72 0 [some (.ref v), l1, l2, l3, l4] st M Q = Wp d 72 1 [some (.ref v), l1, l2, l3, l4] (.ref v :: st) M Q := fun d l1 l2 l3 l4 v st M Q => wA (show ins 72 0 = some (.aload_n 0, 1) by decide +kernel) rfl
set_option maxRecDepth 100000 in
theorem r_72_1 : ∀ (d : Nat) (ls : Lc) (a : Nat) (st : List Value) (M : Mem) (Q : Outcome → Mem → Prop), (smallR st = true) → Wp d 72 1 ls (.ref a :: st) M Q = (kO M a = 1 ∧ Ca d 72 1 ls 30 (.ref a :: []) st M Q) := fun d ls a st M Q h0 => w_virt1 (as := []) (show ins 72 1 = some (.invokevirtual 204, 3) by decide +kernel) (show mRes (mC 72) 204 = some (3, 1, [(1, 30)]) by decide +kernel) (by decide +kernel) rfl (by decide +kernel) (by decide +kernel) h0
set_option maxRecDepth 100000 in
theorem r_72_4 : ∀ (d : Nat) (l1 l2 l3 l4 : Option Value) (v : Nat) (st : List Value) (M : Mem) (Q : Outcome → Mem → Prop), Wp d 72 4 [some (.ref v), l1, l2, l3, l4] st M Q = Wp d 72 5 [some (.ref v), l1, l2, l3, l4] (.ref v :: st) M Q := fun d l1 l2 l3 l4 v st M Q => wA (show ins 72 4 = some (.aload_n 0, 1) by decide +kernel) rfl
set_option maxRecDepth 100000 in
theorem r_72_5 : ∀ (d : Nat) (l0 l2 l3 l4 : Option Value) (v : Int32) (st : List Value) (M : Mem) (Q : Outcome → Mem → Prop), Wp d 72 5 [l0, some (.int v), l2, l3, l4] st M Q = Wp d 72 6 [l0, some (.int v), l2, l3, l4] (.int v :: st) M Q := fun d l0 l2 l3 l4 v st M Q => wA (show ins 72 5 = some (.iload_n 1, 1) by decide +kernel) rfl
set_option maxRecDepth 100000 in
theorem r_72_6 : ∀ (d : Nat) (ls : Lc) (v0 : Value) (a : Nat) (st : List Value) (M : Mem) (Q : Outcome → Mem → Prop), (smallR st = true) → Wp d 72 6 ls (v0 :: .ref a :: st) M Q = (kO M a = 1 ∧ Ca d 72 6 ls 52 (.ref a :: [v0]) st M Q) := fun d ls v0 a st M Q h0 => w_virt1 (as := [v0]) (show ins 72 6 = some (.invokevirtual 239, 3) by decide +kernel) (show mRes (mC 72) 239 = some (3, 1, [(1, 52)]) by decide +kernel) (by decide +kernel) rfl (by decide +kernel) (by decide +kernel) h0
set_option maxRecDepth 100000 in
theorem r_72_9 : ∀ (d : Nat) (ls : Lc) (a : Int32) (st : List Value) (M : Mem) (Q : Outcome → Mem → Prop), Wp d 72 9 ls (.int a :: st) M Q = Br (a = I 0) d 72 29 12 ls st M Q := fun d ls a st M Q => w_if (show ins 72 9 = some (.ifCond .eq 20, 3) by decide +kernel) rfl rfl
set_option maxRecDepth 100000 in
theorem r_72_12 : ∀ (d : Nat) (l0 l1 l3 l4 : Option Value) (v : Int32) (st : List Value) (M : Mem) (Q : Outcome → Mem → Prop), Wp d 72 12 [l0, l1, some (.int v), l3, l4] st M Q = Wp d 72 13 [l0, l1, some (.int v), l3, l4] (.int v :: st) M Q := fun d l0 l1 l3 l4 v st M Q => wA (show ins 72 12 = some (.iload_n 2, 1) by decide +kernel) rfl
set_option maxRecDepth 100000 in
theorem r_72_13 : ∀ (d : Nat) (ls : Lc) (a : Int32) (st : List Value) (M : Mem) (Q : Outcome → Mem → Prop), Wp d 72 13 ls (.int a :: st) M Q = Br (a < I 0) d 72 29 16 ls st M Q := fun d ls a st M Q => w_if (show ins 72 13 = some (.ifCond .lt 16, 3) by decide +kernel) rfl rfl
set_option maxRecDepth 100000 in
theorem r_72_16 : ∀ (d : Nat) (l0 l1 l3 l4 : Option Value) (v : Int32) (st : List Value) (M : Mem) (Q : Outcome → Mem → Prop), Wp d 72 16 [l0, l1, some (.int v), l3, l4] st M Q = Wp d 72 17 [l0, l1, some (.int v), l3, l4] (.int v :: st) M Q := fun d l0 l1 l3 l4 v st M Q => wA (show ins 72 16 = some (.iload_n 2, 1) by decide +kernel) rfl
set_option maxRecDepth 100000 in
theorem r_72_17 : ∀ (d : Nat) (l1 l2 l3 l4 : Option Value) (v : Nat) (st : List Value) (M : Mem) (Q : Outcome → Mem → Prop), Wp d 72 17 [some (.ref v), l1, l2, l3, l4] st M Q = Wp d 72 18 [some (.ref v), l1, l2, l3, l4] (.ref v :: st) M Q := fun d l1 l2 l3 l4 v st M Q => wA (show ins 72 17 = some (.aload_n 0, 1) by decide +kernel) rfl
set_option maxRecDepth 100000 in
theorem r_72_18 : ∀ (d : Nat) (l0 l2 l3 l4 : Option Value) (v : Int32) (st : List Value) (M : Mem) (Q : Outcome → Mem → Prop), Wp d 72 18 [l0, some (.int v), l2, l3, l4] st M Q = Wp d 72 19 [l0, some (.int v), l2, l3, l4] (.int v :: st) M Q := fun d l0 l2 l3 l4 v st M Q => wA (show ins 72 18 = some (.iload_n 1, 1) by decide +kernel) rfl
set_option maxRecDepth 100000 in
theorem r_72_19 : ∀ (d : Nat) (ls : Lc) (v0 : Value) (a : Nat) (st : List Value) (M : Mem) (Q : Outcome → Mem → Prop), (smallR st = true) → Wp d 72 19 ls (v0 :: .ref a :: st) M Q = (kO M a = 1 ∧ Ca d 72 19 ls 47 (.ref a :: [v0]) st M Q) := fun d ls v0 a st M Q h0 => w_virt1 (as := [v0]) (show ins 72 19 = some (.invokevirtual 192, 3) by decide +kernel) (show mRes (mC 72) 192 = some (3, 1, [(1, 47)]) by decide +kernel) (by decide +kernel) rfl (by decide +kernel) (by decide +kernel) h0
set_option maxRecDepth 100000 in
theorem r_72_22 : ∀ (d : Nat) (ls : Lc) (a b : Int32) (st : List Value) (M : Mem) (Q : Outcome → Mem → Prop), Wp d 72 22 ls (.int b :: .int a :: st) M Q = Br (b ≤ a) d 72 29 25 ls st M Q := fun d ls a b st M Q => w_icmp (show ins 72 22 = some (.if_icmp .ge 7, 3) by decide +kernel) rfl rfl
set_option maxRecDepth 100000 in
theorem r_72_25 : ∀ (d : Nat) (ls : Lc) (st : List Value) (M : Mem) (Q : Outcome → Mem → Prop), Wp d 72 25 ls st M Q = Wp d 72 26 ls (.int (I 1) :: st) M Q := fun d ls st M Q => w_iconst (show ins 72 25 = some (.iconst 1, 1) by decide +kernel)
set_option maxRecDepth 100000 in
theorem r_72_26 : ∀ (d : Nat) (ls : Lc) (st : List Value) (M : Mem) (Q : Outcome → Mem → Prop), Wp d 72 26 ls st M Q = Wp d 72 30 ls st M Q := fun d ls st M Q => w_goto (show ins 72 26 = some (.goto 4, 3) by decide +kernel) rfl
set_option maxRecDepth 100000 in
theorem r_72_29 : ∀ (d : Nat) (ls : Lc) (st : List Value) (M : Mem) (Q : Outcome → Mem → Prop), Wp d 72 29 ls st M Q = Wp d 72 30 ls (.int (I 0) :: st) M Q := fun d ls st M Q => w_iconst (show ins 72 29 = some (.iconst 0, 1) by decide +kernel)
set_option maxRecDepth 100000 in
theorem r_72_30 : ∀ (d : Nat) (ls : Lc) (v0 : Value)  (st : List Value) (M : Mem) (Q : Outcome → Mem → Prop), (smallR st = true) → Wp d 72 30 ls (v0 :: st) M Q = Ca d 72 30 ls 37 [v0] st M Q := fun d ls v0 st M Q h0 => w_stat (as := [v0]) (show ins 72 30 = some (.invokestatic 210, 3) by decide +kernel) (show mRes (mC 72) 210 = some (0, 1, [(0, 37)]) by decide +kernel) (by decide +kernel) (by decide +kernel) rfl h0
set_option maxRecDepth 100000 in
theorem r_72_33 : ∀ (d : Nat) (l1 l2 l3 l4 : Option Value) (v : Nat) (st : List Value) (M : Mem) (Q : Outcome → Mem → Prop), Wp d 72 33 [some (.ref v), l1, l2, l3, l4] st M Q = Wp d 72 34 [some (.ref v), l1, l2, l3, l4] (.ref v :: st) M Q := fun d l1 l2 l3 l4 v st M Q => wA (show ins 72 33 = some (.aload_n 0, 1) by decide +kernel) rfl
set_option maxRecDepth 100000 in
theorem r_72_34 : ∀ (d : Nat) (l0 l2 l3 l4 : Option Value) (v : Int32) (st : List Value) (M : Mem) (Q : Outcome → Mem → Prop), Wp d 72 34 [l0, some (.int v), l2, l3, l4] st M Q = Wp d 72 35 [l0, some (.int v), l2, l3, l4] (.int v :: st) M Q := fun d l0 l2 l3 l4 v st M Q => wA (show ins 72 34 = some (.iload_n 1, 1) by decide +kernel) rfl
set_option maxRecDepth 100000 in
theorem r_72_35 : ∀ (d : Nat) (ls : Lc) (v0 : Value) (a : Nat) (st : List Value) (M : Mem) (Q : Outcome → Mem → Prop), (smallR st = true) → Wp d 72 35 ls (v0 :: .ref a :: st) M Q = (kO M a = 1 ∧ Ca d 72 35 ls 56 (.ref a :: [v0]) st M Q) := fun d ls v0 a st M Q h0 => w_virt1 (as := [v0]) (show ins 72 35 = some (.invokevirtual 248, 3) by decide +kernel) (show mRes (mC 72) 248 = some (3, 1, [(1, 56)]) by decide +kernel) (by decide +kernel) rfl (by decide +kernel) (by decide +kernel) h0
set_option maxRecDepth 100000 in
theorem r_72_38 : ∀ (d : Nat) (l0 l1 l2 l3 l4 : Option Value) (v : Int32) (st : List Value) (M : Mem) (Q : Outcome → Mem → Prop), (lo l2 = false) → Wp d 72 38 [l0, l1, l2, l3, l4] (.int v :: st) M Q = Wp d 72 39 [l0, l1, l2, some (.int v), l4] st M Q := fun d l0 l1 l2 l3 l4 v st M Q hl => w_istore_n (show ins 72 38 = some (.istore_n 3, 1) by decide +kernel) (st1_S rfl rfl hl)
set_option maxRecDepth 100000 in
theorem r_72_39 : ∀ (d : Nat) (l0 l1 l3 l4 : Option Value) (v : Int32) (st : List Value) (M : Mem) (Q : Outcome → Mem → Prop), Wp d 72 39 [l0, l1, some (.int v), l3, l4] st M Q = Wp d 72 40 [l0, l1, some (.int v), l3, l4] (.int v :: st) M Q := fun d l0 l1 l3 l4 v st M Q => wA (show ins 72 39 = some (.iload_n 2, 1) by decide +kernel) rfl
set_option maxRecDepth 100000 in
theorem r_72_40 : ∀ (d : Nat) (l0 l1 l2 l4 : Option Value) (v : Int32) (st : List Value) (M : Mem) (Q : Outcome → Mem → Prop), Wp d 72 40 [l0, l1, l2, some (.int v), l4] st M Q = Wp d 72 41 [l0, l1, l2, some (.int v), l4] (.int v :: st) M Q := fun d l0 l1 l2 l4 v st M Q => wA (show ins 72 40 = some (.iload_n 3, 1) by decide +kernel) rfl
set_option maxRecDepth 100000 in
theorem r_72_41 : ∀ (d : Nat) (ls : Lc) (st : List Value) (M : Mem) (Q : Outcome → Mem → Prop), Wp d 72 41 ls st M Q = Wp d 72 44 ls (.int (I 128) :: st) M Q := fun d ls st M Q => w_sipush (show ins 72 41 = some (.sipush 128, 3) by decide +kernel) (by decide)
set_option maxRecDepth 100000 in
theorem r_72_44 : ∀ (d : Nat) (ls : Lc) (a b : Int) (st : List Value) (M : Mem) (Q : Outcome → Mem → Prop), Wp d 72 44 ls (.int (I b) :: .int (I a) :: st) M Q = Wp d 72 45 ls (.int (I (a * b)) :: st) M Q := fun d ls a b st M Q => w_imul (show ins 72 44 = some (.imul, 1) by decide +kernel)
set_option maxRecDepth 100000 in
theorem r_72_45 : ∀ (d : Nat) (ls : Lc) (a b : Int32) (st : List Value) (M : Mem) (Q : Outcome → Mem → Prop), Wp d 72 45 ls (.int b :: .int a :: st) M Q = Br (b ≤ a) d 72 72 48 ls st M Q := fun d ls a b st M Q => w_icmp (show ins 72 45 = some (.if_icmp .ge 27, 3) by decide +kernel) rfl rfl
set_option maxRecDepth 100000 in
theorem r_72_48 : ∀ (d : Nat) (l1 l2 l3 l4 : Option Value) (v : Nat) (st : List Value) (M : Mem) (Q : Outcome → Mem → Prop), Wp d 72 48 [some (.ref v), l1, l2, l3, l4] st M Q = Wp d 72 49 [some (.ref v), l1, l2, l3, l4] (.ref v :: st) M Q := fun d l1 l2 l3 l4 v st M Q => wA (show ins 72 48 = some (.aload_n 0, 1) by decide +kernel) rfl
set_option maxRecDepth 100000 in
theorem r_72_49 : ∀ (d : Nat) (ls : Lc) (a : Nat) (st : List Value) (M : Mem) (Q : Outcome → Mem → Prop), Wp d 72 49 ls (.ref a :: st) M Q = (fk 4 (kO M a) = true ∧ Wp d 72 52 ls (va_rf (mR M 4 a) :: st) M Q) := fun d ls a st M Q => w_getR (show ins 72 49 = some (.getfield 15, 3) by decide +kernel) (show fRes (mC 72) 15 = some (4, 1, false) by decide +kernel) (by decide +kernel)
set_option maxRecDepth 100000 in
theorem r_72_52 : ∀ (d : Nat) (l1 l2 l3 l4 : Option Value) (v : Nat) (st : List Value) (M : Mem) (Q : Outcome → Mem → Prop), Wp d 72 52 [some (.ref v), l1, l2, l3, l4] st M Q = Wp d 72 53 [some (.ref v), l1, l2, l3, l4] (.ref v :: st) M Q := fun d l1 l2 l3 l4 v st M Q => wA (show ins 72 52 = some (.aload_n 0, 1) by decide +kernel) rfl
set_option maxRecDepth 100000 in
theorem r_72_53 : ∀ (d : Nat) (ls : Lc) (a : Nat) (st : List Value) (M : Mem) (Q : Outcome → Mem → Prop), Wp d 72 53 ls (.ref a :: st) M Q = (fk 5 (kO M a) = true ∧ Wp d 72 56 ls (va_rf (mR M 5 a) :: st) M Q) := fun d ls a st M Q => w_getR (show ins 72 53 = some (.getfield 32, 3) by decide +kernel) (show fRes (mC 72) 32 = some (5, 1, false) by decide +kernel) (by decide +kernel)
set_option maxRecDepth 100000 in
theorem r_72_56 : ∀ (d : Nat) (l0 l1 l3 l4 : Option Value) (v : Int32) (st : List Value) (M : Mem) (Q : Outcome → Mem → Prop), Wp d 72 56 [l0, l1, some (.int v), l3, l4] st M Q = Wp d 72 57 [l0, l1, some (.int v), l3, l4] (.int v :: st) M Q := fun d l0 l1 l3 l4 v st M Q => wA (show ins 72 56 = some (.iload_n 2, 1) by decide +kernel) rfl
set_option maxRecDepth 100000 in
theorem r_72_57 : ∀ (d : Nat) (ls : Lc) (st : List Value) (M : Mem) (Q : Outcome → Mem → Prop), Wp d 72 57 ls st M Q = Wp d 72 60 ls (.int (I 128) :: st) M Q := fun d ls st M Q => w_sipush (show ins 72 57 = some (.sipush 128, 3) by decide +kernel) (by decide)
set_option maxRecDepth 100000 in
theorem r_72_60 : ∀ (d : Nat) (ls : Lc) (a b : Int) (st : List Value) (M : Mem) (Q : Outcome → Mem → Prop), (0 ≤ a) → (a < 2147483648) → (0 < b) → (b < 2147483648) → Wp d 72 60 ls (.int (I b) :: .int (I a) :: st) M Q = Wp d 72 61 ls (.int (I (a / b)) :: st) M Q := fun d ls a b st M Q h0 h1 h2 h3 => w_idiv (show ins 72 60 = some (.idiv, 1) by decide +kernel) h0 h1 h2 h3
set_option maxRecDepth 100000 in
theorem r_72_61 : ∀ (d : Nat) (ls : Lc) (a : Nat) (j : Int32) (st : List Value) (M : Mem) (Q : Outcome → Mem → Prop), Wp d 72 61 ls (.int j :: .ref a :: st) M Q = ((((kX M a).1 = 0 ∨ (kX M a).1 = 8) ∧ inB j (kX M a).2 = true) ∧ Wp d 72 62 ls (.int (mA M a j.toNatClampNeg) :: st) M Q) := fun d ls a j st M Q => w_iaload (show ins 72 61 = some (.iaload, 1) by decide +kernel)
set_option maxRecDepth 100000 in
theorem r_72_62 : ∀ (d : Nat) (ls : Lc) (a : Nat) (j : Int32) (st : List Value) (M : Mem) (Q : Outcome → Mem → Prop), Wp d 72 62 ls (.int j :: .ref a :: st) M Q = ((((kX M a).1 = 4 ∨ (kX M a).1 = 5 ∨ (kX M a).1 = 6 ∨ (kX M a).1 = 7) ∧ inB j (kX M a).2 = true) ∧ Wp d 72 63 ls (va_rf (mQ M a j.toNatClampNeg) :: st) M Q) := fun d ls a j st M Q => w_aaload (show ins 72 62 = some (.aaload, 1) by decide +kernel)
set_option maxRecDepth 100000 in
theorem r_72_63 : ∀ (d : Nat) (l0 l1 l3 l4 : Option Value) (v : Int32) (st : List Value) (M : Mem) (Q : Outcome → Mem → Prop), Wp d 72 63 [l0, l1, some (.int v), l3, l4] st M Q = Wp d 72 64 [l0, l1, some (.int v), l3, l4] (.int v :: st) M Q := fun d l0 l1 l3 l4 v st M Q => wA (show ins 72 63 = some (.iload_n 2, 1) by decide +kernel) rfl
set_option maxRecDepth 100000 in
theorem r_72_64 : ∀ (d : Nat) (ls : Lc) (st : List Value) (M : Mem) (Q : Outcome → Mem → Prop), Wp d 72 64 ls st M Q = Wp d 72 67 ls (.int (I 128) :: st) M Q := fun d ls st M Q => w_sipush (show ins 72 64 = some (.sipush 128, 3) by decide +kernel) (by decide)
set_option maxRecDepth 100000 in
theorem r_72_67 : ∀ (d : Nat) (ls : Lc) (a b : Int) (st : List Value) (M : Mem) (Q : Outcome → Mem → Prop), (0 ≤ a) → (a < 2147483648) → (0 < b) → (b < 2147483648) → Wp d 72 67 ls (.int (I b) :: .int (I a) :: st) M Q = Wp d 72 68 ls (.int (I (a % b)) :: st) M Q := fun d ls a b st M Q h0 h1 h2 h3 => w_irem (show ins 72 67 = some (.irem, 1) by decide +kernel) h0 h1 h2 h3
set_option maxRecDepth 100000 in
theorem r_72_68 : ∀ (d : Nat) (ls : Lc) (v0 v1 : Value)  (st : List Value) (M : Mem) (Q : Outcome → Mem → Prop), (smallR st = true) → Wp d 72 68 ls (v1 :: v0 :: st) M Q = Ca d 72 68 ls 36 [v0, v1] st M Q := fun d ls v0 v1 st M Q h0 => w_stat (as := [v0, v1]) (show ins 72 68 = some (.invokestatic 3, 3) by decide +kernel) (show mRes (mC 72) 3 = some (0, 1, [(0, 36)]) by decide +kernel) (by decide +kernel) (by decide +kernel) rfl h0
set_option maxRecDepth 100000 in
theorem r_72_71 : ∀ (d : Nat) (ls : Lc) (v : Int32) (M : Mem) (Q : Outcome → Mem → Prop), Wp d 72 71 ls [.int v] M Q = Q (.returned (some (.int v))) M := fun d ls v M Q => w_ireturn (show ins 72 71 = some (.ireturn, 1) by decide +kernel) (by decide +kernel)
set_option maxRecDepth 100000 in
theorem r_72_72 : ∀ (d : Nat) (l1 l2 l3 l4 : Option Value) (v : Nat) (st : List Value) (M : Mem) (Q : Outcome → Mem → Prop), Wp d 72 72 [some (.ref v), l1, l2, l3, l4] st M Q = Wp d 72 73 [some (.ref v), l1, l2, l3, l4] (.ref v :: st) M Q := fun d l1 l2 l3 l4 v st M Q => wA (show ins 72 72 = some (.aload_n 0, 1) by decide +kernel) rfl
set_option maxRecDepth 100000 in
theorem r_72_73 : ∀ (d : Nat) (l0 l2 l3 l4 : Option Value) (v : Int32) (st : List Value) (M : Mem) (Q : Outcome → Mem → Prop), Wp d 72 73 [l0, some (.int v), l2, l3, l4] st M Q = Wp d 72 74 [l0, some (.int v), l2, l3, l4] (.int v :: st) M Q := fun d l0 l2 l3 l4 v st M Q => wA (show ins 72 73 = some (.iload_n 1, 1) by decide +kernel) rfl
set_option maxRecDepth 100000 in
theorem r_72_74 : ∀ (d : Nat) (ls : Lc) (st : List Value) (M : Mem) (Q : Outcome → Mem → Prop), Wp d 72 74 ls st M Q = Wp d 72 75 ls (.int (I 3) :: st) M Q := fun d ls st M Q => w_iconst (show ins 72 74 = some (.iconst 3, 1) by decide +kernel)
set_option maxRecDepth 100000 in
theorem r_72_75 : ∀ (d : Nat) (ls : Lc) (v0 v1 : Value) (a : Nat) (st : List Value) (M : Mem) (Q : Outcome → Mem → Prop), (smallR st = true) → Wp d 72 75 ls (v1 :: v0 :: .ref a :: st) M Q = (kO M a = 1 ∧ Ca d 72 75 ls 57 (.ref a :: [v0, v1]) st M Q) := fun d ls v0 v1 a st M Q h0 => w_virt1 (as := [v0, v1]) (show ins 72 75 = some (.invokevirtual 282, 3) by decide +kernel) (show mRes (mC 72) 282 = some (3, 1, [(1, 57)]) by decide +kernel) (by decide +kernel) rfl (by decide +kernel) (by decide +kernel) h0
set_option maxRecDepth 100000 in
theorem r_72_78 : ∀ (d : Nat) (l0 l1 l2 l3 l4 : Option Value) (v : Int32) (st : List Value) (M : Mem) (Q : Outcome → Mem → Prop), (lo l3 = false) → Wp d 72 78 [l0, l1, l2, l3, l4] (.int v :: st) M Q = Wp d 72 80 [l0, l1, l2, l3, some (.int v)] st M Q := fun d l0 l1 l2 l3 l4 v st M Q hl => w_istore (show ins 72 78 = some (.istore 4, 2) by decide +kernel) (st1_S rfl rfl hl)
set_option maxRecDepth 100000 in
theorem r_72_80 : ∀ (d : Nat) (l1 l2 l3 l4 : Option Value) (v : Nat) (st : List Value) (M : Mem) (Q : Outcome → Mem → Prop), Wp d 72 80 [some (.ref v), l1, l2, l3, l4] st M Q = Wp d 72 81 [some (.ref v), l1, l2, l3, l4] (.ref v :: st) M Q := fun d l1 l2 l3 l4 v st M Q => wA (show ins 72 80 = some (.aload_n 0, 1) by decide +kernel) rfl
set_option maxRecDepth 100000 in
theorem r_72_81 : ∀ (d : Nat) (ls : Lc) (a : Nat) (st : List Value) (M : Mem) (Q : Outcome → Mem → Prop), Wp d 72 81 ls (.ref a :: st) M Q = (fk 9 (kO M a) = true ∧ Wp d 72 84 ls (va_rf (mR M 9 a) :: st) M Q) := fun d ls a st M Q => w_getR (show ins 72 81 = some (.getfield 58, 3) by decide +kernel) (show fRes (mC 72) 58 = some (9, 1, false) by decide +kernel) (by decide +kernel)
set_option maxRecDepth 100000 in
theorem r_72_84 : ∀ (d : Nat) (ls : Lc) (a : Nat) (st : List Value) (M : Mem) (Q : Outcome → Mem → Prop), Wp d 72 84 ls (.ref a :: st) M Q = (fk 14 (kO M a) = true ∧ Wp d 72 87 ls (va_rf (mR M 14 a) :: st) M Q) := fun d ls a st M Q => w_getR (show ins 72 84 = some (.getfield 155, 3) by decide +kernel) (show fRes (mC 72) 155 = some (14, 3, true) by decide +kernel) (by decide +kernel)
set_option maxRecDepth 100000 in
theorem r_72_87 : ∀ (d : Nat) (ls : Lc) (a : Nat) (st : List Value) (M : Mem) (Q : Outcome → Mem → Prop), Wp d 72 87 ls (.ref a :: st) M Q = (fk 35 (kO M a) = true ∧ Wp d 72 90 ls (va_rf (mR M 35 a) :: st) M Q) := fun d ls a st M Q => w_getR (show ins 72 87 = some (.getfield 159, 3) by decide +kernel) (show fRes (mC 72) 159 = some (35, 5, true) by decide +kernel) (by decide +kernel)
set_option maxRecDepth 100000 in
theorem r_72_90 : ∀ (d : Nat) (l1 l2 l3 l4 : Option Value) (v : Nat) (st : List Value) (M : Mem) (Q : Outcome → Mem → Prop), Wp d 72 90 [some (.ref v), l1, l2, l3, l4] st M Q = Wp d 72 91 [some (.ref v), l1, l2, l3, l4] (.ref v :: st) M Q := fun d l1 l2 l3 l4 v st M Q => wA (show ins 72 90 = some (.aload_n 0, 1) by decide +kernel) rfl
set_option maxRecDepth 100000 in
theorem r_72_91 : ∀ (d : Nat) (ls : Lc) (a : Nat) (st : List Value) (M : Mem) (Q : Outcome → Mem → Prop), Wp d 72 91 ls (.ref a :: st) M Q = (fk 9 (kO M a) = true ∧ Wp d 72 94 ls (va_rf (mR M 9 a) :: st) M Q) := fun d ls a st M Q => w_getR (show ins 72 91 = some (.getfield 58, 3) by decide +kernel) (show fRes (mC 72) 58 = some (9, 1, false) by decide +kernel) (by decide +kernel)
set_option maxRecDepth 100000 in
theorem r_72_94 : ∀ (d : Nat) (ls : Lc) (a : Nat) (st : List Value) (M : Mem) (Q : Outcome → Mem → Prop), Wp d 72 94 ls (.ref a :: st) M Q = (fk 14 (kO M a) = true ∧ Wp d 72 97 ls (va_rf (mR M 14 a) :: st) M Q) := fun d ls a st M Q => w_getR (show ins 72 94 = some (.getfield 155, 3) by decide +kernel) (show fRes (mC 72) 155 = some (14, 3, true) by decide +kernel) (by decide +kernel)
set_option maxRecDepth 100000 in
theorem r_72_97 : ∀ (d : Nat) (l1 l2 l3 l4 : Option Value) (v : Nat) (st : List Value) (M : Mem) (Q : Outcome → Mem → Prop), Wp d 72 97 [some (.ref v), l1, l2, l3, l4] st M Q = Wp d 72 98 [some (.ref v), l1, l2, l3, l4] (.ref v :: st) M Q := fun d l1 l2 l3 l4 v st M Q => wA (show ins 72 97 = some (.aload_n 0, 1) by decide +kernel) rfl
set_option maxRecDepth 100000 in
theorem r_72_98 : ∀ (d : Nat) (ls : Lc) (a : Nat) (st : List Value) (M : Mem) (Q : Outcome → Mem → Prop), Wp d 72 98 ls (.ref a :: st) M Q = (fk 9 (kO M a) = true ∧ Wp d 72 101 ls (va_rf (mR M 9 a) :: st) M Q) := fun d ls a st M Q => w_getR (show ins 72 98 = some (.getfield 58, 3) by decide +kernel) (show fRes (mC 72) 58 = some (9, 1, false) by decide +kernel) (by decide +kernel)
set_option maxRecDepth 100000 in
theorem r_72_101 : ∀ (d : Nat) (ls : Lc) (a : Nat) (st : List Value) (M : Mem) (Q : Outcome → Mem → Prop), Wp d 72 101 ls (.ref a :: st) M Q = (fk 16 (kO M a) = true ∧ Wp d 72 104 ls (.int (mF M 16 a) :: st) M Q) := fun d ls a st M Q => w_getI (show ins 72 101 = some (.getfield 164, 3) by decide +kernel) (show fRes (mC 72) 164 = some (16, 3, true) by decide +kernel) (by decide +kernel)
set_option maxRecDepth 100000 in
theorem r_72_104 : ∀ (d : Nat) (ls : Lc) (v0 : Value) (a : Nat) (st : List Value) (M : Mem) (Q : Outcome → Mem → Prop), (smallR st = true) → Wp d 72 104 ls (v0 :: .ref a :: st) M Q = (kO M a = 5 ∧ Ca d 72 104 ls 126 (.ref a :: [v0]) st M Q) := fun d ls v0 a st M Q h0 => w_virt1 (as := [v0]) (show ins 72 104 = some (.invokevirtual 167, 3) by decide +kernel) (show mRes (mC 72) 167 = some (3, 5, [(5, 126)]) by decide +kernel) (by decide +kernel) rfl (by decide +kernel) (by decide +kernel) h0
set_option maxRecDepth 100000 in
theorem r_72_107 : ∀ (d : Nat) (l0 l1 l3 l4 : Option Value) (v : Int32) (st : List Value) (M : Mem) (Q : Outcome → Mem → Prop), Wp d 72 107 [l0, l1, some (.int v), l3, l4] st M Q = Wp d 72 108 [l0, l1, some (.int v), l3, l4] (.int v :: st) M Q := fun d l0 l1 l3 l4 v st M Q => wA (show ins 72 107 = some (.iload_n 2, 1) by decide +kernel) rfl
set_option maxRecDepth 100000 in
theorem r_72_108 : ∀ (d : Nat) (ls : Lc) (a b : Int) (st : List Value) (M : Mem) (Q : Outcome → Mem → Prop), Wp d 72 108 ls (.int (I b) :: .int (I a) :: st) M Q = Wp d 72 109 ls (.int (I (a + b)) :: st) M Q := fun d ls a b st M Q => w_iadd (show ins 72 108 = some (.iadd, 1) by decide +kernel)
set_option maxRecDepth 100000 in
theorem r_72_109 : ∀ (d : Nat) (l0 l1 l2 l4 : Option Value) (v : Int32) (st : List Value) (M : Mem) (Q : Outcome → Mem → Prop), Wp d 72 109 [l0, l1, l2, some (.int v), l4] st M Q = Wp d 72 110 [l0, l1, l2, some (.int v), l4] (.int v :: st) M Q := fun d l0 l1 l2 l4 v st M Q => wA (show ins 72 109 = some (.iload_n 3, 1) by decide +kernel) rfl
set_option maxRecDepth 100000 in
theorem r_72_110 : ∀ (d : Nat) (ls : Lc) (st : List Value) (M : Mem) (Q : Outcome → Mem → Prop), Wp d 72 110 ls st M Q = Wp d 72 113 ls (.int (I 128) :: st) M Q := fun d ls st M Q => w_sipush (show ins 72 110 = some (.sipush 128, 3) by decide +kernel) (by decide)
set_option maxRecDepth 100000 in
theorem r_72_113 : ∀ (d : Nat) (ls : Lc) (a b : Int) (st : List Value) (M : Mem) (Q : Outcome → Mem → Prop), Wp d 72 113 ls (.int (I b) :: .int (I a) :: st) M Q = Wp d 72 114 ls (.int (I (a * b)) :: st) M Q := fun d ls a b st M Q => w_imul (show ins 72 113 = some (.imul, 1) by decide +kernel)
set_option maxRecDepth 100000 in
theorem r_72_114 : ∀ (d : Nat) (ls : Lc) (a b : Int) (st : List Value) (M : Mem) (Q : Outcome → Mem → Prop), Wp d 72 114 ls (.int (I b) :: .int (I a) :: st) M Q = Wp d 72 115 ls (.int (I (a - b)) :: st) M Q := fun d ls a b st M Q => w_isub (show ins 72 114 = some (.isub, 1) by decide +kernel)
set_option maxRecDepth 100000 in
theorem r_72_115 : ∀ (d : Nat) (ls : Lc) (v0 v1 : Value)  (st : List Value) (M : Mem) (Q : Outcome → Mem → Prop), (smallR st = true) → Wp d 72 115 ls (v1 :: v0 :: st) M Q = Ca d 72 115 ls 36 [v0, v1] st M Q := fun d ls v0 v1 st M Q h0 => w_stat (as := [v0, v1]) (show ins 72 115 = some (.invokestatic 3, 3) by decide +kernel) (show mRes (mC 72) 3 = some (0, 1, [(0, 36)]) by decide +kernel) (by decide +kernel) (by decide +kernel) rfl h0
set_option maxRecDepth 100000 in
theorem r_72_118 : ∀ (d : Nat) (ls : Lc) (v : Int32) (M : Mem) (Q : Outcome → Mem → Prop), Wp d 72 118 ls [.int v] M Q = Q (.returned (some (.int v))) M := fun d ls v M Q => w_ireturn (show ins 72 118 = some (.ireturn, 1) by decide +kernel) (by decide +kernel)
set_option maxRecDepth 100000 in
theorem W_72 : (type_of% r_72_0) ∧ (type_of% r_72_1) ∧ (type_of% r_72_4) ∧ (type_of% r_72_5) ∧ (type_of% r_72_6) ∧ (type_of% r_72_9) ∧ (type_of% r_72_12) ∧ (type_of% r_72_13) ∧ (type_of% r_72_16) ∧ (type_of% r_72_17) ∧ (type_of% r_72_18) ∧ (type_of% r_72_19) ∧ (type_of% r_72_22) ∧ (type_of% r_72_25) ∧ (type_of% r_72_26) ∧ (type_of% r_72_29) ∧ (type_of% r_72_30) ∧ (type_of% r_72_33) ∧ (type_of% r_72_34) ∧ (type_of% r_72_35) ∧ (type_of% r_72_38) ∧ (type_of% r_72_39) ∧ (type_of% r_72_40) ∧ (type_of% r_72_41) ∧ (type_of% r_72_44) ∧ (type_of% r_72_45) ∧ (type_of% r_72_48) ∧ (type_of% r_72_49) ∧ (type_of% r_72_52) ∧ (type_of% r_72_53) ∧ (type_of% r_72_56) ∧ (type_of% r_72_57) ∧ (type_of% r_72_60) ∧ (type_of% r_72_61) ∧ (type_of% r_72_62) ∧ (type_of% r_72_63) ∧ (type_of% r_72_64) ∧ (type_of% r_72_67) ∧ (type_of% r_72_68) ∧ (type_of% r_72_71) ∧ (type_of% r_72_72) ∧ (type_of% r_72_73) ∧ (type_of% r_72_74) ∧ (type_of% r_72_75) ∧ (type_of% r_72_78) ∧ (type_of% r_72_80) ∧ (type_of% r_72_81) ∧ (type_of% r_72_84) ∧ (type_of% r_72_87) ∧ (type_of% r_72_90) ∧ (type_of% r_72_91) ∧ (type_of% r_72_94) ∧ (type_of% r_72_97) ∧ (type_of% r_72_98) ∧ (type_of% r_72_101) ∧ (type_of% r_72_104) ∧ (type_of% r_72_107) ∧ (type_of% r_72_108) ∧ (type_of% r_72_109) ∧ (type_of% r_72_110) ∧ (type_of% r_72_113) ∧ (type_of% r_72_114) ∧ (type_of% r_72_115) ∧ (type_of% r_72_118) := ⟨r_72_0, r_72_1, r_72_4, r_72_5, r_72_6, r_72_9, r_72_12, r_72_13, r_72_16, r_72_17, r_72_18, r_72_19, r_72_22, r_72_25, r_72_26, r_72_29, r_72_30, r_72_33, r_72_34, r_72_35, r_72_38, r_72_39, r_72_40, r_72_41, r_72_44, r_72_45, r_72_48, r_72_49, r_72_52, r_72_53, r_72_56, r_72_57, r_72_60, r_72_61, r_72_62, r_72_63, r_72_64, r_72_67, r_72_68, r_72_71, r_72_72, r_72_73, r_72_74, r_72_75, r_72_78, r_72_80, r_72_81, r_72_84, r_72_87, r_72_90, r_72_91, r_72_94, r_72_97, r_72_98, r_72_101, r_72_104, r_72_107, r_72_108, r_72_109, r_72_110, r_72_113, r_72_114, r_72_115, r_72_118⟩
set_option maxRecDepth 100000 in
theorem ca_72 {d y pc : Nat} {ls : Lc} {a : Nat} {z0 : Int32} {z1 : Int32} {r : List Value} {M : Mem} {Q : Outcome → Mem → Prop} (hd : 0 < d) (hw : Wp (d - 1) 72 0 [some (.ref a), some (.int z0), some (.int z1), none, none] [] M (Cq d y pc ls r Q)) : Ca d y pc ls 72 [.ref a, .int z0, .int z1] r M Q := ca_of (mq_get (by decide)) (by rfl) hd hw
/-! 73 PackedTree.look(II)I; loop heads [] -/
set_option maxRecDepth 100000 in
theorem r_73_0 : ∀ (d : Nat) (l1 l2 : Option Value) (v : Nat) (st : List Value) (M : Mem) (Q : Outcome → Mem → Prop), Wp d 73 0 [some (.ref v), l1, l2] st M Q = Wp d 73 1 [some (.ref v), l1, l2] (.ref v :: st) M Q := fun d l1 l2 v st M Q => wA (show ins 73 0 = some (.aload_n 0, 1) by decide +kernel) rfl
set_option maxRecDepth 100000 in
theorem r_73_1 : ∀ (d : Nat) (ls : Lc) (a : Nat) (st : List Value) (M : Mem) (Q : Outcome → Mem → Prop), (smallR st = true) → Wp d 73 1 ls (.ref a :: st) M Q = (kO M a = 1 ∧ Ca d 73 1 ls 30 (.ref a :: []) st M Q) := fun d ls a st M Q h0 => w_virt1 (as := []) (show ins 73 1 = some (.invokevirtual 204, 3) by decide +kernel) (show mRes (mC 73) 204 = some (3, 1, [(1, 30)]) by decide +kernel) (by decide +kernel) rfl (by decide +kernel) (by decide +kernel) h0
set_option maxRecDepth 100000 in
theorem r_73_4 : ∀ (d : Nat) (l1 l2 : Option Value) (v : Nat) (st : List Value) (M : Mem) (Q : Outcome → Mem → Prop), Wp d 73 4 [some (.ref v), l1, l2] st M Q = Wp d 73 5 [some (.ref v), l1, l2] (.ref v :: st) M Q := fun d l1 l2 v st M Q => wA (show ins 73 4 = some (.aload_n 0, 1) by decide +kernel) rfl
set_option maxRecDepth 100000 in
theorem r_73_5 : ∀ (d : Nat) (l0 l2 : Option Value) (v : Int32) (st : List Value) (M : Mem) (Q : Outcome → Mem → Prop), Wp d 73 5 [l0, some (.int v), l2] st M Q = Wp d 73 6 [l0, some (.int v), l2] (.int v :: st) M Q := fun d l0 l2 v st M Q => wA (show ins 73 5 = some (.iload_n 1, 1) by decide +kernel) rfl
set_option maxRecDepth 100000 in
theorem r_73_6 : ∀ (d : Nat) (ls : Lc) (v0 : Value) (a : Nat) (st : List Value) (M : Mem) (Q : Outcome → Mem → Prop), (smallR st = true) → Wp d 73 6 ls (v0 :: .ref a :: st) M Q = (kO M a = 1 ∧ Ca d 73 6 ls 31 (.ref a :: [v0]) st M Q) := fun d ls v0 a st M Q h0 => w_virt1 (as := [v0]) (show ins 73 6 = some (.invokevirtual 207, 3) by decide +kernel) (show mRes (mC 73) 207 = some (3, 1, [(1, 31)]) by decide +kernel) (by decide +kernel) rfl (by decide +kernel) (by decide +kernel) h0
set_option maxRecDepth 100000 in
theorem r_73_9 : ∀ (d : Nat) (ls : Lc) (v0 : Value)  (st : List Value) (M : Mem) (Q : Outcome → Mem → Prop), (smallR st = true) → Wp d 73 9 ls (v0 :: st) M Q = Ca d 73 9 ls 37 [v0] st M Q := fun d ls v0 st M Q h0 => w_stat (as := [v0]) (show ins 73 9 = some (.invokestatic 210, 3) by decide +kernel) (show mRes (mC 73) 210 = some (0, 1, [(0, 37)]) by decide +kernel) (by decide +kernel) (by decide +kernel) rfl h0
set_option maxRecDepth 100000 in
theorem r_73_12 : ∀ (d : Nat) (l1 l2 : Option Value) (v : Nat) (st : List Value) (M : Mem) (Q : Outcome → Mem → Prop), Wp d 73 12 [some (.ref v), l1, l2] st M Q = Wp d 73 13 [some (.ref v), l1, l2] (.ref v :: st) M Q := fun d l1 l2 v st M Q => wA (show ins 73 12 = some (.aload_n 0, 1) by decide +kernel) rfl
set_option maxRecDepth 100000 in
theorem r_73_13 : ∀ (d : Nat) (l0 l2 : Option Value) (v : Int32) (st : List Value) (M : Mem) (Q : Outcome → Mem → Prop), Wp d 73 13 [l0, some (.int v), l2] st M Q = Wp d 73 14 [l0, some (.int v), l2] (.int v :: st) M Q := fun d l0 l2 v st M Q => wA (show ins 73 13 = some (.iload_n 1, 1) by decide +kernel) rfl
set_option maxRecDepth 100000 in
theorem r_73_14 : ∀ (d : Nat) (l0 l1 : Option Value) (v : Int32) (st : List Value) (M : Mem) (Q : Outcome → Mem → Prop), Wp d 73 14 [l0, l1, some (.int v)] st M Q = Wp d 73 15 [l0, l1, some (.int v)] (.int v :: st) M Q := fun d l0 l1 v st M Q => wA (show ins 73 14 = some (.iload_n 2, 1) by decide +kernel) rfl
set_option maxRecDepth 100000 in
theorem r_73_15 : ∀ (d : Nat) (ls : Lc) (v0 v1 : Value) (a : Nat) (st : List Value) (M : Mem) (Q : Outcome → Mem → Prop), (smallR st = true) → Wp d 73 15 ls (v1 :: v0 :: .ref a :: st) M Q = (kO M a = 1 ∧ Ca d 73 15 ls 41 (.ref a :: [v0, v1]) st M Q) := fun d ls v0 v1 a st M Q h0 => w_virt1 (as := [v0, v1]) (show ins 73 15 = some (.invokevirtual 223, 3) by decide +kernel) (show mRes (mC 73) 223 = some (3, 1, [(1, 41)]) by decide +kernel) (by decide +kernel) rfl (by decide +kernel) (by decide +kernel) h0
set_option maxRecDepth 100000 in
theorem r_73_18 : ∀ (d : Nat) (ls : Lc) (v : Int32) (M : Mem) (Q : Outcome → Mem → Prop), Wp d 73 18 ls [.int v] M Q = Q (.returned (some (.int v))) M := fun d ls v M Q => w_ireturn (show ins 73 18 = some (.ireturn, 1) by decide +kernel) (by decide +kernel)
set_option maxRecDepth 100000 in
theorem W_73 : (type_of% r_73_0) ∧ (type_of% r_73_1) ∧ (type_of% r_73_4) ∧ (type_of% r_73_5) ∧ (type_of% r_73_6) ∧ (type_of% r_73_9) ∧ (type_of% r_73_12) ∧ (type_of% r_73_13) ∧ (type_of% r_73_14) ∧ (type_of% r_73_15) ∧ (type_of% r_73_18) := ⟨r_73_0, r_73_1, r_73_4, r_73_5, r_73_6, r_73_9, r_73_12, r_73_13, r_73_14, r_73_15, r_73_18⟩
set_option maxRecDepth 100000 in
theorem ca_73 {d y pc : Nat} {ls : Lc} {a : Nat} {z0 : Int32} {z1 : Int32} {r : List Value} {M : Mem} {Q : Outcome → Mem → Prop} (hd : 0 < d) (hw : Wp (d - 1) 73 0 [some (.ref a), some (.int z0), some (.int z1)] [] M (Cq d y pc ls r Q)) : Ca d y pc ls 73 [.ref a, .int z0, .int z1] r M Q := ca_of (mq_get (by decide)) (by rfl) hd hw
/-! 74 PackedTree.name(II)I; loop heads [68] -/
set_option maxRecDepth 100000 in
theorem r_74_0 : ∀ (d : Nat) (l1 l2 l3 l4 l5 l6 : Option Value) (v : Nat) (st : List Value) (M : Mem) (Q : Outcome → Mem → Prop), Wp d 74 0 [some (.ref v), l1, l2, l3, l4, l5, l6] st M Q = Wp d 74 1 [some (.ref v), l1, l2, l3, l4, l5, l6] (.ref v :: st) M Q := fun d l1 l2 l3 l4 l5 l6 v st M Q => wA (show ins 74 0 = some (.aload_n 0, 1) by decide +kernel) rfl
set_option maxRecDepth 100000 in
theorem r_74_1 : ∀ (d : Nat) (ls : Lc) (a : Nat) (st : List Value) (M : Mem) (Q : Outcome → Mem → Prop), (smallR st = true) → Wp d 74 1 ls (.ref a :: st) M Q = (kO M a = 1 ∧ Ca d 74 1 ls 30 (.ref a :: []) st M Q) := fun d ls a st M Q h0 => w_virt1 (as := []) (show ins 74 1 = some (.invokevirtual 204, 3) by decide +kernel) (show mRes (mC 74) 204 = some (3, 1, [(1, 30)]) by decide +kernel) (by decide +kernel) rfl (by decide +kernel) (by decide +kernel) h0
set_option maxRecDepth 100000 in
theorem r_74_4 : ∀ (d : Nat) (l1 l2 l3 l4 l5 l6 : Option Value) (v : Nat) (st : List Value) (M : Mem) (Q : Outcome → Mem → Prop), Wp d 74 4 [some (.ref v), l1, l2, l3, l4, l5, l6] st M Q = Wp d 74 5 [some (.ref v), l1, l2, l3, l4, l5, l6] (.ref v :: st) M Q := fun d l1 l2 l3 l4 l5 l6 v st M Q => wA (show ins 74 4 = some (.aload_n 0, 1) by decide +kernel) rfl
set_option maxRecDepth 100000 in
theorem r_74_5 : ∀ (d : Nat) (l0 l2 l3 l4 l5 l6 : Option Value) (v : Int32) (st : List Value) (M : Mem) (Q : Outcome → Mem → Prop), Wp d 74 5 [l0, some (.int v), l2, l3, l4, l5, l6] st M Q = Wp d 74 6 [l0, some (.int v), l2, l3, l4, l5, l6] (.int v :: st) M Q := fun d l0 l2 l3 l4 l5 l6 v st M Q => wA (show ins 74 5 = some (.iload_n 1, 1) by decide +kernel) rfl
set_option maxRecDepth 100000 in
theorem r_74_6 : ∀ (d : Nat) (ls : Lc) (v0 : Value) (a : Nat) (st : List Value) (M : Mem) (Q : Outcome → Mem → Prop), (smallR st = true) → Wp d 74 6 ls (v0 :: .ref a :: st) M Q = (kO M a = 1 ∧ Ca d 74 6 ls 31 (.ref a :: [v0]) st M Q) := fun d ls v0 a st M Q h0 => w_virt1 (as := [v0]) (show ins 74 6 = some (.invokevirtual 207, 3) by decide +kernel) (show mRes (mC 74) 207 = some (3, 1, [(1, 31)]) by decide +kernel) (by decide +kernel) rfl (by decide +kernel) (by decide +kernel) h0
set_option maxRecDepth 100000 in
theorem r_74_9 : ∀ (d : Nat) (ls : Lc) (a : Int32) (st : List Value) (M : Mem) (Q : Outcome → Mem → Prop), Wp d 74 9 ls (.int a :: st) M Q = Br (a = I 0) d 74 29 12 ls st M Q := fun d ls a st M Q => w_if (show ins 74 9 = some (.ifCond .eq 20, 3) by decide +kernel) rfl rfl
set_option maxRecDepth 100000 in
theorem r_74_12 : ∀ (d : Nat) (l0 l1 l3 l4 l5 l6 : Option Value) (v : Int32) (st : List Value) (M : Mem) (Q : Outcome → Mem → Prop), Wp d 74 12 [l0, l1, some (.int v), l3, l4, l5, l6] st M Q = Wp d 74 13 [l0, l1, some (.int v), l3, l4, l5, l6] (.int v :: st) M Q := fun d l0 l1 l3 l4 l5 l6 v st M Q => wA (show ins 74 12 = some (.iload_n 2, 1) by decide +kernel) rfl
set_option maxRecDepth 100000 in
theorem r_74_13 : ∀ (d : Nat) (ls : Lc) (a : Int32) (st : List Value) (M : Mem) (Q : Outcome → Mem → Prop), Wp d 74 13 ls (.int a :: st) M Q = Br (a < I 0) d 74 29 16 ls st M Q := fun d ls a st M Q => w_if (show ins 74 13 = some (.ifCond .lt 16, 3) by decide +kernel) rfl rfl
set_option maxRecDepth 100000 in
theorem r_74_16 : ∀ (d : Nat) (l0 l1 l3 l4 l5 l6 : Option Value) (v : Int32) (st : List Value) (M : Mem) (Q : Outcome → Mem → Prop), Wp d 74 16 [l0, l1, some (.int v), l3, l4, l5, l6] st M Q = Wp d 74 17 [l0, l1, some (.int v), l3, l4, l5, l6] (.int v :: st) M Q := fun d l0 l1 l3 l4 l5 l6 v st M Q => wA (show ins 74 16 = some (.iload_n 2, 1) by decide +kernel) rfl
set_option maxRecDepth 100000 in
theorem r_74_17 : ∀ (d : Nat) (l1 l2 l3 l4 l5 l6 : Option Value) (v : Nat) (st : List Value) (M : Mem) (Q : Outcome → Mem → Prop), Wp d 74 17 [some (.ref v), l1, l2, l3, l4, l5, l6] st M Q = Wp d 74 18 [some (.ref v), l1, l2, l3, l4, l5, l6] (.ref v :: st) M Q := fun d l1 l2 l3 l4 l5 l6 v st M Q => wA (show ins 74 17 = some (.aload_n 0, 1) by decide +kernel) rfl
set_option maxRecDepth 100000 in
theorem r_74_18 : ∀ (d : Nat) (l0 l2 l3 l4 l5 l6 : Option Value) (v : Int32) (st : List Value) (M : Mem) (Q : Outcome → Mem → Prop), Wp d 74 18 [l0, some (.int v), l2, l3, l4, l5, l6] st M Q = Wp d 74 19 [l0, some (.int v), l2, l3, l4, l5, l6] (.int v :: st) M Q := fun d l0 l2 l3 l4 l5 l6 v st M Q => wA (show ins 74 18 = some (.iload_n 1, 1) by decide +kernel) rfl
set_option maxRecDepth 100000 in
theorem r_74_19 : ∀ (d : Nat) (ls : Lc) (v0 : Value) (a : Nat) (st : List Value) (M : Mem) (Q : Outcome → Mem → Prop), (smallR st = true) → Wp d 74 19 ls (v0 :: .ref a :: st) M Q = (kO M a = 1 ∧ Ca d 74 19 ls 47 (.ref a :: [v0]) st M Q) := fun d ls v0 a st M Q h0 => w_virt1 (as := [v0]) (show ins 74 19 = some (.invokevirtual 192, 3) by decide +kernel) (show mRes (mC 74) 192 = some (3, 1, [(1, 47)]) by decide +kernel) (by decide +kernel) rfl (by decide +kernel) (by decide +kernel) h0
set_option maxRecDepth 100000 in
theorem r_74_22 : ∀ (d : Nat) (ls : Lc) (a b : Int32) (st : List Value) (M : Mem) (Q : Outcome → Mem → Prop), Wp d 74 22 ls (.int b :: .int a :: st) M Q = Br (b ≤ a) d 74 29 25 ls st M Q := fun d ls a b st M Q => w_icmp (show ins 74 22 = some (.if_icmp .ge 7, 3) by decide +kernel) rfl rfl
set_option maxRecDepth 100000 in
theorem r_74_25 : ∀ (d : Nat) (ls : Lc) (st : List Value) (M : Mem) (Q : Outcome → Mem → Prop), Wp d 74 25 ls st M Q = Wp d 74 26 ls (.int (I 1) :: st) M Q := fun d ls st M Q => w_iconst (show ins 74 25 = some (.iconst 1, 1) by decide +kernel)
set_option maxRecDepth 100000 in
theorem r_74_26 : ∀ (d : Nat) (ls : Lc) (st : List Value) (M : Mem) (Q : Outcome → Mem → Prop), Wp d 74 26 ls st M Q = Wp d 74 30 ls st M Q := fun d ls st M Q => w_goto (show ins 74 26 = some (.goto 4, 3) by decide +kernel) rfl
set_option maxRecDepth 100000 in
theorem r_74_29 : ∀ (d : Nat) (ls : Lc) (st : List Value) (M : Mem) (Q : Outcome → Mem → Prop), Wp d 74 29 ls st M Q = Wp d 74 30 ls (.int (I 0) :: st) M Q := fun d ls st M Q => w_iconst (show ins 74 29 = some (.iconst 0, 1) by decide +kernel)
set_option maxRecDepth 100000 in
theorem r_74_30 : ∀ (d : Nat) (ls : Lc) (v0 : Value)  (st : List Value) (M : Mem) (Q : Outcome → Mem → Prop), (smallR st = true) → Wp d 74 30 ls (v0 :: st) M Q = Ca d 74 30 ls 37 [v0] st M Q := fun d ls v0 st M Q h0 => w_stat (as := [v0]) (show ins 74 30 = some (.invokestatic 210, 3) by decide +kernel) (show mRes (mC 74) 210 = some (0, 1, [(0, 37)]) by decide +kernel) (by decide +kernel) (by decide +kernel) rfl h0
set_option maxRecDepth 100000 in
theorem r_74_33 : ∀ (d : Nat) (l1 l2 l3 l4 l5 l6 : Option Value) (v : Nat) (st : List Value) (M : Mem) (Q : Outcome → Mem → Prop), Wp d 74 33 [some (.ref v), l1, l2, l3, l4, l5, l6] st M Q = Wp d 74 34 [some (.ref v), l1, l2, l3, l4, l5, l6] (.ref v :: st) M Q := fun d l1 l2 l3 l4 l5 l6 v st M Q => wA (show ins 74 33 = some (.aload_n 0, 1) by decide +kernel) rfl
set_option maxRecDepth 100000 in
theorem r_74_34 : ∀ (d : Nat) (ls : Lc) (a : Nat) (st : List Value) (M : Mem) (Q : Outcome → Mem → Prop), Wp d 74 34 ls (.ref a :: st) M Q = (fk 9 (kO M a) = true ∧ Wp d 74 37 ls (va_rf (mR M 9 a) :: st) M Q) := fun d ls a st M Q => w_getR (show ins 74 34 = some (.getfield 58, 3) by decide +kernel) (show fRes (mC 74) 58 = some (9, 1, false) by decide +kernel) (by decide +kernel)
set_option maxRecDepth 100000 in
theorem r_74_37 : ∀ (d : Nat) (l0 l2 l3 l4 l5 l6 : Option Value) (v : Int32) (st : List Value) (M : Mem) (Q : Outcome → Mem → Prop), Wp d 74 37 [l0, some (.int v), l2, l3, l4, l5, l6] st M Q = Wp d 74 38 [l0, some (.int v), l2, l3, l4, l5, l6] (.int v :: st) M Q := fun d l0 l2 l3 l4 l5 l6 v st M Q => wA (show ins 74 37 = some (.iload_n 1, 1) by decide +kernel) rfl
set_option maxRecDepth 100000 in
theorem r_74_38 : ∀ (d : Nat) (ls : Lc) (st : List Value) (M : Mem) (Q : Outcome → Mem → Prop), Wp d 74 38 ls st M Q = Wp d 74 39 ls (.int (I 1) :: st) M Q := fun d ls st M Q => w_iconst (show ins 74 38 = some (.iconst 1, 1) by decide +kernel)
set_option maxRecDepth 100000 in
theorem r_74_39 : ∀ (d : Nat) (ls : Lc) (st : List Value) (M : Mem) (Q : Outcome → Mem → Prop), Wp d 74 39 ls st M Q = Wp d 74 40 ls (.int (I 0) :: st) M Q := fun d ls st M Q => w_iconst (show ins 74 39 = some (.iconst 0, 1) by decide +kernel)
set_option maxRecDepth 100000 in
theorem r_74_40 : ∀ (d : Nat) (ls : Lc) (v0 v1 v2 : Value)  (st : List Value) (M : Mem) (Q : Outcome → Mem → Prop), (smallR st = true) → Wp d 74 40 ls (v2 :: v1 :: v0 :: st) M Q = Ca d 74 40 ls 24 [v0, v1, v2] st M Q := fun d ls v0 v1 v2 st M Q h0 => w_stat (as := [v0, v1, v2]) (show ins 74 40 = some (.invokestatic 82, 3) by decide +kernel) (show mRes (mC 74) 82 = some (0, 1, [(0, 24)]) by decide +kernel) (by decide +kernel) (by decide +kernel) rfl h0
set_option maxRecDepth 100000 in
theorem r_74_43 : ∀ (d : Nat) (ls : Lc) (v0 : Value) (a : Nat) (st : List Value) (M : Mem) (Q : Outcome → Mem → Prop), (smallR st = true) → Wp d 74 43 ls (v0 :: .ref a :: st) M Q = (kO M a = 3 ∧ Ca d 74 43 ls 98 (.ref a :: [v0]) st M Q) := fun d ls v0 a st M Q h0 => w_virt1 (as := [v0]) (show ins 74 43 = some (.invokevirtual 151, 3) by decide +kernel) (show mRes (mC 74) 151 = some (3, 3, [(3, 98)]) by decide +kernel) (by decide +kernel) rfl (by decide +kernel) (by decide +kernel) h0
set_option maxRecDepth 100000 in
theorem r_74_46 : ∀ (d : Nat) (l0 l1 l2 l3 l4 l5 l6 : Option Value) (v : Int32) (st : List Value) (M : Mem) (Q : Outcome → Mem → Prop), (lo l2 = false) → Wp d 74 46 [l0, l1, l2, l3, l4, l5, l6] (.int v :: st) M Q = Wp d 74 47 [l0, l1, l2, some (.int v), l4, l5, l6] st M Q := fun d l0 l1 l2 l3 l4 l5 l6 v st M Q hl => w_istore_n (show ins 74 46 = some (.istore_n 3, 1) by decide +kernel) (st1_S rfl rfl hl)
set_option maxRecDepth 100000 in
theorem r_74_47 : ∀ (d : Nat) (l1 l2 l3 l4 l5 l6 : Option Value) (v : Nat) (st : List Value) (M : Mem) (Q : Outcome → Mem → Prop), Wp d 74 47 [some (.ref v), l1, l2, l3, l4, l5, l6] st M Q = Wp d 74 48 [some (.ref v), l1, l2, l3, l4, l5, l6] (.ref v :: st) M Q := fun d l1 l2 l3 l4 l5 l6 v st M Q => wA (show ins 74 47 = some (.aload_n 0, 1) by decide +kernel) rfl
set_option maxRecDepth 100000 in
theorem r_74_48 : ∀ (d : Nat) (ls : Lc) (a : Nat) (st : List Value) (M : Mem) (Q : Outcome → Mem → Prop), Wp d 74 48 ls (.ref a :: st) M Q = (fk 9 (kO M a) = true ∧ Wp d 74 51 ls (va_rf (mR M 9 a) :: st) M Q) := fun d ls a st M Q => w_getR (show ins 74 48 = some (.getfield 58, 3) by decide +kernel) (show fRes (mC 74) 58 = some (9, 1, false) by decide +kernel) (by decide +kernel)
set_option maxRecDepth 100000 in
theorem r_74_51 : ∀ (d : Nat) (ls : Lc) (a : Nat) (st : List Value) (M : Mem) (Q : Outcome → Mem → Prop), Wp d 74 51 ls (.ref a :: st) M Q = (fk 14 (kO M a) = true ∧ Wp d 74 54 ls (va_rf (mR M 14 a) :: st) M Q) := fun d ls a st M Q => w_getR (show ins 74 51 = some (.getfield 155, 3) by decide +kernel) (show fRes (mC 74) 155 = some (14, 3, true) by decide +kernel) (by decide +kernel)
set_option maxRecDepth 100000 in
theorem r_74_54 : ∀ (d : Nat) (l0 l1 l2 l3 l4 l5 l6 : Option Value) (v : Nat) (st : List Value) (M : Mem) (Q : Outcome → Mem → Prop), (lo l3 = false) → Wp d 74 54 [l0, l1, l2, l3, l4, l5, l6] (.ref v :: st) M Q = Wp d 74 56 [l0, l1, l2, l3, some (.ref v), l5, l6] st M Q := fun d l0 l1 l2 l3 l4 l5 l6 v st M Q hl => w_astore (show ins 74 54 = some (.astore 4, 2) by decide +kernel) (st1_S rfl rfl hl)
set_option maxRecDepth 100000 in
theorem r_74_54_1 : ∀ (d : Nat) (l0 l1 l2 l3 l4 l5 l6 : Option Value) (st : List Value) (M : Mem) (Q : Outcome → Mem → Prop), (lo l3 = false) → Wp d 74 54 [l0, l1, l2, l3, l4, l5, l6] (.null :: st) M Q = Wp d 74 56 [l0, l1, l2, l3, some (.null), l5, l6] st M Q := fun d l0 l1 l2 l3 l4 l5 l6 st M Q hl => w_astoreN (show ins 74 54 = some (.astore 4, 2) by decide +kernel) (st1_S rfl rfl hl)
set_option maxRecDepth 100000 in
theorem r_74_56 : ∀ (d : Nat) (l1 l2 l3 l4 l5 l6 : Option Value) (v : Nat) (st : List Value) (M : Mem) (Q : Outcome → Mem → Prop), Wp d 74 56 [some (.ref v), l1, l2, l3, l4, l5, l6] st M Q = Wp d 74 57 [some (.ref v), l1, l2, l3, l4, l5, l6] (.ref v :: st) M Q := fun d l1 l2 l3 l4 l5 l6 v st M Q => wA (show ins 74 56 = some (.aload_n 0, 1) by decide +kernel) rfl
set_option maxRecDepth 100000 in
theorem r_74_57 : ∀ (d : Nat) (ls : Lc) (a : Nat) (st : List Value) (M : Mem) (Q : Outcome → Mem → Prop), Wp d 74 57 ls (.ref a :: st) M Q = (fk 9 (kO M a) = true ∧ Wp d 74 60 ls (va_rf (mR M 9 a) :: st) M Q) := fun d ls a st M Q => w_getR (show ins 74 57 = some (.getfield 58, 3) by decide +kernel) (show fRes (mC 74) 58 = some (9, 1, false) by decide +kernel) (by decide +kernel)
set_option maxRecDepth 100000 in
theorem r_74_60 : ∀ (d : Nat) (ls : Lc) (a : Nat) (st : List Value) (M : Mem) (Q : Outcome → Mem → Prop), Wp d 74 60 ls (.ref a :: st) M Q = (fk 16 (kO M a) = true ∧ Wp d 74 63 ls (.int (mF M 16 a) :: st) M Q) := fun d ls a st M Q => w_getI (show ins 74 60 = some (.getfield 164, 3) by decide +kernel) (show fRes (mC 74) 164 = some (16, 3, true) by decide +kernel) (by decide +kernel)
set_option maxRecDepth 100000 in
theorem r_74_63 : ∀ (d : Nat) (l0 l1 l2 l3 l4 l5 l6 : Option Value) (v : Int32) (st : List Value) (M : Mem) (Q : Outcome → Mem → Prop), (lo l4 = false) → Wp d 74 63 [l0, l1, l2, l3, l4, l5, l6] (.int v :: st) M Q = Wp d 74 65 [l0, l1, l2, l3, l4, some (.int v), l6] st M Q := fun d l0 l1 l2 l3 l4 l5 l6 v st M Q hl => w_istore (show ins 74 63 = some (.istore 5, 2) by decide +kernel) (st1_S rfl rfl hl)
set_option maxRecDepth 100000 in
theorem r_74_65 : ∀ (d : Nat) (l0 l1 l3 l4 l5 l6 : Option Value) (v : Int32) (st : List Value) (M : Mem) (Q : Outcome → Mem → Prop), Wp d 74 65 [l0, l1, some (.int v), l3, l4, l5, l6] st M Q = Wp d 74 66 [l0, l1, some (.int v), l3, l4, l5, l6] (.int v :: st) M Q := fun d l0 l1 l3 l4 l5 l6 v st M Q => wA (show ins 74 65 = some (.iload_n 2, 1) by decide +kernel) rfl
set_option maxRecDepth 100000 in
theorem r_74_66 : ∀ (d : Nat) (l0 l1 l2 l3 l4 l5 l6 : Option Value) (v : Int32) (st : List Value) (M : Mem) (Q : Outcome → Mem → Prop), (lo l5 = false) → Wp d 74 66 [l0, l1, l2, l3, l4, l5, l6] (.int v :: st) M Q = Wp d 74 68 [l0, l1, l2, l3, l4, l5, some (.int v)] st M Q := fun d l0 l1 l2 l3 l4 l5 l6 v st M Q hl => w_istore (show ins 74 66 = some (.istore 6, 2) by decide +kernel) (st1_S rfl rfl hl)
set_option maxRecDepth 100000 in
theorem r_74_68 : ∀ (d : Nat) (l0 l1 l2 l3 l4 l6 : Option Value) (v : Int32) (st : List Value) (M : Mem) (Q : Outcome → Mem → Prop), Wp d 74 68 [l0, l1, l2, l3, l4, some (.int v), l6] st M Q = Wp d 74 70 [l0, l1, l2, l3, l4, some (.int v), l6] (.int v :: st) M Q := fun d l0 l1 l2 l3 l4 l6 v st M Q => wA (show ins 74 68 = some (.iload 5, 2) by decide +kernel) rfl
set_option maxRecDepth 100000 in
theorem r_74_70 : ∀ (d : Nat) (l0 l1 l2 l3 l5 l6 : Option Value) (v : Nat) (st : List Value) (M : Mem) (Q : Outcome → Mem → Prop), Wp d 74 70 [l0, l1, l2, l3, some (.ref v), l5, l6] st M Q = Wp d 74 72 [l0, l1, l2, l3, some (.ref v), l5, l6] (.ref v :: st) M Q := fun d l0 l1 l2 l3 l5 l6 v st M Q => wA (show ins 74 70 = some (.aload 4, 2) by decide +kernel) rfl
set_option maxRecDepth 100000 in
theorem r_74_70_1 : ∀ (d : Nat) (l0 l1 l2 l3 l5 l6 : Option Value) (st : List Value) (M : Mem) (Q : Outcome → Mem → Prop), Wp d 74 70 [l0, l1, l2, l3, some .null, l5, l6] st M Q = Wp d 74 72 [l0, l1, l2, l3, some .null, l5, l6] (.null :: st) M Q := fun d l0 l1 l2 l3 l5 l6 st M Q => wA (show ins 74 70 = some (.aload 4, 2) by decide +kernel) rfl
set_option maxRecDepth 100000 in
theorem r_74_72 : ∀ (d : Nat) (ls : Lc) (a : Nat) (st : List Value) (M : Mem) (Q : Outcome → Mem → Prop), Wp d 74 72 ls (.ref a :: st) M Q = (fk 37 (kO M a) = true ∧ Wp d 74 75 ls (.int (mF M 37 a) :: st) M Q) := fun d ls a st M Q => w_getI (show ins 74 72 = some (.getfield 258, 3) by decide +kernel) (show fRes (mC 74) 258 = some (37, 5, true) by decide +kernel) (by decide +kernel)
set_option maxRecDepth 100000 in
theorem r_74_75 : ∀ (d : Nat) (ls : Lc) (a b : Int32) (st : List Value) (M : Mem) (Q : Outcome → Mem → Prop), Wp d 74 75 ls (.int b :: .int a :: st) M Q = Br (a < b) d 74 94 78 ls st M Q := fun d ls a b st M Q => w_icmp (show ins 74 75 = some (.if_icmp .lt 19, 3) by decide +kernel) rfl rfl
set_option maxRecDepth 100000 in
theorem r_74_78 : ∀ (d : Nat) (l0 l1 l2 l3 l5 l6 : Option Value) (v : Nat) (st : List Value) (M : Mem) (Q : Outcome → Mem → Prop), Wp d 74 78 [l0, l1, l2, l3, some (.ref v), l5, l6] st M Q = Wp d 74 80 [l0, l1, l2, l3, some (.ref v), l5, l6] (.ref v :: st) M Q := fun d l0 l1 l2 l3 l5 l6 v st M Q => wA (show ins 74 78 = some (.aload 4, 2) by decide +kernel) rfl
set_option maxRecDepth 100000 in
theorem r_74_78_1 : ∀ (d : Nat) (l0 l1 l2 l3 l5 l6 : Option Value) (st : List Value) (M : Mem) (Q : Outcome → Mem → Prop), Wp d 74 78 [l0, l1, l2, l3, some .null, l5, l6] st M Q = Wp d 74 80 [l0, l1, l2, l3, some .null, l5, l6] (.null :: st) M Q := fun d l0 l1 l2 l3 l5 l6 st M Q => wA (show ins 74 78 = some (.aload 4, 2) by decide +kernel) rfl
set_option maxRecDepth 100000 in
theorem r_74_80 : ∀ (d : Nat) (ls : Lc) (a : Nat) (st : List Value) (M : Mem) (Q : Outcome → Mem → Prop), Wp d 74 80 ls (.ref a :: st) M Q = (fk 31 (kO M a) = true ∧ Wp d 74 83 ls (va_rf (mR M 31 a) :: st) M Q) := fun d ls a st M Q => w_getR (show ins 74 80 = some (.getfield 270, 3) by decide +kernel) (show fRes (mC 74) 270 = some (31, 5, false) by decide +kernel) (by decide +kernel)
set_option maxRecDepth 100000 in
theorem r_74_83 : ∀ (d : Nat) (ls : Lc) (st : List Value) (M : Mem) (Q : Outcome → Mem → Prop), Wp d 74 83 ls (.null :: st) M Q = Wp d 74 86 ls (.null :: st) M Q := fun d ls st M Q => w_castN (show ins 74 83 = some (.checkcast 160, 3) by decide +kernel)
set_option maxRecDepth 100000 in
theorem r_74_83_1 : ∀ (d : Nat) (ls : Lc) (a : Nat) (st : List Value) (M : Mem) (Q : Outcome → Mem → Prop), Wp d 74 83 ls (.ref a :: st) M Q = (kO M a = 5 ∧ Wp d 74 86 ls (.ref a :: st) M Q) := fun d ls a st M Q => w_cast (show ins 74 83 = some (.checkcast 160, 3) by decide +kernel) (show cRes (mC 74) 160 = some 5 by decide +kernel) (by decide +kernel)
set_option maxRecDepth 100000 in
theorem r_74_86 : ∀ (d : Nat) (l0 l1 l2 l3 l4 l5 l6 : Option Value) (v : Nat) (st : List Value) (M : Mem) (Q : Outcome → Mem → Prop), (lo l3 = false) → Wp d 74 86 [l0, l1, l2, l3, l4, l5, l6] (.ref v :: st) M Q = Wp d 74 88 [l0, l1, l2, l3, some (.ref v), l5, l6] st M Q := fun d l0 l1 l2 l3 l4 l5 l6 v st M Q hl => w_astore (show ins 74 86 = some (.astore 4, 2) by decide +kernel) (st1_S rfl rfl hl)
set_option maxRecDepth 100000 in
theorem r_74_86_1 : ∀ (d : Nat) (l0 l1 l2 l3 l4 l5 l6 : Option Value) (st : List Value) (M : Mem) (Q : Outcome → Mem → Prop), (lo l3 = false) → Wp d 74 86 [l0, l1, l2, l3, l4, l5, l6] (.null :: st) M Q = Wp d 74 88 [l0, l1, l2, l3, some (.null), l5, l6] st M Q := fun d l0 l1 l2 l3 l4 l5 l6 st M Q hl => w_astoreN (show ins 74 86 = some (.astore 4, 2) by decide +kernel) (st1_S rfl rfl hl)
set_option maxRecDepth 100000 in
theorem r_74_88 : ∀ (d : Nat) (ls : Lc) (st : List Value) (M : Mem) (Q : Outcome → Mem → Prop), Wp d 74 88 ls st M Q = Wp d 74 89 ls (.int (I 0) :: st) M Q := fun d ls st M Q => w_iconst (show ins 74 88 = some (.iconst 0, 1) by decide +kernel)
set_option maxRecDepth 100000 in
theorem r_74_89 : ∀ (d : Nat) (l0 l1 l2 l3 l4 l5 l6 : Option Value) (v : Int32) (st : List Value) (M : Mem) (Q : Outcome → Mem → Prop), (lo l4 = false) → Wp d 74 89 [l0, l1, l2, l3, l4, l5, l6] (.int v :: st) M Q = Wp d 74 91 [l0, l1, l2, l3, l4, some (.int v), l6] st M Q := fun d l0 l1 l2 l3 l4 l5 l6 v st M Q hl => w_istore (show ins 74 89 = some (.istore 5, 2) by decide +kernel) (st1_S rfl rfl hl)
set_option maxRecDepth 100000 in
theorem r_74_91 : ∀ (d : Nat) (ls : Lc) (st : List Value) (M : Mem) (Q : Outcome → Mem → Prop), Wp d 74 91 ls st M Q = Wp d 74 68 ls st M Q := fun d ls st M Q => w_goto (show ins 74 91 = some (.goto (-23), 3) by decide +kernel) rfl
set_option maxRecDepth 100000 in
theorem r_74_94 : ∀ (d : Nat) (l0 l1 l2 l3 l4 l5 : Option Value) (v : Int32) (st : List Value) (M : Mem) (Q : Outcome → Mem → Prop), Wp d 74 94 [l0, l1, l2, l3, l4, l5, some (.int v)] st M Q = Wp d 74 96 [l0, l1, l2, l3, l4, l5, some (.int v)] (.int v :: st) M Q := fun d l0 l1 l2 l3 l4 l5 v st M Q => wA (show ins 74 94 = some (.iload 6, 2) by decide +kernel) rfl
set_option maxRecDepth 100000 in
theorem r_74_96 : ∀ (d : Nat) (ls : Lc) (a : Int32) (st : List Value) (M : Mem) (Q : Outcome → Mem → Prop), Wp d 74 96 ls (.int a :: st) M Q = Br (a ≤ I 0) d 74 108 99 ls st M Q := fun d ls a st M Q => w_if (show ins 74 96 = some (.ifCond .le 12, 3) by decide +kernel) rfl rfl
set_option maxRecDepth 100000 in
theorem r_74_99 : ∀ (d : Nat) (l0 l1 l2 l3 l4 l5 : Option Value) (z : Int) (st : List Value) (M : Mem) (Q : Outcome → Mem → Prop), (lo l5 = false) → Wp d 74 99 [l0, l1, l2, l3, l4, l5, some (.int (I z))] st M Q = Wp d 74 102 [l0, l1, l2, l3, l4, l5, some (.int (I (z + (-1))))] st M Q := fun d l0 l1 l2 l3 l4 l5 z st M Q hl => w_iinc (show ins 74 99 = some (.iinc 6 (-1), 3) by decide +kernel) rfl (st1_S rfl rfl hl)
set_option maxRecDepth 100000 in
theorem r_74_102 : ∀ (d : Nat) (l0 l1 l2 l3 l4 l6 : Option Value) (z : Int) (st : List Value) (M : Mem) (Q : Outcome → Mem → Prop), (lo l4 = false) → Wp d 74 102 [l0, l1, l2, l3, l4, some (.int (I z)), l6] st M Q = Wp d 74 105 [l0, l1, l2, l3, l4, some (.int (I (z + 1))), l6] st M Q := fun d l0 l1 l2 l3 l4 l6 z st M Q hl => w_iinc (show ins 74 102 = some (.iinc 5 1, 3) by decide +kernel) rfl (st1_S rfl rfl hl)
set_option maxRecDepth 100000 in
theorem r_74_105 : ∀ (d : Nat) (ls : Lc) (st : List Value) (M : Mem) (Q : Outcome → Mem → Prop), Wp d 74 105 ls st M Q = Wp d 74 68 ls st M Q := fun d ls st M Q => w_goto (show ins 74 105 = some (.goto (-37), 3) by decide +kernel) rfl
set_option maxRecDepth 100000 in
theorem r_74_108 : ∀ (d : Nat) (l0 l1 l2 l3 l5 l6 : Option Value) (v : Nat) (st : List Value) (M : Mem) (Q : Outcome → Mem → Prop), Wp d 74 108 [l0, l1, l2, l3, some (.ref v), l5, l6] st M Q = Wp d 74 110 [l0, l1, l2, l3, some (.ref v), l5, l6] (.ref v :: st) M Q := fun d l0 l1 l2 l3 l5 l6 v st M Q => wA (show ins 74 108 = some (.aload 4, 2) by decide +kernel) rfl
set_option maxRecDepth 100000 in
theorem r_74_108_1 : ∀ (d : Nat) (l0 l1 l2 l3 l5 l6 : Option Value) (st : List Value) (M : Mem) (Q : Outcome → Mem → Prop), Wp d 74 108 [l0, l1, l2, l3, some .null, l5, l6] st M Q = Wp d 74 110 [l0, l1, l2, l3, some .null, l5, l6] (.null :: st) M Q := fun d l0 l1 l2 l3 l5 l6 st M Q => wA (show ins 74 108 = some (.aload 4, 2) by decide +kernel) rfl
set_option maxRecDepth 100000 in
theorem r_74_110 : ∀ (d : Nat) (ls : Lc) (a : Nat) (st : List Value) (M : Mem) (Q : Outcome → Mem → Prop), Wp d 74 110 ls (.ref a :: st) M Q = (fk 36 (kO M a) = true ∧ Wp d 74 113 ls (va_rf (mR M 36 a) :: st) M Q) := fun d ls a st M Q => w_getR (show ins 74 110 = some (.getfield 261, 3) by decide +kernel) (show fRes (mC 74) 261 = some (36, 5, true) by decide +kernel) (by decide +kernel)
set_option maxRecDepth 100000 in
theorem r_74_113 : ∀ (d : Nat) (l0 l1 l2 l3 l4 l6 : Option Value) (v : Int32) (st : List Value) (M : Mem) (Q : Outcome → Mem → Prop), Wp d 74 113 [l0, l1, l2, l3, l4, some (.int v), l6] st M Q = Wp d 74 115 [l0, l1, l2, l3, l4, some (.int v), l6] (.int v :: st) M Q := fun d l0 l1 l2 l3 l4 l6 v st M Q => wA (show ins 74 113 = some (.iload 5, 2) by decide +kernel) rfl
set_option maxRecDepth 100000 in
theorem r_74_115 : ∀ (d : Nat) (ls : Lc) (a : Nat) (j : Int32) (st : List Value) (M : Mem) (Q : Outcome → Mem → Prop), Wp d 74 115 ls (.int j :: .ref a :: st) M Q = ((((kX M a).1 = 0 ∨ (kX M a).1 = 8) ∧ inB j (kX M a).2 = true) ∧ Wp d 74 116 ls (.int (mA M a j.toNatClampNeg) :: st) M Q) := fun d ls a j st M Q => w_iaload (show ins 74 115 = some (.iaload, 1) by decide +kernel)
set_option maxRecDepth 100000 in
theorem r_74_116 : ∀ (d : Nat) (ls : Lc) (st : List Value) (M : Mem) (Q : Outcome → Mem → Prop), Wp d 74 116 ls st M Q = Wp d 74 119 ls (.int (I 1024) :: st) M Q := fun d ls st M Q => w_sipush (show ins 74 116 = some (.sipush 1024, 3) by decide +kernel) (by decide)
set_option maxRecDepth 100000 in
theorem r_74_119 : ∀ (d : Nat) (ls : Lc) (a b : Int) (st : List Value) (M : Mem) (Q : Outcome → Mem → Prop), (0 ≤ a) → (a < 2147483648) → (0 < b) → (b < 2147483648) → Wp d 74 119 ls (.int (I b) :: .int (I a) :: st) M Q = Wp d 74 120 ls (.int (I (a % b)) :: st) M Q := fun d ls a b st M Q h0 h1 h2 h3 => w_irem (show ins 74 119 = some (.irem, 1) by decide +kernel) h0 h1 h2 h3
set_option maxRecDepth 100000 in
theorem r_74_120 : ∀ (d : Nat) (ls : Lc) (v : Int32) (M : Mem) (Q : Outcome → Mem → Prop), Wp d 74 120 ls [.int v] M Q = Q (.returned (some (.int v))) M := fun d ls v M Q => w_ireturn (show ins 74 120 = some (.ireturn, 1) by decide +kernel) (by decide +kernel)
set_option maxRecDepth 100000 in
theorem w_74_68 : (type_of% r_74_68) := r_74_68
set_option maxRecDepth 100000 in
theorem W_74 : (type_of% r_74_0) ∧ (type_of% r_74_1) ∧ (type_of% r_74_4) ∧ (type_of% r_74_5) ∧ (type_of% r_74_6) ∧ (type_of% r_74_9) ∧ (type_of% r_74_12) ∧ (type_of% r_74_13) ∧ (type_of% r_74_16) ∧ (type_of% r_74_17) ∧ (type_of% r_74_18) ∧ (type_of% r_74_19) ∧ (type_of% r_74_22) ∧ (type_of% r_74_25) ∧ (type_of% r_74_26) ∧ (type_of% r_74_29) ∧ (type_of% r_74_30) ∧ (type_of% r_74_33) ∧ (type_of% r_74_34) ∧ (type_of% r_74_37) ∧ (type_of% r_74_38) ∧ (type_of% r_74_39) ∧ (type_of% r_74_40) ∧ (type_of% r_74_43) ∧ (type_of% r_74_46) ∧ (type_of% r_74_47) ∧ (type_of% r_74_48) ∧ (type_of% r_74_51) ∧ (type_of% r_74_54) ∧ (type_of% r_74_54_1) ∧ (type_of% r_74_56) ∧ (type_of% r_74_57) ∧ (type_of% r_74_60) ∧ (type_of% r_74_63) ∧ (type_of% r_74_65) ∧ (type_of% r_74_66) ∧ (type_of% r_74_70) ∧ (type_of% r_74_70_1) ∧ (type_of% r_74_72) ∧ (type_of% r_74_75) ∧ (type_of% r_74_78) ∧ (type_of% r_74_78_1) ∧ (type_of% r_74_80) ∧ (type_of% r_74_83) ∧ (type_of% r_74_83_1) ∧ (type_of% r_74_86) ∧ (type_of% r_74_86_1) ∧ (type_of% r_74_88) ∧ (type_of% r_74_89) ∧ (type_of% r_74_91) ∧ (type_of% r_74_94) ∧ (type_of% r_74_96) ∧ (type_of% r_74_99) ∧ (type_of% r_74_102) ∧ (type_of% r_74_105) ∧ (type_of% r_74_108) ∧ (type_of% r_74_108_1) ∧ (type_of% r_74_110) ∧ (type_of% r_74_113) ∧ (type_of% r_74_115) ∧ (type_of% r_74_116) ∧ (type_of% r_74_119) ∧ (type_of% r_74_120) := ⟨r_74_0, r_74_1, r_74_4, r_74_5, r_74_6, r_74_9, r_74_12, r_74_13, r_74_16, r_74_17, r_74_18, r_74_19, r_74_22, r_74_25, r_74_26, r_74_29, r_74_30, r_74_33, r_74_34, r_74_37, r_74_38, r_74_39, r_74_40, r_74_43, r_74_46, r_74_47, r_74_48, r_74_51, r_74_54, r_74_54_1, r_74_56, r_74_57, r_74_60, r_74_63, r_74_65, r_74_66, r_74_70, r_74_70_1, r_74_72, r_74_75, r_74_78, r_74_78_1, r_74_80, r_74_83, r_74_83_1, r_74_86, r_74_86_1, r_74_88, r_74_89, r_74_91, r_74_94, r_74_96, r_74_99, r_74_102, r_74_105, r_74_108, r_74_108_1, r_74_110, r_74_113, r_74_115, r_74_116, r_74_119, r_74_120⟩
set_option maxRecDepth 100000 in
theorem ca_74 {d y pc : Nat} {ls : Lc} {a : Nat} {z0 : Int32} {z1 : Int32} {r : List Value} {M : Mem} {Q : Outcome → Mem → Prop} (hd : 0 < d) (hw : Wp (d - 1) 74 0 [some (.ref a), some (.int z0), some (.int z1), none, none, none, none] [] M (Cq d y pc ls r Q)) : Ca d y pc ls 74 [.ref a, .int z0, .int z1] r M Q := ca_of (mq_get (by decide)) (by rfl) hd hw
/-! 75 PackedTree.about(II)I; loop heads [] -/
set_option maxRecDepth 100000 in
theorem r_75_0 : ∀ (d : Nat) (l1 l2 l3 : Option Value) (v : Nat) (st : List Value) (M : Mem) (Q : Outcome → Mem → Prop), Wp d 75 0 [some (.ref v), l1, l2, l3] st M Q = Wp d 75 1 [some (.ref v), l1, l2, l3] (.ref v :: st) M Q := fun d l1 l2 l3 v st M Q => wA (show ins 75 0 = some (.aload_n 0, 1) by decide +kernel) rfl
set_option maxRecDepth 100000 in
theorem r_75_1 : ∀ (d : Nat) (ls : Lc) (a : Nat) (st : List Value) (M : Mem) (Q : Outcome → Mem → Prop), (smallR st = true) → Wp d 75 1 ls (.ref a :: st) M Q = (kO M a = 1 ∧ Ca d 75 1 ls 30 (.ref a :: []) st M Q) := fun d ls a st M Q h0 => w_virt1 (as := []) (show ins 75 1 = some (.invokevirtual 204, 3) by decide +kernel) (show mRes (mC 75) 204 = some (3, 1, [(1, 30)]) by decide +kernel) (by decide +kernel) rfl (by decide +kernel) (by decide +kernel) h0
set_option maxRecDepth 100000 in
theorem r_75_4 : ∀ (d : Nat) (l1 l2 l3 : Option Value) (v : Nat) (st : List Value) (M : Mem) (Q : Outcome → Mem → Prop), Wp d 75 4 [some (.ref v), l1, l2, l3] st M Q = Wp d 75 5 [some (.ref v), l1, l2, l3] (.ref v :: st) M Q := fun d l1 l2 l3 v st M Q => wA (show ins 75 4 = some (.aload_n 0, 1) by decide +kernel) rfl
set_option maxRecDepth 100000 in
theorem r_75_5 : ∀ (d : Nat) (l0 l2 l3 : Option Value) (v : Int32) (st : List Value) (M : Mem) (Q : Outcome → Mem → Prop), Wp d 75 5 [l0, some (.int v), l2, l3] st M Q = Wp d 75 6 [l0, some (.int v), l2, l3] (.int v :: st) M Q := fun d l0 l2 l3 v st M Q => wA (show ins 75 5 = some (.iload_n 1, 1) by decide +kernel) rfl
set_option maxRecDepth 100000 in
theorem r_75_6 : ∀ (d : Nat) (ls : Lc) (v0 : Value) (a : Nat) (st : List Value) (M : Mem) (Q : Outcome → Mem → Prop), (smallR st = true) → Wp d 75 6 ls (v0 :: .ref a :: st) M Q = (kO M a = 1 ∧ Ca d 75 6 ls 33 (.ref a :: [v0]) st M Q) := fun d ls v0 a st M Q h0 => w_virt1 (as := [v0]) (show ins 75 6 = some (.invokevirtual 175, 3) by decide +kernel) (show mRes (mC 75) 175 = some (3, 1, [(1, 33)]) by decide +kernel) (by decide +kernel) rfl (by decide +kernel) (by decide +kernel) h0
set_option maxRecDepth 100000 in
theorem r_75_9 : ∀ (d : Nat) (ls : Lc) (a : Int32) (st : List Value) (M : Mem) (Q : Outcome → Mem → Prop), Wp d 75 9 ls (.int a :: st) M Q = Br (a = I 0) d 75 35 12 ls st M Q := fun d ls a st M Q => w_if (show ins 75 9 = some (.ifCond .eq 26, 3) by decide +kernel) rfl rfl
set_option maxRecDepth 100000 in
theorem r_75_12 : ∀ (d : Nat) (l0 l1 l3 : Option Value) (v : Int32) (st : List Value) (M : Mem) (Q : Outcome → Mem → Prop), Wp d 75 12 [l0, l1, some (.int v), l3] st M Q = Wp d 75 13 [l0, l1, some (.int v), l3] (.int v :: st) M Q := fun d l0 l1 l3 v st M Q => wA (show ins 75 12 = some (.iload_n 2, 1) by decide +kernel) rfl
set_option maxRecDepth 100000 in
theorem r_75_13 : ∀ (d : Nat) (ls : Lc) (st : List Value) (M : Mem) (Q : Outcome → Mem → Prop), Wp d 75 13 ls st M Q = Wp d 75 14 ls (.int (I 5) :: st) M Q := fun d ls st M Q => w_iconst (show ins 75 13 = some (.iconst 5, 1) by decide +kernel)
set_option maxRecDepth 100000 in
theorem r_75_14 : ∀ (d : Nat) (ls : Lc) (a b : Int32) (st : List Value) (M : Mem) (Q : Outcome → Mem → Prop), Wp d 75 14 ls (.int b :: .int a :: st) M Q = Br (a < b) d 75 31 17 ls st M Q := fun d ls a b st M Q => w_icmp (show ins 75 14 = some (.if_icmp .lt 17, 3) by decide +kernel) rfl rfl
set_option maxRecDepth 100000 in
theorem r_75_17 : ∀ (d : Nat) (l0 l1 l3 : Option Value) (v : Int32) (st : List Value) (M : Mem) (Q : Outcome → Mem → Prop), Wp d 75 17 [l0, l1, some (.int v), l3] st M Q = Wp d 75 18 [l0, l1, some (.int v), l3] (.int v :: st) M Q := fun d l0 l1 l3 v st M Q => wA (show ins 75 17 = some (.iload_n 2, 1) by decide +kernel) rfl
set_option maxRecDepth 100000 in
theorem r_75_18 : ∀ (d : Nat) (ls : Lc) (st : List Value) (M : Mem) (Q : Outcome → Mem → Prop), Wp d 75 18 ls st M Q = Wp d 75 19 ls (.int (I 5) :: st) M Q := fun d ls st M Q => w_iconst (show ins 75 18 = some (.iconst 5, 1) by decide +kernel)
set_option maxRecDepth 100000 in
theorem r_75_19 : ∀ (d : Nat) (ls : Lc) (a b : Int) (st : List Value) (M : Mem) (Q : Outcome → Mem → Prop), Wp d 75 19 ls (.int (I b) :: .int (I a) :: st) M Q = Wp d 75 20 ls (.int (I (a - b)) :: st) M Q := fun d ls a b st M Q => w_isub (show ins 75 19 = some (.isub, 1) by decide +kernel)
set_option maxRecDepth 100000 in
theorem r_75_20 : ∀ (d : Nat) (l1 l2 l3 : Option Value) (v : Nat) (st : List Value) (M : Mem) (Q : Outcome → Mem → Prop), Wp d 75 20 [some (.ref v), l1, l2, l3] st M Q = Wp d 75 21 [some (.ref v), l1, l2, l3] (.ref v :: st) M Q := fun d l1 l2 l3 v st M Q => wA (show ins 75 20 = some (.aload_n 0, 1) by decide +kernel) rfl
set_option maxRecDepth 100000 in
theorem r_75_21 : ∀ (d : Nat) (l0 l2 l3 : Option Value) (v : Int32) (st : List Value) (M : Mem) (Q : Outcome → Mem → Prop), Wp d 75 21 [l0, some (.int v), l2, l3] st M Q = Wp d 75 22 [l0, some (.int v), l2, l3] (.int v :: st) M Q := fun d l0 l2 l3 v st M Q => wA (show ins 75 21 = some (.iload_n 1, 1) by decide +kernel) rfl
set_option maxRecDepth 100000 in
theorem r_75_22 : ∀ (d : Nat) (ls : Lc) (st : List Value) (M : Mem) (Q : Outcome → Mem → Prop), Wp d 75 22 ls st M Q = Wp d 75 23 ls (.int (I 2) :: st) M Q := fun d ls st M Q => w_iconst (show ins 75 22 = some (.iconst 2, 1) by decide +kernel)
set_option maxRecDepth 100000 in
theorem r_75_23 : ∀ (d : Nat) (ls : Lc) (v0 v1 : Value) (a : Nat) (st : List Value) (M : Mem) (Q : Outcome → Mem → Prop), (smallR st = true) → Wp d 75 23 ls (v1 :: v0 :: .ref a :: st) M Q = (kO M a = 1 ∧ Ca d 75 23 ls 57 (.ref a :: [v0, v1]) st M Q) := fun d ls v0 v1 a st M Q h0 => w_virt1 (as := [v0, v1]) (show ins 75 23 = some (.invokevirtual 282, 3) by decide +kernel) (show mRes (mC 75) 282 = some (3, 1, [(1, 57)]) by decide +kernel) (by decide +kernel) rfl (by decide +kernel) (by decide +kernel) h0
set_option maxRecDepth 100000 in
theorem r_75_26 : ∀ (d : Nat) (ls : Lc) (st : List Value) (M : Mem) (Q : Outcome → Mem → Prop), Wp d 75 26 ls st M Q = Wp d 75 27 ls (.int (I 2) :: st) M Q := fun d ls st M Q => w_iconst (show ins 75 26 = some (.iconst 2, 1) by decide +kernel)
set_option maxRecDepth 100000 in
theorem r_75_27 : ∀ (d : Nat) (ls : Lc) (a b : Int) (st : List Value) (M : Mem) (Q : Outcome → Mem → Prop), (0 ≤ a) → (a < 2147483648) → (0 < b) → (b < 2147483648) → Wp d 75 27 ls (.int (I b) :: .int (I a) :: st) M Q = Wp d 75 28 ls (.int (I (a / b)) :: st) M Q := fun d ls a b st M Q h0 h1 h2 h3 => w_idiv (show ins 75 27 = some (.idiv, 1) by decide +kernel) h0 h1 h2 h3
set_option maxRecDepth 100000 in
theorem r_75_28 : ∀ (d : Nat) (ls : Lc) (a b : Int32) (st : List Value) (M : Mem) (Q : Outcome → Mem → Prop), Wp d 75 28 ls (.int b :: .int a :: st) M Q = Br (b ≤ a) d 75 35 31 ls st M Q := fun d ls a b st M Q => w_icmp (show ins 75 28 = some (.if_icmp .ge 7, 3) by decide +kernel) rfl rfl
set_option maxRecDepth 100000 in
theorem r_75_31 : ∀ (d : Nat) (ls : Lc) (st : List Value) (M : Mem) (Q : Outcome → Mem → Prop), Wp d 75 31 ls st M Q = Wp d 75 32 ls (.int (I 1) :: st) M Q := fun d ls st M Q => w_iconst (show ins 75 31 = some (.iconst 1, 1) by decide +kernel)
set_option maxRecDepth 100000 in
theorem r_75_32 : ∀ (d : Nat) (ls : Lc) (st : List Value) (M : Mem) (Q : Outcome → Mem → Prop), Wp d 75 32 ls st M Q = Wp d 75 36 ls st M Q := fun d ls st M Q => w_goto (show ins 75 32 = some (.goto 4, 3) by decide +kernel) rfl
set_option maxRecDepth 100000 in
theorem r_75_35 : ∀ (d : Nat) (ls : Lc) (st : List Value) (M : Mem) (Q : Outcome → Mem → Prop), Wp d 75 35 ls st M Q = Wp d 75 36 ls (.int (I 0) :: st) M Q := fun d ls st M Q => w_iconst (show ins 75 35 = some (.iconst 0, 1) by decide +kernel)
set_option maxRecDepth 100000 in
theorem r_75_36 : ∀ (d : Nat) (ls : Lc) (v0 : Value)  (st : List Value) (M : Mem) (Q : Outcome → Mem → Prop), (smallR st = true) → Wp d 75 36 ls (v0 :: st) M Q = Ca d 75 36 ls 37 [v0] st M Q := fun d ls v0 st M Q h0 => w_stat (as := [v0]) (show ins 75 36 = some (.invokestatic 210, 3) by decide +kernel) (show mRes (mC 75) 210 = some (0, 1, [(0, 37)]) by decide +kernel) (by decide +kernel) (by decide +kernel) rfl h0
set_option maxRecDepth 100000 in
theorem r_75_39 : ∀ (d : Nat) (l0 l1 l3 : Option Value) (v : Int32) (st : List Value) (M : Mem) (Q : Outcome → Mem → Prop), Wp d 75 39 [l0, l1, some (.int v), l3] st M Q = Wp d 75 40 [l0, l1, some (.int v), l3] (.int v :: st) M Q := fun d l0 l1 l3 v st M Q => wA (show ins 75 39 = some (.iload_n 2, 1) by decide +kernel) rfl
set_option maxRecDepth 100000 in
theorem r_75_40 : ∀ (d : Nat) (ls : Lc) (a : Int32) (st : List Value) (M : Mem) (Q : Outcome → Mem → Prop), Wp d 75 40 ls (.int a :: st) M Q = Br (a < I 0) d 75 47 43 ls st M Q := fun d ls a st M Q => w_if (show ins 75 40 = some (.ifCond .lt 7, 3) by decide +kernel) rfl rfl
set_option maxRecDepth 100000 in
theorem r_75_43 : ∀ (d : Nat) (ls : Lc) (st : List Value) (M : Mem) (Q : Outcome → Mem → Prop), Wp d 75 43 ls st M Q = Wp d 75 44 ls (.int (I 1) :: st) M Q := fun d ls st M Q => w_iconst (show ins 75 43 = some (.iconst 1, 1) by decide +kernel)
set_option maxRecDepth 100000 in
theorem r_75_44 : ∀ (d : Nat) (ls : Lc) (st : List Value) (M : Mem) (Q : Outcome → Mem → Prop), Wp d 75 44 ls st M Q = Wp d 75 48 ls st M Q := fun d ls st M Q => w_goto (show ins 75 44 = some (.goto 4, 3) by decide +kernel) rfl
set_option maxRecDepth 100000 in
theorem r_75_47 : ∀ (d : Nat) (ls : Lc) (st : List Value) (M : Mem) (Q : Outcome → Mem → Prop), Wp d 75 47 ls st M Q = Wp d 75 48 ls (.int (I 0) :: st) M Q := fun d ls st M Q => w_iconst (show ins 75 47 = some (.iconst 0, 1) by decide +kernel)
set_option maxRecDepth 100000 in
theorem r_75_48 : ∀ (d : Nat) (ls : Lc) (v0 : Value)  (st : List Value) (M : Mem) (Q : Outcome → Mem → Prop), (smallR st = true) → Wp d 75 48 ls (v0 :: st) M Q = Ca d 75 48 ls 39 [v0] st M Q := fun d ls v0 st M Q h0 => w_stat (as := [v0]) (show ins 75 48 = some (.invokestatic 217, 3) by decide +kernel) (show mRes (mC 75) 217 = some (0, 1, [(0, 39)]) by decide +kernel) (by decide +kernel) (by decide +kernel) rfl h0
set_option maxRecDepth 100000 in
theorem r_75_51 : ∀ (d : Nat) (l0 l1 l3 : Option Value) (v : Int32) (st : List Value) (M : Mem) (Q : Outcome → Mem → Prop), Wp d 75 51 [l0, l1, some (.int v), l3] st M Q = Wp d 75 52 [l0, l1, some (.int v), l3] (.int v :: st) M Q := fun d l0 l1 l3 v st M Q => wA (show ins 75 51 = some (.iload_n 2, 1) by decide +kernel) rfl
set_option maxRecDepth 100000 in
theorem r_75_52 : ∀ (d : Nat) (ls : Lc) (st : List Value) (M : Mem) (Q : Outcome → Mem → Prop), Wp d 75 52 ls (.int (I 0) :: st) M Q = Wp d 75 88 ls st M Q := fun d ls st M Q => w_tswK (show ins 75 52 = some (.tableswitch 72 0 4 #[36, 44, 50, 56, 65], 36) by decide +kernel) (by decide) rfl rfl
set_option maxRecDepth 100000 in
theorem r_75_52_1 : ∀ (d : Nat) (ls : Lc) (st : List Value) (M : Mem) (Q : Outcome → Mem → Prop), Wp d 75 52 ls (.int (I 1) :: st) M Q = Wp d 75 96 ls st M Q := fun d ls st M Q => w_tswK (show ins 75 52 = some (.tableswitch 72 0 4 #[36, 44, 50, 56, 65], 36) by decide +kernel) (by decide) rfl rfl
set_option maxRecDepth 100000 in
theorem r_75_52_2 : ∀ (d : Nat) (ls : Lc) (st : List Value) (M : Mem) (Q : Outcome → Mem → Prop), Wp d 75 52 ls (.int (I 2) :: st) M Q = Wp d 75 102 ls st M Q := fun d ls st M Q => w_tswK (show ins 75 52 = some (.tableswitch 72 0 4 #[36, 44, 50, 56, 65], 36) by decide +kernel) (by decide) rfl rfl
set_option maxRecDepth 100000 in
theorem r_75_52_3 : ∀ (d : Nat) (ls : Lc) (st : List Value) (M : Mem) (Q : Outcome → Mem → Prop), Wp d 75 52 ls (.int (I 3) :: st) M Q = Wp d 75 108 ls st M Q := fun d ls st M Q => w_tswK (show ins 75 52 = some (.tableswitch 72 0 4 #[36, 44, 50, 56, 65], 36) by decide +kernel) (by decide) rfl rfl
set_option maxRecDepth 100000 in
theorem r_75_52_4 : ∀ (d : Nat) (ls : Lc) (st : List Value) (M : Mem) (Q : Outcome → Mem → Prop), Wp d 75 52 ls (.int (I 4) :: st) M Q = Wp d 75 117 ls st M Q := fun d ls st M Q => w_tswK (show ins 75 52 = some (.tableswitch 72 0 4 #[36, 44, 50, 56, 65], 36) by decide +kernel) (by decide) rfl rfl
set_option maxRecDepth 100000 in
theorem r_75_52_5 : ∀ (d : Nat) (ls : Lc) (z : Int) (st : List Value) (M : Mem) (Q : Outcome → Mem → Prop), (-2147483648 ≤ z) → (z < 2147483648) → (z < 0 ∨ 4 < z) → Wp d 75 52 ls (.int (I z) :: st) M Q = Wp d 75 124 ls st M Q := fun d ls z st M Q h0 h1 h2 => w_tswD (show ins 75 52 = some (.tableswitch 72 0 4 #[36, 44, 50, 56, 65], 36) by decide +kernel) (by rw [I_toInt h0 h1]; exact h2) rfl
set_option maxRecDepth 100000 in
theorem r_75_88 : ∀ (d : Nat) (l1 l2 l3 : Option Value) (v : Nat) (st : List Value) (M : Mem) (Q : Outcome → Mem → Prop), Wp d 75 88 [some (.ref v), l1, l2, l3] st M Q = Wp d 75 89 [some (.ref v), l1, l2, l3] (.ref v :: st) M Q := fun d l1 l2 l3 v st M Q => wA (show ins 75 88 = some (.aload_n 0, 1) by decide +kernel) rfl
set_option maxRecDepth 100000 in
theorem r_75_89 : ∀ (d : Nat) (l0 l2 l3 : Option Value) (v : Int32) (st : List Value) (M : Mem) (Q : Outcome → Mem → Prop), Wp d 75 89 [l0, some (.int v), l2, l3] st M Q = Wp d 75 90 [l0, some (.int v), l2, l3] (.int v :: st) M Q := fun d l0 l2 l3 v st M Q => wA (show ins 75 89 = some (.iload_n 1, 1) by decide +kernel) rfl
set_option maxRecDepth 100000 in
theorem r_75_90 : ∀ (d : Nat) (ls : Lc) (st : List Value) (M : Mem) (Q : Outcome → Mem → Prop), Wp d 75 90 ls st M Q = Wp d 75 91 ls (.int (I 0) :: st) M Q := fun d ls st M Q => w_iconst (show ins 75 90 = some (.iconst 0, 1) by decide +kernel)
set_option maxRecDepth 100000 in
theorem r_75_91 : ∀ (d : Nat) (ls : Lc) (st : List Value) (M : Mem) (Q : Outcome → Mem → Prop), Wp d 75 91 ls st M Q = Wp d 75 92 ls (.int (I 1) :: st) M Q := fun d ls st M Q => w_iconst (show ins 75 91 = some (.iconst 1, 1) by decide +kernel)
set_option maxRecDepth 100000 in
theorem r_75_92 : ∀ (d : Nat) (ls : Lc) (v0 v1 v2 : Value) (a : Nat) (st : List Value) (M : Mem) (Q : Outcome → Mem → Prop), (smallR st = true) → Wp d 75 92 ls (v2 :: v1 :: v0 :: .ref a :: st) M Q = (kO M a = 1 ∧ Ca d 75 92 ls 34 (.ref a :: [v0, v1, v2]) st M Q) := fun d ls v0 v1 v2 a st M Q h0 => w_virt1 (as := [v0, v1, v2]) (show ins 75 92 = some (.invokevirtual 178, 3) by decide +kernel) (show mRes (mC 75) 178 = some (3, 1, [(1, 34)]) by decide +kernel) (by decide +kernel) rfl (by decide +kernel) (by decide +kernel) h0
set_option maxRecDepth 100000 in
theorem r_75_95 : ∀ (d : Nat) (ls : Lc) (v : Int32) (M : Mem) (Q : Outcome → Mem → Prop), Wp d 75 95 ls [.int v] M Q = Q (.returned (some (.int v))) M := fun d ls v M Q => w_ireturn (show ins 75 95 = some (.ireturn, 1) by decide +kernel) (by decide +kernel)
set_option maxRecDepth 100000 in
theorem r_75_96 : ∀ (d : Nat) (l1 l2 l3 : Option Value) (v : Nat) (st : List Value) (M : Mem) (Q : Outcome → Mem → Prop), Wp d 75 96 [some (.ref v), l1, l2, l3] st M Q = Wp d 75 97 [some (.ref v), l1, l2, l3] (.ref v :: st) M Q := fun d l1 l2 l3 v st M Q => wA (show ins 75 96 = some (.aload_n 0, 1) by decide +kernel) rfl
set_option maxRecDepth 100000 in
theorem r_75_97 : ∀ (d : Nat) (l0 l2 l3 : Option Value) (v : Int32) (st : List Value) (M : Mem) (Q : Outcome → Mem → Prop), Wp d 75 97 [l0, some (.int v), l2, l3] st M Q = Wp d 75 98 [l0, some (.int v), l2, l3] (.int v :: st) M Q := fun d l0 l2 l3 v st M Q => wA (show ins 75 97 = some (.iload_n 1, 1) by decide +kernel) rfl
set_option maxRecDepth 100000 in
theorem r_75_98 : ∀ (d : Nat) (ls : Lc) (v0 : Value) (a : Nat) (st : List Value) (M : Mem) (Q : Outcome → Mem → Prop), (smallR st = true) → Wp d 75 98 ls (v0 :: .ref a :: st) M Q = (kO M a = 1 ∧ Ca d 75 98 ls 46 (.ref a :: [v0]) st M Q) := fun d ls v0 a st M Q h0 => w_virt1 (as := [v0]) (show ins 75 98 = some (.invokevirtual 189, 3) by decide +kernel) (show mRes (mC 75) 189 = some (3, 1, [(1, 46)]) by decide +kernel) (by decide +kernel) rfl (by decide +kernel) (by decide +kernel) h0
set_option maxRecDepth 100000 in
theorem r_75_101 : ∀ (d : Nat) (ls : Lc) (v : Int32) (M : Mem) (Q : Outcome → Mem → Prop), Wp d 75 101 ls [.int v] M Q = Q (.returned (some (.int v))) M := fun d ls v M Q => w_ireturn (show ins 75 101 = some (.ireturn, 1) by decide +kernel) (by decide +kernel)
set_option maxRecDepth 100000 in
theorem r_75_102 : ∀ (d : Nat) (l1 l2 l3 : Option Value) (v : Nat) (st : List Value) (M : Mem) (Q : Outcome → Mem → Prop), Wp d 75 102 [some (.ref v), l1, l2, l3] st M Q = Wp d 75 103 [some (.ref v), l1, l2, l3] (.ref v :: st) M Q := fun d l1 l2 l3 v st M Q => wA (show ins 75 102 = some (.aload_n 0, 1) by decide +kernel) rfl
set_option maxRecDepth 100000 in
theorem r_75_103 : ∀ (d : Nat) (l0 l2 l3 : Option Value) (v : Int32) (st : List Value) (M : Mem) (Q : Outcome → Mem → Prop), Wp d 75 103 [l0, some (.int v), l2, l3] st M Q = Wp d 75 104 [l0, some (.int v), l2, l3] (.int v :: st) M Q := fun d l0 l2 l3 v st M Q => wA (show ins 75 103 = some (.iload_n 1, 1) by decide +kernel) rfl
set_option maxRecDepth 100000 in
theorem r_75_104 : ∀ (d : Nat) (ls : Lc) (v0 : Value) (a : Nat) (st : List Value) (M : Mem) (Q : Outcome → Mem → Prop), (smallR st = true) → Wp d 75 104 ls (v0 :: .ref a :: st) M Q = (kO M a = 1 ∧ Ca d 75 104 ls 47 (.ref a :: [v0]) st M Q) := fun d ls v0 a st M Q h0 => w_virt1 (as := [v0]) (show ins 75 104 = some (.invokevirtual 192, 3) by decide +kernel) (show mRes (mC 75) 192 = some (3, 1, [(1, 47)]) by decide +kernel) (by decide +kernel) rfl (by decide +kernel) (by decide +kernel) h0
set_option maxRecDepth 100000 in
theorem r_75_107 : ∀ (d : Nat) (ls : Lc) (v : Int32) (M : Mem) (Q : Outcome → Mem → Prop), Wp d 75 107 ls [.int v] M Q = Q (.returned (some (.int v))) M := fun d ls v M Q => w_ireturn (show ins 75 107 = some (.ireturn, 1) by decide +kernel) (by decide +kernel)
set_option maxRecDepth 100000 in
theorem r_75_108 : ∀ (d : Nat) (l1 l2 l3 : Option Value) (v : Nat) (st : List Value) (M : Mem) (Q : Outcome → Mem → Prop), Wp d 75 108 [some (.ref v), l1, l2, l3] st M Q = Wp d 75 109 [some (.ref v), l1, l2, l3] (.ref v :: st) M Q := fun d l1 l2 l3 v st M Q => wA (show ins 75 108 = some (.aload_n 0, 1) by decide +kernel) rfl
set_option maxRecDepth 100000 in
theorem r_75_109 : ∀ (d : Nat) (l0 l2 l3 : Option Value) (v : Int32) (st : List Value) (M : Mem) (Q : Outcome → Mem → Prop), Wp d 75 109 [l0, some (.int v), l2, l3] st M Q = Wp d 75 110 [l0, some (.int v), l2, l3] (.int v :: st) M Q := fun d l0 l2 l3 v st M Q => wA (show ins 75 109 = some (.iload_n 1, 1) by decide +kernel) rfl
set_option maxRecDepth 100000 in
theorem r_75_110 : ∀ (d : Nat) (ls : Lc) (st : List Value) (M : Mem) (Q : Outcome → Mem → Prop), Wp d 75 110 ls st M Q = Wp d 75 111 ls (.int (I 2) :: st) M Q := fun d ls st M Q => w_iconst (show ins 75 110 = some (.iconst 2, 1) by decide +kernel)
set_option maxRecDepth 100000 in
theorem r_75_111 : ∀ (d : Nat) (ls : Lc) (v0 v1 : Value) (a : Nat) (st : List Value) (M : Mem) (Q : Outcome → Mem → Prop), (smallR st = true) → Wp d 75 111 ls (v1 :: v0 :: .ref a :: st) M Q = (kO M a = 1 ∧ Ca d 75 111 ls 57 (.ref a :: [v0, v1]) st M Q) := fun d ls v0 v1 a st M Q h0 => w_virt1 (as := [v0, v1]) (show ins 75 111 = some (.invokevirtual 282, 3) by decide +kernel) (show mRes (mC 75) 282 = some (3, 1, [(1, 57)]) by decide +kernel) (by decide +kernel) rfl (by decide +kernel) (by decide +kernel) h0
set_option maxRecDepth 100000 in
theorem r_75_114 : ∀ (d : Nat) (ls : Lc) (st : List Value) (M : Mem) (Q : Outcome → Mem → Prop), Wp d 75 114 ls st M Q = Wp d 75 115 ls (.int (I 2) :: st) M Q := fun d ls st M Q => w_iconst (show ins 75 114 = some (.iconst 2, 1) by decide +kernel)
set_option maxRecDepth 100000 in
theorem r_75_115 : ∀ (d : Nat) (ls : Lc) (a b : Int) (st : List Value) (M : Mem) (Q : Outcome → Mem → Prop), (0 ≤ a) → (a < 2147483648) → (0 < b) → (b < 2147483648) → Wp d 75 115 ls (.int (I b) :: .int (I a) :: st) M Q = Wp d 75 116 ls (.int (I (a / b)) :: st) M Q := fun d ls a b st M Q h0 h1 h2 h3 => w_idiv (show ins 75 115 = some (.idiv, 1) by decide +kernel) h0 h1 h2 h3
set_option maxRecDepth 100000 in
theorem r_75_116 : ∀ (d : Nat) (ls : Lc) (v : Int32) (M : Mem) (Q : Outcome → Mem → Prop), Wp d 75 116 ls [.int v] M Q = Q (.returned (some (.int v))) M := fun d ls v M Q => w_ireturn (show ins 75 116 = some (.ireturn, 1) by decide +kernel) (by decide +kernel)
set_option maxRecDepth 100000 in
theorem r_75_117 : ∀ (d : Nat) (l1 l2 l3 : Option Value) (v : Nat) (st : List Value) (M : Mem) (Q : Outcome → Mem → Prop), Wp d 75 117 [some (.ref v), l1, l2, l3] st M Q = Wp d 75 118 [some (.ref v), l1, l2, l3] (.ref v :: st) M Q := fun d l1 l2 l3 v st M Q => wA (show ins 75 117 = some (.aload_n 0, 1) by decide +kernel) rfl
set_option maxRecDepth 100000 in
theorem r_75_118 : ∀ (d : Nat) (l0 l2 l3 : Option Value) (v : Int32) (st : List Value) (M : Mem) (Q : Outcome → Mem → Prop), Wp d 75 118 [l0, some (.int v), l2, l3] st M Q = Wp d 75 119 [l0, some (.int v), l2, l3] (.int v :: st) M Q := fun d l0 l2 l3 v st M Q => wA (show ins 75 118 = some (.iload_n 1, 1) by decide +kernel) rfl
set_option maxRecDepth 100000 in
theorem r_75_119 : ∀ (d : Nat) (ls : Lc) (st : List Value) (M : Mem) (Q : Outcome → Mem → Prop), Wp d 75 119 ls st M Q = Wp d 75 120 ls (.int (I 3) :: st) M Q := fun d ls st M Q => w_iconst (show ins 75 119 = some (.iconst 3, 1) by decide +kernel)
set_option maxRecDepth 100000 in
theorem r_75_120 : ∀ (d : Nat) (ls : Lc) (v0 v1 : Value) (a : Nat) (st : List Value) (M : Mem) (Q : Outcome → Mem → Prop), (smallR st = true) → Wp d 75 120 ls (v1 :: v0 :: .ref a :: st) M Q = (kO M a = 1 ∧ Ca d 75 120 ls 57 (.ref a :: [v0, v1]) st M Q) := fun d ls v0 v1 a st M Q h0 => w_virt1 (as := [v0, v1]) (show ins 75 120 = some (.invokevirtual 282, 3) by decide +kernel) (show mRes (mC 75) 282 = some (3, 1, [(1, 57)]) by decide +kernel) (by decide +kernel) rfl (by decide +kernel) (by decide +kernel) h0
set_option maxRecDepth 100000 in
theorem r_75_123 : ∀ (d : Nat) (ls : Lc) (v : Int32) (M : Mem) (Q : Outcome → Mem → Prop), Wp d 75 123 ls [.int v] M Q = Q (.returned (some (.int v))) M := fun d ls v M Q => w_ireturn (show ins 75 123 = some (.ireturn, 1) by decide +kernel) (by decide +kernel)
set_option maxRecDepth 100000 in
theorem r_75_124 : ∀ (d : Nat) (l1 l2 l3 : Option Value) (v : Nat) (st : List Value) (M : Mem) (Q : Outcome → Mem → Prop), Wp d 75 124 [some (.ref v), l1, l2, l3] st M Q = Wp d 75 125 [some (.ref v), l1, l2, l3] (.ref v :: st) M Q := fun d l1 l2 l3 v st M Q => wA (show ins 75 124 = some (.aload_n 0, 1) by decide +kernel) rfl
set_option maxRecDepth 100000 in
theorem r_75_125 : ∀ (d : Nat) (l0 l2 l3 : Option Value) (v : Int32) (st : List Value) (M : Mem) (Q : Outcome → Mem → Prop), Wp d 75 125 [l0, some (.int v), l2, l3] st M Q = Wp d 75 126 [l0, some (.int v), l2, l3] (.int v :: st) M Q := fun d l0 l2 l3 v st M Q => wA (show ins 75 125 = some (.iload_n 1, 1) by decide +kernel) rfl
set_option maxRecDepth 100000 in
theorem r_75_126 : ∀ (d : Nat) (ls : Lc) (v0 : Value) (a : Nat) (st : List Value) (M : Mem) (Q : Outcome → Mem → Prop), (smallR st = true) → Wp d 75 126 ls (v0 :: .ref a :: st) M Q = (kO M a = 1 ∧ Ca d 75 126 ls 56 (.ref a :: [v0]) st M Q) := fun d ls v0 a st M Q h0 => w_virt1 (as := [v0]) (show ins 75 126 = some (.invokevirtual 248, 3) by decide +kernel) (show mRes (mC 75) 248 = some (3, 1, [(1, 56)]) by decide +kernel) (by decide +kernel) rfl (by decide +kernel) (by decide +kernel) h0
set_option maxRecDepth 100000 in
theorem r_75_129 : ∀ (d : Nat) (l0 l1 l2 l3 : Option Value) (v : Int32) (st : List Value) (M : Mem) (Q : Outcome → Mem → Prop), (lo l2 = false) → Wp d 75 129 [l0, l1, l2, l3] (.int v :: st) M Q = Wp d 75 130 [l0, l1, l2, some (.int v)] st M Q := fun d l0 l1 l2 l3 v st M Q hl => w_istore_n (show ins 75 129 = some (.istore_n 3, 1) by decide +kernel) (st1_S rfl rfl hl)
set_option maxRecDepth 100000 in
theorem r_75_130 : ∀ (d : Nat) (l1 l2 l3 : Option Value) (v : Nat) (st : List Value) (M : Mem) (Q : Outcome → Mem → Prop), Wp d 75 130 [some (.ref v), l1, l2, l3] st M Q = Wp d 75 131 [some (.ref v), l1, l2, l3] (.ref v :: st) M Q := fun d l1 l2 l3 v st M Q => wA (show ins 75 130 = some (.aload_n 0, 1) by decide +kernel) rfl
set_option maxRecDepth 100000 in
theorem r_75_131 : ∀ (d : Nat) (ls : Lc) (a : Nat) (st : List Value) (M : Mem) (Q : Outcome → Mem → Prop), Wp d 75 131 ls (.ref a :: st) M Q = (fk 5 (kO M a) = true ∧ Wp d 75 134 ls (va_rf (mR M 5 a) :: st) M Q) := fun d ls a st M Q => w_getR (show ins 75 131 = some (.getfield 32, 3) by decide +kernel) (show fRes (mC 75) 32 = some (5, 1, false) by decide +kernel) (by decide +kernel)
set_option maxRecDepth 100000 in
theorem r_75_134 : ∀ (d : Nat) (l0 l1 l3 : Option Value) (v : Int32) (st : List Value) (M : Mem) (Q : Outcome → Mem → Prop), Wp d 75 134 [l0, l1, some (.int v), l3] st M Q = Wp d 75 135 [l0, l1, some (.int v), l3] (.int v :: st) M Q := fun d l0 l1 l3 v st M Q => wA (show ins 75 134 = some (.iload_n 2, 1) by decide +kernel) rfl
set_option maxRecDepth 100000 in
theorem r_75_135 : ∀ (d : Nat) (ls : Lc) (st : List Value) (M : Mem) (Q : Outcome → Mem → Prop), Wp d 75 135 ls st M Q = Wp d 75 136 ls (.int (I 5) :: st) M Q := fun d ls st M Q => w_iconst (show ins 75 135 = some (.iconst 5, 1) by decide +kernel)
set_option maxRecDepth 100000 in
theorem r_75_136 : ∀ (d : Nat) (ls : Lc) (a b : Int) (st : List Value) (M : Mem) (Q : Outcome → Mem → Prop), Wp d 75 136 ls (.int (I b) :: .int (I a) :: st) M Q = Wp d 75 137 ls (.int (I (a - b)) :: st) M Q := fun d ls a b st M Q => w_isub (show ins 75 136 = some (.isub, 1) by decide +kernel)
set_option maxRecDepth 100000 in
theorem r_75_137 : ∀ (d : Nat) (ls : Lc) (a : Nat) (j : Int32) (st : List Value) (M : Mem) (Q : Outcome → Mem → Prop), Wp d 75 137 ls (.int j :: .ref a :: st) M Q = ((((kX M a).1 = 0 ∨ (kX M a).1 = 8) ∧ inB j (kX M a).2 = true) ∧ Wp d 75 138 ls (.int (mA M a j.toNatClampNeg) :: st) M Q) := fun d ls a j st M Q => w_iaload (show ins 75 137 = some (.iaload, 1) by decide +kernel)
set_option maxRecDepth 100000 in
theorem r_75_138 : ∀ (d : Nat) (ls : Lc) (v : Int32) (M : Mem) (Q : Outcome → Mem → Prop), Wp d 75 138 ls [.int v] M Q = Q (.returned (some (.int v))) M := fun d ls v M Q => w_ireturn (show ins 75 138 = some (.ireturn, 1) by decide +kernel) (by decide +kernel)
set_option maxRecDepth 100000 in
theorem W_75 : (type_of% r_75_0) ∧ (type_of% r_75_1) ∧ (type_of% r_75_4) ∧ (type_of% r_75_5) ∧ (type_of% r_75_6) ∧ (type_of% r_75_9) ∧ (type_of% r_75_12) ∧ (type_of% r_75_13) ∧ (type_of% r_75_14) ∧ (type_of% r_75_17) ∧ (type_of% r_75_18) ∧ (type_of% r_75_19) ∧ (type_of% r_75_20) ∧ (type_of% r_75_21) ∧ (type_of% r_75_22) ∧ (type_of% r_75_23) ∧ (type_of% r_75_26) ∧ (type_of% r_75_27) ∧ (type_of% r_75_28) ∧ (type_of% r_75_31) ∧ (type_of% r_75_32) ∧ (type_of% r_75_35) ∧ (type_of% r_75_36) ∧ (type_of% r_75_39) ∧ (type_of% r_75_40) ∧ (type_of% r_75_43) ∧ (type_of% r_75_44) ∧ (type_of% r_75_47) ∧ (type_of% r_75_48) ∧ (type_of% r_75_51) ∧ (type_of% r_75_52) ∧ (type_of% r_75_52_1) ∧ (type_of% r_75_52_2) ∧ (type_of% r_75_52_3) ∧ (type_of% r_75_52_4) ∧ (type_of% r_75_52_5) ∧ (type_of% r_75_88) ∧ (type_of% r_75_89) ∧ (type_of% r_75_90) ∧ (type_of% r_75_91) ∧ (type_of% r_75_92) ∧ (type_of% r_75_95) ∧ (type_of% r_75_96) ∧ (type_of% r_75_97) ∧ (type_of% r_75_98) ∧ (type_of% r_75_101) ∧ (type_of% r_75_102) ∧ (type_of% r_75_103) ∧ (type_of% r_75_104) ∧ (type_of% r_75_107) ∧ (type_of% r_75_108) ∧ (type_of% r_75_109) ∧ (type_of% r_75_110) ∧ (type_of% r_75_111) ∧ (type_of% r_75_114) ∧ (type_of% r_75_115) ∧ (type_of% r_75_116) ∧ (type_of% r_75_117) ∧ (type_of% r_75_118) ∧ (type_of% r_75_119) ∧ (type_of% r_75_120) ∧ (type_of% r_75_123) ∧ (type_of% r_75_124) ∧ (type_of% r_75_125) ∧ (type_of% r_75_126) ∧ (type_of% r_75_129) ∧ (type_of% r_75_130) ∧ (type_of% r_75_131) ∧ (type_of% r_75_134) ∧ (type_of% r_75_135) ∧ (type_of% r_75_136) ∧ (type_of% r_75_137) ∧ (type_of% r_75_138) := ⟨r_75_0, r_75_1, r_75_4, r_75_5, r_75_6, r_75_9, r_75_12, r_75_13, r_75_14, r_75_17, r_75_18, r_75_19, r_75_20, r_75_21, r_75_22, r_75_23, r_75_26, r_75_27, r_75_28, r_75_31, r_75_32, r_75_35, r_75_36, r_75_39, r_75_40, r_75_43, r_75_44, r_75_47, r_75_48, r_75_51, r_75_52, r_75_52_1, r_75_52_2, r_75_52_3, r_75_52_4, r_75_52_5, r_75_88, r_75_89, r_75_90, r_75_91, r_75_92, r_75_95, r_75_96, r_75_97, r_75_98, r_75_101, r_75_102, r_75_103, r_75_104, r_75_107, r_75_108, r_75_109, r_75_110, r_75_111, r_75_114, r_75_115, r_75_116, r_75_117, r_75_118, r_75_119, r_75_120, r_75_123, r_75_124, r_75_125, r_75_126, r_75_129, r_75_130, r_75_131, r_75_134, r_75_135, r_75_136, r_75_137, r_75_138⟩
set_option maxRecDepth 100000 in
theorem ca_75 {d y pc : Nat} {ls : Lc} {a : Nat} {z0 : Int32} {z1 : Int32} {r : List Value} {M : Mem} {Q : Outcome → Mem → Prop} (hd : 0 < d) (hw : Wp (d - 1) 75 0 [some (.ref a), some (.int z0), some (.int z1), none] [] M (Cq d y pc ls r Q)) : Ca d y pc ls 75 [.ref a, .int z0, .int z1] r M Q := ca_of (mq_get (by decide)) (by rfl) hd hw
/-! 76 PackedTree.node(III)I; loop heads [25] -/
set_option maxRecDepth 100000 in
theorem r_76_0 : ∀ (d : Nat) (l1 l2 l3 l4 l5 : Option Value) (v : Nat) (st : List Value) (M : Mem) (Q : Outcome → Mem → Prop), Wp d 76 0 [some (.ref v), l1, l2, l3, l4, l5] st M Q = Wp d 76 1 [some (.ref v), l1, l2, l3, l4, l5] (.ref v :: st) M Q := fun d l1 l2 l3 l4 l5 v st M Q => wA (show ins 76 0 = some (.aload_n 0, 1) by decide +kernel) rfl
set_option maxRecDepth 100000 in
theorem r_76_1 : ∀ (d : Nat) (ls : Lc) (a : Nat) (st : List Value) (M : Mem) (Q : Outcome → Mem → Prop), (smallR st = true) → Wp d 76 1 ls (.ref a :: st) M Q = (kO M a = 1 ∧ Ca d 76 1 ls 30 (.ref a :: []) st M Q) := fun d ls a st M Q h0 => w_virt1 (as := []) (show ins 76 1 = some (.invokevirtual 204, 3) by decide +kernel) (show mRes (mC 76) 204 = some (3, 1, [(1, 30)]) by decide +kernel) (by decide +kernel) rfl (by decide +kernel) (by decide +kernel) h0
set_option maxRecDepth 100000 in
theorem r_76_4 : ∀ (d : Nat) (l0 l2 l3 l4 l5 : Option Value) (v : Int32) (st : List Value) (M : Mem) (Q : Outcome → Mem → Prop), Wp d 76 4 [l0, some (.int v), l2, l3, l4, l5] st M Q = Wp d 76 5 [l0, some (.int v), l2, l3, l4, l5] (.int v :: st) M Q := fun d l0 l2 l3 l4 l5 v st M Q => wA (show ins 76 4 = some (.iload_n 1, 1) by decide +kernel) rfl
set_option maxRecDepth 100000 in
theorem r_76_5 : ∀ (d : Nat) (ls : Lc) (a : Int32) (st : List Value) (M : Mem) (Q : Outcome → Mem → Prop), Wp d 76 5 ls (.int a :: st) M Q = Br (I 0 ≤ a) d 76 12 8 ls st M Q := fun d ls a st M Q => w_if (show ins 76 5 = some (.ifCond .ge 7, 3) by decide +kernel) rfl rfl
set_option maxRecDepth 100000 in
theorem r_76_8 : ∀ (d : Nat) (ls : Lc) (st : List Value) (M : Mem) (Q : Outcome → Mem → Prop), Wp d 76 8 ls st M Q = Wp d 76 9 ls (.null :: st) M Q := fun d ls st M Q => wA (show ins 76 8 = some (.aconst_null, 1) by decide +kernel) rfl
set_option maxRecDepth 100000 in
theorem r_76_9 : ∀ (d : Nat) (ls : Lc) (st : List Value) (M : Mem) (Q : Outcome → Mem → Prop), Wp d 76 9 ls st M Q = Wp d 76 20 ls st M Q := fun d ls st M Q => w_goto (show ins 76 9 = some (.goto 11, 3) by decide +kernel) rfl
set_option maxRecDepth 100000 in
theorem r_76_12 : ∀ (d : Nat) (l1 l2 l3 l4 l5 : Option Value) (v : Nat) (st : List Value) (M : Mem) (Q : Outcome → Mem → Prop), Wp d 76 12 [some (.ref v), l1, l2, l3, l4, l5] st M Q = Wp d 76 13 [some (.ref v), l1, l2, l3, l4, l5] (.ref v :: st) M Q := fun d l1 l2 l3 l4 l5 v st M Q => wA (show ins 76 12 = some (.aload_n 0, 1) by decide +kernel) rfl
set_option maxRecDepth 100000 in
theorem r_76_13 : ∀ (d : Nat) (ls : Lc) (a : Nat) (st : List Value) (M : Mem) (Q : Outcome → Mem → Prop), Wp d 76 13 ls (.ref a :: st) M Q = (fk 9 (kO M a) = true ∧ Wp d 76 16 ls (va_rf (mR M 9 a) :: st) M Q) := fun d ls a st M Q => w_getR (show ins 76 13 = some (.getfield 58, 3) by decide +kernel) (show fRes (mC 76) 58 = some (9, 1, false) by decide +kernel) (by decide +kernel)
set_option maxRecDepth 100000 in
theorem r_76_16 : ∀ (d : Nat) (l0 l2 l3 l4 l5 : Option Value) (v : Int32) (st : List Value) (M : Mem) (Q : Outcome → Mem → Prop), Wp d 76 16 [l0, some (.int v), l2, l3, l4, l5] st M Q = Wp d 76 17 [l0, some (.int v), l2, l3, l4, l5] (.int v :: st) M Q := fun d l0 l2 l3 l4 l5 v st M Q => wA (show ins 76 16 = some (.iload_n 1, 1) by decide +kernel) rfl
set_option maxRecDepth 100000 in
theorem r_76_17 : ∀ (d : Nat) (ls : Lc) (v0 : Value) (a : Nat) (st : List Value) (M : Mem) (Q : Outcome → Mem → Prop), (smallR st = true) → Wp d 76 17 ls (v0 :: .ref a :: st) M Q = (kO M a = 3 ∧ Ca d 76 17 ls 111 (.ref a :: [v0]) st M Q) := fun d ls v0 a st M Q h0 => w_virt1 (as := [v0]) (show ins 76 17 = some (.invokevirtual 309, 3) by decide +kernel) (show mRes (mC 76) 309 = some (3, 3, [(3, 111)]) by decide +kernel) (by decide +kernel) rfl (by decide +kernel) (by decide +kernel) h0
set_option maxRecDepth 100000 in
theorem r_76_20 : ∀ (d : Nat) (l0 l1 l2 l3 l4 l5 : Option Value) (v : Nat) (st : List Value) (M : Mem) (Q : Outcome → Mem → Prop), (lo l3 = false) → Wp d 76 20 [l0, l1, l2, l3, l4, l5] (.ref v :: st) M Q = Wp d 76 22 [l0, l1, l2, l3, some (.ref v), l5] st M Q := fun d l0 l1 l2 l3 l4 l5 v st M Q hl => w_astore (show ins 76 20 = some (.astore 4, 2) by decide +kernel) (st1_S rfl rfl hl)
set_option maxRecDepth 100000 in
theorem r_76_20_1 : ∀ (d : Nat) (l0 l1 l2 l3 l4 l5 : Option Value) (st : List Value) (M : Mem) (Q : Outcome → Mem → Prop), (lo l3 = false) → Wp d 76 20 [l0, l1, l2, l3, l4, l5] (.null :: st) M Q = Wp d 76 22 [l0, l1, l2, l3, some (.null), l5] st M Q := fun d l0 l1 l2 l3 l4 l5 st M Q hl => w_astoreN (show ins 76 20 = some (.astore 4, 2) by decide +kernel) (st1_S rfl rfl hl)
set_option maxRecDepth 100000 in
theorem r_76_22 : ∀ (d : Nat) (ls : Lc) (st : List Value) (M : Mem) (Q : Outcome → Mem → Prop), Wp d 76 22 ls st M Q = Wp d 76 23 ls (.int (I 0) :: st) M Q := fun d ls st M Q => w_iconst (show ins 76 22 = some (.iconst 0, 1) by decide +kernel)
set_option maxRecDepth 100000 in
theorem r_76_23 : ∀ (d : Nat) (l0 l1 l2 l3 l4 l5 : Option Value) (v : Int32) (st : List Value) (M : Mem) (Q : Outcome → Mem → Prop), (lo l4 = false) → Wp d 76 23 [l0, l1, l2, l3, l4, l5] (.int v :: st) M Q = Wp d 76 25 [l0, l1, l2, l3, l4, some (.int v)] st M Q := fun d l0 l1 l2 l3 l4 l5 v st M Q hl => w_istore (show ins 76 23 = some (.istore 5, 2) by decide +kernel) (st1_S rfl rfl hl)
set_option maxRecDepth 100000 in
theorem r_76_25 : ∀ (d : Nat) (l0 l1 l2 l3 l4 : Option Value) (v : Int32) (st : List Value) (M : Mem) (Q : Outcome → Mem → Prop), Wp d 76 25 [l0, l1, l2, l3, l4, some (.int v)] st M Q = Wp d 76 27 [l0, l1, l2, l3, l4, some (.int v)] (.int v :: st) M Q := fun d l0 l1 l2 l3 l4 v st M Q => wA (show ins 76 25 = some (.iload 5, 2) by decide +kernel) rfl
set_option maxRecDepth 100000 in
theorem r_76_27 : ∀ (d : Nat) (l0 l1 l3 l4 l5 : Option Value) (v : Int32) (st : List Value) (M : Mem) (Q : Outcome → Mem → Prop), Wp d 76 27 [l0, l1, some (.int v), l3, l4, l5] st M Q = Wp d 76 28 [l0, l1, some (.int v), l3, l4, l5] (.int v :: st) M Q := fun d l0 l1 l3 l4 l5 v st M Q => wA (show ins 76 27 = some (.iload_n 2, 1) by decide +kernel) rfl
set_option maxRecDepth 100000 in
theorem r_76_28 : ∀ (d : Nat) (ls : Lc) (a b : Int32) (st : List Value) (M : Mem) (Q : Outcome → Mem → Prop), Wp d 76 28 ls (.int b :: .int a :: st) M Q = Br (b ≤ a) d 76 49 31 ls st M Q := fun d ls a b st M Q => w_icmp (show ins 76 28 = some (.if_icmp .ge 21, 3) by decide +kernel) rfl rfl
set_option maxRecDepth 100000 in
theorem r_76_31 : ∀ (d : Nat) (l0 l1 l2 l3 l5 : Option Value) (v : Nat) (st : List Value) (M : Mem) (Q : Outcome → Mem → Prop), Wp d 76 31 [l0, l1, l2, l3, some (.ref v), l5] st M Q = Wp d 76 33 [l0, l1, l2, l3, some (.ref v), l5] (.ref v :: st) M Q := fun d l0 l1 l2 l3 l5 v st M Q => wA (show ins 76 31 = some (.aload 4, 2) by decide +kernel) rfl
set_option maxRecDepth 100000 in
theorem r_76_31_1 : ∀ (d : Nat) (l0 l1 l2 l3 l5 : Option Value) (st : List Value) (M : Mem) (Q : Outcome → Mem → Prop), Wp d 76 31 [l0, l1, l2, l3, some .null, l5] st M Q = Wp d 76 33 [l0, l1, l2, l3, some .null, l5] (.null :: st) M Q := fun d l0 l1 l2 l3 l5 st M Q => wA (show ins 76 31 = some (.aload 4, 2) by decide +kernel) rfl
set_option maxRecDepth 100000 in
theorem r_76_33 : ∀ (d : Nat) (ls : Lc) (st : List Value) (M : Mem) (Q : Outcome → Mem → Prop), Wp d 76 33 ls (.null :: st) M Q = Wp d 76 49 ls st M Q := fun d ls st M Q => w_ifnullN (show ins 76 33 = some (.ifnull 16, 3) by decide +kernel) rfl
set_option maxRecDepth 100000 in
theorem r_76_33_1 : ∀ (d : Nat) (ls : Lc) (v : Nat) (st : List Value) (M : Mem) (Q : Outcome → Mem → Prop), Wp d 76 33 ls (.ref v :: st) M Q = Wp d 76 36 ls st M Q := fun d ls v st M Q => w_ifnullR (show ins 76 33 = some (.ifnull 16, 3) by decide +kernel) (t := 49) rfl
set_option maxRecDepth 100000 in
theorem r_76_36 : ∀ (d : Nat) (l0 l1 l2 l3 l5 : Option Value) (v : Nat) (st : List Value) (M : Mem) (Q : Outcome → Mem → Prop), Wp d 76 36 [l0, l1, l2, l3, some (.ref v), l5] st M Q = Wp d 76 38 [l0, l1, l2, l3, some (.ref v), l5] (.ref v :: st) M Q := fun d l0 l1 l2 l3 l5 v st M Q => wA (show ins 76 36 = some (.aload 4, 2) by decide +kernel) rfl
set_option maxRecDepth 100000 in
theorem r_76_36_1 : ∀ (d : Nat) (l0 l1 l2 l3 l5 : Option Value) (st : List Value) (M : Mem) (Q : Outcome → Mem → Prop), Wp d 76 36 [l0, l1, l2, l3, some .null, l5] st M Q = Wp d 76 38 [l0, l1, l2, l3, some .null, l5] (.null :: st) M Q := fun d l0 l1 l2 l3 l5 st M Q => wA (show ins 76 36 = some (.aload 4, 2) by decide +kernel) rfl
set_option maxRecDepth 100000 in
theorem r_76_38 : ∀ (d : Nat) (ls : Lc) (a : Nat) (st : List Value) (M : Mem) (Q : Outcome → Mem → Prop), Wp d 76 38 ls (.ref a :: st) M Q = (fk 31 (kO M a) = true ∧ Wp d 76 41 ls (va_rf (mR M 31 a) :: st) M Q) := fun d ls a st M Q => w_getR (show ins 76 38 = some (.getfield 313, 3) by decide +kernel) (show fRes (mC 76) 313 = some (31, 7, false) by decide +kernel) (by decide +kernel)
set_option maxRecDepth 100000 in
theorem r_76_41 : ∀ (d : Nat) (l0 l1 l2 l3 l4 l5 : Option Value) (v : Nat) (st : List Value) (M : Mem) (Q : Outcome → Mem → Prop), (lo l3 = false) → Wp d 76 41 [l0, l1, l2, l3, l4, l5] (.ref v :: st) M Q = Wp d 76 43 [l0, l1, l2, l3, some (.ref v), l5] st M Q := fun d l0 l1 l2 l3 l4 l5 v st M Q hl => w_astore (show ins 76 41 = some (.astore 4, 2) by decide +kernel) (st1_S rfl rfl hl)
set_option maxRecDepth 100000 in
theorem r_76_41_1 : ∀ (d : Nat) (l0 l1 l2 l3 l4 l5 : Option Value) (st : List Value) (M : Mem) (Q : Outcome → Mem → Prop), (lo l3 = false) → Wp d 76 41 [l0, l1, l2, l3, l4, l5] (.null :: st) M Q = Wp d 76 43 [l0, l1, l2, l3, some (.null), l5] st M Q := fun d l0 l1 l2 l3 l4 l5 st M Q hl => w_astoreN (show ins 76 41 = some (.astore 4, 2) by decide +kernel) (st1_S rfl rfl hl)
set_option maxRecDepth 100000 in
theorem r_76_43 : ∀ (d : Nat) (l0 l1 l2 l3 l4 : Option Value) (z : Int) (st : List Value) (M : Mem) (Q : Outcome → Mem → Prop), (lo l4 = false) → Wp d 76 43 [l0, l1, l2, l3, l4, some (.int (I z))] st M Q = Wp d 76 46 [l0, l1, l2, l3, l4, some (.int (I (z + 1)))] st M Q := fun d l0 l1 l2 l3 l4 z st M Q hl => w_iinc (show ins 76 43 = some (.iinc 5 1, 3) by decide +kernel) rfl (st1_S rfl rfl hl)
set_option maxRecDepth 100000 in
theorem r_76_46 : ∀ (d : Nat) (ls : Lc) (st : List Value) (M : Mem) (Q : Outcome → Mem → Prop), Wp d 76 46 ls st M Q = Wp d 76 25 ls st M Q := fun d ls st M Q => w_goto (show ins 76 46 = some (.goto (-21), 3) by decide +kernel) rfl
set_option maxRecDepth 100000 in
theorem r_76_49 : ∀ (d : Nat) (l0 l1 l2 l3 l5 : Option Value) (v : Nat) (st : List Value) (M : Mem) (Q : Outcome → Mem → Prop), Wp d 76 49 [l0, l1, l2, l3, some (.ref v), l5] st M Q = Wp d 76 51 [l0, l1, l2, l3, some (.ref v), l5] (.ref v :: st) M Q := fun d l0 l1 l2 l3 l5 v st M Q => wA (show ins 76 49 = some (.aload 4, 2) by decide +kernel) rfl
set_option maxRecDepth 100000 in
theorem r_76_49_1 : ∀ (d : Nat) (l0 l1 l2 l3 l5 : Option Value) (st : List Value) (M : Mem) (Q : Outcome → Mem → Prop), Wp d 76 49 [l0, l1, l2, l3, some .null, l5] st M Q = Wp d 76 51 [l0, l1, l2, l3, some .null, l5] (.null :: st) M Q := fun d l0 l1 l2 l3 l5 st M Q => wA (show ins 76 49 = some (.aload 4, 2) by decide +kernel) rfl
set_option maxRecDepth 100000 in
theorem r_76_51 : ∀ (d : Nat) (ls : Lc) (st : List Value) (M : Mem) (Q : Outcome → Mem → Prop), Wp d 76 51 ls (.null :: st) M Q = Wp d 76 62 ls st M Q := fun d ls st M Q => w_ifnullN (show ins 76 51 = some (.ifnull 11, 3) by decide +kernel) rfl
set_option maxRecDepth 100000 in
theorem r_76_51_1 : ∀ (d : Nat) (ls : Lc) (v : Nat) (st : List Value) (M : Mem) (Q : Outcome → Mem → Prop), Wp d 76 51 ls (.ref v :: st) M Q = Wp d 76 54 ls st M Q := fun d ls v st M Q => w_ifnullR (show ins 76 51 = some (.ifnull 11, 3) by decide +kernel) (t := 62) rfl
set_option maxRecDepth 100000 in
theorem r_76_54 : ∀ (d : Nat) (l0 l1 l3 l4 l5 : Option Value) (v : Int32) (st : List Value) (M : Mem) (Q : Outcome → Mem → Prop), Wp d 76 54 [l0, l1, some (.int v), l3, l4, l5] st M Q = Wp d 76 55 [l0, l1, some (.int v), l3, l4, l5] (.int v :: st) M Q := fun d l0 l1 l3 l4 l5 v st M Q => wA (show ins 76 54 = some (.iload_n 2, 1) by decide +kernel) rfl
set_option maxRecDepth 100000 in
theorem r_76_55 : ∀ (d : Nat) (ls : Lc) (a : Int32) (st : List Value) (M : Mem) (Q : Outcome → Mem → Prop), Wp d 76 55 ls (.int a :: st) M Q = Br (a < I 0) d 76 62 58 ls st M Q := fun d ls a st M Q => w_if (show ins 76 55 = some (.ifCond .lt 7, 3) by decide +kernel) rfl rfl
set_option maxRecDepth 100000 in
theorem r_76_58 : ∀ (d : Nat) (ls : Lc) (st : List Value) (M : Mem) (Q : Outcome → Mem → Prop), Wp d 76 58 ls st M Q = Wp d 76 59 ls (.int (I 1) :: st) M Q := fun d ls st M Q => w_iconst (show ins 76 58 = some (.iconst 1, 1) by decide +kernel)
set_option maxRecDepth 100000 in
theorem r_76_59 : ∀ (d : Nat) (ls : Lc) (st : List Value) (M : Mem) (Q : Outcome → Mem → Prop), Wp d 76 59 ls st M Q = Wp d 76 63 ls st M Q := fun d ls st M Q => w_goto (show ins 76 59 = some (.goto 4, 3) by decide +kernel) rfl
set_option maxRecDepth 100000 in
theorem r_76_62 : ∀ (d : Nat) (ls : Lc) (st : List Value) (M : Mem) (Q : Outcome → Mem → Prop), Wp d 76 62 ls st M Q = Wp d 76 63 ls (.int (I 0) :: st) M Q := fun d ls st M Q => w_iconst (show ins 76 62 = some (.iconst 0, 1) by decide +kernel)
set_option maxRecDepth 100000 in
theorem r_76_63 : ∀ (d : Nat) (ls : Lc) (v0 : Value)  (st : List Value) (M : Mem) (Q : Outcome → Mem → Prop), (smallR st = true) → Wp d 76 63 ls (v0 :: st) M Q = Ca d 76 63 ls 37 [v0] st M Q := fun d ls v0 st M Q h0 => w_stat (as := [v0]) (show ins 76 63 = some (.invokestatic 210, 3) by decide +kernel) (show mRes (mC 76) 210 = some (0, 1, [(0, 37)]) by decide +kernel) (by decide +kernel) (by decide +kernel) rfl h0
set_option maxRecDepth 100000 in
theorem r_76_66 : ∀ (d : Nat) (l0 l1 l2 l4 l5 : Option Value) (v : Int32) (st : List Value) (M : Mem) (Q : Outcome → Mem → Prop), Wp d 76 66 [l0, l1, l2, some (.int v), l4, l5] st M Q = Wp d 76 67 [l0, l1, l2, some (.int v), l4, l5] (.int v :: st) M Q := fun d l0 l1 l2 l4 l5 v st M Q => wA (show ins 76 66 = some (.iload_n 3, 1) by decide +kernel) rfl
set_option maxRecDepth 100000 in
theorem r_76_67 : ∀ (d : Nat) (ls : Lc) (a : Int32) (st : List Value) (M : Mem) (Q : Outcome → Mem → Prop), Wp d 76 67 ls (.int a :: st) M Q = Br (a < I 0) d 76 79 70 ls st M Q := fun d ls a st M Q => w_if (show ins 76 67 = some (.ifCond .lt 12, 3) by decide +kernel) rfl rfl
set_option maxRecDepth 100000 in
theorem r_76_70 : ∀ (d : Nat) (l0 l1 l2 l4 l5 : Option Value) (v : Int32) (st : List Value) (M : Mem) (Q : Outcome → Mem → Prop), Wp d 76 70 [l0, l1, l2, some (.int v), l4, l5] st M Q = Wp d 76 71 [l0, l1, l2, some (.int v), l4, l5] (.int v :: st) M Q := fun d l0 l1 l2 l4 l5 v st M Q => wA (show ins 76 70 = some (.iload_n 3, 1) by decide +kernel) rfl
set_option maxRecDepth 100000 in
theorem r_76_71 : ∀ (d : Nat) (ls : Lc) (st : List Value) (M : Mem) (Q : Outcome → Mem → Prop), Wp d 76 71 ls st M Q = Wp d 76 72 ls (.int (I 3) :: st) M Q := fun d ls st M Q => w_iconst (show ins 76 71 = some (.iconst 3, 1) by decide +kernel)
set_option maxRecDepth 100000 in
theorem r_76_72 : ∀ (d : Nat) (ls : Lc) (a b : Int32) (st : List Value) (M : Mem) (Q : Outcome → Mem → Prop), Wp d 76 72 ls (.int b :: .int a :: st) M Q = Br (b < a) d 76 79 75 ls st M Q := fun d ls a b st M Q => w_icmp (show ins 76 72 = some (.if_icmp .gt 7, 3) by decide +kernel) rfl rfl
set_option maxRecDepth 100000 in
theorem r_76_75 : ∀ (d : Nat) (ls : Lc) (st : List Value) (M : Mem) (Q : Outcome → Mem → Prop), Wp d 76 75 ls st M Q = Wp d 76 76 ls (.int (I 1) :: st) M Q := fun d ls st M Q => w_iconst (show ins 76 75 = some (.iconst 1, 1) by decide +kernel)
set_option maxRecDepth 100000 in
theorem r_76_76 : ∀ (d : Nat) (ls : Lc) (st : List Value) (M : Mem) (Q : Outcome → Mem → Prop), Wp d 76 76 ls st M Q = Wp d 76 80 ls st M Q := fun d ls st M Q => w_goto (show ins 76 76 = some (.goto 4, 3) by decide +kernel) rfl
set_option maxRecDepth 100000 in
theorem r_76_79 : ∀ (d : Nat) (ls : Lc) (st : List Value) (M : Mem) (Q : Outcome → Mem → Prop), Wp d 76 79 ls st M Q = Wp d 76 80 ls (.int (I 0) :: st) M Q := fun d ls st M Q => w_iconst (show ins 76 79 = some (.iconst 0, 1) by decide +kernel)
set_option maxRecDepth 100000 in
theorem r_76_80 : ∀ (d : Nat) (ls : Lc) (v0 : Value)  (st : List Value) (M : Mem) (Q : Outcome → Mem → Prop), (smallR st = true) → Wp d 76 80 ls (v0 :: st) M Q = Ca d 76 80 ls 39 [v0] st M Q := fun d ls v0 st M Q h0 => w_stat (as := [v0]) (show ins 76 80 = some (.invokestatic 217, 3) by decide +kernel) (show mRes (mC 76) 217 = some (0, 1, [(0, 39)]) by decide +kernel) (by decide +kernel) (by decide +kernel) rfl h0
set_option maxRecDepth 100000 in
theorem r_76_83 : ∀ (d : Nat) (l0 l1 l2 l4 l5 : Option Value) (v : Int32) (st : List Value) (M : Mem) (Q : Outcome → Mem → Prop), Wp d 76 83 [l0, l1, l2, some (.int v), l4, l5] st M Q = Wp d 76 84 [l0, l1, l2, some (.int v), l4, l5] (.int v :: st) M Q := fun d l0 l1 l2 l4 l5 v st M Q => wA (show ins 76 83 = some (.iload_n 3, 1) by decide +kernel) rfl
set_option maxRecDepth 100000 in
theorem r_76_84 : ∀ (d : Nat) (ls : Lc) (a : Int32) (st : List Value) (M : Mem) (Q : Outcome → Mem → Prop), Wp d 76 84 ls (.int a :: st) M Q = Br (¬ a = I 0) d 76 95 87 ls st M Q := fun d ls a st M Q => w_if (show ins 76 84 = some (.ifCond .ne 11, 3) by decide +kernel) rfl rfl
set_option maxRecDepth 100000 in
theorem r_76_87 : ∀ (d : Nat) (l0 l1 l2 l3 l5 : Option Value) (v : Nat) (st : List Value) (M : Mem) (Q : Outcome → Mem → Prop), Wp d 76 87 [l0, l1, l2, l3, some (.ref v), l5] st M Q = Wp d 76 89 [l0, l1, l2, l3, some (.ref v), l5] (.ref v :: st) M Q := fun d l0 l1 l2 l3 l5 v st M Q => wA (show ins 76 87 = some (.aload 4, 2) by decide +kernel) rfl
set_option maxRecDepth 100000 in
theorem r_76_87_1 : ∀ (d : Nat) (l0 l1 l2 l3 l5 : Option Value) (st : List Value) (M : Mem) (Q : Outcome → Mem → Prop), Wp d 76 87 [l0, l1, l2, l3, some .null, l5] st M Q = Wp d 76 89 [l0, l1, l2, l3, some .null, l5] (.null :: st) M Q := fun d l0 l1 l2 l3 l5 st M Q => wA (show ins 76 87 = some (.aload 4, 2) by decide +kernel) rfl
set_option maxRecDepth 100000 in
theorem r_76_89 : ∀ (d : Nat) (ls : Lc) (a : Nat) (st : List Value) (M : Mem) (Q : Outcome → Mem → Prop), Wp d 76 89 ls (.ref a :: st) M Q = (fk 32 (kO M a) = true ∧ Wp d 76 92 ls (.int (mF M 32 a) :: st) M Q) := fun d ls a st M Q => w_getI (show ins 76 89 = some (.getfield 126, 3) by decide +kernel) (show fRes (mC 76) 126 = some (32, 7, false) by decide +kernel) (by decide +kernel)
set_option maxRecDepth 100000 in
theorem r_76_92 : ∀ (d : Nat) (ls : Lc) (st : List Value) (M : Mem) (Q : Outcome → Mem → Prop), Wp d 76 92 ls st M Q = Wp d 76 141 ls st M Q := fun d ls st M Q => w_goto (show ins 76 92 = some (.goto 49, 3) by decide +kernel) rfl
set_option maxRecDepth 100000 in
theorem r_76_95 : ∀ (d : Nat) (l0 l1 l2 l4 l5 : Option Value) (v : Int32) (st : List Value) (M : Mem) (Q : Outcome → Mem → Prop), Wp d 76 95 [l0, l1, l2, some (.int v), l4, l5] st M Q = Wp d 76 96 [l0, l1, l2, some (.int v), l4, l5] (.int v :: st) M Q := fun d l0 l1 l2 l4 l5 v st M Q => wA (show ins 76 95 = some (.iload_n 3, 1) by decide +kernel) rfl
set_option maxRecDepth 100000 in
theorem r_76_96 : ∀ (d : Nat) (ls : Lc) (st : List Value) (M : Mem) (Q : Outcome → Mem → Prop), Wp d 76 96 ls st M Q = Wp d 76 97 ls (.int (I 1) :: st) M Q := fun d ls st M Q => w_iconst (show ins 76 96 = some (.iconst 1, 1) by decide +kernel)
set_option maxRecDepth 100000 in
theorem r_76_97 : ∀ (d : Nat) (ls : Lc) (a b : Int32) (st : List Value) (M : Mem) (Q : Outcome → Mem → Prop), Wp d 76 97 ls (.int b :: .int a :: st) M Q = Br (¬ a = b) d 76 108 100 ls st M Q := fun d ls a b st M Q => w_icmp (show ins 76 97 = some (.if_icmp .ne 11, 3) by decide +kernel) rfl rfl
set_option maxRecDepth 100000 in
theorem r_76_100 : ∀ (d : Nat) (l0 l1 l2 l3 l5 : Option Value) (v : Nat) (st : List Value) (M : Mem) (Q : Outcome → Mem → Prop), Wp d 76 100 [l0, l1, l2, l3, some (.ref v), l5] st M Q = Wp d 76 102 [l0, l1, l2, l3, some (.ref v), l5] (.ref v :: st) M Q := fun d l0 l1 l2 l3 l5 v st M Q => wA (show ins 76 100 = some (.aload 4, 2) by decide +kernel) rfl
set_option maxRecDepth 100000 in
theorem r_76_100_1 : ∀ (d : Nat) (l0 l1 l2 l3 l5 : Option Value) (st : List Value) (M : Mem) (Q : Outcome → Mem → Prop), Wp d 76 100 [l0, l1, l2, l3, some .null, l5] st M Q = Wp d 76 102 [l0, l1, l2, l3, some .null, l5] (.null :: st) M Q := fun d l0 l1 l2 l3 l5 st M Q => wA (show ins 76 100 = some (.aload 4, 2) by decide +kernel) rfl
set_option maxRecDepth 100000 in
theorem r_76_102 : ∀ (d : Nat) (ls : Lc) (a : Nat) (st : List Value) (M : Mem) (Q : Outcome → Mem → Prop), (smallR st = true) → Wp d 76 102 ls (.ref a :: st) M Q = ((kO M a = 5 ∧ Ca d 76 102 ls 136 (.ref a :: []) st M Q) ∨ (kO M a = 6 ∧ Ca d 76 102 ls 147 (.ref a :: []) st M Q)) := fun d ls a st M Q h0 => w_virt2 (as := []) (show ins 76 102 = some (.invokevirtual 314, 3) by decide +kernel) (show mRes (mC 76) 314 = some (4, 7, [(5, 136), (6, 147)]) by decide +kernel) (by decide +kernel) rfl (by decide +kernel) (by decide +kernel) (by decide +kernel) (by decide +kernel) (by decide +kernel) h0
set_option maxRecDepth 100000 in
theorem r_76_105 : ∀ (d : Nat) (ls : Lc) (st : List Value) (M : Mem) (Q : Outcome → Mem → Prop), Wp d 76 105 ls st M Q = Wp d 76 141 ls st M Q := fun d ls st M Q => w_goto (show ins 76 105 = some (.goto 36, 3) by decide +kernel) rfl
set_option maxRecDepth 100000 in
theorem r_76_108 : ∀ (d : Nat) (l0 l1 l2 l4 l5 : Option Value) (v : Int32) (st : List Value) (M : Mem) (Q : Outcome → Mem → Prop), Wp d 76 108 [l0, l1, l2, some (.int v), l4, l5] st M Q = Wp d 76 109 [l0, l1, l2, some (.int v), l4, l5] (.int v :: st) M Q := fun d l0 l1 l2 l4 l5 v st M Q => wA (show ins 76 108 = some (.iload_n 3, 1) by decide +kernel) rfl
set_option maxRecDepth 100000 in
theorem r_76_109 : ∀ (d : Nat) (ls : Lc) (st : List Value) (M : Mem) (Q : Outcome → Mem → Prop), Wp d 76 109 ls st M Q = Wp d 76 110 ls (.int (I 2) :: st) M Q := fun d ls st M Q => w_iconst (show ins 76 109 = some (.iconst 2, 1) by decide +kernel)
set_option maxRecDepth 100000 in
theorem r_76_110 : ∀ (d : Nat) (ls : Lc) (a b : Int32) (st : List Value) (M : Mem) (Q : Outcome → Mem → Prop), Wp d 76 110 ls (.int b :: .int a :: st) M Q = Br (¬ a = b) d 76 121 113 ls st M Q := fun d ls a b st M Q => w_icmp (show ins 76 110 = some (.if_icmp .ne 11, 3) by decide +kernel) rfl rfl
set_option maxRecDepth 100000 in
theorem r_76_113 : ∀ (d : Nat) (l0 l1 l2 l3 l5 : Option Value) (v : Nat) (st : List Value) (M : Mem) (Q : Outcome → Mem → Prop), Wp d 76 113 [l0, l1, l2, l3, some (.ref v), l5] st M Q = Wp d 76 115 [l0, l1, l2, l3, some (.ref v), l5] (.ref v :: st) M Q := fun d l0 l1 l2 l3 l5 v st M Q => wA (show ins 76 113 = some (.aload 4, 2) by decide +kernel) rfl
set_option maxRecDepth 100000 in
theorem r_76_113_1 : ∀ (d : Nat) (l0 l1 l2 l3 l5 : Option Value) (st : List Value) (M : Mem) (Q : Outcome → Mem → Prop), Wp d 76 113 [l0, l1, l2, l3, some .null, l5] st M Q = Wp d 76 115 [l0, l1, l2, l3, some .null, l5] (.null :: st) M Q := fun d l0 l1 l2 l3 l5 st M Q => wA (show ins 76 113 = some (.aload 4, 2) by decide +kernel) rfl
set_option maxRecDepth 100000 in
theorem r_76_115 : ∀ (d : Nat) (ls : Lc) (a : Nat) (st : List Value) (M : Mem) (Q : Outcome → Mem → Prop), (smallR st = true) → Wp d 76 115 ls (.ref a :: st) M Q = ((kO M a = 5 ∧ Ca d 76 115 ls 129 (.ref a :: []) st M Q) ∨ (kO M a = 6 ∧ Ca d 76 115 ls 148 (.ref a :: []) st M Q)) := fun d ls a st M Q h0 => w_virt2 (as := []) (show ins 76 115 = some (.invokevirtual 316, 3) by decide +kernel) (show mRes (mC 76) 316 = some (4, 7, [(5, 129), (6, 148)]) by decide +kernel) (by decide +kernel) rfl (by decide +kernel) (by decide +kernel) (by decide +kernel) (by decide +kernel) (by decide +kernel) h0
set_option maxRecDepth 100000 in
theorem r_76_118 : ∀ (d : Nat) (ls : Lc) (st : List Value) (M : Mem) (Q : Outcome → Mem → Prop), Wp d 76 118 ls st M Q = Wp d 76 141 ls st M Q := fun d ls st M Q => w_goto (show ins 76 118 = some (.goto 23, 3) by decide +kernel) rfl
set_option maxRecDepth 100000 in
theorem r_76_121 : ∀ (d : Nat) (l0 l1 l2 l3 l5 : Option Value) (v : Nat) (st : List Value) (M : Mem) (Q : Outcome → Mem → Prop), Wp d 76 121 [l0, l1, l2, l3, some (.ref v), l5] st M Q = Wp d 76 123 [l0, l1, l2, l3, some (.ref v), l5] (.ref v :: st) M Q := fun d l0 l1 l2 l3 l5 v st M Q => wA (show ins 76 121 = some (.aload 4, 2) by decide +kernel) rfl
set_option maxRecDepth 100000 in
theorem r_76_121_1 : ∀ (d : Nat) (l0 l1 l2 l3 l5 : Option Value) (st : List Value) (M : Mem) (Q : Outcome → Mem → Prop), Wp d 76 121 [l0, l1, l2, l3, some .null, l5] st M Q = Wp d 76 123 [l0, l1, l2, l3, some .null, l5] (.null :: st) M Q := fun d l0 l1 l2 l3 l5 st M Q => wA (show ins 76 121 = some (.aload 4, 2) by decide +kernel) rfl
set_option maxRecDepth 100000 in
theorem r_76_123 : ∀ (d : Nat) (ls : Lc) (a : Nat) (st : List Value) (M : Mem) (Q : Outcome → Mem → Prop), Wp d 76 123 ls (.ref a :: st) M Q = (fk 33 (kO M a) = true ∧ Wp d 76 126 ls (va_rf (mR M 33 a) :: st) M Q) := fun d ls a st M Q => w_getR (show ins 76 123 = some (.getfield 319, 3) by decide +kernel) (show fRes (mC 76) 319 = some (33, 7, false) by decide +kernel) (by decide +kernel)
set_option maxRecDepth 100000 in
theorem r_76_126 : ∀ (d : Nat) (ls : Lc) (st : List Value) (M : Mem) (Q : Outcome → Mem → Prop), Wp d 76 126 ls (.null :: st) M Q = Wp d 76 129 ls st M Q := fun d ls st M Q => w_ifnnN (show ins 76 126 = some (.ifnonnull 7, 3) by decide +kernel) (t := 133) rfl
set_option maxRecDepth 100000 in
theorem r_76_126_1 : ∀ (d : Nat) (ls : Lc) (v : Nat) (st : List Value) (M : Mem) (Q : Outcome → Mem → Prop), Wp d 76 126 ls (.ref v :: st) M Q = Wp d 76 133 ls st M Q := fun d ls v st M Q => w_ifnnR (show ins 76 126 = some (.ifnonnull 7, 3) by decide +kernel) rfl
set_option maxRecDepth 100000 in
theorem r_76_129 : ∀ (d : Nat) (ls : Lc) (st : List Value) (M : Mem) (Q : Outcome → Mem → Prop), Wp d 76 129 ls st M Q = Wp d 76 130 ls (.int (I (-1)) :: st) M Q := fun d ls st M Q => w_iconst (show ins 76 129 = some (.iconst (-1), 1) by decide +kernel)
set_option maxRecDepth 100000 in
theorem r_76_130 : ∀ (d : Nat) (ls : Lc) (st : List Value) (M : Mem) (Q : Outcome → Mem → Prop), Wp d 76 130 ls st M Q = Wp d 76 141 ls st M Q := fun d ls st M Q => w_goto (show ins 76 130 = some (.goto 11, 3) by decide +kernel) rfl
set_option maxRecDepth 100000 in
theorem r_76_133 : ∀ (d : Nat) (l0 l1 l2 l3 l5 : Option Value) (v : Nat) (st : List Value) (M : Mem) (Q : Outcome → Mem → Prop), Wp d 76 133 [l0, l1, l2, l3, some (.ref v), l5] st M Q = Wp d 76 135 [l0, l1, l2, l3, some (.ref v), l5] (.ref v :: st) M Q := fun d l0 l1 l2 l3 l5 v st M Q => wA (show ins 76 133 = some (.aload 4, 2) by decide +kernel) rfl
set_option maxRecDepth 100000 in
theorem r_76_133_1 : ∀ (d : Nat) (l0 l1 l2 l3 l5 : Option Value) (st : List Value) (M : Mem) (Q : Outcome → Mem → Prop), Wp d 76 133 [l0, l1, l2, l3, some .null, l5] st M Q = Wp d 76 135 [l0, l1, l2, l3, some .null, l5] (.null :: st) M Q := fun d l0 l1 l2 l3 l5 st M Q => wA (show ins 76 133 = some (.aload 4, 2) by decide +kernel) rfl
set_option maxRecDepth 100000 in
theorem r_76_135 : ∀ (d : Nat) (ls : Lc) (a : Nat) (st : List Value) (M : Mem) (Q : Outcome → Mem → Prop), Wp d 76 135 ls (.ref a :: st) M Q = (fk 33 (kO M a) = true ∧ Wp d 76 138 ls (va_rf (mR M 33 a) :: st) M Q) := fun d ls a st M Q => w_getR (show ins 76 135 = some (.getfield 319, 3) by decide +kernel) (show fRes (mC 76) 319 = some (33, 7, false) by decide +kernel) (by decide +kernel)
set_option maxRecDepth 100000 in
theorem r_76_138 : ∀ (d : Nat) (ls : Lc) (a : Nat) (st : List Value) (M : Mem) (Q : Outcome → Mem → Prop), Wp d 76 138 ls (.ref a :: st) M Q = (fk 32 (kO M a) = true ∧ Wp d 76 141 ls (.int (mF M 32 a) :: st) M Q) := fun d ls a st M Q => w_getI (show ins 76 138 = some (.getfield 323, 3) by decide +kernel) (show fRes (mC 76) 323 = some (32, 6, false) by decide +kernel) (by decide +kernel)
set_option maxRecDepth 100000 in
theorem r_76_141 : ∀ (d : Nat) (ls : Lc) (v : Int32) (M : Mem) (Q : Outcome → Mem → Prop), Wp d 76 141 ls [.int v] M Q = Q (.returned (some (.int v))) M := fun d ls v M Q => w_ireturn (show ins 76 141 = some (.ireturn, 1) by decide +kernel) (by decide +kernel)
set_option maxRecDepth 100000 in
theorem w_76_25 : (type_of% r_76_25) := r_76_25
set_option maxRecDepth 100000 in
theorem W_76 : (type_of% r_76_0) ∧ (type_of% r_76_1) ∧ (type_of% r_76_4) ∧ (type_of% r_76_5) ∧ (type_of% r_76_8) ∧ (type_of% r_76_9) ∧ (type_of% r_76_12) ∧ (type_of% r_76_13) ∧ (type_of% r_76_16) ∧ (type_of% r_76_17) ∧ (type_of% r_76_20) ∧ (type_of% r_76_20_1) ∧ (type_of% r_76_22) ∧ (type_of% r_76_23) ∧ (type_of% r_76_27) ∧ (type_of% r_76_28) ∧ (type_of% r_76_31) ∧ (type_of% r_76_31_1) ∧ (type_of% r_76_33) ∧ (type_of% r_76_33_1) ∧ (type_of% r_76_36) ∧ (type_of% r_76_36_1) ∧ (type_of% r_76_38) ∧ (type_of% r_76_41) ∧ (type_of% r_76_41_1) ∧ (type_of% r_76_43) ∧ (type_of% r_76_46) ∧ (type_of% r_76_49) ∧ (type_of% r_76_49_1) ∧ (type_of% r_76_51) ∧ (type_of% r_76_51_1) ∧ (type_of% r_76_54) ∧ (type_of% r_76_55) ∧ (type_of% r_76_58) ∧ (type_of% r_76_59) ∧ (type_of% r_76_62) ∧ (type_of% r_76_63) ∧ (type_of% r_76_66) ∧ (type_of% r_76_67) ∧ (type_of% r_76_70) ∧ (type_of% r_76_71) ∧ (type_of% r_76_72) ∧ (type_of% r_76_75) ∧ (type_of% r_76_76) ∧ (type_of% r_76_79) ∧ (type_of% r_76_80) ∧ (type_of% r_76_83) ∧ (type_of% r_76_84) ∧ (type_of% r_76_87) ∧ (type_of% r_76_87_1) ∧ (type_of% r_76_89) ∧ (type_of% r_76_92) ∧ (type_of% r_76_95) ∧ (type_of% r_76_96) ∧ (type_of% r_76_97) ∧ (type_of% r_76_100) ∧ (type_of% r_76_100_1) ∧ (type_of% r_76_102) ∧ (type_of% r_76_105) ∧ (type_of% r_76_108) ∧ (type_of% r_76_109) ∧ (type_of% r_76_110) ∧ (type_of% r_76_113) ∧ (type_of% r_76_113_1) ∧ (type_of% r_76_115) ∧ (type_of% r_76_118) ∧ (type_of% r_76_121) ∧ (type_of% r_76_121_1) ∧ (type_of% r_76_123) ∧ (type_of% r_76_126) ∧ (type_of% r_76_126_1) ∧ (type_of% r_76_129) ∧ (type_of% r_76_130) ∧ (type_of% r_76_133) ∧ (type_of% r_76_133_1) ∧ (type_of% r_76_135) ∧ (type_of% r_76_138) ∧ (type_of% r_76_141) := ⟨r_76_0, r_76_1, r_76_4, r_76_5, r_76_8, r_76_9, r_76_12, r_76_13, r_76_16, r_76_17, r_76_20, r_76_20_1, r_76_22, r_76_23, r_76_27, r_76_28, r_76_31, r_76_31_1, r_76_33, r_76_33_1, r_76_36, r_76_36_1, r_76_38, r_76_41, r_76_41_1, r_76_43, r_76_46, r_76_49, r_76_49_1, r_76_51, r_76_51_1, r_76_54, r_76_55, r_76_58, r_76_59, r_76_62, r_76_63, r_76_66, r_76_67, r_76_70, r_76_71, r_76_72, r_76_75, r_76_76, r_76_79, r_76_80, r_76_83, r_76_84, r_76_87, r_76_87_1, r_76_89, r_76_92, r_76_95, r_76_96, r_76_97, r_76_100, r_76_100_1, r_76_102, r_76_105, r_76_108, r_76_109, r_76_110, r_76_113, r_76_113_1, r_76_115, r_76_118, r_76_121, r_76_121_1, r_76_123, r_76_126, r_76_126_1, r_76_129, r_76_130, r_76_133, r_76_133_1, r_76_135, r_76_138, r_76_141⟩
set_option maxRecDepth 100000 in
theorem ca_76 {d y pc : Nat} {ls : Lc} {a : Nat} {z0 : Int32} {z1 : Int32} {z2 : Int32} {r : List Value} {M : Mem} {Q : Outcome → Mem → Prop} (hd : 0 < d) (hw : Wp (d - 1) 76 0 [some (.ref a), some (.int z0), some (.int z1), some (.int z2), none, none] [] M (Cq d y pc ls r Q)) : Ca d y pc ls 76 [.ref a, .int z0, .int z1, .int z2] r M Q := ca_of (mq_get (by decide)) (by rfl) hd hw
/-! 77 PackedTree.item(II)I; loop heads [15] -/
set_option maxRecDepth 100000 in
theorem r_77_0 : ∀ (d : Nat) (l1 l2 l3 l4 l5 : Option Value) (v : Nat) (st : List Value) (M : Mem) (Q : Outcome → Mem → Prop), Wp d 77 0 [some (.ref v), l1, l2, l3, l4, l5] st M Q = Wp d 77 1 [some (.ref v), l1, l2, l3, l4, l5] (.ref v :: st) M Q := fun d l1 l2 l3 l4 l5 v st M Q => wA (show ins 77 0 = some (.aload_n 0, 1) by decide +kernel) rfl
set_option maxRecDepth 100000 in
theorem r_77_1 : ∀ (d : Nat) (ls : Lc) (a : Nat) (st : List Value) (M : Mem) (Q : Outcome → Mem → Prop), (smallR st = true) → Wp d 77 1 ls (.ref a :: st) M Q = (kO M a = 1 ∧ Ca d 77 1 ls 30 (.ref a :: []) st M Q) := fun d ls a st M Q h0 => w_virt1 (as := []) (show ins 77 1 = some (.invokevirtual 204, 3) by decide +kernel) (show mRes (mC 77) 204 = some (3, 1, [(1, 30)]) by decide +kernel) (by decide +kernel) rfl (by decide +kernel) (by decide +kernel) h0
set_option maxRecDepth 100000 in
theorem r_77_4 : ∀ (d : Nat) (l1 l2 l3 l4 l5 : Option Value) (v : Nat) (st : List Value) (M : Mem) (Q : Outcome → Mem → Prop), Wp d 77 4 [some (.ref v), l1, l2, l3, l4, l5] st M Q = Wp d 77 5 [some (.ref v), l1, l2, l3, l4, l5] (.ref v :: st) M Q := fun d l1 l2 l3 l4 l5 v st M Q => wA (show ins 77 4 = some (.aload_n 0, 1) by decide +kernel) rfl
set_option maxRecDepth 100000 in
theorem r_77_5 : ∀ (d : Nat) (ls : Lc) (a : Nat) (st : List Value) (M : Mem) (Q : Outcome → Mem → Prop), Wp d 77 5 ls (.ref a :: st) M Q = (fk 9 (kO M a) = true ∧ Wp d 77 8 ls (va_rf (mR M 9 a) :: st) M Q) := fun d ls a st M Q => w_getR (show ins 77 5 = some (.getfield 58, 3) by decide +kernel) (show fRes (mC 77) 58 = some (9, 1, false) by decide +kernel) (by decide +kernel)
set_option maxRecDepth 100000 in
theorem r_77_8 : ∀ (d : Nat) (ls : Lc) (a : Nat) (st : List Value) (M : Mem) (Q : Outcome → Mem → Prop), (smallR st = true) → Wp d 77 8 ls (.ref a :: st) M Q = (kO M a = 3 ∧ Ca d 77 8 ls 110 (.ref a :: []) st M Q) := fun d ls a st M Q h0 => w_virt1 (as := []) (show ins 77 8 = some (.invokevirtual 254, 3) by decide +kernel) (show mRes (mC 77) 254 = some (3, 3, [(3, 110)]) by decide +kernel) (by decide +kernel) rfl (by decide +kernel) (by decide +kernel) h0
set_option maxRecDepth 100000 in
theorem r_77_11 : ∀ (d : Nat) (l0 l1 l2 l3 l4 l5 : Option Value) (v : Nat) (st : List Value) (M : Mem) (Q : Outcome → Mem → Prop), (lo l2 = false) → Wp d 77 11 [l0, l1, l2, l3, l4, l5] (.ref v :: st) M Q = Wp d 77 12 [l0, l1, l2, some (.ref v), l4, l5] st M Q := fun d l0 l1 l2 l3 l4 l5 v st M Q hl => w_astore_n (show ins 77 11 = some (.astore_n 3, 1) by decide +kernel) (st1_S rfl rfl hl)
set_option maxRecDepth 100000 in
theorem r_77_11_1 : ∀ (d : Nat) (l0 l1 l2 l3 l4 l5 : Option Value) (st : List Value) (M : Mem) (Q : Outcome → Mem → Prop), (lo l2 = false) → Wp d 77 11 [l0, l1, l2, l3, l4, l5] (.null :: st) M Q = Wp d 77 12 [l0, l1, l2, some (.null), l4, l5] st M Q := fun d l0 l1 l2 l3 l4 l5 st M Q hl => w_astoreN_n (show ins 77 11 = some (.astore_n 3, 1) by decide +kernel) (st1_S rfl rfl hl)
set_option maxRecDepth 100000 in
theorem r_77_12 : ∀ (d : Nat) (l0 l2 l3 l4 l5 : Option Value) (v : Int32) (st : List Value) (M : Mem) (Q : Outcome → Mem → Prop), Wp d 77 12 [l0, some (.int v), l2, l3, l4, l5] st M Q = Wp d 77 13 [l0, some (.int v), l2, l3, l4, l5] (.int v :: st) M Q := fun d l0 l2 l3 l4 l5 v st M Q => wA (show ins 77 12 = some (.iload_n 1, 1) by decide +kernel) rfl
set_option maxRecDepth 100000 in
theorem r_77_13 : ∀ (d : Nat) (l0 l1 l2 l3 l4 l5 : Option Value) (v : Int32) (st : List Value) (M : Mem) (Q : Outcome → Mem → Prop), (lo l3 = false) → Wp d 77 13 [l0, l1, l2, l3, l4, l5] (.int v :: st) M Q = Wp d 77 15 [l0, l1, l2, l3, some (.int v), l5] st M Q := fun d l0 l1 l2 l3 l4 l5 v st M Q hl => w_istore (show ins 77 13 = some (.istore 4, 2) by decide +kernel) (st1_S rfl rfl hl)
set_option maxRecDepth 100000 in
theorem r_77_15 : ∀ (d : Nat) (l0 l1 l2 l4 l5 : Option Value) (v : Nat) (st : List Value) (M : Mem) (Q : Outcome → Mem → Prop), Wp d 77 15 [l0, l1, l2, some (.ref v), l4, l5] st M Q = Wp d 77 16 [l0, l1, l2, some (.ref v), l4, l5] (.ref v :: st) M Q := fun d l0 l1 l2 l4 l5 v st M Q => wA (show ins 77 15 = some (.aload_n 3, 1) by decide +kernel) rfl
set_option maxRecDepth 100000 in
theorem r_77_15_1 : ∀ (d : Nat) (l0 l1 l2 l4 l5 : Option Value) (st : List Value) (M : Mem) (Q : Outcome → Mem → Prop), Wp d 77 15 [l0, l1, l2, some .null, l4, l5] st M Q = Wp d 77 16 [l0, l1, l2, some .null, l4, l5] (.null :: st) M Q := fun d l0 l1 l2 l4 l5 st M Q => wA (show ins 77 15 = some (.aload_n 3, 1) by decide +kernel) rfl
set_option maxRecDepth 100000 in
theorem r_77_16 : ∀ (d : Nat) (ls : Lc) (st : List Value) (M : Mem) (Q : Outcome → Mem → Prop), Wp d 77 16 ls (.null :: st) M Q = Wp d 77 48 ls st M Q := fun d ls st M Q => w_ifnullN (show ins 77 16 = some (.ifnull 32, 3) by decide +kernel) rfl
set_option maxRecDepth 100000 in
theorem r_77_16_1 : ∀ (d : Nat) (ls : Lc) (v : Nat) (st : List Value) (M : Mem) (Q : Outcome → Mem → Prop), Wp d 77 16 ls (.ref v :: st) M Q = Wp d 77 19 ls st M Q := fun d ls v st M Q => w_ifnullR (show ins 77 16 = some (.ifnull 32, 3) by decide +kernel) (t := 48) rfl
set_option maxRecDepth 100000 in
theorem r_77_19 : ∀ (d : Nat) (l0 l1 l2 l3 l5 : Option Value) (v : Int32) (st : List Value) (M : Mem) (Q : Outcome → Mem → Prop), Wp d 77 19 [l0, l1, l2, l3, some (.int v), l5] st M Q = Wp d 77 21 [l0, l1, l2, l3, some (.int v), l5] (.int v :: st) M Q := fun d l0 l1 l2 l3 l5 v st M Q => wA (show ins 77 19 = some (.iload 4, 2) by decide +kernel) rfl
set_option maxRecDepth 100000 in
theorem r_77_21 : ∀ (d : Nat) (l0 l1 l2 l4 l5 : Option Value) (v : Nat) (st : List Value) (M : Mem) (Q : Outcome → Mem → Prop), Wp d 77 21 [l0, l1, l2, some (.ref v), l4, l5] st M Q = Wp d 77 22 [l0, l1, l2, some (.ref v), l4, l5] (.ref v :: st) M Q := fun d l0 l1 l2 l4 l5 v st M Q => wA (show ins 77 21 = some (.aload_n 3, 1) by decide +kernel) rfl
set_option maxRecDepth 100000 in
theorem r_77_21_1 : ∀ (d : Nat) (l0 l1 l2 l4 l5 : Option Value) (st : List Value) (M : Mem) (Q : Outcome → Mem → Prop), Wp d 77 21 [l0, l1, l2, some .null, l4, l5] st M Q = Wp d 77 22 [l0, l1, l2, some .null, l4, l5] (.null :: st) M Q := fun d l0 l1 l2 l4 l5 st M Q => wA (show ins 77 21 = some (.aload_n 3, 1) by decide +kernel) rfl
set_option maxRecDepth 100000 in
theorem r_77_22 : ∀ (d : Nat) (ls : Lc) (a : Nat) (st : List Value) (M : Mem) (Q : Outcome → Mem → Prop), Wp d 77 22 ls (.ref a :: st) M Q = (fk 37 (kO M a) = true ∧ Wp d 77 25 ls (.int (mF M 37 a) :: st) M Q) := fun d ls a st M Q => w_getI (show ins 77 22 = some (.getfield 258, 3) by decide +kernel) (show fRes (mC 77) 258 = some (37, 5, true) by decide +kernel) (by decide +kernel)
set_option maxRecDepth 100000 in
theorem r_77_25 : ∀ (d : Nat) (ls : Lc) (a b : Int32) (st : List Value) (M : Mem) (Q : Outcome → Mem → Prop), Wp d 77 25 ls (.int b :: .int a :: st) M Q = Br (a < b) d 77 48 28 ls st M Q := fun d ls a b st M Q => w_icmp (show ins 77 25 = some (.if_icmp .lt 23, 3) by decide +kernel) rfl rfl
set_option maxRecDepth 100000 in
theorem r_77_28 : ∀ (d : Nat) (l0 l1 l2 l3 l5 : Option Value) (v : Int32) (st : List Value) (M : Mem) (Q : Outcome → Mem → Prop), Wp d 77 28 [l0, l1, l2, l3, some (.int v), l5] st M Q = Wp d 77 30 [l0, l1, l2, l3, some (.int v), l5] (.int v :: st) M Q := fun d l0 l1 l2 l3 l5 v st M Q => wA (show ins 77 28 = some (.iload 4, 2) by decide +kernel) rfl
set_option maxRecDepth 100000 in
theorem r_77_30 : ∀ (d : Nat) (l0 l1 l2 l4 l5 : Option Value) (v : Nat) (st : List Value) (M : Mem) (Q : Outcome → Mem → Prop), Wp d 77 30 [l0, l1, l2, some (.ref v), l4, l5] st M Q = Wp d 77 31 [l0, l1, l2, some (.ref v), l4, l5] (.ref v :: st) M Q := fun d l0 l1 l2 l4 l5 v st M Q => wA (show ins 77 30 = some (.aload_n 3, 1) by decide +kernel) rfl
set_option maxRecDepth 100000 in
theorem r_77_30_1 : ∀ (d : Nat) (l0 l1 l2 l4 l5 : Option Value) (st : List Value) (M : Mem) (Q : Outcome → Mem → Prop), Wp d 77 30 [l0, l1, l2, some .null, l4, l5] st M Q = Wp d 77 31 [l0, l1, l2, some .null, l4, l5] (.null :: st) M Q := fun d l0 l1 l2 l4 l5 st M Q => wA (show ins 77 30 = some (.aload_n 3, 1) by decide +kernel) rfl
set_option maxRecDepth 100000 in
theorem r_77_31 : ∀ (d : Nat) (ls : Lc) (a : Nat) (st : List Value) (M : Mem) (Q : Outcome → Mem → Prop), Wp d 77 31 ls (.ref a :: st) M Q = (fk 37 (kO M a) = true ∧ Wp d 77 34 ls (.int (mF M 37 a) :: st) M Q) := fun d ls a st M Q => w_getI (show ins 77 31 = some (.getfield 258, 3) by decide +kernel) (show fRes (mC 77) 258 = some (37, 5, true) by decide +kernel) (by decide +kernel)
set_option maxRecDepth 100000 in
theorem r_77_34 : ∀ (d : Nat) (ls : Lc) (a b : Int) (st : List Value) (M : Mem) (Q : Outcome → Mem → Prop), Wp d 77 34 ls (.int (I b) :: .int (I a) :: st) M Q = Wp d 77 35 ls (.int (I (a - b)) :: st) M Q := fun d ls a b st M Q => w_isub (show ins 77 34 = some (.isub, 1) by decide +kernel)
set_option maxRecDepth 100000 in
theorem r_77_35 : ∀ (d : Nat) (l0 l1 l2 l3 l4 l5 : Option Value) (v : Int32) (st : List Value) (M : Mem) (Q : Outcome → Mem → Prop), (lo l3 = false) → Wp d 77 35 [l0, l1, l2, l3, l4, l5] (.int v :: st) M Q = Wp d 77 37 [l0, l1, l2, l3, some (.int v), l5] st M Q := fun d l0 l1 l2 l3 l4 l5 v st M Q hl => w_istore (show ins 77 35 = some (.istore 4, 2) by decide +kernel) (st1_S rfl rfl hl)
set_option maxRecDepth 100000 in
theorem r_77_37 : ∀ (d : Nat) (l0 l1 l2 l4 l5 : Option Value) (v : Nat) (st : List Value) (M : Mem) (Q : Outcome → Mem → Prop), Wp d 77 37 [l0, l1, l2, some (.ref v), l4, l5] st M Q = Wp d 77 38 [l0, l1, l2, some (.ref v), l4, l5] (.ref v :: st) M Q := fun d l0 l1 l2 l4 l5 v st M Q => wA (show ins 77 37 = some (.aload_n 3, 1) by decide +kernel) rfl
set_option maxRecDepth 100000 in
theorem r_77_37_1 : ∀ (d : Nat) (l0 l1 l2 l4 l5 : Option Value) (st : List Value) (M : Mem) (Q : Outcome → Mem → Prop), Wp d 77 37 [l0, l1, l2, some .null, l4, l5] st M Q = Wp d 77 38 [l0, l1, l2, some .null, l4, l5] (.null :: st) M Q := fun d l0 l1 l2 l4 l5 st M Q => wA (show ins 77 37 = some (.aload_n 3, 1) by decide +kernel) rfl
set_option maxRecDepth 100000 in
theorem r_77_38 : ∀ (d : Nat) (ls : Lc) (a : Nat) (st : List Value) (M : Mem) (Q : Outcome → Mem → Prop), Wp d 77 38 ls (.ref a :: st) M Q = (fk 31 (kO M a) = true ∧ Wp d 77 41 ls (va_rf (mR M 31 a) :: st) M Q) := fun d ls a st M Q => w_getR (show ins 77 38 = some (.getfield 270, 3) by decide +kernel) (show fRes (mC 77) 270 = some (31, 5, false) by decide +kernel) (by decide +kernel)
set_option maxRecDepth 100000 in
theorem r_77_41 : ∀ (d : Nat) (ls : Lc) (st : List Value) (M : Mem) (Q : Outcome → Mem → Prop), Wp d 77 41 ls (.null :: st) M Q = Wp d 77 44 ls (.null :: st) M Q := fun d ls st M Q => w_castN (show ins 77 41 = some (.checkcast 160, 3) by decide +kernel)
set_option maxRecDepth 100000 in
theorem r_77_41_1 : ∀ (d : Nat) (ls : Lc) (a : Nat) (st : List Value) (M : Mem) (Q : Outcome → Mem → Prop), Wp d 77 41 ls (.ref a :: st) M Q = (kO M a = 5 ∧ Wp d 77 44 ls (.ref a :: st) M Q) := fun d ls a st M Q => w_cast (show ins 77 41 = some (.checkcast 160, 3) by decide +kernel) (show cRes (mC 77) 160 = some 5 by decide +kernel) (by decide +kernel)
set_option maxRecDepth 100000 in
theorem r_77_44 : ∀ (d : Nat) (l0 l1 l2 l3 l4 l5 : Option Value) (v : Nat) (st : List Value) (M : Mem) (Q : Outcome → Mem → Prop), (lo l2 = false) → Wp d 77 44 [l0, l1, l2, l3, l4, l5] (.ref v :: st) M Q = Wp d 77 45 [l0, l1, l2, some (.ref v), l4, l5] st M Q := fun d l0 l1 l2 l3 l4 l5 v st M Q hl => w_astore_n (show ins 77 44 = some (.astore_n 3, 1) by decide +kernel) (st1_S rfl rfl hl)
set_option maxRecDepth 100000 in
theorem r_77_44_1 : ∀ (d : Nat) (l0 l1 l2 l3 l4 l5 : Option Value) (st : List Value) (M : Mem) (Q : Outcome → Mem → Prop), (lo l2 = false) → Wp d 77 44 [l0, l1, l2, l3, l4, l5] (.null :: st) M Q = Wp d 77 45 [l0, l1, l2, some (.null), l4, l5] st M Q := fun d l0 l1 l2 l3 l4 l5 st M Q hl => w_astoreN_n (show ins 77 44 = some (.astore_n 3, 1) by decide +kernel) (st1_S rfl rfl hl)
set_option maxRecDepth 100000 in
theorem r_77_45 : ∀ (d : Nat) (ls : Lc) (st : List Value) (M : Mem) (Q : Outcome → Mem → Prop), Wp d 77 45 ls st M Q = Wp d 77 15 ls st M Q := fun d ls st M Q => w_goto (show ins 77 45 = some (.goto (-30), 3) by decide +kernel) rfl
set_option maxRecDepth 100000 in
theorem r_77_48 : ∀ (d : Nat) (l0 l1 l2 l4 l5 : Option Value) (v : Nat) (st : List Value) (M : Mem) (Q : Outcome → Mem → Prop), Wp d 77 48 [l0, l1, l2, some (.ref v), l4, l5] st M Q = Wp d 77 49 [l0, l1, l2, some (.ref v), l4, l5] (.ref v :: st) M Q := fun d l0 l1 l2 l4 l5 v st M Q => wA (show ins 77 48 = some (.aload_n 3, 1) by decide +kernel) rfl
set_option maxRecDepth 100000 in
theorem r_77_48_1 : ∀ (d : Nat) (l0 l1 l2 l4 l5 : Option Value) (st : List Value) (M : Mem) (Q : Outcome → Mem → Prop), Wp d 77 48 [l0, l1, l2, some .null, l4, l5] st M Q = Wp d 77 49 [l0, l1, l2, some .null, l4, l5] (.null :: st) M Q := fun d l0 l1 l2 l4 l5 st M Q => wA (show ins 77 48 = some (.aload_n 3, 1) by decide +kernel) rfl
set_option maxRecDepth 100000 in
theorem r_77_49 : ∀ (d : Nat) (ls : Lc) (st : List Value) (M : Mem) (Q : Outcome → Mem → Prop), Wp d 77 49 ls (.null :: st) M Q = Wp d 77 61 ls st M Q := fun d ls st M Q => w_ifnullN (show ins 77 49 = some (.ifnull 12, 3) by decide +kernel) rfl
set_option maxRecDepth 100000 in
theorem r_77_49_1 : ∀ (d : Nat) (ls : Lc) (v : Nat) (st : List Value) (M : Mem) (Q : Outcome → Mem → Prop), Wp d 77 49 ls (.ref v :: st) M Q = Wp d 77 52 ls st M Q := fun d ls v st M Q => w_ifnullR (show ins 77 49 = some (.ifnull 12, 3) by decide +kernel) (t := 61) rfl
set_option maxRecDepth 100000 in
theorem r_77_52 : ∀ (d : Nat) (l0 l1 l2 l3 l5 : Option Value) (v : Int32) (st : List Value) (M : Mem) (Q : Outcome → Mem → Prop), Wp d 77 52 [l0, l1, l2, l3, some (.int v), l5] st M Q = Wp d 77 54 [l0, l1, l2, l3, some (.int v), l5] (.int v :: st) M Q := fun d l0 l1 l2 l3 l5 v st M Q => wA (show ins 77 52 = some (.iload 4, 2) by decide +kernel) rfl
set_option maxRecDepth 100000 in
theorem r_77_54 : ∀ (d : Nat) (ls : Lc) (a : Int32) (st : List Value) (M : Mem) (Q : Outcome → Mem → Prop), Wp d 77 54 ls (.int a :: st) M Q = Br (a < I 0) d 77 61 57 ls st M Q := fun d ls a st M Q => w_if (show ins 77 54 = some (.ifCond .lt 7, 3) by decide +kernel) rfl rfl
set_option maxRecDepth 100000 in
theorem r_77_57 : ∀ (d : Nat) (ls : Lc) (st : List Value) (M : Mem) (Q : Outcome → Mem → Prop), Wp d 77 57 ls st M Q = Wp d 77 58 ls (.int (I 1) :: st) M Q := fun d ls st M Q => w_iconst (show ins 77 57 = some (.iconst 1, 1) by decide +kernel)
set_option maxRecDepth 100000 in
theorem r_77_58 : ∀ (d : Nat) (ls : Lc) (st : List Value) (M : Mem) (Q : Outcome → Mem → Prop), Wp d 77 58 ls st M Q = Wp d 77 62 ls st M Q := fun d ls st M Q => w_goto (show ins 77 58 = some (.goto 4, 3) by decide +kernel) rfl
set_option maxRecDepth 100000 in
theorem r_77_61 : ∀ (d : Nat) (ls : Lc) (st : List Value) (M : Mem) (Q : Outcome → Mem → Prop), Wp d 77 61 ls st M Q = Wp d 77 62 ls (.int (I 0) :: st) M Q := fun d ls st M Q => w_iconst (show ins 77 61 = some (.iconst 0, 1) by decide +kernel)
set_option maxRecDepth 100000 in
theorem r_77_62 : ∀ (d : Nat) (ls : Lc) (v0 : Value)  (st : List Value) (M : Mem) (Q : Outcome → Mem → Prop), (smallR st = true) → Wp d 77 62 ls (v0 :: st) M Q = Ca d 77 62 ls 37 [v0] st M Q := fun d ls v0 st M Q h0 => w_stat (as := [v0]) (show ins 77 62 = some (.invokestatic 210, 3) by decide +kernel) (show mRes (mC 77) 210 = some (0, 1, [(0, 37)]) by decide +kernel) (by decide +kernel) (by decide +kernel) rfl h0
set_option maxRecDepth 100000 in
theorem r_77_65 : ∀ (d : Nat) (l0 l1 l3 l4 l5 : Option Value) (v : Int32) (st : List Value) (M : Mem) (Q : Outcome → Mem → Prop), Wp d 77 65 [l0, l1, some (.int v), l3, l4, l5] st M Q = Wp d 77 66 [l0, l1, some (.int v), l3, l4, l5] (.int v :: st) M Q := fun d l0 l1 l3 l4 l5 v st M Q => wA (show ins 77 65 = some (.iload_n 2, 1) by decide +kernel) rfl
set_option maxRecDepth 100000 in
theorem r_77_66 : ∀ (d : Nat) (ls : Lc) (a : Int32) (st : List Value) (M : Mem) (Q : Outcome → Mem → Prop), Wp d 77 66 ls (.int a :: st) M Q = Br (a < I 0) d 77 78 69 ls st M Q := fun d ls a st M Q => w_if (show ins 77 66 = some (.ifCond .lt 12, 3) by decide +kernel) rfl rfl
set_option maxRecDepth 100000 in
theorem r_77_69 : ∀ (d : Nat) (l0 l1 l3 l4 l5 : Option Value) (v : Int32) (st : List Value) (M : Mem) (Q : Outcome → Mem → Prop), Wp d 77 69 [l0, l1, some (.int v), l3, l4, l5] st M Q = Wp d 77 70 [l0, l1, some (.int v), l3, l4, l5] (.int v :: st) M Q := fun d l0 l1 l3 l4 l5 v st M Q => wA (show ins 77 69 = some (.iload_n 2, 1) by decide +kernel) rfl
set_option maxRecDepth 100000 in
theorem r_77_70 : ∀ (d : Nat) (ls : Lc) (st : List Value) (M : Mem) (Q : Outcome → Mem → Prop), Wp d 77 70 ls st M Q = Wp d 77 71 ls (.int (I 4) :: st) M Q := fun d ls st M Q => w_iconst (show ins 77 70 = some (.iconst 4, 1) by decide +kernel)
set_option maxRecDepth 100000 in
theorem r_77_71 : ∀ (d : Nat) (ls : Lc) (a b : Int32) (st : List Value) (M : Mem) (Q : Outcome → Mem → Prop), Wp d 77 71 ls (.int b :: .int a :: st) M Q = Br (b < a) d 77 78 74 ls st M Q := fun d ls a b st M Q => w_icmp (show ins 77 71 = some (.if_icmp .gt 7, 3) by decide +kernel) rfl rfl
set_option maxRecDepth 100000 in
theorem r_77_74 : ∀ (d : Nat) (ls : Lc) (st : List Value) (M : Mem) (Q : Outcome → Mem → Prop), Wp d 77 74 ls st M Q = Wp d 77 75 ls (.int (I 1) :: st) M Q := fun d ls st M Q => w_iconst (show ins 77 74 = some (.iconst 1, 1) by decide +kernel)
set_option maxRecDepth 100000 in
theorem r_77_75 : ∀ (d : Nat) (ls : Lc) (st : List Value) (M : Mem) (Q : Outcome → Mem → Prop), Wp d 77 75 ls st M Q = Wp d 77 79 ls st M Q := fun d ls st M Q => w_goto (show ins 77 75 = some (.goto 4, 3) by decide +kernel) rfl
set_option maxRecDepth 100000 in
theorem r_77_78 : ∀ (d : Nat) (ls : Lc) (st : List Value) (M : Mem) (Q : Outcome → Mem → Prop), Wp d 77 78 ls st M Q = Wp d 77 79 ls (.int (I 0) :: st) M Q := fun d ls st M Q => w_iconst (show ins 77 78 = some (.iconst 0, 1) by decide +kernel)
set_option maxRecDepth 100000 in
theorem r_77_79 : ∀ (d : Nat) (ls : Lc) (v0 : Value)  (st : List Value) (M : Mem) (Q : Outcome → Mem → Prop), (smallR st = true) → Wp d 77 79 ls (v0 :: st) M Q = Ca d 77 79 ls 39 [v0] st M Q := fun d ls v0 st M Q h0 => w_stat (as := [v0]) (show ins 77 79 = some (.invokestatic 217, 3) by decide +kernel) (show mRes (mC 77) 217 = some (0, 1, [(0, 39)]) by decide +kernel) (by decide +kernel) (by decide +kernel) rfl h0
set_option maxRecDepth 100000 in
theorem r_77_82 : ∀ (d : Nat) (l0 l1 l2 l4 l5 : Option Value) (v : Nat) (st : List Value) (M : Mem) (Q : Outcome → Mem → Prop), Wp d 77 82 [l0, l1, l2, some (.ref v), l4, l5] st M Q = Wp d 77 83 [l0, l1, l2, some (.ref v), l4, l5] (.ref v :: st) M Q := fun d l0 l1 l2 l4 l5 v st M Q => wA (show ins 77 82 = some (.aload_n 3, 1) by decide +kernel) rfl
set_option maxRecDepth 100000 in
theorem r_77_82_1 : ∀ (d : Nat) (l0 l1 l2 l4 l5 : Option Value) (st : List Value) (M : Mem) (Q : Outcome → Mem → Prop), Wp d 77 82 [l0, l1, l2, some .null, l4, l5] st M Q = Wp d 77 83 [l0, l1, l2, some .null, l4, l5] (.null :: st) M Q := fun d l0 l1 l2 l4 l5 st M Q => wA (show ins 77 82 = some (.aload_n 3, 1) by decide +kernel) rfl
set_option maxRecDepth 100000 in
theorem r_77_83 : ∀ (d : Nat) (ls : Lc) (a : Nat) (st : List Value) (M : Mem) (Q : Outcome → Mem → Prop), Wp d 77 83 ls (.ref a :: st) M Q = (fk 36 (kO M a) = true ∧ Wp d 77 86 ls (va_rf (mR M 36 a) :: st) M Q) := fun d ls a st M Q => w_getR (show ins 77 83 = some (.getfield 261, 3) by decide +kernel) (show fRes (mC 77) 261 = some (36, 5, true) by decide +kernel) (by decide +kernel)
set_option maxRecDepth 100000 in
theorem r_77_86 : ∀ (d : Nat) (l0 l1 l2 l3 l5 : Option Value) (v : Int32) (st : List Value) (M : Mem) (Q : Outcome → Mem → Prop), Wp d 77 86 [l0, l1, l2, l3, some (.int v), l5] st M Q = Wp d 77 88 [l0, l1, l2, l3, some (.int v), l5] (.int v :: st) M Q := fun d l0 l1 l2 l3 l5 v st M Q => wA (show ins 77 86 = some (.iload 4, 2) by decide +kernel) rfl
set_option maxRecDepth 100000 in
theorem r_77_88 : ∀ (d : Nat) (ls : Lc) (a : Nat) (j : Int32) (st : List Value) (M : Mem) (Q : Outcome → Mem → Prop), Wp d 77 88 ls (.int j :: .ref a :: st) M Q = ((((kX M a).1 = 0 ∨ (kX M a).1 = 8) ∧ inB j (kX M a).2 = true) ∧ Wp d 77 89 ls (.int (mA M a j.toNatClampNeg) :: st) M Q) := fun d ls a j st M Q => w_iaload (show ins 77 88 = some (.iaload, 1) by decide +kernel)
set_option maxRecDepth 100000 in
theorem r_77_89 : ∀ (d : Nat) (l0 l1 l2 l3 l4 l5 : Option Value) (v : Int32) (st : List Value) (M : Mem) (Q : Outcome → Mem → Prop), (lo l4 = false) → Wp d 77 89 [l0, l1, l2, l3, l4, l5] (.int v :: st) M Q = Wp d 77 91 [l0, l1, l2, l3, l4, some (.int v)] st M Q := fun d l0 l1 l2 l3 l4 l5 v st M Q hl => w_istore (show ins 77 89 = some (.istore 5, 2) by decide +kernel) (st1_S rfl rfl hl)
set_option maxRecDepth 100000 in
theorem r_77_91 : ∀ (d : Nat) (l0 l1 l3 l4 l5 : Option Value) (v : Int32) (st : List Value) (M : Mem) (Q : Outcome → Mem → Prop), Wp d 77 91 [l0, l1, some (.int v), l3, l4, l5] st M Q = Wp d 77 92 [l0, l1, some (.int v), l3, l4, l5] (.int v :: st) M Q := fun d l0 l1 l3 l4 l5 v st M Q => wA (show ins 77 91 = some (.iload_n 2, 1) by decide +kernel) rfl
set_option maxRecDepth 100000 in
theorem r_77_92 : ∀ (d : Nat) (ls : Lc) (st : List Value) (M : Mem) (Q : Outcome → Mem → Prop), Wp d 77 92 ls (.int (I 0) :: st) M Q = Wp d 77 124 ls st M Q := fun d ls st M Q => w_tswK (show ins 77 92 = some (.tableswitch 59 0 3 #[32, 38, 44, 51], 32) by decide +kernel) (by decide) rfl rfl
set_option maxRecDepth 100000 in
theorem r_77_92_1 : ∀ (d : Nat) (ls : Lc) (st : List Value) (M : Mem) (Q : Outcome → Mem → Prop), Wp d 77 92 ls (.int (I 1) :: st) M Q = Wp d 77 130 ls st M Q := fun d ls st M Q => w_tswK (show ins 77 92 = some (.tableswitch 59 0 3 #[32, 38, 44, 51], 32) by decide +kernel) (by decide) rfl rfl
set_option maxRecDepth 100000 in
theorem r_77_92_2 : ∀ (d : Nat) (ls : Lc) (st : List Value) (M : Mem) (Q : Outcome → Mem → Prop), Wp d 77 92 ls (.int (I 2) :: st) M Q = Wp d 77 136 ls st M Q := fun d ls st M Q => w_tswK (show ins 77 92 = some (.tableswitch 59 0 3 #[32, 38, 44, 51], 32) by decide +kernel) (by decide) rfl rfl
set_option maxRecDepth 100000 in
theorem r_77_92_3 : ∀ (d : Nat) (ls : Lc) (st : List Value) (M : Mem) (Q : Outcome → Mem → Prop), Wp d 77 92 ls (.int (I 3) :: st) M Q = Wp d 77 143 ls st M Q := fun d ls st M Q => w_tswK (show ins 77 92 = some (.tableswitch 59 0 3 #[32, 38, 44, 51], 32) by decide +kernel) (by decide) rfl rfl
set_option maxRecDepth 100000 in
theorem r_77_92_4 : ∀ (d : Nat) (ls : Lc) (z : Int) (st : List Value) (M : Mem) (Q : Outcome → Mem → Prop), (-2147483648 ≤ z) → (z < 2147483648) → (z < 0 ∨ 3 < z) → Wp d 77 92 ls (.int (I z) :: st) M Q = Wp d 77 151 ls st M Q := fun d ls z st M Q h0 h1 h2 => w_tswD (show ins 77 92 = some (.tableswitch 59 0 3 #[32, 38, 44, 51], 32) by decide +kernel) (by rw [I_toInt h0 h1]; exact h2) rfl
set_option maxRecDepth 100000 in
theorem r_77_124 : ∀ (d : Nat) (l0 l1 l2 l3 l4 : Option Value) (v : Int32) (st : List Value) (M : Mem) (Q : Outcome → Mem → Prop), Wp d 77 124 [l0, l1, l2, l3, l4, some (.int v)] st M Q = Wp d 77 126 [l0, l1, l2, l3, l4, some (.int v)] (.int v :: st) M Q := fun d l0 l1 l2 l3 l4 v st M Q => wA (show ins 77 124 = some (.iload 5, 2) by decide +kernel) rfl
set_option maxRecDepth 100000 in
theorem r_77_126 : ∀ (d : Nat) (ls : Lc) (v0 : Value)  (st : List Value) (M : Mem) (Q : Outcome → Mem → Prop), (smallR st = true) → Wp d 77 126 ls (v0 :: st) M Q = Ca d 77 126 ls 62 [v0] st M Q := fun d ls v0 st M Q h0 => w_stat (as := [v0]) (show ins 77 126 = some (.invokestatic 267, 3) by decide +kernel) (show mRes (mC 77) 267 = some (0, 1, [(0, 62)]) by decide +kernel) (by decide +kernel) (by decide +kernel) rfl h0
set_option maxRecDepth 100000 in
theorem r_77_129 : ∀ (d : Nat) (ls : Lc) (v : Int32) (M : Mem) (Q : Outcome → Mem → Prop), Wp d 77 129 ls [.int v] M Q = Q (.returned (some (.int v))) M := fun d ls v M Q => w_ireturn (show ins 77 129 = some (.ireturn, 1) by decide +kernel) (by decide +kernel)
set_option maxRecDepth 100000 in
theorem r_77_130 : ∀ (d : Nat) (l0 l1 l2 l3 l4 : Option Value) (v : Int32) (st : List Value) (M : Mem) (Q : Outcome → Mem → Prop), Wp d 77 130 [l0, l1, l2, l3, l4, some (.int v)] st M Q = Wp d 77 132 [l0, l1, l2, l3, l4, some (.int v)] (.int v :: st) M Q := fun d l0 l1 l2 l3 l4 v st M Q => wA (show ins 77 130 = some (.iload 5, 2) by decide +kernel) rfl
set_option maxRecDepth 100000 in
theorem r_77_132 : ∀ (d : Nat) (ls : Lc) (v0 : Value)  (st : List Value) (M : Mem) (Q : Outcome → Mem → Prop), (smallR st = true) → Wp d 77 132 ls (v0 :: st) M Q = Ca d 77 132 ls 61 [v0] st M Q := fun d ls v0 st M Q h0 => w_stat (as := [v0]) (show ins 77 132 = some (.invokestatic 264, 3) by decide +kernel) (show mRes (mC 77) 264 = some (0, 1, [(0, 61)]) by decide +kernel) (by decide +kernel) (by decide +kernel) rfl h0
set_option maxRecDepth 100000 in
theorem r_77_135 : ∀ (d : Nat) (ls : Lc) (v : Int32) (M : Mem) (Q : Outcome → Mem → Prop), Wp d 77 135 ls [.int v] M Q = Q (.returned (some (.int v))) M := fun d ls v M Q => w_ireturn (show ins 77 135 = some (.ireturn, 1) by decide +kernel) (by decide +kernel)
set_option maxRecDepth 100000 in
theorem r_77_136 : ∀ (d : Nat) (l0 l1 l2 l3 l4 : Option Value) (v : Int32) (st : List Value) (M : Mem) (Q : Outcome → Mem → Prop), Wp d 77 136 [l0, l1, l2, l3, l4, some (.int v)] st M Q = Wp d 77 138 [l0, l1, l2, l3, l4, some (.int v)] (.int v :: st) M Q := fun d l0 l1 l2 l3 l4 v st M Q => wA (show ins 77 136 = some (.iload 5, 2) by decide +kernel) rfl
set_option maxRecDepth 100000 in
theorem r_77_138 : ∀ (d : Nat) (ls : Lc) (st : List Value) (M : Mem) (Q : Outcome → Mem → Prop), Wp d 77 138 ls st M Q = Wp d 77 141 ls (.int (I 1024) :: st) M Q := fun d ls st M Q => w_sipush (show ins 77 138 = some (.sipush 1024, 3) by decide +kernel) (by decide)
set_option maxRecDepth 100000 in
theorem r_77_141 : ∀ (d : Nat) (ls : Lc) (a b : Int) (st : List Value) (M : Mem) (Q : Outcome → Mem → Prop), (0 ≤ a) → (a < 2147483648) → (0 < b) → (b < 2147483648) → Wp d 77 141 ls (.int (I b) :: .int (I a) :: st) M Q = Wp d 77 142 ls (.int (I (a % b)) :: st) M Q := fun d ls a b st M Q h0 h1 h2 h3 => w_irem (show ins 77 141 = some (.irem, 1) by decide +kernel) h0 h1 h2 h3
set_option maxRecDepth 100000 in
theorem r_77_142 : ∀ (d : Nat) (ls : Lc) (v : Int32) (M : Mem) (Q : Outcome → Mem → Prop), Wp d 77 142 ls [.int v] M Q = Q (.returned (some (.int v))) M := fun d ls v M Q => w_ireturn (show ins 77 142 = some (.ireturn, 1) by decide +kernel) (by decide +kernel)
set_option maxRecDepth 100000 in
theorem r_77_143 : ∀ (d : Nat) (l0 l1 l2 l4 l5 : Option Value) (v : Nat) (st : List Value) (M : Mem) (Q : Outcome → Mem → Prop), Wp d 77 143 [l0, l1, l2, some (.ref v), l4, l5] st M Q = Wp d 77 144 [l0, l1, l2, some (.ref v), l4, l5] (.ref v :: st) M Q := fun d l0 l1 l2 l4 l5 v st M Q => wA (show ins 77 143 = some (.aload_n 3, 1) by decide +kernel) rfl
set_option maxRecDepth 100000 in
theorem r_77_143_1 : ∀ (d : Nat) (l0 l1 l2 l4 l5 : Option Value) (st : List Value) (M : Mem) (Q : Outcome → Mem → Prop), Wp d 77 143 [l0, l1, l2, some .null, l4, l5] st M Q = Wp d 77 144 [l0, l1, l2, some .null, l4, l5] (.null :: st) M Q := fun d l0 l1 l2 l4 l5 st M Q => wA (show ins 77 143 = some (.aload_n 3, 1) by decide +kernel) rfl
set_option maxRecDepth 100000 in
theorem r_77_144 : ∀ (d : Nat) (ls : Lc) (a : Nat) (st : List Value) (M : Mem) (Q : Outcome → Mem → Prop), Wp d 77 144 ls (.ref a :: st) M Q = (fk 38 (kO M a) = true ∧ Wp d 77 147 ls (va_rf (mR M 38 a) :: st) M Q) := fun d ls a st M Q => w_getR (show ins 77 144 = some (.getfield 198, 3) by decide +kernel) (show fRes (mC 77) 198 = some (38, 5, true) by decide +kernel) (by decide +kernel)
set_option maxRecDepth 100000 in
theorem r_77_147 : ∀ (d : Nat) (l0 l1 l2 l3 l5 : Option Value) (v : Int32) (st : List Value) (M : Mem) (Q : Outcome → Mem → Prop), Wp d 77 147 [l0, l1, l2, l3, some (.int v), l5] st M Q = Wp d 77 149 [l0, l1, l2, l3, some (.int v), l5] (.int v :: st) M Q := fun d l0 l1 l2 l3 l5 v st M Q => wA (show ins 77 147 = some (.iload 4, 2) by decide +kernel) rfl
set_option maxRecDepth 100000 in
theorem r_77_149 : ∀ (d : Nat) (ls : Lc) (a : Nat) (j : Int32) (st : List Value) (M : Mem) (Q : Outcome → Mem → Prop), Wp d 77 149 ls (.int j :: .ref a :: st) M Q = ((((kX M a).1 = 0 ∨ (kX M a).1 = 8) ∧ inB j (kX M a).2 = true) ∧ Wp d 77 150 ls (.int (mA M a j.toNatClampNeg) :: st) M Q) := fun d ls a j st M Q => w_iaload (show ins 77 149 = some (.iaload, 1) by decide +kernel)
set_option maxRecDepth 100000 in
theorem r_77_150 : ∀ (d : Nat) (ls : Lc) (v : Int32) (M : Mem) (Q : Outcome → Mem → Prop), Wp d 77 150 ls [.int v] M Q = Q (.returned (some (.int v))) M := fun d ls v M Q => w_ireturn (show ins 77 150 = some (.ireturn, 1) by decide +kernel) (by decide +kernel)
set_option maxRecDepth 100000 in
theorem r_77_151 : ∀ (d : Nat) (l0 l1 l2 l4 l5 : Option Value) (v : Nat) (st : List Value) (M : Mem) (Q : Outcome → Mem → Prop), Wp d 77 151 [l0, l1, l2, some (.ref v), l4, l5] st M Q = Wp d 77 152 [l0, l1, l2, some (.ref v), l4, l5] (.ref v :: st) M Q := fun d l0 l1 l2 l4 l5 v st M Q => wA (show ins 77 151 = some (.aload_n 3, 1) by decide +kernel) rfl
set_option maxRecDepth 100000 in
theorem r_77_151_1 : ∀ (d : Nat) (l0 l1 l2 l4 l5 : Option Value) (st : List Value) (M : Mem) (Q : Outcome → Mem → Prop), Wp d 77 151 [l0, l1, l2, some .null, l4, l5] st M Q = Wp d 77 152 [l0, l1, l2, some .null, l4, l5] (.null :: st) M Q := fun d l0 l1 l2 l4 l5 st M Q => wA (show ins 77 151 = some (.aload_n 3, 1) by decide +kernel) rfl
set_option maxRecDepth 100000 in
theorem r_77_152 : ∀ (d : Nat) (ls : Lc) (a : Nat) (st : List Value) (M : Mem) (Q : Outcome → Mem → Prop), Wp d 77 152 ls (.ref a :: st) M Q = (fk 32 (kO M a) = true ∧ Wp d 77 155 ls (.int (mF M 32 a) :: st) M Q) := fun d ls a st M Q => w_getI (show ins 77 152 = some (.getfield 326, 3) by decide +kernel) (show fRes (mC 77) 326 = some (32, 5, false) by decide +kernel) (by decide +kernel)
set_option maxRecDepth 100000 in
theorem r_77_155 : ∀ (d : Nat) (ls : Lc) (v : Int32) (M : Mem) (Q : Outcome → Mem → Prop), Wp d 77 155 ls [.int v] M Q = Q (.returned (some (.int v))) M := fun d ls v M Q => w_ireturn (show ins 77 155 = some (.ireturn, 1) by decide +kernel) (by decide +kernel)
set_option maxRecDepth 100000 in
theorem w_77_15 : (type_of% r_77_15) ∧ (type_of% r_77_15_1) := ⟨r_77_15, r_77_15_1⟩
set_option maxRecDepth 100000 in
theorem W_77 : (type_of% r_77_0) ∧ (type_of% r_77_1) ∧ (type_of% r_77_4) ∧ (type_of% r_77_5) ∧ (type_of% r_77_8) ∧ (type_of% r_77_11) ∧ (type_of% r_77_11_1) ∧ (type_of% r_77_12) ∧ (type_of% r_77_13) ∧ (type_of% r_77_16) ∧ (type_of% r_77_16_1) ∧ (type_of% r_77_19) ∧ (type_of% r_77_21) ∧ (type_of% r_77_21_1) ∧ (type_of% r_77_22) ∧ (type_of% r_77_25) ∧ (type_of% r_77_28) ∧ (type_of% r_77_30) ∧ (type_of% r_77_30_1) ∧ (type_of% r_77_31) ∧ (type_of% r_77_34) ∧ (type_of% r_77_35) ∧ (type_of% r_77_37) ∧ (type_of% r_77_37_1) ∧ (type_of% r_77_38) ∧ (type_of% r_77_41) ∧ (type_of% r_77_41_1) ∧ (type_of% r_77_44) ∧ (type_of% r_77_44_1) ∧ (type_of% r_77_45) ∧ (type_of% r_77_48) ∧ (type_of% r_77_48_1) ∧ (type_of% r_77_49) ∧ (type_of% r_77_49_1) ∧ (type_of% r_77_52) ∧ (type_of% r_77_54) ∧ (type_of% r_77_57) ∧ (type_of% r_77_58) ∧ (type_of% r_77_61) ∧ (type_of% r_77_62) ∧ (type_of% r_77_65) ∧ (type_of% r_77_66) ∧ (type_of% r_77_69) ∧ (type_of% r_77_70) ∧ (type_of% r_77_71) ∧ (type_of% r_77_74) ∧ (type_of% r_77_75) ∧ (type_of% r_77_78) ∧ (type_of% r_77_79) ∧ (type_of% r_77_82) ∧ (type_of% r_77_82_1) ∧ (type_of% r_77_83) ∧ (type_of% r_77_86) ∧ (type_of% r_77_88) ∧ (type_of% r_77_89) ∧ (type_of% r_77_91) ∧ (type_of% r_77_92) ∧ (type_of% r_77_92_1) ∧ (type_of% r_77_92_2) ∧ (type_of% r_77_92_3) ∧ (type_of% r_77_92_4) ∧ (type_of% r_77_124) ∧ (type_of% r_77_126) ∧ (type_of% r_77_129) ∧ (type_of% r_77_130) ∧ (type_of% r_77_132) ∧ (type_of% r_77_135) ∧ (type_of% r_77_136) ∧ (type_of% r_77_138) ∧ (type_of% r_77_141) ∧ (type_of% r_77_142) ∧ (type_of% r_77_143) ∧ (type_of% r_77_143_1) ∧ (type_of% r_77_144) ∧ (type_of% r_77_147) ∧ (type_of% r_77_149) ∧ (type_of% r_77_150) ∧ (type_of% r_77_151) ∧ (type_of% r_77_151_1) ∧ (type_of% r_77_152) ∧ (type_of% r_77_155) := ⟨r_77_0, r_77_1, r_77_4, r_77_5, r_77_8, r_77_11, r_77_11_1, r_77_12, r_77_13, r_77_16, r_77_16_1, r_77_19, r_77_21, r_77_21_1, r_77_22, r_77_25, r_77_28, r_77_30, r_77_30_1, r_77_31, r_77_34, r_77_35, r_77_37, r_77_37_1, r_77_38, r_77_41, r_77_41_1, r_77_44, r_77_44_1, r_77_45, r_77_48, r_77_48_1, r_77_49, r_77_49_1, r_77_52, r_77_54, r_77_57, r_77_58, r_77_61, r_77_62, r_77_65, r_77_66, r_77_69, r_77_70, r_77_71, r_77_74, r_77_75, r_77_78, r_77_79, r_77_82, r_77_82_1, r_77_83, r_77_86, r_77_88, r_77_89, r_77_91, r_77_92, r_77_92_1, r_77_92_2, r_77_92_3, r_77_92_4, r_77_124, r_77_126, r_77_129, r_77_130, r_77_132, r_77_135, r_77_136, r_77_138, r_77_141, r_77_142, r_77_143, r_77_143_1, r_77_144, r_77_147, r_77_149, r_77_150, r_77_151, r_77_151_1, r_77_152, r_77_155⟩
set_option maxRecDepth 100000 in
theorem ca_77 {d y pc : Nat} {ls : Lc} {a : Nat} {z0 : Int32} {z1 : Int32} {r : List Value} {M : Mem} {Q : Outcome → Mem → Prop} (hd : 0 < d) (hw : Wp (d - 1) 77 0 [some (.ref a), some (.int z0), some (.int z1), none, none, none] [] M (Cq d y pc ls r Q)) : Ca d y pc ls 77 [.ref a, .int z0, .int z1] r M Q := ca_of (mq_get (by decide)) (by rfl) hd hw
/-! 78 PackedTree.commit()I; loop heads [] -/
set_option maxRecDepth 100000 in
theorem r_78_0 : ∀ (d : Nat) (l1 l2 : Option Value) (v : Nat) (st : List Value) (M : Mem) (Q : Outcome → Mem → Prop), Wp d 78 0 [some (.ref v), l1, l2] st M Q = Wp d 78 1 [some (.ref v), l1, l2] (.ref v :: st) M Q := fun d l1 l2 v st M Q => wA (show ins 78 0 = some (.aload_n 0, 1) by decide +kernel) rfl
set_option maxRecDepth 100000 in
theorem r_78_1 : ∀ (d : Nat) (ls : Lc) (a : Nat) (st : List Value) (M : Mem) (Q : Outcome → Mem → Prop), (smallR st = true) → Wp d 78 1 ls (.ref a :: st) M Q = (kO M a = 1 ∧ Ca d 78 1 ls 30 (.ref a :: []) st M Q) := fun d ls a st M Q h0 => w_virt1 (as := []) (show ins 78 1 = some (.invokevirtual 204, 3) by decide +kernel) (show mRes (mC 78) 204 = some (3, 1, [(1, 30)]) by decide +kernel) (by decide +kernel) rfl (by decide +kernel) (by decide +kernel) h0
set_option maxRecDepth 100000 in
theorem r_78_4 : ∀ (d : Nat) (l1 l2 : Option Value) (v : Nat) (st : List Value) (M : Mem) (Q : Outcome → Mem → Prop), Wp d 78 4 [some (.ref v), l1, l2] st M Q = Wp d 78 5 [some (.ref v), l1, l2] (.ref v :: st) M Q := fun d l1 l2 v st M Q => wA (show ins 78 4 = some (.aload_n 0, 1) by decide +kernel) rfl
set_option maxRecDepth 100000 in
theorem r_78_5 : ∀ (d : Nat) (ls : Lc) (a : Nat) (st : List Value) (M : Mem) (Q : Outcome → Mem → Prop), (smallR st = true) → Wp d 78 5 ls (.ref a :: st) M Q = (kO M a = 1 ∧ Ca d 78 5 ls 79 (.ref a :: []) st M Q) := fun d ls a st M Q h0 => w_virt1 (as := []) (show ins 78 5 = some (.invokevirtual 331, 3) by decide +kernel) (show mRes (mC 78) 331 = some (3, 1, [(1, 79)]) by decide +kernel) (by decide +kernel) rfl (by decide +kernel) (by decide +kernel) h0
set_option maxRecDepth 100000 in
theorem r_78_8 : ∀ (d : Nat) (l0 l1 l2 : Option Value) (v : Int32) (st : List Value) (M : Mem) (Q : Outcome → Mem → Prop), (lo l0 = false) → Wp d 78 8 [l0, l1, l2] (.int v :: st) M Q = Wp d 78 9 [l0, some (.int v), l2] st M Q := fun d l0 l1 l2 v st M Q hl => w_istore_n (show ins 78 8 = some (.istore_n 1, 1) by decide +kernel) (st1_S rfl rfl hl)
set_option maxRecDepth 100000 in
theorem r_78_9 : ∀ (d : Nat) (l0 l2 : Option Value) (v : Int32) (st : List Value) (M : Mem) (Q : Outcome → Mem → Prop), Wp d 78 9 [l0, some (.int v), l2] st M Q = Wp d 78 10 [l0, some (.int v), l2] (.int v :: st) M Q := fun d l0 l2 v st M Q => wA (show ins 78 9 = some (.iload_n 1, 1) by decide +kernel) rfl
set_option maxRecDepth 100000 in
theorem r_78_10 : ∀ (d : Nat) (ls : Lc) (a : Int32) (st : List Value) (M : Mem) (Q : Outcome → Mem → Prop), Wp d 78 10 ls (.int a :: st) M Q = Br (¬ a = I 0) d 78 15 13 ls st M Q := fun d ls a st M Q => w_if (show ins 78 10 = some (.ifCond .ne 5, 3) by decide +kernel) rfl rfl
set_option maxRecDepth 100000 in
theorem r_78_13 : ∀ (d : Nat) (ls : Lc) (st : List Value) (M : Mem) (Q : Outcome → Mem → Prop), Wp d 78 13 ls st M Q = Wp d 78 14 ls (.int (I 0) :: st) M Q := fun d ls st M Q => w_iconst (show ins 78 13 = some (.iconst 0, 1) by decide +kernel)
set_option maxRecDepth 100000 in
theorem r_78_14 : ∀ (d : Nat) (ls : Lc) (v : Int32) (M : Mem) (Q : Outcome → Mem → Prop), Wp d 78 14 ls [.int v] M Q = Q (.returned (some (.int v))) M := fun d ls v M Q => w_ireturn (show ins 78 14 = some (.ireturn, 1) by decide +kernel) (by decide +kernel)
set_option maxRecDepth 100000 in
theorem r_78_15 : ∀ (d : Nat) (l0 l2 : Option Value) (v : Int32) (st : List Value) (M : Mem) (Q : Outcome → Mem → Prop), Wp d 78 15 [l0, some (.int v), l2] st M Q = Wp d 78 16 [l0, some (.int v), l2] (.int v :: st) M Q := fun d l0 l2 v st M Q => wA (show ins 78 15 = some (.iload_n 1, 1) by decide +kernel) rfl
set_option maxRecDepth 100000 in
theorem r_78_16 : ∀ (d : Nat) (ls : Lc) (st : List Value) (M : Mem) (Q : Outcome → Mem → Prop), Wp d 78 16 ls st M Q = Wp d 78 17 ls (.int (I 2) :: st) M Q := fun d ls st M Q => w_iconst (show ins 78 16 = some (.iconst 2, 1) by decide +kernel)
set_option maxRecDepth 100000 in
theorem r_78_17 : ∀ (d : Nat) (ls : Lc) (a b : Int) (st : List Value) (M : Mem) (Q : Outcome → Mem → Prop), Wp d 78 17 ls (.int (I b) :: .int (I a) :: st) M Q = Wp d 78 18 ls (.int (I (a + b)) :: st) M Q := fun d ls a b st M Q => w_iadd (show ins 78 17 = some (.iadd, 1) by decide +kernel)
set_option maxRecDepth 100000 in
theorem r_78_18 : ∀ (d : Nat) (l1 l2 : Option Value) (v : Nat) (st : List Value) (M : Mem) (Q : Outcome → Mem → Prop), Wp d 78 18 [some (.ref v), l1, l2] st M Q = Wp d 78 19 [some (.ref v), l1, l2] (.ref v :: st) M Q := fun d l1 l2 v st M Q => wA (show ins 78 18 = some (.aload_n 0, 1) by decide +kernel) rfl
set_option maxRecDepth 100000 in
theorem r_78_19 : ∀ (d : Nat) (ls : Lc) (a : Nat) (st : List Value) (M : Mem) (Q : Outcome → Mem → Prop), Wp d 78 19 ls (.ref a :: st) M Q = (fk 2 (kO M a) = true ∧ Wp d 78 22 ls (va_rf (mR M 2 a) :: st) M Q) := fun d ls a st M Q => w_getR (show ins 78 19 = some (.getfield 67, 3) by decide +kernel) (show fRes (mC 78) 67 = some (2, 1, false) by decide +kernel) (by decide +kernel)
set_option maxRecDepth 100000 in
theorem r_78_22 : ∀ (d : Nat) (ls : Lc) (a : Nat) (st : List Value) (M : Mem) (Q : Outcome → Mem → Prop), (smallR st = true) → Wp d 78 22 ls (.ref a :: st) M Q = (kO M a = 4 ∧ Ca d 78 22 ls 113 (.ref a :: []) st M Q) := fun d ls a st M Q h0 => w_virt1 (as := []) (show ins 78 22 = some (.invokevirtual 334, 3) by decide +kernel) (show mRes (mC 78) 334 = some (3, 4, [(4, 113)]) by decide +kernel) (by decide +kernel) rfl (by decide +kernel) (by decide +kernel) h0
set_option maxRecDepth 100000 in
theorem r_78_25 : ∀ (d : Nat) (ls : Lc) (a b : Int32) (st : List Value) (M : Mem) (Q : Outcome → Mem → Prop), Wp d 78 25 ls (.int b :: .int a :: st) M Q = Br (b < a) d 78 32 28 ls st M Q := fun d ls a b st M Q => w_icmp (show ins 78 25 = some (.if_icmp .gt 7, 3) by decide +kernel) rfl rfl
set_option maxRecDepth 100000 in
theorem r_78_28 : ∀ (d : Nat) (ls : Lc) (st : List Value) (M : Mem) (Q : Outcome → Mem → Prop), Wp d 78 28 ls st M Q = Wp d 78 29 ls (.int (I 1) :: st) M Q := fun d ls st M Q => w_iconst (show ins 78 28 = some (.iconst 1, 1) by decide +kernel)
set_option maxRecDepth 100000 in
theorem r_78_29 : ∀ (d : Nat) (ls : Lc) (st : List Value) (M : Mem) (Q : Outcome → Mem → Prop), Wp d 78 29 ls st M Q = Wp d 78 33 ls st M Q := fun d ls st M Q => w_goto (show ins 78 29 = some (.goto 4, 3) by decide +kernel) rfl
set_option maxRecDepth 100000 in
theorem r_78_32 : ∀ (d : Nat) (ls : Lc) (st : List Value) (M : Mem) (Q : Outcome → Mem → Prop), Wp d 78 32 ls st M Q = Wp d 78 33 ls (.int (I 0) :: st) M Q := fun d ls st M Q => w_iconst (show ins 78 32 = some (.iconst 0, 1) by decide +kernel)
set_option maxRecDepth 100000 in
theorem r_78_33 : ∀ (d : Nat) (ls : Lc) (v0 : Value)  (st : List Value) (M : Mem) (Q : Outcome → Mem → Prop), (smallR st = true) → Wp d 78 33 ls (v0 :: st) M Q = Ca d 78 33 ls 42 [v0] st M Q := fun d ls v0 st M Q h0 => w_stat (as := [v0]) (show ins 78 33 = some (.invokestatic 227, 3) by decide +kernel) (show mRes (mC 78) 227 = some (0, 1, [(0, 42)]) by decide +kernel) (by decide +kernel) (by decide +kernel) rfl h0
set_option maxRecDepth 100000 in
theorem r_78_36 : ∀ (d : Nat) (l1 l2 : Option Value) (v : Nat) (st : List Value) (M : Mem) (Q : Outcome → Mem → Prop), Wp d 78 36 [some (.ref v), l1, l2] st M Q = Wp d 78 37 [some (.ref v), l1, l2] (.ref v :: st) M Q := fun d l1 l2 v st M Q => wA (show ins 78 36 = some (.aload_n 0, 1) by decide +kernel) rfl
set_option maxRecDepth 100000 in
theorem r_78_37 : ∀ (d : Nat) (ls : Lc) (a : Nat) (st : List Value) (M : Mem) (Q : Outcome → Mem → Prop), Wp d 78 37 ls (.ref a :: st) M Q = (fk 2 (kO M a) = true ∧ Wp d 78 40 ls (va_rf (mR M 2 a) :: st) M Q) := fun d ls a st M Q => w_getR (show ins 78 37 = some (.getfield 67, 3) by decide +kernel) (show fRes (mC 78) 67 = some (2, 1, false) by decide +kernel) (by decide +kernel)
set_option maxRecDepth 100000 in
theorem r_78_40 : ∀ (d : Nat) (ls : Lc) (a : Nat) (st : List Value) (M : Mem) (Q : Outcome → Mem → Prop), Wp d 78 40 ls (.ref a :: st) M Q = (fk 29 (kO M a) = true ∧ Wp d 78 43 ls (.int (mF M 29 a) :: st) M Q) := fun d ls a st M Q => w_getI (show ins 78 40 = some (.getfield 336, 3) by decide +kernel) (show fRes (mC 78) 336 = some (29, 4, true) by decide +kernel) (by decide +kernel)
set_option maxRecDepth 100000 in
theorem r_78_43 : ∀ (d : Nat) (l0 l1 l2 : Option Value) (v : Int32) (st : List Value) (M : Mem) (Q : Outcome → Mem → Prop), (lo l1 = false) → Wp d 78 43 [l0, l1, l2] (.int v :: st) M Q = Wp d 78 44 [l0, l1, some (.int v)] st M Q := fun d l0 l1 l2 v st M Q hl => w_istore_n (show ins 78 43 = some (.istore_n 2, 1) by decide +kernel) (st1_S rfl rfl hl)
set_option maxRecDepth 100000 in
theorem r_78_44 : ∀ (d : Nat) (l0 l2 : Option Value) (v : Int32) (st : List Value) (M : Mem) (Q : Outcome → Mem → Prop), Wp d 78 44 [l0, some (.int v), l2] st M Q = Wp d 78 45 [l0, some (.int v), l2] (.int v :: st) M Q := fun d l0 l2 v st M Q => wA (show ins 78 44 = some (.iload_n 1, 1) by decide +kernel) rfl
set_option maxRecDepth 100000 in
theorem r_78_45 : ∀ (d : Nat) (ls : Lc) (st : List Value) (M : Mem) (Q : Outcome → Mem → Prop), Wp d 78 45 ls st M Q = Wp d 78 46 ls (.int (I 2) :: st) M Q := fun d ls st M Q => w_iconst (show ins 78 45 = some (.iconst 2, 1) by decide +kernel)
set_option maxRecDepth 100000 in
theorem r_78_46 : ∀ (d : Nat) (ls : Lc) (a b : Int) (st : List Value) (M : Mem) (Q : Outcome → Mem → Prop), Wp d 78 46 ls (.int (I b) :: .int (I a) :: st) M Q = Wp d 78 47 ls (.int (I (a + b)) :: st) M Q := fun d ls a b st M Q => w_iadd (show ins 78 46 = some (.iadd, 1) by decide +kernel)
set_option maxRecDepth 100000 in
theorem r_78_47 : ∀ (d : Nat) (l1 l2 : Option Value) (v : Nat) (st : List Value) (M : Mem) (Q : Outcome → Mem → Prop), Wp d 78 47 [some (.ref v), l1, l2] st M Q = Wp d 78 48 [some (.ref v), l1, l2] (.ref v :: st) M Q := fun d l1 l2 v st M Q => wA (show ins 78 47 = some (.aload_n 0, 1) by decide +kernel) rfl
set_option maxRecDepth 100000 in
theorem r_78_48 : ∀ (d : Nat) (ls : Lc) (a : Nat) (st : List Value) (M : Mem) (Q : Outcome → Mem → Prop), Wp d 78 48 ls (.ref a :: st) M Q = (fk 2 (kO M a) = true ∧ Wp d 78 51 ls (va_rf (mR M 2 a) :: st) M Q) := fun d ls a st M Q => w_getR (show ins 78 48 = some (.getfield 67, 3) by decide +kernel) (show fRes (mC 78) 67 = some (2, 1, false) by decide +kernel) (by decide +kernel)
set_option maxRecDepth 100000 in
theorem r_78_51 : ∀ (d : Nat) (ls : Lc) (a : Nat) (st : List Value) (M : Mem) (Q : Outcome → Mem → Prop), (smallR st = true) → Wp d 78 51 ls (.ref a :: st) M Q = (kO M a = 4 ∧ Ca d 78 51 ls 113 (.ref a :: []) st M Q) := fun d ls a st M Q h0 => w_virt1 (as := []) (show ins 78 51 = some (.invokevirtual 334, 3) by decide +kernel) (show mRes (mC 78) 334 = some (3, 4, [(4, 113)]) by decide +kernel) (by decide +kernel) rfl (by decide +kernel) (by decide +kernel) h0
set_option maxRecDepth 100000 in
theorem r_78_54 : ∀ (d : Nat) (l1 l2 : Option Value) (v : Nat) (st : List Value) (M : Mem) (Q : Outcome → Mem → Prop), Wp d 78 54 [some (.ref v), l1, l2] st M Q = Wp d 78 55 [some (.ref v), l1, l2] (.ref v :: st) M Q := fun d l1 l2 v st M Q => wA (show ins 78 54 = some (.aload_n 0, 1) by decide +kernel) rfl
set_option maxRecDepth 100000 in
theorem r_78_55 : ∀ (d : Nat) (ls : Lc) (a : Nat) (st : List Value) (M : Mem) (Q : Outcome → Mem → Prop), Wp d 78 55 ls (.ref a :: st) M Q = (fk 2 (kO M a) = true ∧ Wp d 78 58 ls (va_rf (mR M 2 a) :: st) M Q) := fun d ls a st M Q => w_getR (show ins 78 55 = some (.getfield 67, 3) by decide +kernel) (show fRes (mC 78) 67 = some (2, 1, false) by decide +kernel) (by decide +kernel)
set_option maxRecDepth 100000 in
theorem r_78_58 : ∀ (d : Nat) (ls : Lc) (a : Nat) (st : List Value) (M : Mem) (Q : Outcome → Mem → Prop), Wp d 78 58 ls (.ref a :: st) M Q = (fk 20 (kO M a) = true ∧ Wp d 78 61 ls (.int (mF M 20 a) :: st) M Q) := fun d ls a st M Q => w_getI (show ins 78 58 = some (.getfield 339, 3) by decide +kernel) (show fRes (mC 78) 339 = some (20, 4, true) by decide +kernel) (by decide +kernel)
set_option maxRecDepth 100000 in
theorem r_78_61 : ∀ (d : Nat) (ls : Lc) (a b : Int) (st : List Value) (M : Mem) (Q : Outcome → Mem → Prop), Wp d 78 61 ls (.int (I b) :: .int (I a) :: st) M Q = Wp d 78 62 ls (.int (I (a - b)) :: st) M Q := fun d ls a b st M Q => w_isub (show ins 78 61 = some (.isub, 1) by decide +kernel)
set_option maxRecDepth 100000 in
theorem r_78_62 : ∀ (d : Nat) (ls : Lc) (a b : Int32) (st : List Value) (M : Mem) (Q : Outcome → Mem → Prop), Wp d 78 62 ls (.int b :: .int a :: st) M Q = Br (a ≤ b) d 78 72 65 ls st M Q := fun d ls a b st M Q => w_icmp (show ins 78 62 = some (.if_icmp .le 10, 3) by decide +kernel) rfl rfl
set_option maxRecDepth 100000 in
theorem r_78_65 : ∀ (d : Nat) (l1 l2 : Option Value) (v : Nat) (st : List Value) (M : Mem) (Q : Outcome → Mem → Prop), Wp d 78 65 [some (.ref v), l1, l2] st M Q = Wp d 78 66 [some (.ref v), l1, l2] (.ref v :: st) M Q := fun d l1 l2 v st M Q => wA (show ins 78 65 = some (.aload_n 0, 1) by decide +kernel) rfl
set_option maxRecDepth 100000 in
theorem r_78_66 : ∀ (d : Nat) (ls : Lc) (a : Nat) (st : List Value) (M : Mem) (Q : Outcome → Mem → Prop), Wp d 78 66 ls (.ref a :: st) M Q = (fk 2 (kO M a) = true ∧ Wp d 78 69 ls (va_rf (mR M 2 a) :: st) M Q) := fun d ls a st M Q => w_getR (show ins 78 66 = some (.getfield 67, 3) by decide +kernel) (show fRes (mC 78) 67 = some (2, 1, false) by decide +kernel) (by decide +kernel)
set_option maxRecDepth 100000 in
theorem r_78_69 : ∀ (d : Nat) (ls : Lc) (a : Nat) (st : List Value) (M : Mem) (Q : Outcome → Mem → Prop), (smallR st = true) → Wp d 78 69 ls (.ref a :: st) M Q = (kO M a = 4 ∧ Ca d 78 69 ls 114 (.ref a :: []) st M Q) := fun d ls a st M Q h0 => w_virt1 (as := []) (show ins 78 69 = some (.invokevirtual 342, 3) by decide +kernel) (show mRes (mC 78) 342 = some (3, 4, [(4, 114)]) by decide +kernel) (by decide +kernel) rfl (by decide +kernel) (by decide +kernel) h0
set_option maxRecDepth 100000 in
theorem r_78_72 : ∀ (d : Nat) (l1 l2 : Option Value) (v : Nat) (st : List Value) (M : Mem) (Q : Outcome → Mem → Prop), Wp d 78 72 [some (.ref v), l1, l2] st M Q = Wp d 78 73 [some (.ref v), l1, l2] (.ref v :: st) M Q := fun d l1 l2 v st M Q => wA (show ins 78 72 = some (.aload_n 0, 1) by decide +kernel) rfl
set_option maxRecDepth 100000 in
theorem r_78_73 : ∀ (d : Nat) (ls : Lc) (a : Nat) (st : List Value) (M : Mem) (Q : Outcome → Mem → Prop), Wp d 78 73 ls (.ref a :: st) M Q = (fk 2 (kO M a) = true ∧ Wp d 78 76 ls (va_rf (mR M 2 a) :: st) M Q) := fun d ls a st M Q => w_getR (show ins 78 73 = some (.getfield 67, 3) by decide +kernel) (show fRes (mC 78) 67 = some (2, 1, false) by decide +kernel) (by decide +kernel)
set_option maxRecDepth 100000 in
theorem r_78_76 : ∀ (d : Nat) (ls : Lc) (a : Nat) (st : List Value) (M : Mem) (Q : Outcome → Mem → Prop), Wp d 78 76 ls (.ref a :: st) M Q = (fk 25 (kO M a) = true ∧ Wp d 78 79 ls (.int (mF M 25 a) :: st) M Q) := fun d ls a st M Q => w_getI (show ins 78 76 = some (.getfield 111, 3) by decide +kernel) (show fRes (mC 78) 111 = some (25, 4, true) by decide +kernel) (by decide +kernel)
set_option maxRecDepth 100000 in
theorem r_78_79 : ∀ (d : Nat) (ls : Lc) (a : Int32) (st : List Value) (M : Mem) (Q : Outcome → Mem → Prop), Wp d 78 79 ls (.int a :: st) M Q = Br (¬ a = I 0) d 78 97 82 ls st M Q := fun d ls a st M Q => w_if (show ins 78 79 = some (.ifCond .ne 18, 3) by decide +kernel) rfl rfl
set_option maxRecDepth 100000 in
theorem r_78_82 : ∀ (d : Nat) (l1 l2 : Option Value) (v : Nat) (st : List Value) (M : Mem) (Q : Outcome → Mem → Prop), Wp d 78 82 [some (.ref v), l1, l2] st M Q = Wp d 78 83 [some (.ref v), l1, l2] (.ref v :: st) M Q := fun d l1 l2 v st M Q => wA (show ins 78 82 = some (.aload_n 0, 1) by decide +kernel) rfl
set_option maxRecDepth 100000 in
theorem r_78_83 : ∀ (d : Nat) (ls : Lc) (a : Nat) (st : List Value) (M : Mem) (Q : Outcome → Mem → Prop), Wp d 78 83 ls (.ref a :: st) M Q = (fk 2 (kO M a) = true ∧ Wp d 78 86 ls (va_rf (mR M 2 a) :: st) M Q) := fun d ls a st M Q => w_getR (show ins 78 83 = some (.getfield 67, 3) by decide +kernel) (show fRes (mC 78) 67 = some (2, 1, false) by decide +kernel) (by decide +kernel)
set_option maxRecDepth 100000 in
theorem r_78_86 : ∀ (d : Nat) (l1 l2 : Option Value) (v : Nat) (st : List Value) (M : Mem) (Q : Outcome → Mem → Prop), Wp d 78 86 [some (.ref v), l1, l2] st M Q = Wp d 78 87 [some (.ref v), l1, l2] (.ref v :: st) M Q := fun d l1 l2 v st M Q => wA (show ins 78 86 = some (.aload_n 0, 1) by decide +kernel) rfl
set_option maxRecDepth 100000 in
theorem r_78_87 : ∀ (d : Nat) (ls : Lc) (a : Nat) (st : List Value) (M : Mem) (Q : Outcome → Mem → Prop), Wp d 78 87 ls (.ref a :: st) M Q = (fk 4 (kO M a) = true ∧ Wp d 78 90 ls (va_rf (mR M 4 a) :: st) M Q) := fun d ls a st M Q => w_getR (show ins 78 87 = some (.getfield 15, 3) by decide +kernel) (show fRes (mC 78) 15 = some (4, 1, false) by decide +kernel) (by decide +kernel)
set_option maxRecDepth 100000 in
theorem r_78_90 : ∀ (d : Nat) (l1 l2 : Option Value) (v : Nat) (st : List Value) (M : Mem) (Q : Outcome → Mem → Prop), Wp d 78 90 [some (.ref v), l1, l2] st M Q = Wp d 78 91 [some (.ref v), l1, l2] (.ref v :: st) M Q := fun d l1 l2 v st M Q => wA (show ins 78 90 = some (.aload_n 0, 1) by decide +kernel) rfl
set_option maxRecDepth 100000 in
theorem r_78_91 : ∀ (d : Nat) (ls : Lc) (a : Nat) (st : List Value) (M : Mem) (Q : Outcome → Mem → Prop), Wp d 78 91 ls (.ref a :: st) M Q = (fk 1 (kO M a) = true ∧ Wp d 78 94 ls (va_rf (mR M 1 a) :: st) M Q) := fun d ls a st M Q => w_getR (show ins 78 91 = some (.getfield 21, 3) by decide +kernel) (show fRes (mC 78) 21 = some (1, 1, false) by decide +kernel) (by decide +kernel)
set_option maxRecDepth 100000 in
theorem r_78_94 : ∀ (d : Nat) (ls : Lc) (v0 v1 : Value) (a : Nat) (st : List Value) (M : Mem) (Q : Outcome → Mem → Prop), (smallR st = true) → Wp d 78 94 ls (v1 :: v0 :: .ref a :: st) M Q = (kO M a = 4 ∧ Ca d 78 94 ls 117 (.ref a :: [v0, v1]) st M Q) := fun d ls v0 v1 a st M Q h0 => w_virt1 (as := [v0, v1]) (show ins 78 94 = some (.invokevirtual 345, 3) by decide +kernel) (show mRes (mC 78) 345 = some (3, 4, [(4, 117)]) by decide +kernel) (by decide +kernel) rfl (by decide +kernel) (by decide +kernel) h0
set_option maxRecDepth 100000 in
theorem r_78_97 : ∀ (d : Nat) (l1 l2 : Option Value) (v : Nat) (st : List Value) (M : Mem) (Q : Outcome → Mem → Prop), Wp d 78 97 [some (.ref v), l1, l2] st M Q = Wp d 78 98 [some (.ref v), l1, l2] (.ref v :: st) M Q := fun d l1 l2 v st M Q => wA (show ins 78 97 = some (.aload_n 0, 1) by decide +kernel) rfl
set_option maxRecDepth 100000 in
theorem r_78_98 : ∀ (d : Nat) (ls : Lc) (a : Nat) (st : List Value) (M : Mem) (Q : Outcome → Mem → Prop), Wp d 78 98 ls (.ref a :: st) M Q = (fk 2 (kO M a) = true ∧ Wp d 78 101 ls (va_rf (mR M 2 a) :: st) M Q) := fun d ls a st M Q => w_getR (show ins 78 98 = some (.getfield 67, 3) by decide +kernel) (show fRes (mC 78) 67 = some (2, 1, false) by decide +kernel) (by decide +kernel)
set_option maxRecDepth 100000 in
theorem r_78_101 : ∀ (d : Nat) (ls : Lc) (a : Nat) (st : List Value) (M : Mem) (Q : Outcome → Mem → Prop), Wp d 78 101 ls (.ref a :: st) M Q = (fk 29 (kO M a) = true ∧ Wp d 78 104 ls (.int (mF M 29 a) :: st) M Q) := fun d ls a st M Q => w_getI (show ins 78 101 = some (.getfield 336, 3) by decide +kernel) (show fRes (mC 78) 336 = some (29, 4, true) by decide +kernel) (by decide +kernel)
set_option maxRecDepth 100000 in
theorem r_78_104 : ∀ (d : Nat) (l0 l1 : Option Value) (v : Int32) (st : List Value) (M : Mem) (Q : Outcome → Mem → Prop), Wp d 78 104 [l0, l1, some (.int v)] st M Q = Wp d 78 105 [l0, l1, some (.int v)] (.int v :: st) M Q := fun d l0 l1 v st M Q => wA (show ins 78 104 = some (.iload_n 2, 1) by decide +kernel) rfl
set_option maxRecDepth 100000 in
theorem r_78_105 : ∀ (d : Nat) (ls : Lc) (a b : Int) (st : List Value) (M : Mem) (Q : Outcome → Mem → Prop), Wp d 78 105 ls (.int (I b) :: .int (I a) :: st) M Q = Wp d 78 106 ls (.int (I (a - b)) :: st) M Q := fun d ls a b st M Q => w_isub (show ins 78 105 = some (.isub, 1) by decide +kernel)
set_option maxRecDepth 100000 in
theorem r_78_106 : ∀ (d : Nat) (ls : Lc) (v : Int32) (M : Mem) (Q : Outcome → Mem → Prop), Wp d 78 106 ls [.int v] M Q = Q (.returned (some (.int v))) M := fun d ls v M Q => w_ireturn (show ins 78 106 = some (.ireturn, 1) by decide +kernel) (by decide +kernel)
set_option maxRecDepth 100000 in
theorem W_78 : (type_of% r_78_0) ∧ (type_of% r_78_1) ∧ (type_of% r_78_4) ∧ (type_of% r_78_5) ∧ (type_of% r_78_8) ∧ (type_of% r_78_9) ∧ (type_of% r_78_10) ∧ (type_of% r_78_13) ∧ (type_of% r_78_14) ∧ (type_of% r_78_15) ∧ (type_of% r_78_16) ∧ (type_of% r_78_17) ∧ (type_of% r_78_18) ∧ (type_of% r_78_19) ∧ (type_of% r_78_22) ∧ (type_of% r_78_25) ∧ (type_of% r_78_28) ∧ (type_of% r_78_29) ∧ (type_of% r_78_32) ∧ (type_of% r_78_33) ∧ (type_of% r_78_36) ∧ (type_of% r_78_37) ∧ (type_of% r_78_40) ∧ (type_of% r_78_43) ∧ (type_of% r_78_44) ∧ (type_of% r_78_45) ∧ (type_of% r_78_46) ∧ (type_of% r_78_47) ∧ (type_of% r_78_48) ∧ (type_of% r_78_51) ∧ (type_of% r_78_54) ∧ (type_of% r_78_55) ∧ (type_of% r_78_58) ∧ (type_of% r_78_61) ∧ (type_of% r_78_62) ∧ (type_of% r_78_65) ∧ (type_of% r_78_66) ∧ (type_of% r_78_69) ∧ (type_of% r_78_72) ∧ (type_of% r_78_73) ∧ (type_of% r_78_76) ∧ (type_of% r_78_79) ∧ (type_of% r_78_82) ∧ (type_of% r_78_83) ∧ (type_of% r_78_86) ∧ (type_of% r_78_87) ∧ (type_of% r_78_90) ∧ (type_of% r_78_91) ∧ (type_of% r_78_94) ∧ (type_of% r_78_97) ∧ (type_of% r_78_98) ∧ (type_of% r_78_101) ∧ (type_of% r_78_104) ∧ (type_of% r_78_105) ∧ (type_of% r_78_106) := ⟨r_78_0, r_78_1, r_78_4, r_78_5, r_78_8, r_78_9, r_78_10, r_78_13, r_78_14, r_78_15, r_78_16, r_78_17, r_78_18, r_78_19, r_78_22, r_78_25, r_78_28, r_78_29, r_78_32, r_78_33, r_78_36, r_78_37, r_78_40, r_78_43, r_78_44, r_78_45, r_78_46, r_78_47, r_78_48, r_78_51, r_78_54, r_78_55, r_78_58, r_78_61, r_78_62, r_78_65, r_78_66, r_78_69, r_78_72, r_78_73, r_78_76, r_78_79, r_78_82, r_78_83, r_78_86, r_78_87, r_78_90, r_78_91, r_78_94, r_78_97, r_78_98, r_78_101, r_78_104, r_78_105, r_78_106⟩
set_option maxRecDepth 100000 in
theorem ca_78 {d y pc : Nat} {ls : Lc} {a : Nat} {r : List Value} {M : Mem} {Q : Outcome → Mem → Prop} (hd : 0 < d) (hw : Wp (d - 1) 78 0 [some (.ref a), none, none] [] M (Cq d y pc ls r Q)) : Ca d y pc ls 78 [.ref a] r M Q := ca_of (mq_get (by decide)) (by rfl) hd hw
/-! 79 PackedTree.lookOver()I; loop heads [8] -/
set_option maxRecDepth 100000 in
theorem r_79_0 : ∀ (d : Nat) (l1 l2 : Option Value) (v : Nat) (st : List Value) (M : Mem) (Q : Outcome → Mem → Prop), Wp d 79 0 [some (.ref v), l1, l2] st M Q = Wp d 79 1 [some (.ref v), l1, l2] (.ref v :: st) M Q := fun d l1 l2 v st M Q => wA (show ins 79 0 = some (.aload_n 0, 1) by decide +kernel) rfl
set_option maxRecDepth 100000 in
theorem r_79_1 : ∀ (d : Nat) (ls : Lc) (a : Nat) (st : List Value) (M : Mem) (Q : Outcome → Mem → Prop), (smallR st = true) → Wp d 79 1 ls (.ref a :: st) M Q = (kO M a = 1 ∧ Ca d 79 1 ls 25 (.ref a :: []) st M Q) := fun d ls a st M Q h0 => w_virt1 (as := []) (show ins 79 1 = some (.invokevirtual 89, 3) by decide +kernel) (show mRes (mC 79) 89 = some (3, 1, [(1, 25)]) by decide +kernel) (by decide +kernel) rfl (by decide +kernel) (by decide +kernel) h0
set_option maxRecDepth 100000 in
theorem r_79_4 : ∀ (d : Nat) (ls : Lc) (st : List Value) (M : Mem) (Q : Outcome → Mem → Prop), Wp d 79 4 ls st M Q = Wp d 79 5 ls (.int (I 0) :: st) M Q := fun d ls st M Q => w_iconst (show ins 79 4 = some (.iconst 0, 1) by decide +kernel)
set_option maxRecDepth 100000 in
theorem r_79_5 : ∀ (d : Nat) (l0 l1 l2 : Option Value) (v : Int32) (st : List Value) (M : Mem) (Q : Outcome → Mem → Prop), (lo l0 = false) → Wp d 79 5 [l0, l1, l2] (.int v :: st) M Q = Wp d 79 6 [l0, some (.int v), l2] st M Q := fun d l0 l1 l2 v st M Q hl => w_istore_n (show ins 79 5 = some (.istore_n 1, 1) by decide +kernel) (st1_S rfl rfl hl)
set_option maxRecDepth 100000 in
theorem r_79_6 : ∀ (d : Nat) (ls : Lc) (st : List Value) (M : Mem) (Q : Outcome → Mem → Prop), Wp d 79 6 ls st M Q = Wp d 79 7 ls (.int (I 0) :: st) M Q := fun d ls st M Q => w_iconst (show ins 79 6 = some (.iconst 0, 1) by decide +kernel)
set_option maxRecDepth 100000 in
theorem r_79_7 : ∀ (d : Nat) (l0 l1 l2 : Option Value) (v : Int32) (st : List Value) (M : Mem) (Q : Outcome → Mem → Prop), (lo l1 = false) → Wp d 79 7 [l0, l1, l2] (.int v :: st) M Q = Wp d 79 8 [l0, l1, some (.int v)] st M Q := fun d l0 l1 l2 v st M Q hl => w_istore_n (show ins 79 7 = some (.istore_n 2, 1) by decide +kernel) (st1_S rfl rfl hl)
set_option maxRecDepth 100000 in
theorem r_79_8 : ∀ (d : Nat) (l0 l1 : Option Value) (v : Int32) (st : List Value) (M : Mem) (Q : Outcome → Mem → Prop), Wp d 79 8 [l0, l1, some (.int v)] st M Q = Wp d 79 9 [l0, l1, some (.int v)] (.int v :: st) M Q := fun d l0 l1 v st M Q => wA (show ins 79 8 = some (.iload_n 2, 1) by decide +kernel) rfl
set_option maxRecDepth 100000 in
theorem r_79_9 : ∀ (d : Nat) (l1 l2 : Option Value) (v : Nat) (st : List Value) (M : Mem) (Q : Outcome → Mem → Prop), Wp d 79 9 [some (.ref v), l1, l2] st M Q = Wp d 79 10 [some (.ref v), l1, l2] (.ref v :: st) M Q := fun d l1 l2 v st M Q => wA (show ins 79 9 = some (.aload_n 0, 1) by decide +kernel) rfl
set_option maxRecDepth 100000 in
theorem r_79_10 : ∀ (d : Nat) (ls : Lc) (a : Nat) (st : List Value) (M : Mem) (Q : Outcome → Mem → Prop), Wp d 79 10 ls (.ref a :: st) M Q = (fk 7 (kO M a) = true ∧ Wp d 79 13 ls (.int (mF M 7 a) :: st) M Q) := fun d ls a st M Q => w_getI (show ins 79 10 = some (.getfield 40, 3) by decide +kernel) (show fRes (mC 79) 40 = some (7, 1, false) by decide +kernel) (by decide +kernel)
set_option maxRecDepth 100000 in
theorem r_79_13 : ∀ (d : Nat) (ls : Lc) (a b : Int32) (st : List Value) (M : Mem) (Q : Outcome → Mem → Prop), Wp d 79 13 ls (.int b :: .int a :: st) M Q = Br (b ≤ a) d 79 99 16 ls st M Q := fun d ls a b st M Q => w_icmp (show ins 79 13 = some (.if_icmp .ge 86, 3) by decide +kernel) rfl rfl
set_option maxRecDepth 100000 in
theorem r_79_16 : ∀ (d : Nat) (l1 l2 : Option Value) (v : Nat) (st : List Value) (M : Mem) (Q : Outcome → Mem → Prop), Wp d 79 16 [some (.ref v), l1, l2] st M Q = Wp d 79 17 [some (.ref v), l1, l2] (.ref v :: st) M Q := fun d l1 l2 v st M Q => wA (show ins 79 16 = some (.aload_n 0, 1) by decide +kernel) rfl
set_option maxRecDepth 100000 in
theorem r_79_17 : ∀ (d : Nat) (ls : Lc) (a : Nat) (st : List Value) (M : Mem) (Q : Outcome → Mem → Prop), Wp d 79 17 ls (.ref a :: st) M Q = (fk 1 (kO M a) = true ∧ Wp d 79 20 ls (va_rf (mR M 1 a) :: st) M Q) := fun d ls a st M Q => w_getR (show ins 79 17 = some (.getfield 21, 3) by decide +kernel) (show fRes (mC 79) 21 = some (1, 1, false) by decide +kernel) (by decide +kernel)
set_option maxRecDepth 100000 in
theorem r_79_20 : ∀ (d : Nat) (l0 l1 : Option Value) (v : Int32) (st : List Value) (M : Mem) (Q : Outcome → Mem → Prop), Wp d 79 20 [l0, l1, some (.int v)] st M Q = Wp d 79 21 [l0, l1, some (.int v)] (.int v :: st) M Q := fun d l0 l1 v st M Q => wA (show ins 79 20 = some (.iload_n 2, 1) by decide +kernel) rfl
set_option maxRecDepth 100000 in
theorem r_79_21 : ∀ (d : Nat) (l1 l2 : Option Value) (v : Nat) (st : List Value) (M : Mem) (Q : Outcome → Mem → Prop), Wp d 79 21 [some (.ref v), l1, l2] st M Q = Wp d 79 22 [some (.ref v), l1, l2] (.ref v :: st) M Q := fun d l1 l2 v st M Q => wA (show ins 79 21 = some (.aload_n 0, 1) by decide +kernel) rfl
set_option maxRecDepth 100000 in
theorem r_79_22 : ∀ (d : Nat) (ls : Lc) (a : Nat) (st : List Value) (M : Mem) (Q : Outcome → Mem → Prop), Wp d 79 22 ls (.ref a :: st) M Q = (fk 6 (kO M a) = true ∧ Wp d 79 25 ls (va_rf (mR M 6 a) :: st) M Q) := fun d ls a st M Q => w_getR (show ins 79 22 = some (.getfield 49, 3) by decide +kernel) (show fRes (mC 79) 49 = some (6, 1, false) by decide +kernel) (by decide +kernel)
set_option maxRecDepth 100000 in
theorem r_79_25 : ∀ (d : Nat) (ls : Lc) (a : Nat) (st : List Value) (M : Mem) (Q : Outcome → Mem → Prop), Wp d 79 25 ls (.ref a :: st) M Q = (fk 11 (kO M a) = true ∧ Wp d 79 28 ls (va_rf (mR M 11 a) :: st) M Q) := fun d ls a st M Q => w_getR (show ins 79 25 = some (.getfield 141, 3) by decide +kernel) (show fRes (mC 79) 141 = some (11, 2, true) by decide +kernel) (by decide +kernel)
set_option maxRecDepth 100000 in
theorem r_79_28 : ∀ (d : Nat) (l0 l1 : Option Value) (v : Int32) (st : List Value) (M : Mem) (Q : Outcome → Mem → Prop), Wp d 79 28 [l0, l1, some (.int v)] st M Q = Wp d 79 29 [l0, l1, some (.int v)] (.int v :: st) M Q := fun d l0 l1 v st M Q => wA (show ins 79 28 = some (.iload_n 2, 1) by decide +kernel) rfl
set_option maxRecDepth 100000 in
theorem r_79_29 : ∀ (d : Nat) (ls : Lc) (a : Nat) (j : Int32) (st : List Value) (M : Mem) (Q : Outcome → Mem → Prop), Wp d 79 29 ls (.int j :: .ref a :: st) M Q = ((((kX M a).1 = 1 ∨ (kX M a).1 = 2) ∧ inB j (kX M a).2 = true) ∧ Wp d 79 30 ls (.int (mA M a j.toNatClampNeg) :: st) M Q) := fun d ls a j st M Q => w_baload (show ins 79 29 = some (.baload, 1) by decide +kernel)
set_option maxRecDepth 100000 in
theorem r_79_30 : ∀ (d : Nat) (ls : Lc) (a : Int32) (st : List Value) (M : Mem) (Q : Outcome → Mem → Prop), Wp d 79 30 ls (.int a :: st) M Q = Br (a = I 0) d 79 74 33 ls st M Q := fun d ls a st M Q => w_if (show ins 79 30 = some (.ifCond .eq 44, 3) by decide +kernel) rfl rfl
set_option maxRecDepth 100000 in
theorem r_79_33 : ∀ (d : Nat) (l1 l2 : Option Value) (v : Nat) (st : List Value) (M : Mem) (Q : Outcome → Mem → Prop), Wp d 79 33 [some (.ref v), l1, l2] st M Q = Wp d 79 34 [some (.ref v), l1, l2] (.ref v :: st) M Q := fun d l1 l2 v st M Q => wA (show ins 79 33 = some (.aload_n 0, 1) by decide +kernel) rfl
set_option maxRecDepth 100000 in
theorem r_79_34 : ∀ (d : Nat) (ls : Lc) (a : Nat) (st : List Value) (M : Mem) (Q : Outcome → Mem → Prop), Wp d 79 34 ls (.ref a :: st) M Q = (fk 2 (kO M a) = true ∧ Wp d 79 37 ls (va_rf (mR M 2 a) :: st) M Q) := fun d ls a st M Q => w_getR (show ins 79 34 = some (.getfield 67, 3) by decide +kernel) (show fRes (mC 79) 67 = some (2, 1, false) by decide +kernel) (by decide +kernel)
set_option maxRecDepth 100000 in
theorem r_79_37 : ∀ (d : Nat) (ls : Lc) (a : Nat) (st : List Value) (M : Mem) (Q : Outcome → Mem → Prop), Wp d 79 37 ls (.ref a :: st) M Q = (fk 22 (kO M a) = true ∧ Wp d 79 40 ls (va_rf (mR M 22 a) :: st) M Q) := fun d ls a st M Q => w_getR (show ins 79 37 = some (.getfield 99, 3) by decide +kernel) (show fRes (mC 79) 99 = some (22, 4, true) by decide +kernel) (by decide +kernel)
set_option maxRecDepth 100000 in
theorem r_79_40 : ∀ (d : Nat) (ls : Lc) (st : List Value) (M : Mem) (Q : Outcome → Mem → Prop), Wp d 79 40 ls st M Q = Wp d 79 41 ls (.int (I 0) :: st) M Q := fun d ls st M Q => w_iconst (show ins 79 40 = some (.iconst 0, 1) by decide +kernel)
set_option maxRecDepth 100000 in
theorem r_79_41 : ∀ (d : Nat) (ls : Lc) (a : Nat) (j : Int32) (st : List Value) (M : Mem) (Q : Outcome → Mem → Prop), Wp d 79 41 ls (.int j :: .ref a :: st) M Q = ((((kX M a).1 = 4 ∨ (kX M a).1 = 5 ∨ (kX M a).1 = 6 ∨ (kX M a).1 = 7) ∧ inB j (kX M a).2 = true) ∧ Wp d 79 42 ls (va_rf (mQ M a j.toNatClampNeg) :: st) M Q) := fun d ls a j st M Q => w_aaload (show ins 79 41 = some (.aaload, 1) by decide +kernel)
set_option maxRecDepth 100000 in
theorem r_79_42 : ∀ (d : Nat) (l0 l1 : Option Value) (v : Int32) (st : List Value) (M : Mem) (Q : Outcome → Mem → Prop), Wp d 79 42 [l0, l1, some (.int v)] st M Q = Wp d 79 43 [l0, l1, some (.int v)] (.int v :: st) M Q := fun d l0 l1 v st M Q => wA (show ins 79 42 = some (.iload_n 2, 1) by decide +kernel) rfl
set_option maxRecDepth 100000 in
theorem r_79_43 : ∀ (d : Nat) (ls : Lc) (v0 v1 : Value)  (st : List Value) (M : Mem) (Q : Outcome → Mem → Prop), (smallR st = true) → Wp d 79 43 ls (v1 :: v0 :: st) M Q = Ca d 79 43 ls 91 [v0, v1] st M Q := fun d ls v0 v1 st M Q h0 => w_stat (as := [v0, v1]) (show ins 79 43 = some (.invokestatic 144, 3) by decide +kernel) (show mRes (mC 79) 144 = some (0, 2, [(0, 91)]) by decide +kernel) (by decide +kernel) (by decide +kernel) rfl h0
set_option maxRecDepth 100000 in
theorem r_79_46 : ∀ (d : Nat) (ls : Lc) (a : Int32) (st : List Value) (M : Mem) (Q : Outcome → Mem → Prop), Wp d 79 46 ls (.int a :: st) M Q = Br (a = I 0) d 79 70 49 ls st M Q := fun d ls a st M Q => w_if (show ins 79 46 = some (.ifCond .eq 24, 3) by decide +kernel) rfl rfl
set_option maxRecDepth 100000 in
theorem r_79_49 : ∀ (d : Nat) (l1 l2 : Option Value) (v : Nat) (st : List Value) (M : Mem) (Q : Outcome → Mem → Prop), Wp d 79 49 [some (.ref v), l1, l2] st M Q = Wp d 79 50 [some (.ref v), l1, l2] (.ref v :: st) M Q := fun d l1 l2 v st M Q => wA (show ins 79 49 = some (.aload_n 0, 1) by decide +kernel) rfl
set_option maxRecDepth 100000 in
theorem r_79_50 : ∀ (d : Nat) (ls : Lc) (a : Nat) (st : List Value) (M : Mem) (Q : Outcome → Mem → Prop), Wp d 79 50 ls (.ref a :: st) M Q = (fk 4 (kO M a) = true ∧ Wp d 79 53 ls (va_rf (mR M 4 a) :: st) M Q) := fun d ls a st M Q => w_getR (show ins 79 50 = some (.getfield 15, 3) by decide +kernel) (show fRes (mC 79) 15 = some (4, 1, false) by decide +kernel) (by decide +kernel)
set_option maxRecDepth 100000 in
theorem r_79_53 : ∀ (d : Nat) (l0 l1 : Option Value) (v : Int32) (st : List Value) (M : Mem) (Q : Outcome → Mem → Prop), Wp d 79 53 [l0, l1, some (.int v)] st M Q = Wp d 79 54 [l0, l1, some (.int v)] (.int v :: st) M Q := fun d l0 l1 v st M Q => wA (show ins 79 53 = some (.iload_n 2, 1) by decide +kernel) rfl
set_option maxRecDepth 100000 in
theorem r_79_54 : ∀ (d : Nat) (ls : Lc) (a : Nat) (j : Int32) (st : List Value) (M : Mem) (Q : Outcome → Mem → Prop), Wp d 79 54 ls (.int j :: .ref a :: st) M Q = ((((kX M a).1 = 4 ∨ (kX M a).1 = 5 ∨ (kX M a).1 = 6 ∨ (kX M a).1 = 7) ∧ inB j (kX M a).2 = true) ∧ Wp d 79 55 ls (va_rf (mQ M a j.toNatClampNeg) :: st) M Q) := fun d ls a j st M Q => w_aaload (show ins 79 54 = some (.aaload, 1) by decide +kernel)
set_option maxRecDepth 100000 in
theorem r_79_55 : ∀ (d : Nat) (l1 l2 : Option Value) (v : Nat) (st : List Value) (M : Mem) (Q : Outcome → Mem → Prop), Wp d 79 55 [some (.ref v), l1, l2] st M Q = Wp d 79 56 [some (.ref v), l1, l2] (.ref v :: st) M Q := fun d l1 l2 v st M Q => wA (show ins 79 55 = some (.aload_n 0, 1) by decide +kernel) rfl
set_option maxRecDepth 100000 in
theorem r_79_56 : ∀ (d : Nat) (ls : Lc) (a : Nat) (st : List Value) (M : Mem) (Q : Outcome → Mem → Prop), Wp d 79 56 ls (.ref a :: st) M Q = (fk 2 (kO M a) = true ∧ Wp d 79 59 ls (va_rf (mR M 2 a) :: st) M Q) := fun d ls a st M Q => w_getR (show ins 79 56 = some (.getfield 67, 3) by decide +kernel) (show fRes (mC 79) 67 = some (2, 1, false) by decide +kernel) (by decide +kernel)
set_option maxRecDepth 100000 in
theorem r_79_59 : ∀ (d : Nat) (ls : Lc) (a : Nat) (st : List Value) (M : Mem) (Q : Outcome → Mem → Prop), Wp d 79 59 ls (.ref a :: st) M Q = (fk 22 (kO M a) = true ∧ Wp d 79 62 ls (va_rf (mR M 22 a) :: st) M Q) := fun d ls a st M Q => w_getR (show ins 79 59 = some (.getfield 99, 3) by decide +kernel) (show fRes (mC 79) 99 = some (22, 4, true) by decide +kernel) (by decide +kernel)
set_option maxRecDepth 100000 in
theorem r_79_62 : ∀ (d : Nat) (l0 l1 : Option Value) (v : Int32) (st : List Value) (M : Mem) (Q : Outcome → Mem → Prop), Wp d 79 62 [l0, l1, some (.int v)] st M Q = Wp d 79 63 [l0, l1, some (.int v)] (.int v :: st) M Q := fun d l0 l1 v st M Q => wA (show ins 79 62 = some (.iload_n 2, 1) by decide +kernel) rfl
set_option maxRecDepth 100000 in
theorem r_79_63 : ∀ (d : Nat) (ls : Lc) (a : Nat) (j : Int32) (st : List Value) (M : Mem) (Q : Outcome → Mem → Prop), Wp d 79 63 ls (.int j :: .ref a :: st) M Q = ((((kX M a).1 = 4 ∨ (kX M a).1 = 5 ∨ (kX M a).1 = 6 ∨ (kX M a).1 = 7) ∧ inB j (kX M a).2 = true) ∧ Wp d 79 64 ls (va_rf (mQ M a j.toNatClampNeg) :: st) M Q) := fun d ls a j st M Q => w_aaload (show ins 79 63 = some (.aaload, 1) by decide +kernel)
set_option maxRecDepth 100000 in
theorem r_79_64 : ∀ (d : Nat) (ls : Lc) (v0 v1 : Value)  (st : List Value) (M : Mem) (Q : Outcome → Mem → Prop), (smallR st = true) → Wp d 79 64 ls (v1 :: v0 :: st) M Q = Ca d 79 64 ls 80 [v0, v1] st M Q := fun d ls v0 v1 st M Q h0 => w_stat (as := [v0, v1]) (show ins 79 64 = some (.invokestatic 327, 3) by decide +kernel) (show mRes (mC 79) 327 = some (0, 1, [(0, 80)]) by decide +kernel) (by decide +kernel) (by decide +kernel) rfl h0
set_option maxRecDepth 100000 in
theorem r_79_67 : ∀ (d : Nat) (ls : Lc) (a : Int32) (st : List Value) (M : Mem) (Q : Outcome → Mem → Prop), Wp d 79 67 ls (.int a :: st) M Q = Br (¬ a = I 0) d 79 74 70 ls st M Q := fun d ls a st M Q => w_if (show ins 79 67 = some (.ifCond .ne 7, 3) by decide +kernel) rfl rfl
set_option maxRecDepth 100000 in
theorem r_79_70 : ∀ (d : Nat) (ls : Lc) (st : List Value) (M : Mem) (Q : Outcome → Mem → Prop), Wp d 79 70 ls st M Q = Wp d 79 71 ls (.int (I 1) :: st) M Q := fun d ls st M Q => w_iconst (show ins 79 70 = some (.iconst 1, 1) by decide +kernel)
set_option maxRecDepth 100000 in
theorem r_79_71 : ∀ (d : Nat) (ls : Lc) (st : List Value) (M : Mem) (Q : Outcome → Mem → Prop), Wp d 79 71 ls st M Q = Wp d 79 75 ls st M Q := fun d ls st M Q => w_goto (show ins 79 71 = some (.goto 4, 3) by decide +kernel) rfl
set_option maxRecDepth 100000 in
theorem r_79_74 : ∀ (d : Nat) (ls : Lc) (st : List Value) (M : Mem) (Q : Outcome → Mem → Prop), Wp d 79 74 ls st M Q = Wp d 79 75 ls (.int (I 0) :: st) M Q := fun d ls st M Q => w_iconst (show ins 79 74 = some (.iconst 0, 1) by decide +kernel)
set_option maxRecDepth 100000 in
theorem r_79_75 : ∀ (d : Nat) (ls : Lc) (a : Nat) (j v : Int32) (st : List Value) (M : Mem) (Q : Outcome → Mem → Prop), Wp d 79 75 ls (.int v :: .int j :: .ref a :: st) M Q = ((((kX M a).1 = 1 ∨ (kX M a).1 = 2) ∧ inB j (kX M a).2 = true) ∧ Wp d 79 76 ls st (sA M a j.toNatClampNeg (nrw (kX M a).1 v)) Q) := fun d ls a j v st M Q => w_bastore (show ins 79 75 = some (.bastore, 1) by decide +kernel)
set_option maxRecDepth 100000 in
theorem r_79_76 : ∀ (d : Nat) (l0 l2 : Option Value) (v : Int32) (st : List Value) (M : Mem) (Q : Outcome → Mem → Prop), Wp d 79 76 [l0, some (.int v), l2] st M Q = Wp d 79 77 [l0, some (.int v), l2] (.int v :: st) M Q := fun d l0 l2 v st M Q => wA (show ins 79 76 = some (.iload_n 1, 1) by decide +kernel) rfl
set_option maxRecDepth 100000 in
theorem r_79_77 : ∀ (d : Nat) (l1 l2 : Option Value) (v : Nat) (st : List Value) (M : Mem) (Q : Outcome → Mem → Prop), Wp d 79 77 [some (.ref v), l1, l2] st M Q = Wp d 79 78 [some (.ref v), l1, l2] (.ref v :: st) M Q := fun d l1 l2 v st M Q => wA (show ins 79 77 = some (.aload_n 0, 1) by decide +kernel) rfl
set_option maxRecDepth 100000 in
theorem r_79_78 : ∀ (d : Nat) (ls : Lc) (a : Nat) (st : List Value) (M : Mem) (Q : Outcome → Mem → Prop), Wp d 79 78 ls (.ref a :: st) M Q = (fk 1 (kO M a) = true ∧ Wp d 79 81 ls (va_rf (mR M 1 a) :: st) M Q) := fun d ls a st M Q => w_getR (show ins 79 78 = some (.getfield 21, 3) by decide +kernel) (show fRes (mC 79) 21 = some (1, 1, false) by decide +kernel) (by decide +kernel)
set_option maxRecDepth 100000 in
theorem r_79_81 : ∀ (d : Nat) (l0 l1 : Option Value) (v : Int32) (st : List Value) (M : Mem) (Q : Outcome → Mem → Prop), Wp d 79 81 [l0, l1, some (.int v)] st M Q = Wp d 79 82 [l0, l1, some (.int v)] (.int v :: st) M Q := fun d l0 l1 v st M Q => wA (show ins 79 81 = some (.iload_n 2, 1) by decide +kernel) rfl
set_option maxRecDepth 100000 in
theorem r_79_82 : ∀ (d : Nat) (ls : Lc) (a : Nat) (j : Int32) (st : List Value) (M : Mem) (Q : Outcome → Mem → Prop), Wp d 79 82 ls (.int j :: .ref a :: st) M Q = ((((kX M a).1 = 1 ∨ (kX M a).1 = 2) ∧ inB j (kX M a).2 = true) ∧ Wp d 79 83 ls (.int (mA M a j.toNatClampNeg) :: st) M Q) := fun d ls a j st M Q => w_baload (show ins 79 82 = some (.baload, 1) by decide +kernel)
set_option maxRecDepth 100000 in
theorem r_79_83 : ∀ (d : Nat) (ls : Lc) (a : Int32) (st : List Value) (M : Mem) (Q : Outcome → Mem → Prop), Wp d 79 83 ls (.int a :: st) M Q = Br (a = I 0) d 79 90 86 ls st M Q := fun d ls a st M Q => w_if (show ins 79 83 = some (.ifCond .eq 7, 3) by decide +kernel) rfl rfl
set_option maxRecDepth 100000 in
theorem r_79_86 : ∀ (d : Nat) (ls : Lc) (st : List Value) (M : Mem) (Q : Outcome → Mem → Prop), Wp d 79 86 ls st M Q = Wp d 79 87 ls (.int (I 1) :: st) M Q := fun d ls st M Q => w_iconst (show ins 79 86 = some (.iconst 1, 1) by decide +kernel)
set_option maxRecDepth 100000 in
theorem r_79_87 : ∀ (d : Nat) (ls : Lc) (st : List Value) (M : Mem) (Q : Outcome → Mem → Prop), Wp d 79 87 ls st M Q = Wp d 79 91 ls st M Q := fun d ls st M Q => w_goto (show ins 79 87 = some (.goto 4, 3) by decide +kernel) rfl
set_option maxRecDepth 100000 in
theorem r_79_90 : ∀ (d : Nat) (ls : Lc) (st : List Value) (M : Mem) (Q : Outcome → Mem → Prop), Wp d 79 90 ls st M Q = Wp d 79 91 ls (.int (I 0) :: st) M Q := fun d ls st M Q => w_iconst (show ins 79 90 = some (.iconst 0, 1) by decide +kernel)
set_option maxRecDepth 100000 in
theorem r_79_91 : ∀ (d : Nat) (ls : Lc) (a b : Int) (st : List Value) (M : Mem) (Q : Outcome → Mem → Prop), Wp d 79 91 ls (.int (I b) :: .int (I a) :: st) M Q = Wp d 79 92 ls (.int (I (a + b)) :: st) M Q := fun d ls a b st M Q => w_iadd (show ins 79 91 = some (.iadd, 1) by decide +kernel)
set_option maxRecDepth 100000 in
theorem r_79_92 : ∀ (d : Nat) (l0 l1 l2 : Option Value) (v : Int32) (st : List Value) (M : Mem) (Q : Outcome → Mem → Prop), (lo l0 = false) → Wp d 79 92 [l0, l1, l2] (.int v :: st) M Q = Wp d 79 93 [l0, some (.int v), l2] st M Q := fun d l0 l1 l2 v st M Q hl => w_istore_n (show ins 79 92 = some (.istore_n 1, 1) by decide +kernel) (st1_S rfl rfl hl)
set_option maxRecDepth 100000 in
theorem r_79_93 : ∀ (d : Nat) (l0 l1 : Option Value) (z : Int) (st : List Value) (M : Mem) (Q : Outcome → Mem → Prop), (lo l1 = false) → Wp d 79 93 [l0, l1, some (.int (I z))] st M Q = Wp d 79 96 [l0, l1, some (.int (I (z + 1)))] st M Q := fun d l0 l1 z st M Q hl => w_iinc (show ins 79 93 = some (.iinc 2 1, 3) by decide +kernel) rfl (st1_S rfl rfl hl)
set_option maxRecDepth 100000 in
theorem r_79_96 : ∀ (d : Nat) (ls : Lc) (st : List Value) (M : Mem) (Q : Outcome → Mem → Prop), Wp d 79 96 ls st M Q = Wp d 79 8 ls st M Q := fun d ls st M Q => w_goto (show ins 79 96 = some (.goto (-88), 3) by decide +kernel) rfl
set_option maxRecDepth 100000 in
theorem r_79_99 : ∀ (d : Nat) (l0 l2 : Option Value) (v : Int32) (st : List Value) (M : Mem) (Q : Outcome → Mem → Prop), Wp d 79 99 [l0, some (.int v), l2] st M Q = Wp d 79 100 [l0, some (.int v), l2] (.int v :: st) M Q := fun d l0 l2 v st M Q => wA (show ins 79 99 = some (.iload_n 1, 1) by decide +kernel) rfl
set_option maxRecDepth 100000 in
theorem r_79_100 : ∀ (d : Nat) (ls : Lc) (v : Int32) (M : Mem) (Q : Outcome → Mem → Prop), Wp d 79 100 ls [.int v] M Q = Q (.returned (some (.int v))) M := fun d ls v M Q => w_ireturn (show ins 79 100 = some (.ireturn, 1) by decide +kernel) (by decide +kernel)
set_option maxRecDepth 100000 in
theorem w_79_8 : (type_of% r_79_8) := r_79_8
set_option maxRecDepth 100000 in
theorem W_79 : (type_of% r_79_0) ∧ (type_of% r_79_1) ∧ (type_of% r_79_4) ∧ (type_of% r_79_5) ∧ (type_of% r_79_6) ∧ (type_of% r_79_7) ∧ (type_of% r_79_9) ∧ (type_of% r_79_10) ∧ (type_of% r_79_13) ∧ (type_of% r_79_16) ∧ (type_of% r_79_17) ∧ (type_of% r_79_20) ∧ (type_of% r_79_21) ∧ (type_of% r_79_22) ∧ (type_of% r_79_25) ∧ (type_of% r_79_28) ∧ (type_of% r_79_29) ∧ (type_of% r_79_30) ∧ (type_of% r_79_33) ∧ (type_of% r_79_34) ∧ (type_of% r_79_37) ∧ (type_of% r_79_40) ∧ (type_of% r_79_41) ∧ (type_of% r_79_42) ∧ (type_of% r_79_43) ∧ (type_of% r_79_46) ∧ (type_of% r_79_49) ∧ (type_of% r_79_50) ∧ (type_of% r_79_53) ∧ (type_of% r_79_54) ∧ (type_of% r_79_55) ∧ (type_of% r_79_56) ∧ (type_of% r_79_59) ∧ (type_of% r_79_62) ∧ (type_of% r_79_63) ∧ (type_of% r_79_64) ∧ (type_of% r_79_67) ∧ (type_of% r_79_70) ∧ (type_of% r_79_71) ∧ (type_of% r_79_74) ∧ (type_of% r_79_75) ∧ (type_of% r_79_76) ∧ (type_of% r_79_77) ∧ (type_of% r_79_78) ∧ (type_of% r_79_81) ∧ (type_of% r_79_82) ∧ (type_of% r_79_83) ∧ (type_of% r_79_86) ∧ (type_of% r_79_87) ∧ (type_of% r_79_90) ∧ (type_of% r_79_91) ∧ (type_of% r_79_92) ∧ (type_of% r_79_93) ∧ (type_of% r_79_96) ∧ (type_of% r_79_99) ∧ (type_of% r_79_100) := ⟨r_79_0, r_79_1, r_79_4, r_79_5, r_79_6, r_79_7, r_79_9, r_79_10, r_79_13, r_79_16, r_79_17, r_79_20, r_79_21, r_79_22, r_79_25, r_79_28, r_79_29, r_79_30, r_79_33, r_79_34, r_79_37, r_79_40, r_79_41, r_79_42, r_79_43, r_79_46, r_79_49, r_79_50, r_79_53, r_79_54, r_79_55, r_79_56, r_79_59, r_79_62, r_79_63, r_79_64, r_79_67, r_79_70, r_79_71, r_79_74, r_79_75, r_79_76, r_79_77, r_79_78, r_79_81, r_79_82, r_79_83, r_79_86, r_79_87, r_79_90, r_79_91, r_79_92, r_79_93, r_79_96, r_79_99, r_79_100⟩
set_option maxRecDepth 100000 in
theorem ca_79 {d y pc : Nat} {ls : Lc} {a : Nat} {r : List Value} {M : Mem} {Q : Outcome → Mem → Prop} (hd : 0 < d) (hw : Wp (d - 1) 79 0 [some (.ref a), none, none] [] M (Cq d y pc ls r Q)) : Ca d y pc ls 79 [.ref a] r M Q := ca_of (mq_get (by decide)) (by rfl) hd hw
/-! 80 PackedTree.same([B[B)Z; loop heads [2] -/
set_option maxRecDepth 100000 in
theorem r_80_0 : ∀ (d : Nat) (ls : Lc) (st : List Value) (M : Mem) (Q : Outcome → Mem → Prop), Wp d 80 0 ls st M Q = Wp d 80 1 ls (.int (I 0) :: st) M Q := fun d ls st M Q => w_iconst (show ins 80 0 = some (.iconst 0, 1) by decide +kernel)
set_option maxRecDepth 100000 in
theorem r_80_1 : ∀ (d : Nat) (l0 l1 l2 : Option Value) (v : Int32) (st : List Value) (M : Mem) (Q : Outcome → Mem → Prop), (lo l1 = false) → Wp d 80 1 [l0, l1, l2] (.int v :: st) M Q = Wp d 80 2 [l0, l1, some (.int v)] st M Q := fun d l0 l1 l2 v st M Q hl => w_istore_n (show ins 80 1 = some (.istore_n 2, 1) by decide +kernel) (st1_S rfl rfl hl)
set_option maxRecDepth 100000 in
theorem r_80_2 : ∀ (d : Nat) (l0 l1 : Option Value) (v : Int32) (st : List Value) (M : Mem) (Q : Outcome → Mem → Prop), Wp d 80 2 [l0, l1, some (.int v)] st M Q = Wp d 80 3 [l0, l1, some (.int v)] (.int v :: st) M Q := fun d l0 l1 v st M Q => wA (show ins 80 2 = some (.iload_n 2, 1) by decide +kernel) rfl
set_option maxRecDepth 100000 in
theorem r_80_3 : ∀ (d : Nat) (ls : Lc) (st : List Value) (M : Mem) (Q : Outcome → Mem → Prop), Wp d 80 3 ls st M Q = Wp d 80 6 ls (.int (I 129) :: st) M Q := fun d ls st M Q => w_sipush (show ins 80 3 = some (.sipush 129, 3) by decide +kernel) (by decide)
set_option maxRecDepth 100000 in
theorem r_80_6 : ∀ (d : Nat) (ls : Lc) (a b : Int32) (st : List Value) (M : Mem) (Q : Outcome → Mem → Prop), Wp d 80 6 ls (.int b :: .int a :: st) M Q = Br (b ≤ a) d 80 24 9 ls st M Q := fun d ls a b st M Q => w_icmp (show ins 80 6 = some (.if_icmp .ge 18, 3) by decide +kernel) rfl rfl
set_option maxRecDepth 100000 in
theorem r_80_9 : ∀ (d : Nat) (l1 l2 : Option Value) (v : Nat) (st : List Value) (M : Mem) (Q : Outcome → Mem → Prop), Wp d 80 9 [some (.ref v), l1, l2] st M Q = Wp d 80 10 [some (.ref v), l1, l2] (.ref v :: st) M Q := fun d l1 l2 v st M Q => wA (show ins 80 9 = some (.aload_n 0, 1) by decide +kernel) rfl
set_option maxRecDepth 100000 in
theorem r_80_9_1 : ∀ (d : Nat) (l1 l2 : Option Value) (st : List Value) (M : Mem) (Q : Outcome → Mem → Prop), Wp d 80 9 [some .null, l1, l2] st M Q = Wp d 80 10 [some .null, l1, l2] (.null :: st) M Q := fun d l1 l2 st M Q => wA (show ins 80 9 = some (.aload_n 0, 1) by decide +kernel) rfl
set_option maxRecDepth 100000 in
theorem r_80_10 : ∀ (d : Nat) (l0 l1 : Option Value) (v : Int32) (st : List Value) (M : Mem) (Q : Outcome → Mem → Prop), Wp d 80 10 [l0, l1, some (.int v)] st M Q = Wp d 80 11 [l0, l1, some (.int v)] (.int v :: st) M Q := fun d l0 l1 v st M Q => wA (show ins 80 10 = some (.iload_n 2, 1) by decide +kernel) rfl
set_option maxRecDepth 100000 in
theorem r_80_11 : ∀ (d : Nat) (ls : Lc) (a : Nat) (j : Int32) (st : List Value) (M : Mem) (Q : Outcome → Mem → Prop), Wp d 80 11 ls (.int j :: .ref a :: st) M Q = ((((kX M a).1 = 1 ∨ (kX M a).1 = 2) ∧ inB j (kX M a).2 = true) ∧ Wp d 80 12 ls (.int (mA M a j.toNatClampNeg) :: st) M Q) := fun d ls a j st M Q => w_baload (show ins 80 11 = some (.baload, 1) by decide +kernel)
set_option maxRecDepth 100000 in
theorem r_80_12 : ∀ (d : Nat) (l0 l2 : Option Value) (v : Nat) (st : List Value) (M : Mem) (Q : Outcome → Mem → Prop), Wp d 80 12 [l0, some (.ref v), l2] st M Q = Wp d 80 13 [l0, some (.ref v), l2] (.ref v :: st) M Q := fun d l0 l2 v st M Q => wA (show ins 80 12 = some (.aload_n 1, 1) by decide +kernel) rfl
set_option maxRecDepth 100000 in
theorem r_80_12_1 : ∀ (d : Nat) (l0 l2 : Option Value) (st : List Value) (M : Mem) (Q : Outcome → Mem → Prop), Wp d 80 12 [l0, some .null, l2] st M Q = Wp d 80 13 [l0, some .null, l2] (.null :: st) M Q := fun d l0 l2 st M Q => wA (show ins 80 12 = some (.aload_n 1, 1) by decide +kernel) rfl
set_option maxRecDepth 100000 in
theorem r_80_13 : ∀ (d : Nat) (l0 l1 : Option Value) (v : Int32) (st : List Value) (M : Mem) (Q : Outcome → Mem → Prop), Wp d 80 13 [l0, l1, some (.int v)] st M Q = Wp d 80 14 [l0, l1, some (.int v)] (.int v :: st) M Q := fun d l0 l1 v st M Q => wA (show ins 80 13 = some (.iload_n 2, 1) by decide +kernel) rfl
set_option maxRecDepth 100000 in
theorem r_80_14 : ∀ (d : Nat) (ls : Lc) (a : Nat) (j : Int32) (st : List Value) (M : Mem) (Q : Outcome → Mem → Prop), Wp d 80 14 ls (.int j :: .ref a :: st) M Q = ((((kX M a).1 = 1 ∨ (kX M a).1 = 2) ∧ inB j (kX M a).2 = true) ∧ Wp d 80 15 ls (.int (mA M a j.toNatClampNeg) :: st) M Q) := fun d ls a j st M Q => w_baload (show ins 80 14 = some (.baload, 1) by decide +kernel)
set_option maxRecDepth 100000 in
theorem r_80_15 : ∀ (d : Nat) (ls : Lc) (a b : Int32) (st : List Value) (M : Mem) (Q : Outcome → Mem → Prop), Wp d 80 15 ls (.int b :: .int a :: st) M Q = Br (¬ a = b) d 80 24 18 ls st M Q := fun d ls a b st M Q => w_icmp (show ins 80 15 = some (.if_icmp .ne 9, 3) by decide +kernel) rfl rfl
set_option maxRecDepth 100000 in
theorem r_80_18 : ∀ (d : Nat) (l0 l1 : Option Value) (z : Int) (st : List Value) (M : Mem) (Q : Outcome → Mem → Prop), (lo l1 = false) → Wp d 80 18 [l0, l1, some (.int (I z))] st M Q = Wp d 80 21 [l0, l1, some (.int (I (z + 1)))] st M Q := fun d l0 l1 z st M Q hl => w_iinc (show ins 80 18 = some (.iinc 2 1, 3) by decide +kernel) rfl (st1_S rfl rfl hl)
set_option maxRecDepth 100000 in
theorem r_80_21 : ∀ (d : Nat) (ls : Lc) (st : List Value) (M : Mem) (Q : Outcome → Mem → Prop), Wp d 80 21 ls st M Q = Wp d 80 2 ls st M Q := fun d ls st M Q => w_goto (show ins 80 21 = some (.goto (-19), 3) by decide +kernel) rfl
set_option maxRecDepth 100000 in
theorem r_80_24 : ∀ (d : Nat) (l0 l1 : Option Value) (v : Int32) (st : List Value) (M : Mem) (Q : Outcome → Mem → Prop), Wp d 80 24 [l0, l1, some (.int v)] st M Q = Wp d 80 25 [l0, l1, some (.int v)] (.int v :: st) M Q := fun d l0 l1 v st M Q => wA (show ins 80 24 = some (.iload_n 2, 1) by decide +kernel) rfl
set_option maxRecDepth 100000 in
theorem r_80_25 : ∀ (d : Nat) (ls : Lc) (st : List Value) (M : Mem) (Q : Outcome → Mem → Prop), Wp d 80 25 ls st M Q = Wp d 80 28 ls (.int (I 129) :: st) M Q := fun d ls st M Q => w_sipush (show ins 80 25 = some (.sipush 129, 3) by decide +kernel) (by decide)
set_option maxRecDepth 100000 in
theorem r_80_28 : ∀ (d : Nat) (ls : Lc) (a b : Int32) (st : List Value) (M : Mem) (Q : Outcome → Mem → Prop), Wp d 80 28 ls (.int b :: .int a :: st) M Q = Br (¬ a = b) d 80 35 31 ls st M Q := fun d ls a b st M Q => w_icmp (show ins 80 28 = some (.if_icmp .ne 7, 3) by decide +kernel) rfl rfl
set_option maxRecDepth 100000 in
theorem r_80_31 : ∀ (d : Nat) (ls : Lc) (st : List Value) (M : Mem) (Q : Outcome → Mem → Prop), Wp d 80 31 ls st M Q = Wp d 80 32 ls (.int (I 1) :: st) M Q := fun d ls st M Q => w_iconst (show ins 80 31 = some (.iconst 1, 1) by decide +kernel)
set_option maxRecDepth 100000 in
theorem r_80_32 : ∀ (d : Nat) (ls : Lc) (st : List Value) (M : Mem) (Q : Outcome → Mem → Prop), Wp d 80 32 ls st M Q = Wp d 80 36 ls st M Q := fun d ls st M Q => w_goto (show ins 80 32 = some (.goto 4, 3) by decide +kernel) rfl
set_option maxRecDepth 100000 in
theorem r_80_35 : ∀ (d : Nat) (ls : Lc) (st : List Value) (M : Mem) (Q : Outcome → Mem → Prop), Wp d 80 35 ls st M Q = Wp d 80 36 ls (.int (I 0) :: st) M Q := fun d ls st M Q => w_iconst (show ins 80 35 = some (.iconst 0, 1) by decide +kernel)
set_option maxRecDepth 100000 in
theorem r_80_36 : ∀ (d : Nat) (ls : Lc) (z : Int) (M : Mem) (Q : Outcome → Mem → Prop), (z = 0 ∨ z = 1) → Wp d 80 36 ls [.int (I z)] M Q = Q (.returned (some (.int (I z)))) M := fun d ls z M Q h0 => w_zretI (show ins 80 36 = some (.ireturn, 1) by decide +kernel) (by decide +kernel) h0
set_option maxRecDepth 100000 in
theorem r_80_36_1 : ∀ (d : Nat) (ls : Lc) (b : Bool) (M : Mem) (Q : Outcome → Mem → Prop), Wp d 80 36 ls [.int (I (bI b))] M Q = Q (.returned (some (.int (I (bI b))))) M := fun d ls b M Q => w_zretB (show ins 80 36 = some (.ireturn, 1) by decide +kernel) (by decide +kernel)
set_option maxRecDepth 100000 in
theorem w_80_2 : (type_of% r_80_2) := r_80_2
set_option maxRecDepth 100000 in
theorem W_80 : (type_of% r_80_0) ∧ (type_of% r_80_1) ∧ (type_of% r_80_3) ∧ (type_of% r_80_6) ∧ (type_of% r_80_9) ∧ (type_of% r_80_9_1) ∧ (type_of% r_80_10) ∧ (type_of% r_80_11) ∧ (type_of% r_80_12) ∧ (type_of% r_80_12_1) ∧ (type_of% r_80_13) ∧ (type_of% r_80_14) ∧ (type_of% r_80_15) ∧ (type_of% r_80_18) ∧ (type_of% r_80_21) ∧ (type_of% r_80_24) ∧ (type_of% r_80_25) ∧ (type_of% r_80_28) ∧ (type_of% r_80_31) ∧ (type_of% r_80_32) ∧ (type_of% r_80_35) ∧ (type_of% r_80_36) ∧ (type_of% r_80_36_1) := ⟨r_80_0, r_80_1, r_80_3, r_80_6, r_80_9, r_80_9_1, r_80_10, r_80_11, r_80_12, r_80_12_1, r_80_13, r_80_14, r_80_15, r_80_18, r_80_21, r_80_24, r_80_25, r_80_28, r_80_31, r_80_32, r_80_35, r_80_36, r_80_36_1⟩
set_option maxRecDepth 100000 in
theorem ca_80 {d y pc : Nat} {ls : Lc} {o0 : Option Nat} {o1 : Option Nat} {r : List Value} {M : Mem} {Q : Outcome → Mem → Prop} (hd : 0 < d) (hw : Wp (d - 1) 80 0 [some (va_rf o0), some (va_rf o1), none] [] M (Cq d y pc ls r Q)) : Ca d y pc ls 80 [va_rf o0, va_rf o1] r M Q := ca_of (mq_get (by decide)) (by cases o0 <;> cases o1 <;> rfl) hd hw
/-! 81 PackedTree.checkpoint()I; loop heads [] -/
set_option maxRecDepth 100000 in
theorem r_81_0 : ∀ (d : Nat) (l1 : Option Value) (v : Nat) (st : List Value) (M : Mem) (Q : Outcome → Mem → Prop), Wp d 81 0 [some (.ref v), l1] st M Q = Wp d 81 1 [some (.ref v), l1] (.ref v :: st) M Q := fun d l1 v st M Q => wA (show ins 81 0 = some (.aload_n 0, 1) by decide +kernel) rfl
set_option maxRecDepth 100000 in
theorem r_81_1 : ∀ (d : Nat) (ls : Lc) (a : Nat) (st : List Value) (M : Mem) (Q : Outcome → Mem → Prop), (smallR st = true) → Wp d 81 1 ls (.ref a :: st) M Q = (kO M a = 1 ∧ Ca d 81 1 ls 30 (.ref a :: []) st M Q) := fun d ls a st M Q h0 => w_virt1 (as := []) (show ins 81 1 = some (.invokevirtual 204, 3) by decide +kernel) (show mRes (mC 81) 204 = some (3, 1, [(1, 30)]) by decide +kernel) (by decide +kernel) rfl (by decide +kernel) (by decide +kernel) h0
set_option maxRecDepth 100000 in
theorem r_81_4 : ∀ (d : Nat) (l1 : Option Value) (v : Nat) (st : List Value) (M : Mem) (Q : Outcome → Mem → Prop), Wp d 81 4 [some (.ref v), l1] st M Q = Wp d 81 5 [some (.ref v), l1] (.ref v :: st) M Q := fun d l1 v st M Q => wA (show ins 81 4 = some (.aload_n 0, 1) by decide +kernel) rfl
set_option maxRecDepth 100000 in
theorem r_81_5 : ∀ (d : Nat) (ls : Lc) (a : Nat) (st : List Value) (M : Mem) (Q : Outcome → Mem → Prop), Wp d 81 5 ls (.ref a :: st) M Q = (fk 2 (kO M a) = true ∧ Wp d 81 8 ls (va_rf (mR M 2 a) :: st) M Q) := fun d ls a st M Q => w_getR (show ins 81 5 = some (.getfield 67, 3) by decide +kernel) (show fRes (mC 81) 67 = some (2, 1, false) by decide +kernel) (by decide +kernel)
set_option maxRecDepth 100000 in
theorem r_81_8 : ∀ (d : Nat) (ls : Lc) (a : Nat) (st : List Value) (M : Mem) (Q : Outcome → Mem → Prop), Wp d 81 8 ls (.ref a :: st) M Q = (fk 29 (kO M a) = true ∧ Wp d 81 11 ls (.int (mF M 29 a) :: st) M Q) := fun d ls a st M Q => w_getI (show ins 81 8 = some (.getfield 336, 3) by decide +kernel) (show fRes (mC 81) 336 = some (29, 4, true) by decide +kernel) (by decide +kernel)
set_option maxRecDepth 100000 in
theorem r_81_11 : ∀ (d : Nat) (l0 l1 : Option Value) (v : Int32) (st : List Value) (M : Mem) (Q : Outcome → Mem → Prop), (lo l0 = false) → Wp d 81 11 [l0, l1] (.int v :: st) M Q = Wp d 81 12 [l0, some (.int v)] st M Q := fun d l0 l1 v st M Q hl => w_istore_n (show ins 81 11 = some (.istore_n 1, 1) by decide +kernel) (st1_S rfl rfl hl)
set_option maxRecDepth 100000 in
theorem r_81_12 : ∀ (d : Nat) (l1 : Option Value) (v : Nat) (st : List Value) (M : Mem) (Q : Outcome → Mem → Prop), Wp d 81 12 [some (.ref v), l1] st M Q = Wp d 81 13 [some (.ref v), l1] (.ref v :: st) M Q := fun d l1 v st M Q => wA (show ins 81 12 = some (.aload_n 0, 1) by decide +kernel) rfl
set_option maxRecDepth 100000 in
theorem r_81_13 : ∀ (d : Nat) (ls : Lc) (a : Nat) (st : List Value) (M : Mem) (Q : Outcome → Mem → Prop), Wp d 81 13 ls (.ref a :: st) M Q = (fk 2 (kO M a) = true ∧ Wp d 81 16 ls (va_rf (mR M 2 a) :: st) M Q) := fun d ls a st M Q => w_getR (show ins 81 13 = some (.getfield 67, 3) by decide +kernel) (show fRes (mC 81) 67 = some (2, 1, false) by decide +kernel) (by decide +kernel)
set_option maxRecDepth 100000 in
theorem r_81_16 : ∀ (d : Nat) (ls : Lc) (a : Nat) (st : List Value) (M : Mem) (Q : Outcome → Mem → Prop), (smallR st = true) → Wp d 81 16 ls (.ref a :: st) M Q = (kO M a = 4 ∧ Ca d 81 16 ls 114 (.ref a :: []) st M Q) := fun d ls a st M Q h0 => w_virt1 (as := []) (show ins 81 16 = some (.invokevirtual 342, 3) by decide +kernel) (show mRes (mC 81) 342 = some (3, 4, [(4, 114)]) by decide +kernel) (by decide +kernel) rfl (by decide +kernel) (by decide +kernel) h0
set_option maxRecDepth 100000 in
theorem r_81_19 : ∀ (d : Nat) (l1 : Option Value) (v : Nat) (st : List Value) (M : Mem) (Q : Outcome → Mem → Prop), Wp d 81 19 [some (.ref v), l1] st M Q = Wp d 81 20 [some (.ref v), l1] (.ref v :: st) M Q := fun d l1 v st M Q => wA (show ins 81 19 = some (.aload_n 0, 1) by decide +kernel) rfl
set_option maxRecDepth 100000 in
theorem r_81_20 : ∀ (d : Nat) (ls : Lc) (a : Nat) (st : List Value) (M : Mem) (Q : Outcome → Mem → Prop), Wp d 81 20 ls (.ref a :: st) M Q = (fk 2 (kO M a) = true ∧ Wp d 81 23 ls (va_rf (mR M 2 a) :: st) M Q) := fun d ls a st M Q => w_getR (show ins 81 20 = some (.getfield 67, 3) by decide +kernel) (show fRes (mC 81) 67 = some (2, 1, false) by decide +kernel) (by decide +kernel)
set_option maxRecDepth 100000 in
theorem r_81_23 : ∀ (d : Nat) (ls : Lc) (a : Nat) (st : List Value) (M : Mem) (Q : Outcome → Mem → Prop), Wp d 81 23 ls (.ref a :: st) M Q = (fk 29 (kO M a) = true ∧ Wp d 81 26 ls (.int (mF M 29 a) :: st) M Q) := fun d ls a st M Q => w_getI (show ins 81 23 = some (.getfield 336, 3) by decide +kernel) (show fRes (mC 81) 336 = some (29, 4, true) by decide +kernel) (by decide +kernel)
set_option maxRecDepth 100000 in
theorem r_81_26 : ∀ (d : Nat) (l0 : Option Value) (v : Int32) (st : List Value) (M : Mem) (Q : Outcome → Mem → Prop), Wp d 81 26 [l0, some (.int v)] st M Q = Wp d 81 27 [l0, some (.int v)] (.int v :: st) M Q := fun d l0 v st M Q => wA (show ins 81 26 = some (.iload_n 1, 1) by decide +kernel) rfl
set_option maxRecDepth 100000 in
theorem r_81_27 : ∀ (d : Nat) (ls : Lc) (a b : Int) (st : List Value) (M : Mem) (Q : Outcome → Mem → Prop), Wp d 81 27 ls (.int (I b) :: .int (I a) :: st) M Q = Wp d 81 28 ls (.int (I (a - b)) :: st) M Q := fun d ls a b st M Q => w_isub (show ins 81 27 = some (.isub, 1) by decide +kernel)
set_option maxRecDepth 100000 in
theorem r_81_28 : ∀ (d : Nat) (ls : Lc) (v : Int32) (M : Mem) (Q : Outcome → Mem → Prop), Wp d 81 28 ls [.int v] M Q = Q (.returned (some (.int v))) M := fun d ls v M Q => w_ireturn (show ins 81 28 = some (.ireturn, 1) by decide +kernel) (by decide +kernel)
set_option maxRecDepth 100000 in
theorem W_81 : (type_of% r_81_0) ∧ (type_of% r_81_1) ∧ (type_of% r_81_4) ∧ (type_of% r_81_5) ∧ (type_of% r_81_8) ∧ (type_of% r_81_11) ∧ (type_of% r_81_12) ∧ (type_of% r_81_13) ∧ (type_of% r_81_16) ∧ (type_of% r_81_19) ∧ (type_of% r_81_20) ∧ (type_of% r_81_23) ∧ (type_of% r_81_26) ∧ (type_of% r_81_27) ∧ (type_of% r_81_28) := ⟨r_81_0, r_81_1, r_81_4, r_81_5, r_81_8, r_81_11, r_81_12, r_81_13, r_81_16, r_81_19, r_81_20, r_81_23, r_81_26, r_81_27, r_81_28⟩
set_option maxRecDepth 100000 in
theorem ca_81 {d y pc : Nat} {ls : Lc} {a : Nat} {r : List Value} {M : Mem} {Q : Outcome → Mem → Prop} (hd : 0 < d) (hw : Wp (d - 1) 81 0 [some (.ref a), none] [] M (Cq d y pc ls r Q)) : Ca d y pc ls 81 [.ref a] r M Q := ca_of (mq_get (by decide)) (by rfl) hd hw
/-! 82 PackedTree.back()I; loop heads [] -/
set_option maxRecDepth 100000 in
theorem r_82_0 : ∀ (d : Nat) (l1 : Option Value) (v : Nat) (st : List Value) (M : Mem) (Q : Outcome → Mem → Prop), Wp d 82 0 [some (.ref v), l1] st M Q = Wp d 82 1 [some (.ref v), l1] (.ref v :: st) M Q := fun d l1 v st M Q => wA (show ins 82 0 = some (.aload_n 0, 1) by decide +kernel) rfl
set_option maxRecDepth 100000 in
theorem r_82_1 : ∀ (d : Nat) (ls : Lc) (a : Nat) (st : List Value) (M : Mem) (Q : Outcome → Mem → Prop), (smallR st = true) → Wp d 82 1 ls (.ref a :: st) M Q = (kO M a = 1 ∧ Ca d 82 1 ls 30 (.ref a :: []) st M Q) := fun d ls a st M Q h0 => w_virt1 (as := []) (show ins 82 1 = some (.invokevirtual 204, 3) by decide +kernel) (show mRes (mC 82) 204 = some (3, 1, [(1, 30)]) by decide +kernel) (by decide +kernel) rfl (by decide +kernel) (by decide +kernel) h0
set_option maxRecDepth 100000 in
theorem r_82_4 : ∀ (d : Nat) (l1 : Option Value) (v : Nat) (st : List Value) (M : Mem) (Q : Outcome → Mem → Prop), Wp d 82 4 [some (.ref v), l1] st M Q = Wp d 82 5 [some (.ref v), l1] (.ref v :: st) M Q := fun d l1 v st M Q => wA (show ins 82 4 = some (.aload_n 0, 1) by decide +kernel) rfl
set_option maxRecDepth 100000 in
theorem r_82_5 : ∀ (d : Nat) (ls : Lc) (a : Nat) (st : List Value) (M : Mem) (Q : Outcome → Mem → Prop), (smallR st = true) → Wp d 82 5 ls (.ref a :: st) M Q = (kO M a = 1 ∧ Ca d 82 5 ls 79 (.ref a :: []) st M Q) := fun d ls a st M Q h0 => w_virt1 (as := []) (show ins 82 5 = some (.invokevirtual 331, 3) by decide +kernel) (show mRes (mC 82) 331 = some (3, 1, [(1, 79)]) by decide +kernel) (by decide +kernel) rfl (by decide +kernel) (by decide +kernel) h0
set_option maxRecDepth 100000 in
theorem r_82_8 : ∀ (d : Nat) (l0 l1 : Option Value) (v : Int32) (st : List Value) (M : Mem) (Q : Outcome → Mem → Prop), (lo l0 = false) → Wp d 82 8 [l0, l1] (.int v :: st) M Q = Wp d 82 9 [l0, some (.int v)] st M Q := fun d l0 l1 v st M Q hl => w_istore_n (show ins 82 8 = some (.istore_n 1, 1) by decide +kernel) (st1_S rfl rfl hl)
set_option maxRecDepth 100000 in
theorem r_82_9 : ∀ (d : Nat) (l1 : Option Value) (v : Nat) (st : List Value) (M : Mem) (Q : Outcome → Mem → Prop), Wp d 82 9 [some (.ref v), l1] st M Q = Wp d 82 10 [some (.ref v), l1] (.ref v :: st) M Q := fun d l1 v st M Q => wA (show ins 82 9 = some (.aload_n 0, 1) by decide +kernel) rfl
set_option maxRecDepth 100000 in
theorem r_82_10 : ∀ (d : Nat) (ls : Lc) (a : Nat) (st : List Value) (M : Mem) (Q : Outcome → Mem → Prop), (smallR st = true) → Wp d 82 10 ls (.ref a :: st) M Q = (kO M a = 1 ∧ Ca d 82 10 ls 83 (.ref a :: []) st M Q) := fun d ls a st M Q h0 => w_virt1 (as := []) (show ins 82 10 = some (.invokevirtual 349, 3) by decide +kernel) (show mRes (mC 82) 349 = some (3, 1, [(1, 83)]) by decide +kernel) (by decide +kernel) rfl (by decide +kernel) (by decide +kernel) h0
set_option maxRecDepth 100000 in
theorem r_82_13 : ∀ (d : Nat) (l0 : Option Value) (v : Int32) (st : List Value) (M : Mem) (Q : Outcome → Mem → Prop), Wp d 82 13 [l0, some (.int v)] st M Q = Wp d 82 14 [l0, some (.int v)] (.int v :: st) M Q := fun d l0 v st M Q => wA (show ins 82 13 = some (.iload_n 1, 1) by decide +kernel) rfl
set_option maxRecDepth 100000 in
theorem r_82_14 : ∀ (d : Nat) (ls : Lc) (v : Int32) (M : Mem) (Q : Outcome → Mem → Prop), Wp d 82 14 ls [.int v] M Q = Q (.returned (some (.int v))) M := fun d ls v M Q => w_ireturn (show ins 82 14 = some (.ireturn, 1) by decide +kernel) (by decide +kernel)
set_option maxRecDepth 100000 in
theorem W_82 : (type_of% r_82_0) ∧ (type_of% r_82_1) ∧ (type_of% r_82_4) ∧ (type_of% r_82_5) ∧ (type_of% r_82_8) ∧ (type_of% r_82_9) ∧ (type_of% r_82_10) ∧ (type_of% r_82_13) ∧ (type_of% r_82_14) := ⟨r_82_0, r_82_1, r_82_4, r_82_5, r_82_8, r_82_9, r_82_10, r_82_13, r_82_14⟩
set_option maxRecDepth 100000 in
theorem ca_82 {d y pc : Nat} {ls : Lc} {a : Nat} {r : List Value} {M : Mem} {Q : Outcome → Mem → Prop} (hd : 0 < d) (hw : Wp (d - 1) 82 0 [some (.ref a), none] [] M (Cq d y pc ls r Q)) : Ca d y pc ls 82 [.ref a] r M Q := ca_of (mq_get (by decide)) (by rfl) hd hw
/-! 83 PackedTree.takeLast()V; loop heads [2] -/
set_option maxRecDepth 100000 in
theorem r_83_0 : ∀ (d : Nat) (ls : Lc) (st : List Value) (M : Mem) (Q : Outcome → Mem → Prop), Wp d 83 0 ls st M Q = Wp d 83 1 ls (.int (I 0) :: st) M Q := fun d ls st M Q => w_iconst (show ins 83 0 = some (.iconst 0, 1) by decide +kernel)
set_option maxRecDepth 100000 in
theorem r_83_1 : ∀ (d : Nat) (l0 l1 : Option Value) (v : Int32) (st : List Value) (M : Mem) (Q : Outcome → Mem → Prop), (lo l0 = false) → Wp d 83 1 [l0, l1] (.int v :: st) M Q = Wp d 83 2 [l0, some (.int v)] st M Q := fun d l0 l1 v st M Q hl => w_istore_n (show ins 83 1 = some (.istore_n 1, 1) by decide +kernel) (st1_S rfl rfl hl)
set_option maxRecDepth 100000 in
theorem r_83_2 : ∀ (d : Nat) (l0 : Option Value) (v : Int32) (st : List Value) (M : Mem) (Q : Outcome → Mem → Prop), Wp d 83 2 [l0, some (.int v)] st M Q = Wp d 83 3 [l0, some (.int v)] (.int v :: st) M Q := fun d l0 v st M Q => wA (show ins 83 2 = some (.iload_n 1, 1) by decide +kernel) rfl
set_option maxRecDepth 100000 in
theorem r_83_3 : ∀ (d : Nat) (l1 : Option Value) (v : Nat) (st : List Value) (M : Mem) (Q : Outcome → Mem → Prop), Wp d 83 3 [some (.ref v), l1] st M Q = Wp d 83 4 [some (.ref v), l1] (.ref v :: st) M Q := fun d l1 v st M Q => wA (show ins 83 3 = some (.aload_n 0, 1) by decide +kernel) rfl
set_option maxRecDepth 100000 in
theorem r_83_4 : ∀ (d : Nat) (ls : Lc) (a : Nat) (st : List Value) (M : Mem) (Q : Outcome → Mem → Prop), Wp d 83 4 ls (.ref a :: st) M Q = (fk 7 (kO M a) = true ∧ Wp d 83 7 ls (.int (mF M 7 a) :: st) M Q) := fun d ls a st M Q => w_getI (show ins 83 4 = some (.getfield 40, 3) by decide +kernel) (show fRes (mC 83) 40 = some (7, 1, false) by decide +kernel) (by decide +kernel)
set_option maxRecDepth 100000 in
theorem r_83_7 : ∀ (d : Nat) (ls : Lc) (a b : Int32) (st : List Value) (M : Mem) (Q : Outcome → Mem → Prop), Wp d 83 7 ls (.int b :: .int a :: st) M Q = Br (b ≤ a) d 83 34 10 ls st M Q := fun d ls a b st M Q => w_icmp (show ins 83 7 = some (.if_icmp .ge 27, 3) by decide +kernel) rfl rfl
set_option maxRecDepth 100000 in
theorem r_83_10 : ∀ (d : Nat) (l1 : Option Value) (v : Nat) (st : List Value) (M : Mem) (Q : Outcome → Mem → Prop), Wp d 83 10 [some (.ref v), l1] st M Q = Wp d 83 11 [some (.ref v), l1] (.ref v :: st) M Q := fun d l1 v st M Q => wA (show ins 83 10 = some (.aload_n 0, 1) by decide +kernel) rfl
set_option maxRecDepth 100000 in
theorem r_83_11 : ∀ (d : Nat) (ls : Lc) (a : Nat) (st : List Value) (M : Mem) (Q : Outcome → Mem → Prop), Wp d 83 11 ls (.ref a :: st) M Q = (fk 2 (kO M a) = true ∧ Wp d 83 14 ls (va_rf (mR M 2 a) :: st) M Q) := fun d ls a st M Q => w_getR (show ins 83 11 = some (.getfield 67, 3) by decide +kernel) (show fRes (mC 83) 67 = some (2, 1, false) by decide +kernel) (by decide +kernel)
set_option maxRecDepth 100000 in
theorem r_83_14 : ∀ (d : Nat) (ls : Lc) (a : Nat) (st : List Value) (M : Mem) (Q : Outcome → Mem → Prop), Wp d 83 14 ls (.ref a :: st) M Q = (fk 22 (kO M a) = true ∧ Wp d 83 17 ls (va_rf (mR M 22 a) :: st) M Q) := fun d ls a st M Q => w_getR (show ins 83 14 = some (.getfield 99, 3) by decide +kernel) (show fRes (mC 83) 99 = some (22, 4, true) by decide +kernel) (by decide +kernel)
set_option maxRecDepth 100000 in
theorem r_83_17 : ∀ (d : Nat) (l0 : Option Value) (v : Int32) (st : List Value) (M : Mem) (Q : Outcome → Mem → Prop), Wp d 83 17 [l0, some (.int v)] st M Q = Wp d 83 18 [l0, some (.int v)] (.int v :: st) M Q := fun d l0 v st M Q => wA (show ins 83 17 = some (.iload_n 1, 1) by decide +kernel) rfl
set_option maxRecDepth 100000 in
theorem r_83_18 : ∀ (d : Nat) (ls : Lc) (a : Nat) (j : Int32) (st : List Value) (M : Mem) (Q : Outcome → Mem → Prop), Wp d 83 18 ls (.int j :: .ref a :: st) M Q = ((((kX M a).1 = 4 ∨ (kX M a).1 = 5 ∨ (kX M a).1 = 6 ∨ (kX M a).1 = 7) ∧ inB j (kX M a).2 = true) ∧ Wp d 83 19 ls (va_rf (mQ M a j.toNatClampNeg) :: st) M Q) := fun d ls a j st M Q => w_aaload (show ins 83 18 = some (.aaload, 1) by decide +kernel)
set_option maxRecDepth 100000 in
theorem r_83_19 : ∀ (d : Nat) (l1 : Option Value) (v : Nat) (st : List Value) (M : Mem) (Q : Outcome → Mem → Prop), Wp d 83 19 [some (.ref v), l1] st M Q = Wp d 83 20 [some (.ref v), l1] (.ref v :: st) M Q := fun d l1 v st M Q => wA (show ins 83 19 = some (.aload_n 0, 1) by decide +kernel) rfl
set_option maxRecDepth 100000 in
theorem r_83_20 : ∀ (d : Nat) (ls : Lc) (a : Nat) (st : List Value) (M : Mem) (Q : Outcome → Mem → Prop), Wp d 83 20 ls (.ref a :: st) M Q = (fk 4 (kO M a) = true ∧ Wp d 83 23 ls (va_rf (mR M 4 a) :: st) M Q) := fun d ls a st M Q => w_getR (show ins 83 20 = some (.getfield 15, 3) by decide +kernel) (show fRes (mC 83) 15 = some (4, 1, false) by decide +kernel) (by decide +kernel)
set_option maxRecDepth 100000 in
theorem r_83_23 : ∀ (d : Nat) (l0 : Option Value) (v : Int32) (st : List Value) (M : Mem) (Q : Outcome → Mem → Prop), Wp d 83 23 [l0, some (.int v)] st M Q = Wp d 83 24 [l0, some (.int v)] (.int v :: st) M Q := fun d l0 v st M Q => wA (show ins 83 23 = some (.iload_n 1, 1) by decide +kernel) rfl
set_option maxRecDepth 100000 in
theorem r_83_24 : ∀ (d : Nat) (ls : Lc) (a : Nat) (j : Int32) (st : List Value) (M : Mem) (Q : Outcome → Mem → Prop), Wp d 83 24 ls (.int j :: .ref a :: st) M Q = ((((kX M a).1 = 4 ∨ (kX M a).1 = 5 ∨ (kX M a).1 = 6 ∨ (kX M a).1 = 7) ∧ inB j (kX M a).2 = true) ∧ Wp d 83 25 ls (va_rf (mQ M a j.toNatClampNeg) :: st) M Q) := fun d ls a j st M Q => w_aaload (show ins 83 24 = some (.aaload, 1) by decide +kernel)
set_option maxRecDepth 100000 in
theorem r_83_25 : ∀ (d : Nat) (ls : Lc) (v0 v1 : Value)  (st : List Value) (M : Mem) (Q : Outcome → Mem → Prop), (smallR st = true) → Wp d 83 25 ls (v1 :: v0 :: st) M Q = Ca d 83 25 ls 27 [v0, v1] st M Q := fun d ls v0 v1 st M Q h0 => w_stat (as := [v0, v1]) (show ins 83 25 = some (.invokestatic 95, 3) by decide +kernel) (show mRes (mC 83) 95 = some (0, 1, [(0, 27)]) by decide +kernel) (by decide +kernel) (by decide +kernel) rfl h0
set_option maxRecDepth 100000 in
theorem r_83_28 : ∀ (d : Nat) (l0 : Option Value) (z : Int) (st : List Value) (M : Mem) (Q : Outcome → Mem → Prop), (lo l0 = false) → Wp d 83 28 [l0, some (.int (I z))] st M Q = Wp d 83 31 [l0, some (.int (I (z + 1)))] st M Q := fun d l0 z st M Q hl => w_iinc (show ins 83 28 = some (.iinc 1 1, 3) by decide +kernel) rfl (st1_S rfl rfl hl)
set_option maxRecDepth 100000 in
theorem r_83_31 : ∀ (d : Nat) (ls : Lc) (st : List Value) (M : Mem) (Q : Outcome → Mem → Prop), Wp d 83 31 ls st M Q = Wp d 83 2 ls st M Q := fun d ls st M Q => w_goto (show ins 83 31 = some (.goto (-29), 3) by decide +kernel) rfl
set_option maxRecDepth 100000 in
theorem r_83_34 : ∀ (d : Nat) (l1 : Option Value) (v : Nat) (st : List Value) (M : Mem) (Q : Outcome → Mem → Prop), Wp d 83 34 [some (.ref v), l1] st M Q = Wp d 83 35 [some (.ref v), l1] (.ref v :: st) M Q := fun d l1 v st M Q => wA (show ins 83 34 = some (.aload_n 0, 1) by decide +kernel) rfl
set_option maxRecDepth 100000 in
theorem r_83_35 : ∀ (d : Nat) (ls : Lc) (a : Nat) (st : List Value) (M : Mem) (Q : Outcome → Mem → Prop), (smallR st = true) → Wp d 83 35 ls (.ref a :: st) M Q = (kO M a = 1 ∧ Ca d 83 35 ls 50 (.ref a :: []) st M Q) := fun d ls a st M Q h0 => w_virt1 (as := []) (show ins 83 35 = some (.invokevirtual 148, 3) by decide +kernel) (show mRes (mC 83) 148 = some (3, 1, [(1, 50)]) by decide +kernel) (by decide +kernel) rfl (by decide +kernel) (by decide +kernel) h0
set_option maxRecDepth 100000 in
theorem r_83_38 : ∀ (d : Nat) (ls : Lc) (M : Mem) (Q : Outcome → Mem → Prop), Wp d 83 38 ls [] M Q = Q (.returned none) M := fun d ls M Q => w_return (show ins 83 38 = some (.return_, 1) by decide +kernel) (by decide +kernel)
set_option maxRecDepth 100000 in
theorem w_83_2 : (type_of% r_83_2) := r_83_2
set_option maxRecDepth 100000 in
theorem W_83 : (type_of% r_83_0) ∧ (type_of% r_83_1) ∧ (type_of% r_83_3) ∧ (type_of% r_83_4) ∧ (type_of% r_83_7) ∧ (type_of% r_83_10) ∧ (type_of% r_83_11) ∧ (type_of% r_83_14) ∧ (type_of% r_83_17) ∧ (type_of% r_83_18) ∧ (type_of% r_83_19) ∧ (type_of% r_83_20) ∧ (type_of% r_83_23) ∧ (type_of% r_83_24) ∧ (type_of% r_83_25) ∧ (type_of% r_83_28) ∧ (type_of% r_83_31) ∧ (type_of% r_83_34) ∧ (type_of% r_83_35) ∧ (type_of% r_83_38) := ⟨r_83_0, r_83_1, r_83_3, r_83_4, r_83_7, r_83_10, r_83_11, r_83_14, r_83_17, r_83_18, r_83_19, r_83_20, r_83_23, r_83_24, r_83_25, r_83_28, r_83_31, r_83_34, r_83_35, r_83_38⟩
set_option maxRecDepth 100000 in
theorem ca_83 {d y pc : Nat} {ls : Lc} {a : Nat} {r : List Value} {M : Mem} {Q : Outcome → Mem → Prop} (hd : 0 < d) (hw : Wp (d - 1) 83 0 [some (.ref a), none] [] M (Cq d y pc ls r Q)) : Ca d y pc ls 83 [.ref a] r M Q := ca_of (mq_get (by decide)) (by rfl) hd hw
/-! 84 PackedTree.fail(I)V; loop heads [] -/
set_option maxRecDepth 100000 in
theorem r_84_0 : ∀ (d : Nat) (l0 : Option Value) (v : Int32) (st : List Value) (M : Mem) (Q : Outcome → Mem → Prop), Wp d 84 0 [l0, some (.int v)] st M Q = Wp d 84 1 [l0, some (.int v)] (.int v :: st) M Q := fun d l0 v st M Q => wA (show ins 84 0 = some (.iload_n 1, 1) by decide +kernel) rfl
set_option maxRecDepth 100000 in
theorem r_84_1 : ∀ (d : Nat) (ls : Lc) (st : List Value) (M : Mem) (Q : Outcome → Mem → Prop), Wp d 84 1 ls st M Q = Wp d 84 2 ls (.int (I (-1)) :: st) M Q := fun d ls st M Q => w_iconst (show ins 84 1 = some (.iconst (-1), 1) by decide +kernel)
set_option maxRecDepth 100000 in
theorem r_84_2 : ∀ (d : Nat) (ls : Lc) (a b : Int32) (st : List Value) (M : Mem) (Q : Outcome → Mem → Prop), Wp d 84 2 ls (.int b :: .int a :: st) M Q = Br (a < b) d 84 9 5 ls st M Q := fun d ls a b st M Q => w_icmp (show ins 84 2 = some (.if_icmp .lt 7, 3) by decide +kernel) rfl rfl
set_option maxRecDepth 100000 in
theorem r_84_5 : ∀ (d : Nat) (ls : Lc) (st : List Value) (M : Mem) (Q : Outcome → Mem → Prop), Wp d 84 5 ls st M Q = Wp d 84 6 ls (.int (I 1) :: st) M Q := fun d ls st M Q => w_iconst (show ins 84 5 = some (.iconst 1, 1) by decide +kernel)
set_option maxRecDepth 100000 in
theorem r_84_6 : ∀ (d : Nat) (ls : Lc) (st : List Value) (M : Mem) (Q : Outcome → Mem → Prop), Wp d 84 6 ls st M Q = Wp d 84 10 ls st M Q := fun d ls st M Q => w_goto (show ins 84 6 = some (.goto 4, 3) by decide +kernel) rfl
set_option maxRecDepth 100000 in
theorem r_84_9 : ∀ (d : Nat) (ls : Lc) (st : List Value) (M : Mem) (Q : Outcome → Mem → Prop), Wp d 84 9 ls st M Q = Wp d 84 10 ls (.int (I 0) :: st) M Q := fun d ls st M Q => w_iconst (show ins 84 9 = some (.iconst 0, 1) by decide +kernel)
set_option maxRecDepth 100000 in
theorem r_84_10 : ∀ (d : Nat) (ls : Lc) (v0 : Value)  (st : List Value) (M : Mem) (Q : Outcome → Mem → Prop), (smallR st = true) → Wp d 84 10 ls (v0 :: st) M Q = Ca d 84 10 ls 39 [v0] st M Q := fun d ls v0 st M Q h0 => w_stat (as := [v0]) (show ins 84 10 = some (.invokestatic 217, 3) by decide +kernel) (show mRes (mC 84) 217 = some (0, 1, [(0, 39)]) by decide +kernel) (by decide +kernel) (by decide +kernel) rfl h0
set_option maxRecDepth 100000 in
theorem r_84_13 : ∀ (d : Nat) (l1 : Option Value) (v : Nat) (st : List Value) (M : Mem) (Q : Outcome → Mem → Prop), Wp d 84 13 [some (.ref v), l1] st M Q = Wp d 84 14 [some (.ref v), l1] (.ref v :: st) M Q := fun d l1 v st M Q => wA (show ins 84 13 = some (.aload_n 0, 1) by decide +kernel) rfl
set_option maxRecDepth 100000 in
theorem r_84_14 : ∀ (d : Nat) (ls : Lc) (a : Nat) (st : List Value) (M : Mem) (Q : Outcome → Mem → Prop), Wp d 84 14 ls (.ref a :: st) M Q = (fk 2 (kO M a) = true ∧ Wp d 84 17 ls (va_rf (mR M 2 a) :: st) M Q) := fun d ls a st M Q => w_getR (show ins 84 14 = some (.getfield 67, 3) by decide +kernel) (show fRes (mC 84) 67 = some (2, 1, false) by decide +kernel) (by decide +kernel)
set_option maxRecDepth 100000 in
theorem r_84_17 : ∀ (d : Nat) (l0 : Option Value) (v : Int32) (st : List Value) (M : Mem) (Q : Outcome → Mem → Prop), Wp d 84 17 [l0, some (.int v)] st M Q = Wp d 84 18 [l0, some (.int v)] (.int v :: st) M Q := fun d l0 v st M Q => wA (show ins 84 17 = some (.iload_n 1, 1) by decide +kernel) rfl
set_option maxRecDepth 100000 in
theorem r_84_18 : ∀ (d : Nat) (ls : Lc) (a : Nat) (v : Int32) (st : List Value) (M : Mem) (Q : Outcome → Mem → Prop), Wp d 84 18 ls (.int v :: .ref a :: st) M Q = (fk 23 (kO M a) = true ∧ Wp d 84 21 ls st (sF M 23 a v) Q) := fun d ls a v st M Q => w_putI (show ins 84 18 = some (.putfield 352, 3) by decide +kernel) (show fRes (mC 84) 352 = some (23, 4, true) by decide +kernel) (by decide +kernel) (by decide +kernel)
set_option maxRecDepth 100000 in
theorem r_84_21 : ∀ (d : Nat) (ls : Lc) (M : Mem) (Q : Outcome → Mem → Prop), Wp d 84 21 ls [] M Q = Q (.returned none) M := fun d ls M Q => w_return (show ins 84 21 = some (.return_, 1) by decide +kernel) (by decide +kernel)
set_option maxRecDepth 100000 in
theorem W_84 : (type_of% r_84_0) ∧ (type_of% r_84_1) ∧ (type_of% r_84_2) ∧ (type_of% r_84_5) ∧ (type_of% r_84_6) ∧ (type_of% r_84_9) ∧ (type_of% r_84_10) ∧ (type_of% r_84_13) ∧ (type_of% r_84_14) ∧ (type_of% r_84_17) ∧ (type_of% r_84_18) ∧ (type_of% r_84_21) := ⟨r_84_0, r_84_1, r_84_2, r_84_5, r_84_6, r_84_9, r_84_10, r_84_13, r_84_14, r_84_17, r_84_18, r_84_21⟩
set_option maxRecDepth 100000 in
theorem ca_84 {d y pc : Nat} {ls : Lc} {a : Nat} {z0 : Int32} {r : List Value} {M : Mem} {Q : Outcome → Mem → Prop} (hd : 0 < d) (hw : Wp (d - 1) 84 0 [some (.ref a), some (.int z0)] [] M (Cq d y pc ls r Q)) : Ca d y pc ls 84 [.ref a, .int z0] r M Q := ca_of (mq_get (by decide)) (by rfl) hd hw
/-! 85 PackedTree.recover()I; loop heads [] -/
set_option maxRecDepth 100000 in
theorem r_85_0 : ∀ (d : Nat) (l1 : Option Value) (v : Nat) (st : List Value) (M : Mem) (Q : Outcome → Mem → Prop), Wp d 85 0 [some (.ref v), l1] st M Q = Wp d 85 1 [some (.ref v), l1] (.ref v :: st) M Q := fun d l1 v st M Q => wA (show ins 85 0 = some (.aload_n 0, 1) by decide +kernel) rfl
set_option maxRecDepth 100000 in
theorem r_85_1 : ∀ (d : Nat) (ls : Lc) (a : Nat) (st : List Value) (M : Mem) (Q : Outcome → Mem → Prop), Wp d 85 1 ls (.ref a :: st) M Q = (fk 2 (kO M a) = true ∧ Wp d 85 4 ls (va_rf (mR M 2 a) :: st) M Q) := fun d ls a st M Q => w_getR (show ins 85 1 = some (.getfield 67, 3) by decide +kernel) (show fRes (mC 85) 67 = some (2, 1, false) by decide +kernel) (by decide +kernel)
set_option maxRecDepth 100000 in
theorem r_85_4 : ∀ (d : Nat) (ls : Lc) (a : Nat) (st : List Value) (M : Mem) (Q : Outcome → Mem → Prop), Wp d 85 4 ls (.ref a :: st) M Q = (fk 25 (kO M a) = true ∧ Wp d 85 7 ls (.int (mF M 25 a) :: st) M Q) := fun d ls a st M Q => w_getI (show ins 85 4 = some (.getfield 111, 3) by decide +kernel) (show fRes (mC 85) 111 = some (25, 4, true) by decide +kernel) (by decide +kernel)
set_option maxRecDepth 100000 in
theorem r_85_7 : ∀ (d : Nat) (ls : Lc) (v0 : Value)  (st : List Value) (M : Mem) (Q : Outcome → Mem → Prop), (smallR st = true) → Wp d 85 7 ls (v0 :: st) M Q = Ca d 85 7 ls 42 [v0] st M Q := fun d ls v0 st M Q h0 => w_stat (as := [v0]) (show ins 85 7 = some (.invokestatic 227, 3) by decide +kernel) (show mRes (mC 85) 227 = some (0, 1, [(0, 42)]) by decide +kernel) (by decide +kernel) (by decide +kernel) rfl h0
set_option maxRecDepth 100000 in
theorem r_85_10 : ∀ (d : Nat) (l1 : Option Value) (v : Nat) (st : List Value) (M : Mem) (Q : Outcome → Mem → Prop), Wp d 85 10 [some (.ref v), l1] st M Q = Wp d 85 11 [some (.ref v), l1] (.ref v :: st) M Q := fun d l1 v st M Q => wA (show ins 85 10 = some (.aload_n 0, 1) by decide +kernel) rfl
set_option maxRecDepth 100000 in
theorem r_85_11 : ∀ (d : Nat) (ls : Lc) (a : Nat) (st : List Value) (M : Mem) (Q : Outcome → Mem → Prop), Wp d 85 11 ls (.ref a :: st) M Q = (fk 2 (kO M a) = true ∧ Wp d 85 14 ls (va_rf (mR M 2 a) :: st) M Q) := fun d ls a st M Q => w_getR (show ins 85 11 = some (.getfield 67, 3) by decide +kernel) (show fRes (mC 85) 67 = some (2, 1, false) by decide +kernel) (by decide +kernel)
set_option maxRecDepth 100000 in
theorem r_85_14 : ∀ (d : Nat) (ls : Lc) (a : Nat) (st : List Value) (M : Mem) (Q : Outcome → Mem → Prop), Wp d 85 14 ls (.ref a :: st) M Q = (fk 29 (kO M a) = true ∧ Wp d 85 17 ls (.int (mF M 29 a) :: st) M Q) := fun d ls a st M Q => w_getI (show ins 85 14 = some (.getfield 336, 3) by decide +kernel) (show fRes (mC 85) 336 = some (29, 4, true) by decide +kernel) (by decide +kernel)
set_option maxRecDepth 100000 in
theorem r_85_17 : ∀ (d : Nat) (l0 l1 : Option Value) (v : Int32) (st : List Value) (M : Mem) (Q : Outcome → Mem → Prop), (lo l0 = false) → Wp d 85 17 [l0, l1] (.int v :: st) M Q = Wp d 85 18 [l0, some (.int v)] st M Q := fun d l0 l1 v st M Q hl => w_istore_n (show ins 85 17 = some (.istore_n 1, 1) by decide +kernel) (st1_S rfl rfl hl)
set_option maxRecDepth 100000 in
theorem r_85_18 : ∀ (d : Nat) (l1 : Option Value) (v : Nat) (st : List Value) (M : Mem) (Q : Outcome → Mem → Prop), Wp d 85 18 [some (.ref v), l1] st M Q = Wp d 85 19 [some (.ref v), l1] (.ref v :: st) M Q := fun d l1 v st M Q => wA (show ins 85 18 = some (.aload_n 0, 1) by decide +kernel) rfl
set_option maxRecDepth 100000 in
theorem r_85_19 : ∀ (d : Nat) (ls : Lc) (a : Nat) (st : List Value) (M : Mem) (Q : Outcome → Mem → Prop), Wp d 85 19 ls (.ref a :: st) M Q = (fk 2 (kO M a) = true ∧ Wp d 85 22 ls (va_rf (mR M 2 a) :: st) M Q) := fun d ls a st M Q => w_getR (show ins 85 19 = some (.getfield 67, 3) by decide +kernel) (show fRes (mC 85) 67 = some (2, 1, false) by decide +kernel) (by decide +kernel)
set_option maxRecDepth 100000 in
theorem r_85_22 : ∀ (d : Nat) (ls : Lc) (a : Nat) (st : List Value) (M : Mem) (Q : Outcome → Mem → Prop), (smallR st = true) → Wp d 85 22 ls (.ref a :: st) M Q = (kO M a = 4 ∧ Ca d 85 22 ls 119 (.ref a :: []) st M Q) := fun d ls a st M Q h0 => w_virt1 (as := []) (show ins 85 22 = some (.invokevirtual 355, 3) by decide +kernel) (show mRes (mC 85) 355 = some (3, 4, [(4, 119)]) by decide +kernel) (by decide +kernel) rfl (by decide +kernel) (by decide +kernel) h0
set_option maxRecDepth 100000 in
theorem r_85_25 : ∀ (d : Nat) (l1 : Option Value) (v : Nat) (st : List Value) (M : Mem) (Q : Outcome → Mem → Prop), Wp d 85 25 [some (.ref v), l1] st M Q = Wp d 85 26 [some (.ref v), l1] (.ref v :: st) M Q := fun d l1 v st M Q => wA (show ins 85 25 = some (.aload_n 0, 1) by decide +kernel) rfl
set_option maxRecDepth 100000 in
theorem r_85_26 : ∀ (d : Nat) (ls : Lc) (a : Nat) (st : List Value) (M : Mem) (Q : Outcome → Mem → Prop), (smallR st = true) → Wp d 85 26 ls (.ref a :: st) M Q = (kO M a = 1 ∧ Ca d 85 26 ls 83 (.ref a :: []) st M Q) := fun d ls a st M Q h0 => w_virt1 (as := []) (show ins 85 26 = some (.invokevirtual 349, 3) by decide +kernel) (show mRes (mC 85) 349 = some (3, 1, [(1, 83)]) by decide +kernel) (by decide +kernel) rfl (by decide +kernel) (by decide +kernel) h0
set_option maxRecDepth 100000 in
theorem r_85_29 : ∀ (d : Nat) (l1 : Option Value) (v : Nat) (st : List Value) (M : Mem) (Q : Outcome → Mem → Prop), Wp d 85 29 [some (.ref v), l1] st M Q = Wp d 85 30 [some (.ref v), l1] (.ref v :: st) M Q := fun d l1 v st M Q => wA (show ins 85 29 = some (.aload_n 0, 1) by decide +kernel) rfl
set_option maxRecDepth 100000 in
theorem r_85_30 : ∀ (d : Nat) (ls : Lc) (a : Nat) (st : List Value) (M : Mem) (Q : Outcome → Mem → Prop), Wp d 85 30 ls (.ref a :: st) M Q = (fk 2 (kO M a) = true ∧ Wp d 85 33 ls (va_rf (mR M 2 a) :: st) M Q) := fun d ls a st M Q => w_getR (show ins 85 30 = some (.getfield 67, 3) by decide +kernel) (show fRes (mC 85) 67 = some (2, 1, false) by decide +kernel) (by decide +kernel)
set_option maxRecDepth 100000 in
theorem r_85_33 : ∀ (d : Nat) (ls : Lc) (a : Nat) (st : List Value) (M : Mem) (Q : Outcome → Mem → Prop), (smallR st = true) → Wp d 85 33 ls (.ref a :: st) M Q = (kO M a = 4 ∧ Ca d 85 33 ls 114 (.ref a :: []) st M Q) := fun d ls a st M Q h0 => w_virt1 (as := []) (show ins 85 33 = some (.invokevirtual 342, 3) by decide +kernel) (show mRes (mC 85) 342 = some (3, 4, [(4, 114)]) by decide +kernel) (by decide +kernel) rfl (by decide +kernel) (by decide +kernel) h0
set_option maxRecDepth 100000 in
theorem r_85_36 : ∀ (d : Nat) (l1 : Option Value) (v : Nat) (st : List Value) (M : Mem) (Q : Outcome → Mem → Prop), Wp d 85 36 [some (.ref v), l1] st M Q = Wp d 85 37 [some (.ref v), l1] (.ref v :: st) M Q := fun d l1 v st M Q => wA (show ins 85 36 = some (.aload_n 0, 1) by decide +kernel) rfl
set_option maxRecDepth 100000 in
theorem r_85_37 : ∀ (d : Nat) (ls : Lc) (a : Nat) (st : List Value) (M : Mem) (Q : Outcome → Mem → Prop), Wp d 85 37 ls (.ref a :: st) M Q = (fk 2 (kO M a) = true ∧ Wp d 85 40 ls (va_rf (mR M 2 a) :: st) M Q) := fun d ls a st M Q => w_getR (show ins 85 37 = some (.getfield 67, 3) by decide +kernel) (show fRes (mC 85) 67 = some (2, 1, false) by decide +kernel) (by decide +kernel)
set_option maxRecDepth 100000 in
theorem r_85_40 : ∀ (d : Nat) (ls : Lc) (a : Nat) (st : List Value) (M : Mem) (Q : Outcome → Mem → Prop), Wp d 85 40 ls (.ref a :: st) M Q = (fk 29 (kO M a) = true ∧ Wp d 85 43 ls (.int (mF M 29 a) :: st) M Q) := fun d ls a st M Q => w_getI (show ins 85 40 = some (.getfield 336, 3) by decide +kernel) (show fRes (mC 85) 336 = some (29, 4, true) by decide +kernel) (by decide +kernel)
set_option maxRecDepth 100000 in
theorem r_85_43 : ∀ (d : Nat) (l0 : Option Value) (v : Int32) (st : List Value) (M : Mem) (Q : Outcome → Mem → Prop), Wp d 85 43 [l0, some (.int v)] st M Q = Wp d 85 44 [l0, some (.int v)] (.int v :: st) M Q := fun d l0 v st M Q => wA (show ins 85 43 = some (.iload_n 1, 1) by decide +kernel) rfl
set_option maxRecDepth 100000 in
theorem r_85_44 : ∀ (d : Nat) (ls : Lc) (a b : Int) (st : List Value) (M : Mem) (Q : Outcome → Mem → Prop), Wp d 85 44 ls (.int (I b) :: .int (I a) :: st) M Q = Wp d 85 45 ls (.int (I (a - b)) :: st) M Q := fun d ls a b st M Q => w_isub (show ins 85 44 = some (.isub, 1) by decide +kernel)
set_option maxRecDepth 100000 in
theorem r_85_45 : ∀ (d : Nat) (ls : Lc) (v : Int32) (M : Mem) (Q : Outcome → Mem → Prop), Wp d 85 45 ls [.int v] M Q = Q (.returned (some (.int v))) M := fun d ls v M Q => w_ireturn (show ins 85 45 = some (.ireturn, 1) by decide +kernel) (by decide +kernel)
set_option maxRecDepth 100000 in
theorem W_85 : (type_of% r_85_0) ∧ (type_of% r_85_1) ∧ (type_of% r_85_4) ∧ (type_of% r_85_7) ∧ (type_of% r_85_10) ∧ (type_of% r_85_11) ∧ (type_of% r_85_14) ∧ (type_of% r_85_17) ∧ (type_of% r_85_18) ∧ (type_of% r_85_19) ∧ (type_of% r_85_22) ∧ (type_of% r_85_25) ∧ (type_of% r_85_26) ∧ (type_of% r_85_29) ∧ (type_of% r_85_30) ∧ (type_of% r_85_33) ∧ (type_of% r_85_36) ∧ (type_of% r_85_37) ∧ (type_of% r_85_40) ∧ (type_of% r_85_43) ∧ (type_of% r_85_44) ∧ (type_of% r_85_45) := ⟨r_85_0, r_85_1, r_85_4, r_85_7, r_85_10, r_85_11, r_85_14, r_85_17, r_85_18, r_85_19, r_85_22, r_85_25, r_85_26, r_85_29, r_85_30, r_85_33, r_85_36, r_85_37, r_85_40, r_85_43, r_85_44, r_85_45⟩
set_option maxRecDepth 100000 in
theorem ca_85 {d y pc : Nat} {ls : Lc} {a : Nat} {r : List Value} {M : Mem} {Q : Outcome → Mem → Prop} (hd : 0 < d) (hw : Wp (d - 1) 85 0 [some (.ref a), none] [] M (Cq d y pc ls r Q)) : Ca d y pc ls 85 [.ref a] r M Q := ca_of (mq_get (by decide)) (by rfl) hd hw
/-! 86 PackedTree.count(I)I; loop heads [41, 70] -/
set_option maxRecDepth 100000 in
theorem r_86_0 : ∀ (d : Nat) (l1 l2 l3 l4 l5 l6 l7 : Option Value) (v : Nat) (st : List Value) (M : Mem) (Q : Outcome → Mem → Prop), Wp d 86 0 [some (.ref v), l1, l2, l3, l4, l5, l6, l7] st M Q = Wp d 86 1 [some (.ref v), l1, l2, l3, l4, l5, l6, l7] (.ref v :: st) M Q := fun d l1 l2 l3 l4 l5 l6 l7 v st M Q => wA (show ins 86 0 = some (.aload_n 0, 1) by decide +kernel) rfl
set_option maxRecDepth 100000 in
theorem r_86_1 : ∀ (d : Nat) (ls : Lc) (a : Nat) (st : List Value) (M : Mem) (Q : Outcome → Mem → Prop), (smallR st = true) → Wp d 86 1 ls (.ref a :: st) M Q = (kO M a = 1 ∧ Ca d 86 1 ls 30 (.ref a :: []) st M Q) := fun d ls a st M Q h0 => w_virt1 (as := []) (show ins 86 1 = some (.invokevirtual 204, 3) by decide +kernel) (show mRes (mC 86) 204 = some (3, 1, [(1, 30)]) by decide +kernel) (by decide +kernel) rfl (by decide +kernel) (by decide +kernel) h0
set_option maxRecDepth 100000 in
theorem r_86_4 : ∀ (d : Nat) (l0 l2 l3 l4 l5 l6 l7 : Option Value) (v : Int32) (st : List Value) (M : Mem) (Q : Outcome → Mem → Prop), Wp d 86 4 [l0, some (.int v), l2, l3, l4, l5, l6, l7] st M Q = Wp d 86 5 [l0, some (.int v), l2, l3, l4, l5, l6, l7] (.int v :: st) M Q := fun d l0 l2 l3 l4 l5 l6 l7 v st M Q => wA (show ins 86 4 = some (.iload_n 1, 1) by decide +kernel) rfl
set_option maxRecDepth 100000 in
theorem r_86_5 : ∀ (d : Nat) (ls : Lc) (a : Int32) (st : List Value) (M : Mem) (Q : Outcome → Mem → Prop), Wp d 86 5 ls (.int a :: st) M Q = Br (a < I 0) d 86 18 8 ls st M Q := fun d ls a st M Q => w_if (show ins 86 5 = some (.ifCond .lt 13, 3) by decide +kernel) rfl rfl
set_option maxRecDepth 100000 in
theorem r_86_8 : ∀ (d : Nat) (l0 l2 l3 l4 l5 l6 l7 : Option Value) (v : Int32) (st : List Value) (M : Mem) (Q : Outcome → Mem → Prop), Wp d 86 8 [l0, some (.int v), l2, l3, l4, l5, l6, l7] st M Q = Wp d 86 9 [l0, some (.int v), l2, l3, l4, l5, l6, l7] (.int v :: st) M Q := fun d l0 l2 l3 l4 l5 l6 l7 v st M Q => wA (show ins 86 8 = some (.iload_n 1, 1) by decide +kernel) rfl
set_option maxRecDepth 100000 in
theorem r_86_9 : ∀ (d : Nat) (ls : Lc) (st : List Value) (M : Mem) (Q : Outcome → Mem → Prop), Wp d 86 9 ls st M Q = Wp d 86 11 ls (.int (I 9) :: st) M Q := fun d ls st M Q => w_bipush (show ins 86 9 = some (.bipush 9, 2) by decide +kernel) (by decide)
set_option maxRecDepth 100000 in
theorem r_86_11 : ∀ (d : Nat) (ls : Lc) (a b : Int32) (st : List Value) (M : Mem) (Q : Outcome → Mem → Prop), Wp d 86 11 ls (.int b :: .int a :: st) M Q = Br (b < a) d 86 18 14 ls st M Q := fun d ls a b st M Q => w_icmp (show ins 86 11 = some (.if_icmp .gt 7, 3) by decide +kernel) rfl rfl
set_option maxRecDepth 100000 in
theorem r_86_14 : ∀ (d : Nat) (ls : Lc) (st : List Value) (M : Mem) (Q : Outcome → Mem → Prop), Wp d 86 14 ls st M Q = Wp d 86 15 ls (.int (I 1) :: st) M Q := fun d ls st M Q => w_iconst (show ins 86 14 = some (.iconst 1, 1) by decide +kernel)
set_option maxRecDepth 100000 in
theorem r_86_15 : ∀ (d : Nat) (ls : Lc) (st : List Value) (M : Mem) (Q : Outcome → Mem → Prop), Wp d 86 15 ls st M Q = Wp d 86 19 ls st M Q := fun d ls st M Q => w_goto (show ins 86 15 = some (.goto 4, 3) by decide +kernel) rfl
set_option maxRecDepth 100000 in
theorem r_86_18 : ∀ (d : Nat) (ls : Lc) (st : List Value) (M : Mem) (Q : Outcome → Mem → Prop), Wp d 86 18 ls st M Q = Wp d 86 19 ls (.int (I 0) :: st) M Q := fun d ls st M Q => w_iconst (show ins 86 18 = some (.iconst 0, 1) by decide +kernel)
set_option maxRecDepth 100000 in
theorem r_86_19 : ∀ (d : Nat) (ls : Lc) (v0 : Value)  (st : List Value) (M : Mem) (Q : Outcome → Mem → Prop), (smallR st = true) → Wp d 86 19 ls (v0 :: st) M Q = Ca d 86 19 ls 39 [v0] st M Q := fun d ls v0 st M Q h0 => w_stat (as := [v0]) (show ins 86 19 = some (.invokestatic 217, 3) by decide +kernel) (show mRes (mC 86) 217 = some (0, 1, [(0, 39)]) by decide +kernel) (by decide +kernel) (by decide +kernel) rfl h0
set_option maxRecDepth 100000 in
theorem r_86_22 : ∀ (d : Nat) (ls : Lc) (st : List Value) (M : Mem) (Q : Outcome → Mem → Prop), Wp d 86 22 ls st M Q = Wp d 86 23 ls (.int (I 0) :: st) M Q := fun d ls st M Q => w_iconst (show ins 86 22 = some (.iconst 0, 1) by decide +kernel)
set_option maxRecDepth 100000 in
theorem r_86_23 : ∀ (d : Nat) (l0 l1 l2 l3 l4 l5 l6 l7 : Option Value) (v : Int32) (st : List Value) (M : Mem) (Q : Outcome → Mem → Prop), (lo l1 = false) → Wp d 86 23 [l0, l1, l2, l3, l4, l5, l6, l7] (.int v :: st) M Q = Wp d 86 24 [l0, l1, some (.int v), l3, l4, l5, l6, l7] st M Q := fun d l0 l1 l2 l3 l4 l5 l6 l7 v st M Q hl => w_istore_n (show ins 86 23 = some (.istore_n 2, 1) by decide +kernel) (st1_S rfl rfl hl)
set_option maxRecDepth 100000 in
theorem r_86_24 : ∀ (d : Nat) (ls : Lc) (st : List Value) (M : Mem) (Q : Outcome → Mem → Prop), Wp d 86 24 ls st M Q = Wp d 86 25 ls (.int (I 0) :: st) M Q := fun d ls st M Q => w_iconst (show ins 86 24 = some (.iconst 0, 1) by decide +kernel)
set_option maxRecDepth 100000 in
theorem r_86_25 : ∀ (d : Nat) (l0 l1 l2 l3 l4 l5 l6 l7 : Option Value) (v : Int32) (st : List Value) (M : Mem) (Q : Outcome → Mem → Prop), (lo l2 = false) → Wp d 86 25 [l0, l1, l2, l3, l4, l5, l6, l7] (.int v :: st) M Q = Wp d 86 26 [l0, l1, l2, some (.int v), l4, l5, l6, l7] st M Q := fun d l0 l1 l2 l3 l4 l5 l6 l7 v st M Q hl => w_istore_n (show ins 86 25 = some (.istore_n 3, 1) by decide +kernel) (st1_S rfl rfl hl)
set_option maxRecDepth 100000 in
theorem r_86_26 : ∀ (d : Nat) (ls : Lc) (st : List Value) (M : Mem) (Q : Outcome → Mem → Prop), Wp d 86 26 ls st M Q = Wp d 86 27 ls (.int (I 0) :: st) M Q := fun d ls st M Q => w_iconst (show ins 86 26 = some (.iconst 0, 1) by decide +kernel)
set_option maxRecDepth 100000 in
theorem r_86_27 : ∀ (d : Nat) (l0 l1 l2 l3 l4 l5 l6 l7 : Option Value) (v : Int32) (st : List Value) (M : Mem) (Q : Outcome → Mem → Prop), (lo l3 = false) → Wp d 86 27 [l0, l1, l2, l3, l4, l5, l6, l7] (.int v :: st) M Q = Wp d 86 29 [l0, l1, l2, l3, some (.int v), l5, l6, l7] st M Q := fun d l0 l1 l2 l3 l4 l5 l6 l7 v st M Q hl => w_istore (show ins 86 27 = some (.istore 4, 2) by decide +kernel) (st1_S rfl rfl hl)
set_option maxRecDepth 100000 in
theorem r_86_29 : ∀ (d : Nat) (ls : Lc) (st : List Value) (M : Mem) (Q : Outcome → Mem → Prop), Wp d 86 29 ls st M Q = Wp d 86 30 ls (.int (I 0) :: st) M Q := fun d ls st M Q => w_iconst (show ins 86 29 = some (.iconst 0, 1) by decide +kernel)
set_option maxRecDepth 100000 in
theorem r_86_30 : ∀ (d : Nat) (l0 l1 l2 l3 l4 l5 l6 l7 : Option Value) (v : Int32) (st : List Value) (M : Mem) (Q : Outcome → Mem → Prop), (lo l4 = false) → Wp d 86 30 [l0, l1, l2, l3, l4, l5, l6, l7] (.int v :: st) M Q = Wp d 86 32 [l0, l1, l2, l3, l4, some (.int v), l6, l7] st M Q := fun d l0 l1 l2 l3 l4 l5 l6 l7 v st M Q hl => w_istore (show ins 86 30 = some (.istore 5, 2) by decide +kernel) (st1_S rfl rfl hl)
set_option maxRecDepth 100000 in
theorem r_86_32 : ∀ (d : Nat) (l1 l2 l3 l4 l5 l6 l7 : Option Value) (v : Nat) (st : List Value) (M : Mem) (Q : Outcome → Mem → Prop), Wp d 86 32 [some (.ref v), l1, l2, l3, l4, l5, l6, l7] st M Q = Wp d 86 33 [some (.ref v), l1, l2, l3, l4, l5, l6, l7] (.ref v :: st) M Q := fun d l1 l2 l3 l4 l5 l6 l7 v st M Q => wA (show ins 86 32 = some (.aload_n 0, 1) by decide +kernel) rfl
set_option maxRecDepth 100000 in
theorem r_86_33 : ∀ (d : Nat) (ls : Lc) (a : Nat) (st : List Value) (M : Mem) (Q : Outcome → Mem → Prop), Wp d 86 33 ls (.ref a :: st) M Q = (fk 9 (kO M a) = true ∧ Wp d 86 36 ls (va_rf (mR M 9 a) :: st) M Q) := fun d ls a st M Q => w_getR (show ins 86 33 = some (.getfield 58, 3) by decide +kernel) (show fRes (mC 86) 58 = some (9, 1, false) by decide +kernel) (by decide +kernel)
set_option maxRecDepth 100000 in
theorem r_86_36 : ∀ (d : Nat) (ls : Lc) (a : Nat) (st : List Value) (M : Mem) (Q : Outcome → Mem → Prop), (smallR st = true) → Wp d 86 36 ls (.ref a :: st) M Q = (kO M a = 3 ∧ Ca d 86 36 ls 110 (.ref a :: []) st M Q) := fun d ls a st M Q h0 => w_virt1 (as := []) (show ins 86 36 = some (.invokevirtual 254, 3) by decide +kernel) (show mRes (mC 86) 254 = some (3, 3, [(3, 110)]) by decide +kernel) (by decide +kernel) rfl (by decide +kernel) (by decide +kernel) h0
set_option maxRecDepth 100000 in
theorem r_86_39 : ∀ (d : Nat) (l0 l1 l2 l3 l4 l5 l6 l7 : Option Value) (v : Nat) (st : List Value) (M : Mem) (Q : Outcome → Mem → Prop), (lo l5 = false) → Wp d 86 39 [l0, l1, l2, l3, l4, l5, l6, l7] (.ref v :: st) M Q = Wp d 86 41 [l0, l1, l2, l3, l4, l5, some (.ref v), l7] st M Q := fun d l0 l1 l2 l3 l4 l5 l6 l7 v st M Q hl => w_astore (show ins 86 39 = some (.astore 6, 2) by decide +kernel) (st1_S rfl rfl hl)
set_option maxRecDepth 100000 in
theorem r_86_39_1 : ∀ (d : Nat) (l0 l1 l2 l3 l4 l5 l6 l7 : Option Value) (st : List Value) (M : Mem) (Q : Outcome → Mem → Prop), (lo l5 = false) → Wp d 86 39 [l0, l1, l2, l3, l4, l5, l6, l7] (.null :: st) M Q = Wp d 86 41 [l0, l1, l2, l3, l4, l5, some (.null), l7] st M Q := fun d l0 l1 l2 l3 l4 l5 l6 l7 st M Q hl => w_astoreN (show ins 86 39 = some (.astore 6, 2) by decide +kernel) (st1_S rfl rfl hl)
set_option maxRecDepth 100000 in
theorem r_86_41 : ∀ (d : Nat) (l0 l1 l2 l3 l4 l5 l7 : Option Value) (v : Nat) (st : List Value) (M : Mem) (Q : Outcome → Mem → Prop), Wp d 86 41 [l0, l1, l2, l3, l4, l5, some (.ref v), l7] st M Q = Wp d 86 43 [l0, l1, l2, l3, l4, l5, some (.ref v), l7] (.ref v :: st) M Q := fun d l0 l1 l2 l3 l4 l5 l7 v st M Q => wA (show ins 86 41 = some (.aload 6, 2) by decide +kernel) rfl
set_option maxRecDepth 100000 in
theorem r_86_41_1 : ∀ (d : Nat) (l0 l1 l2 l3 l4 l5 l7 : Option Value) (st : List Value) (M : Mem) (Q : Outcome → Mem → Prop), Wp d 86 41 [l0, l1, l2, l3, l4, l5, some .null, l7] st M Q = Wp d 86 43 [l0, l1, l2, l3, l4, l5, some .null, l7] (.null :: st) M Q := fun d l0 l1 l2 l3 l4 l5 l7 st M Q => wA (show ins 86 41 = some (.aload 6, 2) by decide +kernel) rfl
set_option maxRecDepth 100000 in
theorem r_86_43 : ∀ (d : Nat) (ls : Lc) (st : List Value) (M : Mem) (Q : Outcome → Mem → Prop), Wp d 86 43 ls (.null :: st) M Q = Wp d 86 123 ls st M Q := fun d ls st M Q => w_ifnullN (show ins 86 43 = some (.ifnull 80, 3) by decide +kernel) rfl
set_option maxRecDepth 100000 in
theorem r_86_43_1 : ∀ (d : Nat) (ls : Lc) (v : Nat) (st : List Value) (M : Mem) (Q : Outcome → Mem → Prop), Wp d 86 43 ls (.ref v :: st) M Q = Wp d 86 46 ls st M Q := fun d ls v st M Q => w_ifnullR (show ins 86 43 = some (.ifnull 80, 3) by decide +kernel) (t := 123) rfl
set_option maxRecDepth 100000 in
theorem r_86_46 : ∀ (d : Nat) (l0 l1 l3 l4 l5 l6 l7 : Option Value) (z : Int) (st : List Value) (M : Mem) (Q : Outcome → Mem → Prop), (lo l1 = false) → Wp d 86 46 [l0, l1, some (.int (I z)), l3, l4, l5, l6, l7] st M Q = Wp d 86 49 [l0, l1, some (.int (I (z + 1))), l3, l4, l5, l6, l7] st M Q := fun d l0 l1 l3 l4 l5 l6 l7 z st M Q hl => w_iinc (show ins 86 46 = some (.iinc 2 1, 3) by decide +kernel) rfl (st1_S rfl rfl hl)
set_option maxRecDepth 100000 in
theorem r_86_49 : ∀ (d : Nat) (l0 l1 l2 l4 l5 l6 l7 : Option Value) (v : Int32) (st : List Value) (M : Mem) (Q : Outcome → Mem → Prop), Wp d 86 49 [l0, l1, l2, some (.int v), l4, l5, l6, l7] st M Q = Wp d 86 50 [l0, l1, l2, some (.int v), l4, l5, l6, l7] (.int v :: st) M Q := fun d l0 l1 l2 l4 l5 l6 l7 v st M Q => wA (show ins 86 49 = some (.iload_n 3, 1) by decide +kernel) rfl
set_option maxRecDepth 100000 in
theorem r_86_50 : ∀ (d : Nat) (l0 l1 l2 l3 l4 l5 l7 : Option Value) (v : Nat) (st : List Value) (M : Mem) (Q : Outcome → Mem → Prop), Wp d 86 50 [l0, l1, l2, l3, l4, l5, some (.ref v), l7] st M Q = Wp d 86 52 [l0, l1, l2, l3, l4, l5, some (.ref v), l7] (.ref v :: st) M Q := fun d l0 l1 l2 l3 l4 l5 l7 v st M Q => wA (show ins 86 50 = some (.aload 6, 2) by decide +kernel) rfl
set_option maxRecDepth 100000 in
theorem r_86_50_1 : ∀ (d : Nat) (l0 l1 l2 l3 l4 l5 l7 : Option Value) (st : List Value) (M : Mem) (Q : Outcome → Mem → Prop), Wp d 86 50 [l0, l1, l2, l3, l4, l5, some .null, l7] st M Q = Wp d 86 52 [l0, l1, l2, l3, l4, l5, some .null, l7] (.null :: st) M Q := fun d l0 l1 l2 l3 l4 l5 l7 st M Q => wA (show ins 86 50 = some (.aload 6, 2) by decide +kernel) rfl
set_option maxRecDepth 100000 in
theorem r_86_52 : ∀ (d : Nat) (ls : Lc) (a : Nat) (st : List Value) (M : Mem) (Q : Outcome → Mem → Prop), Wp d 86 52 ls (.ref a :: st) M Q = (fk 37 (kO M a) = true ∧ Wp d 86 55 ls (.int (mF M 37 a) :: st) M Q) := fun d ls a st M Q => w_getI (show ins 86 52 = some (.getfield 258, 3) by decide +kernel) (show fRes (mC 86) 258 = some (37, 5, true) by decide +kernel) (by decide +kernel)
set_option maxRecDepth 100000 in
theorem r_86_55 : ∀ (d : Nat) (ls : Lc) (a b : Int) (st : List Value) (M : Mem) (Q : Outcome → Mem → Prop), Wp d 86 55 ls (.int (I b) :: .int (I a) :: st) M Q = Wp d 86 56 ls (.int (I (a + b)) :: st) M Q := fun d ls a b st M Q => w_iadd (show ins 86 55 = some (.iadd, 1) by decide +kernel)
set_option maxRecDepth 100000 in
theorem r_86_56 : ∀ (d : Nat) (l0 l1 l2 l3 l4 l5 l6 l7 : Option Value) (v : Int32) (st : List Value) (M : Mem) (Q : Outcome → Mem → Prop), (lo l2 = false) → Wp d 86 56 [l0, l1, l2, l3, l4, l5, l6, l7] (.int v :: st) M Q = Wp d 86 57 [l0, l1, l2, some (.int v), l4, l5, l6, l7] st M Q := fun d l0 l1 l2 l3 l4 l5 l6 l7 v st M Q hl => w_istore_n (show ins 86 56 = some (.istore_n 3, 1) by decide +kernel) (st1_S rfl rfl hl)
set_option maxRecDepth 100000 in
theorem r_86_57 : ∀ (d : Nat) (l0 l1 l2 l3 l5 l6 l7 : Option Value) (v : Int32) (st : List Value) (M : Mem) (Q : Outcome → Mem → Prop), Wp d 86 57 [l0, l1, l2, l3, some (.int v), l5, l6, l7] st M Q = Wp d 86 59 [l0, l1, l2, l3, some (.int v), l5, l6, l7] (.int v :: st) M Q := fun d l0 l1 l2 l3 l5 l6 l7 v st M Q => wA (show ins 86 57 = some (.iload 4, 2) by decide +kernel) rfl
set_option maxRecDepth 100000 in
theorem r_86_59 : ∀ (d : Nat) (l0 l1 l2 l3 l4 l5 l7 : Option Value) (v : Nat) (st : List Value) (M : Mem) (Q : Outcome → Mem → Prop), Wp d 86 59 [l0, l1, l2, l3, l4, l5, some (.ref v), l7] st M Q = Wp d 86 61 [l0, l1, l2, l3, l4, l5, some (.ref v), l7] (.ref v :: st) M Q := fun d l0 l1 l2 l3 l4 l5 l7 v st M Q => wA (show ins 86 59 = some (.aload 6, 2) by decide +kernel) rfl
set_option maxRecDepth 100000 in
theorem r_86_59_1 : ∀ (d : Nat) (l0 l1 l2 l3 l4 l5 l7 : Option Value) (st : List Value) (M : Mem) (Q : Outcome → Mem → Prop), Wp d 86 59 [l0, l1, l2, l3, l4, l5, some .null, l7] st M Q = Wp d 86 61 [l0, l1, l2, l3, l4, l5, some .null, l7] (.null :: st) M Q := fun d l0 l1 l2 l3 l4 l5 l7 st M Q => wA (show ins 86 59 = some (.aload 6, 2) by decide +kernel) rfl
set_option maxRecDepth 100000 in
theorem r_86_61 : ∀ (d : Nat) (ls : Lc) (a : Nat) (st : List Value) (M : Mem) (Q : Outcome → Mem → Prop), (smallR st = true) → Wp d 86 61 ls (.ref a :: st) M Q = (kO M a = 5 ∧ Ca d 86 61 ls 129 (.ref a :: []) st M Q) := fun d ls a st M Q h0 => w_virt1 (as := []) (show ins 86 61 = some (.invokevirtual 358, 3) by decide +kernel) (show mRes (mC 86) 358 = some (3, 5, [(5, 129)]) by decide +kernel) (by decide +kernel) rfl (by decide +kernel) (by decide +kernel) h0
set_option maxRecDepth 100000 in
theorem r_86_64 : ∀ (d : Nat) (ls : Lc) (a b : Int) (st : List Value) (M : Mem) (Q : Outcome → Mem → Prop), Wp d 86 64 ls (.int (I b) :: .int (I a) :: st) M Q = Wp d 86 65 ls (.int (I (a + b)) :: st) M Q := fun d ls a b st M Q => w_iadd (show ins 86 64 = some (.iadd, 1) by decide +kernel)
set_option maxRecDepth 100000 in
theorem r_86_65 : ∀ (d : Nat) (l0 l1 l2 l3 l4 l5 l6 l7 : Option Value) (v : Int32) (st : List Value) (M : Mem) (Q : Outcome → Mem → Prop), (lo l3 = false) → Wp d 86 65 [l0, l1, l2, l3, l4, l5, l6, l7] (.int v :: st) M Q = Wp d 86 67 [l0, l1, l2, l3, some (.int v), l5, l6, l7] st M Q := fun d l0 l1 l2 l3 l4 l5 l6 l7 v st M Q hl => w_istore (show ins 86 65 = some (.istore 4, 2) by decide +kernel) (st1_S rfl rfl hl)
set_option maxRecDepth 100000 in
theorem r_86_67 : ∀ (d : Nat) (ls : Lc) (st : List Value) (M : Mem) (Q : Outcome → Mem → Prop), Wp d 86 67 ls st M Q = Wp d 86 68 ls (.int (I 0) :: st) M Q := fun d ls st M Q => w_iconst (show ins 86 67 = some (.iconst 0, 1) by decide +kernel)
set_option maxRecDepth 100000 in
theorem r_86_68 : ∀ (d : Nat) (l0 l1 l2 l3 l4 l5 l6 l7 : Option Value) (v : Int32) (st : List Value) (M : Mem) (Q : Outcome → Mem → Prop), (lo l6 = false) → Wp d 86 68 [l0, l1, l2, l3, l4, l5, l6, l7] (.int v :: st) M Q = Wp d 86 70 [l0, l1, l2, l3, l4, l5, l6, some (.int v)] st M Q := fun d l0 l1 l2 l3 l4 l5 l6 l7 v st M Q hl => w_istore (show ins 86 68 = some (.istore 7, 2) by decide +kernel) (st1_S rfl rfl hl)
set_option maxRecDepth 100000 in
theorem r_86_70 : ∀ (d : Nat) (l0 l1 l2 l3 l4 l5 l6 : Option Value) (v : Int32) (st : List Value) (M : Mem) (Q : Outcome → Mem → Prop), Wp d 86 70 [l0, l1, l2, l3, l4, l5, l6, some (.int v)] st M Q = Wp d 86 72 [l0, l1, l2, l3, l4, l5, l6, some (.int v)] (.int v :: st) M Q := fun d l0 l1 l2 l3 l4 l5 l6 v st M Q => wA (show ins 86 70 = some (.iload 7, 2) by decide +kernel) rfl
set_option maxRecDepth 100000 in
theorem r_86_72 : ∀ (d : Nat) (l0 l1 l2 l3 l4 l5 l7 : Option Value) (v : Nat) (st : List Value) (M : Mem) (Q : Outcome → Mem → Prop), Wp d 86 72 [l0, l1, l2, l3, l4, l5, some (.ref v), l7] st M Q = Wp d 86 74 [l0, l1, l2, l3, l4, l5, some (.ref v), l7] (.ref v :: st) M Q := fun d l0 l1 l2 l3 l4 l5 l7 v st M Q => wA (show ins 86 72 = some (.aload 6, 2) by decide +kernel) rfl
set_option maxRecDepth 100000 in
theorem r_86_72_1 : ∀ (d : Nat) (l0 l1 l2 l3 l4 l5 l7 : Option Value) (st : List Value) (M : Mem) (Q : Outcome → Mem → Prop), Wp d 86 72 [l0, l1, l2, l3, l4, l5, some .null, l7] st M Q = Wp d 86 74 [l0, l1, l2, l3, l4, l5, some .null, l7] (.null :: st) M Q := fun d l0 l1 l2 l3 l4 l5 l7 st M Q => wA (show ins 86 72 = some (.aload 6, 2) by decide +kernel) rfl
set_option maxRecDepth 100000 in
theorem r_86_74 : ∀ (d : Nat) (ls : Lc) (a : Nat) (st : List Value) (M : Mem) (Q : Outcome → Mem → Prop), Wp d 86 74 ls (.ref a :: st) M Q = (fk 37 (kO M a) = true ∧ Wp d 86 77 ls (.int (mF M 37 a) :: st) M Q) := fun d ls a st M Q => w_getI (show ins 86 74 = some (.getfield 258, 3) by decide +kernel) (show fRes (mC 86) 258 = some (37, 5, true) by decide +kernel) (by decide +kernel)
set_option maxRecDepth 100000 in
theorem r_86_77 : ∀ (d : Nat) (ls : Lc) (a b : Int32) (st : List Value) (M : Mem) (Q : Outcome → Mem → Prop), Wp d 86 77 ls (.int b :: .int a :: st) M Q = Br (b ≤ a) d 86 110 80 ls st M Q := fun d ls a b st M Q => w_icmp (show ins 86 77 = some (.if_icmp .ge 33, 3) by decide +kernel) rfl rfl
set_option maxRecDepth 100000 in
theorem r_86_80 : ∀ (d : Nat) (l0 l1 l2 l3 l4 l6 l7 : Option Value) (v : Int32) (st : List Value) (M : Mem) (Q : Outcome → Mem → Prop), Wp d 86 80 [l0, l1, l2, l3, l4, some (.int v), l6, l7] st M Q = Wp d 86 82 [l0, l1, l2, l3, l4, some (.int v), l6, l7] (.int v :: st) M Q := fun d l0 l1 l2 l3 l4 l6 l7 v st M Q => wA (show ins 86 80 = some (.iload 5, 2) by decide +kernel) rfl
set_option maxRecDepth 100000 in
theorem r_86_82 : ∀ (d : Nat) (l0 l1 l2 l3 l4 l5 l7 : Option Value) (v : Nat) (st : List Value) (M : Mem) (Q : Outcome → Mem → Prop), Wp d 86 82 [l0, l1, l2, l3, l4, l5, some (.ref v), l7] st M Q = Wp d 86 84 [l0, l1, l2, l3, l4, l5, some (.ref v), l7] (.ref v :: st) M Q := fun d l0 l1 l2 l3 l4 l5 l7 v st M Q => wA (show ins 86 82 = some (.aload 6, 2) by decide +kernel) rfl
set_option maxRecDepth 100000 in
theorem r_86_82_1 : ∀ (d : Nat) (l0 l1 l2 l3 l4 l5 l7 : Option Value) (st : List Value) (M : Mem) (Q : Outcome → Mem → Prop), Wp d 86 82 [l0, l1, l2, l3, l4, l5, some .null, l7] st M Q = Wp d 86 84 [l0, l1, l2, l3, l4, l5, some .null, l7] (.null :: st) M Q := fun d l0 l1 l2 l3 l4 l5 l7 st M Q => wA (show ins 86 82 = some (.aload 6, 2) by decide +kernel) rfl
set_option maxRecDepth 100000 in
theorem r_86_84 : ∀ (d : Nat) (ls : Lc) (a : Nat) (st : List Value) (M : Mem) (Q : Outcome → Mem → Prop), Wp d 86 84 ls (.ref a :: st) M Q = (fk 36 (kO M a) = true ∧ Wp d 86 87 ls (va_rf (mR M 36 a) :: st) M Q) := fun d ls a st M Q => w_getR (show ins 86 84 = some (.getfield 261, 3) by decide +kernel) (show fRes (mC 86) 261 = some (36, 5, true) by decide +kernel) (by decide +kernel)
set_option maxRecDepth 100000 in
theorem r_86_87 : ∀ (d : Nat) (l0 l1 l2 l3 l4 l5 l6 : Option Value) (v : Int32) (st : List Value) (M : Mem) (Q : Outcome → Mem → Prop), Wp d 86 87 [l0, l1, l2, l3, l4, l5, l6, some (.int v)] st M Q = Wp d 86 89 [l0, l1, l2, l3, l4, l5, l6, some (.int v)] (.int v :: st) M Q := fun d l0 l1 l2 l3 l4 l5 l6 v st M Q => wA (show ins 86 87 = some (.iload 7, 2) by decide +kernel) rfl
set_option maxRecDepth 100000 in
theorem r_86_89 : ∀ (d : Nat) (ls : Lc) (a : Nat) (j : Int32) (st : List Value) (M : Mem) (Q : Outcome → Mem → Prop), Wp d 86 89 ls (.int j :: .ref a :: st) M Q = ((((kX M a).1 = 0 ∨ (kX M a).1 = 8) ∧ inB j (kX M a).2 = true) ∧ Wp d 86 90 ls (.int (mA M a j.toNatClampNeg) :: st) M Q) := fun d ls a j st M Q => w_iaload (show ins 86 89 = some (.iaload, 1) by decide +kernel)
set_option maxRecDepth 100000 in
theorem r_86_90 : ∀ (d : Nat) (ls : Lc) (v0 : Value)  (st : List Value) (M : Mem) (Q : Outcome → Mem → Prop), (smallR st = true) → Wp d 86 90 ls (v0 :: st) M Q = Ca d 86 90 ls 61 [v0] st M Q := fun d ls v0 st M Q h0 => w_stat (as := [v0]) (show ins 86 90 = some (.invokestatic 264, 3) by decide +kernel) (show mRes (mC 86) 264 = some (0, 1, [(0, 61)]) by decide +kernel) (by decide +kernel) (by decide +kernel) rfl h0
set_option maxRecDepth 100000 in
theorem r_86_93 : ∀ (d : Nat) (ls : Lc) (a : Int32) (st : List Value) (M : Mem) (Q : Outcome → Mem → Prop), Wp d 86 93 ls (.int a :: st) M Q = Br (¬ a = I 0) d 86 100 96 ls st M Q := fun d ls a st M Q => w_if (show ins 86 93 = some (.ifCond .ne 7, 3) by decide +kernel) rfl rfl
set_option maxRecDepth 100000 in
theorem r_86_96 : ∀ (d : Nat) (ls : Lc) (st : List Value) (M : Mem) (Q : Outcome → Mem → Prop), Wp d 86 96 ls st M Q = Wp d 86 97 ls (.int (I 1) :: st) M Q := fun d ls st M Q => w_iconst (show ins 86 96 = some (.iconst 1, 1) by decide +kernel)
set_option maxRecDepth 100000 in
theorem r_86_97 : ∀ (d : Nat) (ls : Lc) (st : List Value) (M : Mem) (Q : Outcome → Mem → Prop), Wp d 86 97 ls st M Q = Wp d 86 101 ls st M Q := fun d ls st M Q => w_goto (show ins 86 97 = some (.goto 4, 3) by decide +kernel) rfl
set_option maxRecDepth 100000 in
theorem r_86_100 : ∀ (d : Nat) (ls : Lc) (st : List Value) (M : Mem) (Q : Outcome → Mem → Prop), Wp d 86 100 ls st M Q = Wp d 86 101 ls (.int (I 0) :: st) M Q := fun d ls st M Q => w_iconst (show ins 86 100 = some (.iconst 0, 1) by decide +kernel)
set_option maxRecDepth 100000 in
theorem r_86_101 : ∀ (d : Nat) (ls : Lc) (a b : Int) (st : List Value) (M : Mem) (Q : Outcome → Mem → Prop), Wp d 86 101 ls (.int (I b) :: .int (I a) :: st) M Q = Wp d 86 102 ls (.int (I (a + b)) :: st) M Q := fun d ls a b st M Q => w_iadd (show ins 86 101 = some (.iadd, 1) by decide +kernel)
set_option maxRecDepth 100000 in
theorem r_86_102 : ∀ (d : Nat) (l0 l1 l2 l3 l4 l5 l6 l7 : Option Value) (v : Int32) (st : List Value) (M : Mem) (Q : Outcome → Mem → Prop), (lo l4 = false) → Wp d 86 102 [l0, l1, l2, l3, l4, l5, l6, l7] (.int v :: st) M Q = Wp d 86 104 [l0, l1, l2, l3, l4, some (.int v), l6, l7] st M Q := fun d l0 l1 l2 l3 l4 l5 l6 l7 v st M Q hl => w_istore (show ins 86 102 = some (.istore 5, 2) by decide +kernel) (st1_S rfl rfl hl)
set_option maxRecDepth 100000 in
theorem r_86_104 : ∀ (d : Nat) (l0 l1 l2 l3 l4 l5 l6 : Option Value) (z : Int) (st : List Value) (M : Mem) (Q : Outcome → Mem → Prop), (lo l6 = false) → Wp d 86 104 [l0, l1, l2, l3, l4, l5, l6, some (.int (I z))] st M Q = Wp d 86 107 [l0, l1, l2, l3, l4, l5, l6, some (.int (I (z + 1)))] st M Q := fun d l0 l1 l2 l3 l4 l5 l6 z st M Q hl => w_iinc (show ins 86 104 = some (.iinc 7 1, 3) by decide +kernel) rfl (st1_S rfl rfl hl)
set_option maxRecDepth 100000 in
theorem r_86_107 : ∀ (d : Nat) (ls : Lc) (st : List Value) (M : Mem) (Q : Outcome → Mem → Prop), Wp d 86 107 ls st M Q = Wp d 86 70 ls st M Q := fun d ls st M Q => w_goto (show ins 86 107 = some (.goto (-37), 3) by decide +kernel) rfl
set_option maxRecDepth 100000 in
theorem r_86_110 : ∀ (d : Nat) (l0 l1 l2 l3 l4 l5 l7 : Option Value) (v : Nat) (st : List Value) (M : Mem) (Q : Outcome → Mem → Prop), Wp d 86 110 [l0, l1, l2, l3, l4, l5, some (.ref v), l7] st M Q = Wp d 86 112 [l0, l1, l2, l3, l4, l5, some (.ref v), l7] (.ref v :: st) M Q := fun d l0 l1 l2 l3 l4 l5 l7 v st M Q => wA (show ins 86 110 = some (.aload 6, 2) by decide +kernel) rfl
set_option maxRecDepth 100000 in
theorem r_86_110_1 : ∀ (d : Nat) (l0 l1 l2 l3 l4 l5 l7 : Option Value) (st : List Value) (M : Mem) (Q : Outcome → Mem → Prop), Wp d 86 110 [l0, l1, l2, l3, l4, l5, some .null, l7] st M Q = Wp d 86 112 [l0, l1, l2, l3, l4, l5, some .null, l7] (.null :: st) M Q := fun d l0 l1 l2 l3 l4 l5 l7 st M Q => wA (show ins 86 110 = some (.aload 6, 2) by decide +kernel) rfl
set_option maxRecDepth 100000 in
theorem r_86_112 : ∀ (d : Nat) (ls : Lc) (a : Nat) (st : List Value) (M : Mem) (Q : Outcome → Mem → Prop), Wp d 86 112 ls (.ref a :: st) M Q = (fk 31 (kO M a) = true ∧ Wp d 86 115 ls (va_rf (mR M 31 a) :: st) M Q) := fun d ls a st M Q => w_getR (show ins 86 112 = some (.getfield 270, 3) by decide +kernel) (show fRes (mC 86) 270 = some (31, 5, false) by decide +kernel) (by decide +kernel)
set_option maxRecDepth 100000 in
theorem r_86_115 : ∀ (d : Nat) (ls : Lc) (st : List Value) (M : Mem) (Q : Outcome → Mem → Prop), Wp d 86 115 ls (.null :: st) M Q = Wp d 86 118 ls (.null :: st) M Q := fun d ls st M Q => w_castN (show ins 86 115 = some (.checkcast 160, 3) by decide +kernel)
set_option maxRecDepth 100000 in
theorem r_86_115_1 : ∀ (d : Nat) (ls : Lc) (a : Nat) (st : List Value) (M : Mem) (Q : Outcome → Mem → Prop), Wp d 86 115 ls (.ref a :: st) M Q = (kO M a = 5 ∧ Wp d 86 118 ls (.ref a :: st) M Q) := fun d ls a st M Q => w_cast (show ins 86 115 = some (.checkcast 160, 3) by decide +kernel) (show cRes (mC 86) 160 = some 5 by decide +kernel) (by decide +kernel)
set_option maxRecDepth 100000 in
theorem r_86_118 : ∀ (d : Nat) (l0 l1 l2 l3 l4 l5 l6 l7 : Option Value) (v : Nat) (st : List Value) (M : Mem) (Q : Outcome → Mem → Prop), (lo l5 = false) → Wp d 86 118 [l0, l1, l2, l3, l4, l5, l6, l7] (.ref v :: st) M Q = Wp d 86 120 [l0, l1, l2, l3, l4, l5, some (.ref v), l7] st M Q := fun d l0 l1 l2 l3 l4 l5 l6 l7 v st M Q hl => w_astore (show ins 86 118 = some (.astore 6, 2) by decide +kernel) (st1_S rfl rfl hl)
set_option maxRecDepth 100000 in
theorem r_86_118_1 : ∀ (d : Nat) (l0 l1 l2 l3 l4 l5 l6 l7 : Option Value) (st : List Value) (M : Mem) (Q : Outcome → Mem → Prop), (lo l5 = false) → Wp d 86 118 [l0, l1, l2, l3, l4, l5, l6, l7] (.null :: st) M Q = Wp d 86 120 [l0, l1, l2, l3, l4, l5, some (.null), l7] st M Q := fun d l0 l1 l2 l3 l4 l5 l6 l7 st M Q hl => w_astoreN (show ins 86 118 = some (.astore 6, 2) by decide +kernel) (st1_S rfl rfl hl)
set_option maxRecDepth 100000 in
theorem r_86_120 : ∀ (d : Nat) (ls : Lc) (st : List Value) (M : Mem) (Q : Outcome → Mem → Prop), Wp d 86 120 ls st M Q = Wp d 86 41 ls st M Q := fun d ls st M Q => w_goto (show ins 86 120 = some (.goto (-79), 3) by decide +kernel) rfl
set_option maxRecDepth 100000 in
theorem r_86_123 : ∀ (d : Nat) (l0 l2 l3 l4 l5 l6 l7 : Option Value) (v : Int32) (st : List Value) (M : Mem) (Q : Outcome → Mem → Prop), Wp d 86 123 [l0, some (.int v), l2, l3, l4, l5, l6, l7] st M Q = Wp d 86 124 [l0, some (.int v), l2, l3, l4, l5, l6, l7] (.int v :: st) M Q := fun d l0 l2 l3 l4 l5 l6 l7 v st M Q => wA (show ins 86 123 = some (.iload_n 1, 1) by decide +kernel) rfl
set_option maxRecDepth 100000 in
theorem r_86_124 : ∀ (d : Nat) (ls : Lc) (st : List Value) (M : Mem) (Q : Outcome → Mem → Prop), Wp d 86 124 ls (.int (I 0) :: st) M Q = Wp d 86 176 ls st M Q := fun d ls st M Q => w_tswK (show ins 86 124 = some (.tableswitch 104 0 8 #[52, 60, 62, 75, 78, 80, 83, 88, 96], 52) by decide +kernel) (by decide) rfl rfl
set_option maxRecDepth 100000 in
theorem r_86_124_1 : ∀ (d : Nat) (ls : Lc) (st : List Value) (M : Mem) (Q : Outcome → Mem → Prop), Wp d 86 124 ls (.int (I 1) :: st) M Q = Wp d 86 184 ls st M Q := fun d ls st M Q => w_tswK (show ins 86 124 = some (.tableswitch 104 0 8 #[52, 60, 62, 75, 78, 80, 83, 88, 96], 52) by decide +kernel) (by decide) rfl rfl
set_option maxRecDepth 100000 in
theorem r_86_124_2 : ∀ (d : Nat) (ls : Lc) (st : List Value) (M : Mem) (Q : Outcome → Mem → Prop), Wp d 86 124 ls (.int (I 2) :: st) M Q = Wp d 86 186 ls st M Q := fun d ls st M Q => w_tswK (show ins 86 124 = some (.tableswitch 104 0 8 #[52, 60, 62, 75, 78, 80, 83, 88, 96], 52) by decide +kernel) (by decide) rfl rfl
set_option maxRecDepth 100000 in
theorem r_86_124_3 : ∀ (d : Nat) (ls : Lc) (st : List Value) (M : Mem) (Q : Outcome → Mem → Prop), Wp d 86 124 ls (.int (I 3) :: st) M Q = Wp d 86 199 ls st M Q := fun d ls st M Q => w_tswK (show ins 86 124 = some (.tableswitch 104 0 8 #[52, 60, 62, 75, 78, 80, 83, 88, 96], 52) by decide +kernel) (by decide) rfl rfl
set_option maxRecDepth 100000 in
theorem r_86_124_4 : ∀ (d : Nat) (ls : Lc) (st : List Value) (M : Mem) (Q : Outcome → Mem → Prop), Wp d 86 124 ls (.int (I 4) :: st) M Q = Wp d 86 202 ls st M Q := fun d ls st M Q => w_tswK (show ins 86 124 = some (.tableswitch 104 0 8 #[52, 60, 62, 75, 78, 80, 83, 88, 96], 52) by decide +kernel) (by decide) rfl rfl
set_option maxRecDepth 100000 in
theorem r_86_124_5 : ∀ (d : Nat) (ls : Lc) (st : List Value) (M : Mem) (Q : Outcome → Mem → Prop), Wp d 86 124 ls (.int (I 5) :: st) M Q = Wp d 86 204 ls st M Q := fun d ls st M Q => w_tswK (show ins 86 124 = some (.tableswitch 104 0 8 #[52, 60, 62, 75, 78, 80, 83, 88, 96], 52) by decide +kernel) (by decide) rfl rfl
set_option maxRecDepth 100000 in
theorem r_86_124_6 : ∀ (d : Nat) (ls : Lc) (st : List Value) (M : Mem) (Q : Outcome → Mem → Prop), Wp d 86 124 ls (.int (I 6) :: st) M Q = Wp d 86 207 ls st M Q := fun d ls st M Q => w_tswK (show ins 86 124 = some (.tableswitch 104 0 8 #[52, 60, 62, 75, 78, 80, 83, 88, 96], 52) by decide +kernel) (by decide) rfl rfl
set_option maxRecDepth 100000 in
theorem r_86_124_7 : ∀ (d : Nat) (ls : Lc) (st : List Value) (M : Mem) (Q : Outcome → Mem → Prop), Wp d 86 124 ls (.int (I 7) :: st) M Q = Wp d 86 212 ls st M Q := fun d ls st M Q => w_tswK (show ins 86 124 = some (.tableswitch 104 0 8 #[52, 60, 62, 75, 78, 80, 83, 88, 96], 52) by decide +kernel) (by decide) rfl rfl
set_option maxRecDepth 100000 in
theorem r_86_124_8 : ∀ (d : Nat) (ls : Lc) (st : List Value) (M : Mem) (Q : Outcome → Mem → Prop), Wp d 86 124 ls (.int (I 8) :: st) M Q = Wp d 86 220 ls st M Q := fun d ls st M Q => w_tswK (show ins 86 124 = some (.tableswitch 104 0 8 #[52, 60, 62, 75, 78, 80, 83, 88, 96], 52) by decide +kernel) (by decide) rfl rfl
set_option maxRecDepth 100000 in
theorem r_86_124_9 : ∀ (d : Nat) (ls : Lc) (z : Int) (st : List Value) (M : Mem) (Q : Outcome → Mem → Prop), (-2147483648 ≤ z) → (z < 2147483648) → (z < 0 ∨ 8 < z) → Wp d 86 124 ls (.int (I z) :: st) M Q = Wp d 86 228 ls st M Q := fun d ls z st M Q h0 h1 h2 => w_tswD (show ins 86 124 = some (.tableswitch 104 0 8 #[52, 60, 62, 75, 78, 80, 83, 88, 96], 52) by decide +kernel) (by rw [I_toInt h0 h1]; exact h2) rfl
set_option maxRecDepth 100000 in
theorem r_86_176 : ∀ (d : Nat) (l1 l2 l3 l4 l5 l6 l7 : Option Value) (v : Nat) (st : List Value) (M : Mem) (Q : Outcome → Mem → Prop), Wp d 86 176 [some (.ref v), l1, l2, l3, l4, l5, l6, l7] st M Q = Wp d 86 177 [some (.ref v), l1, l2, l3, l4, l5, l6, l7] (.ref v :: st) M Q := fun d l1 l2 l3 l4 l5 l6 l7 v st M Q => wA (show ins 86 176 = some (.aload_n 0, 1) by decide +kernel) rfl
set_option maxRecDepth 100000 in
theorem r_86_177 : ∀ (d : Nat) (ls : Lc) (a : Nat) (st : List Value) (M : Mem) (Q : Outcome → Mem → Prop), Wp d 86 177 ls (.ref a :: st) M Q = (fk 6 (kO M a) = true ∧ Wp d 86 180 ls (va_rf (mR M 6 a) :: st) M Q) := fun d ls a st M Q => w_getR (show ins 86 177 = some (.getfield 49, 3) by decide +kernel) (show fRes (mC 86) 49 = some (6, 1, false) by decide +kernel) (by decide +kernel)
set_option maxRecDepth 100000 in
theorem r_86_180 : ∀ (d : Nat) (ls : Lc) (a : Nat) (st : List Value) (M : Mem) (Q : Outcome → Mem → Prop), (smallR st = true) → Wp d 86 180 ls (.ref a :: st) M Q = (kO M a = 2 ∧ Ca d 86 180 ls 93 (.ref a :: []) st M Q) := fun d ls a st M Q h0 => w_virt1 (as := []) (show ins 86 180 = some (.invokevirtual 359, 3) by decide +kernel) (show mRes (mC 86) 359 = some (3, 2, [(2, 93)]) by decide +kernel) (by decide +kernel) rfl (by decide +kernel) (by decide +kernel) h0
set_option maxRecDepth 100000 in
theorem r_86_183 : ∀ (d : Nat) (ls : Lc) (v : Int32) (M : Mem) (Q : Outcome → Mem → Prop), Wp d 86 183 ls [.int v] M Q = Q (.returned (some (.int v))) M := fun d ls v M Q => w_ireturn (show ins 86 183 = some (.ireturn, 1) by decide +kernel) (by decide +kernel)
set_option maxRecDepth 100000 in
theorem r_86_184 : ∀ (d : Nat) (l0 l1 l3 l4 l5 l6 l7 : Option Value) (v : Int32) (st : List Value) (M : Mem) (Q : Outcome → Mem → Prop), Wp d 86 184 [l0, l1, some (.int v), l3, l4, l5, l6, l7] st M Q = Wp d 86 185 [l0, l1, some (.int v), l3, l4, l5, l6, l7] (.int v :: st) M Q := fun d l0 l1 l3 l4 l5 l6 l7 v st M Q => wA (show ins 86 184 = some (.iload_n 2, 1) by decide +kernel) rfl
set_option maxRecDepth 100000 in
theorem r_86_185 : ∀ (d : Nat) (ls : Lc) (v : Int32) (M : Mem) (Q : Outcome → Mem → Prop), Wp d 86 185 ls [.int v] M Q = Q (.returned (some (.int v))) M := fun d ls v M Q => w_ireturn (show ins 86 185 = some (.ireturn, 1) by decide +kernel) (by decide +kernel)
set_option maxRecDepth 100000 in
theorem r_86_186 : ∀ (d : Nat) (l1 l2 l3 l4 l5 l6 l7 : Option Value) (v : Nat) (st : List Value) (M : Mem) (Q : Outcome → Mem → Prop), Wp d 86 186 [some (.ref v), l1, l2, l3, l4, l5, l6, l7] st M Q = Wp d 86 187 [some (.ref v), l1, l2, l3, l4, l5, l6, l7] (.ref v :: st) M Q := fun d l1 l2 l3 l4 l5 l6 l7 v st M Q => wA (show ins 86 186 = some (.aload_n 0, 1) by decide +kernel) rfl
set_option maxRecDepth 100000 in
theorem r_86_187 : ∀ (d : Nat) (ls : Lc) (a : Nat) (st : List Value) (M : Mem) (Q : Outcome → Mem → Prop), Wp d 86 187 ls (.ref a :: st) M Q = (fk 9 (kO M a) = true ∧ Wp d 86 190 ls (va_rf (mR M 9 a) :: st) M Q) := fun d ls a st M Q => w_getR (show ins 86 187 = some (.getfield 58, 3) by decide +kernel) (show fRes (mC 86) 58 = some (9, 1, false) by decide +kernel) (by decide +kernel)
set_option maxRecDepth 100000 in
theorem r_86_190 : ∀ (d : Nat) (ls : Lc) (a : Nat) (st : List Value) (M : Mem) (Q : Outcome → Mem → Prop), Wp d 86 190 ls (.ref a :: st) M Q = (fk 18 (kO M a) = true ∧ Wp d 86 193 ls (va_rf (mR M 18 a) :: st) M Q) := fun d ls a st M Q => w_getR (show ins 86 190 = some (.getfield 122, 3) by decide +kernel) (show fRes (mC 86) 122 = some (18, 3, true) by decide +kernel) (by decide +kernel)
set_option maxRecDepth 100000 in
theorem r_86_193 : ∀ (d : Nat) (ls : Lc) (a : Nat) (st : List Value) (M : Mem) (Q : Outcome → Mem → Prop), (smallR st = true) → Wp d 86 193 ls (.ref a :: st) M Q = ((kO M a = 5 ∧ Ca d 86 193 ls 133 (.ref a :: []) st M Q) ∨ (kO M a = 6 ∧ Ca d 86 193 ls 139 (.ref a :: []) st M Q)) := fun d ls a st M Q h0 => w_virt2 (as := []) (show ins 86 193 = some (.invokevirtual 360, 3) by decide +kernel) (show mRes (mC 86) 360 = some (4, 7, [(5, 133), (6, 139)]) by decide +kernel) (by decide +kernel) rfl (by decide +kernel) (by decide +kernel) (by decide +kernel) (by decide +kernel) (by decide +kernel) h0
set_option maxRecDepth 100000 in
theorem r_86_196 : ∀ (d : Nat) (ls : Lc) (st : List Value) (M : Mem) (Q : Outcome → Mem → Prop), Wp d 86 196 ls st M Q = Wp d 86 197 ls (.int (I 1) :: st) M Q := fun d ls st M Q => w_iconst (show ins 86 196 = some (.iconst 1, 1) by decide +kernel)
set_option maxRecDepth 100000 in
theorem r_86_197 : ∀ (d : Nat) (ls : Lc) (a b : Int) (st : List Value) (M : Mem) (Q : Outcome → Mem → Prop), Wp d 86 197 ls (.int (I b) :: .int (I a) :: st) M Q = Wp d 86 198 ls (.int (I (a + b)) :: st) M Q := fun d ls a b st M Q => w_iadd (show ins 86 197 = some (.iadd, 1) by decide +kernel)
set_option maxRecDepth 100000 in
theorem r_86_198 : ∀ (d : Nat) (ls : Lc) (v : Int32) (M : Mem) (Q : Outcome → Mem → Prop), Wp d 86 198 ls [.int v] M Q = Q (.returned (some (.int v))) M := fun d ls v M Q => w_ireturn (show ins 86 198 = some (.ireturn, 1) by decide +kernel) (by decide +kernel)
set_option maxRecDepth 100000 in
theorem r_86_199 : ∀ (d : Nat) (l0 l1 l2 l3 l4 l6 l7 : Option Value) (v : Int32) (st : List Value) (M : Mem) (Q : Outcome → Mem → Prop), Wp d 86 199 [l0, l1, l2, l3, l4, some (.int v), l6, l7] st M Q = Wp d 86 201 [l0, l1, l2, l3, l4, some (.int v), l6, l7] (.int v :: st) M Q := fun d l0 l1 l2 l3 l4 l6 l7 v st M Q => wA (show ins 86 199 = some (.iload 5, 2) by decide +kernel) rfl
set_option maxRecDepth 100000 in
theorem r_86_201 : ∀ (d : Nat) (ls : Lc) (v : Int32) (M : Mem) (Q : Outcome → Mem → Prop), Wp d 86 201 ls [.int v] M Q = Q (.returned (some (.int v))) M := fun d ls v M Q => w_ireturn (show ins 86 201 = some (.ireturn, 1) by decide +kernel) (by decide +kernel)
set_option maxRecDepth 100000 in
theorem r_86_202 : ∀ (d : Nat) (l0 l1 l2 l4 l5 l6 l7 : Option Value) (v : Int32) (st : List Value) (M : Mem) (Q : Outcome → Mem → Prop), Wp d 86 202 [l0, l1, l2, some (.int v), l4, l5, l6, l7] st M Q = Wp d 86 203 [l0, l1, l2, some (.int v), l4, l5, l6, l7] (.int v :: st) M Q := fun d l0 l1 l2 l4 l5 l6 l7 v st M Q => wA (show ins 86 202 = some (.iload_n 3, 1) by decide +kernel) rfl
set_option maxRecDepth 100000 in
theorem r_86_203 : ∀ (d : Nat) (ls : Lc) (v : Int32) (M : Mem) (Q : Outcome → Mem → Prop), Wp d 86 203 ls [.int v] M Q = Q (.returned (some (.int v))) M := fun d ls v M Q => w_ireturn (show ins 86 203 = some (.ireturn, 1) by decide +kernel) (by decide +kernel)
set_option maxRecDepth 100000 in
theorem r_86_204 : ∀ (d : Nat) (l0 l1 l2 l3 l5 l6 l7 : Option Value) (v : Int32) (st : List Value) (M : Mem) (Q : Outcome → Mem → Prop), Wp d 86 204 [l0, l1, l2, l3, some (.int v), l5, l6, l7] st M Q = Wp d 86 206 [l0, l1, l2, l3, some (.int v), l5, l6, l7] (.int v :: st) M Q := fun d l0 l1 l2 l3 l5 l6 l7 v st M Q => wA (show ins 86 204 = some (.iload 4, 2) by decide +kernel) rfl
set_option maxRecDepth 100000 in
theorem r_86_206 : ∀ (d : Nat) (ls : Lc) (v : Int32) (M : Mem) (Q : Outcome → Mem → Prop), Wp d 86 206 ls [.int v] M Q = Q (.returned (some (.int v))) M := fun d ls v M Q => w_ireturn (show ins 86 206 = some (.ireturn, 1) by decide +kernel) (by decide +kernel)
set_option maxRecDepth 100000 in
theorem r_86_207 : ∀ (d : Nat) (l1 l2 l3 l4 l5 l6 l7 : Option Value) (v : Nat) (st : List Value) (M : Mem) (Q : Outcome → Mem → Prop), Wp d 86 207 [some (.ref v), l1, l2, l3, l4, l5, l6, l7] st M Q = Wp d 86 208 [some (.ref v), l1, l2, l3, l4, l5, l6, l7] (.ref v :: st) M Q := fun d l1 l2 l3 l4 l5 l6 l7 v st M Q => wA (show ins 86 207 = some (.aload_n 0, 1) by decide +kernel) rfl
set_option maxRecDepth 100000 in
theorem r_86_208 : ∀ (d : Nat) (ls : Lc) (a : Nat) (st : List Value) (M : Mem) (Q : Outcome → Mem → Prop), (smallR st = true) → Wp d 86 208 ls (.ref a :: st) M Q = (kO M a = 1 ∧ Ca d 86 208 ls 79 (.ref a :: []) st M Q) := fun d ls a st M Q h0 => w_virt1 (as := []) (show ins 86 208 = some (.invokevirtual 331, 3) by decide +kernel) (show mRes (mC 86) 331 = some (3, 1, [(1, 79)]) by decide +kernel) (by decide +kernel) rfl (by decide +kernel) (by decide +kernel) h0
set_option maxRecDepth 100000 in
theorem r_86_211 : ∀ (d : Nat) (ls : Lc) (v : Int32) (M : Mem) (Q : Outcome → Mem → Prop), Wp d 86 211 ls [.int v] M Q = Q (.returned (some (.int v))) M := fun d ls v M Q => w_ireturn (show ins 86 211 = some (.ireturn, 1) by decide +kernel) (by decide +kernel)
set_option maxRecDepth 100000 in
theorem r_86_212 : ∀ (d : Nat) (l1 l2 l3 l4 l5 l6 l7 : Option Value) (v : Nat) (st : List Value) (M : Mem) (Q : Outcome → Mem → Prop), Wp d 86 212 [some (.ref v), l1, l2, l3, l4, l5, l6, l7] st M Q = Wp d 86 213 [some (.ref v), l1, l2, l3, l4, l5, l6, l7] (.ref v :: st) M Q := fun d l1 l2 l3 l4 l5 l6 l7 v st M Q => wA (show ins 86 212 = some (.aload_n 0, 1) by decide +kernel) rfl
set_option maxRecDepth 100000 in
theorem r_86_213 : ∀ (d : Nat) (ls : Lc) (a : Nat) (st : List Value) (M : Mem) (Q : Outcome → Mem → Prop), Wp d 86 213 ls (.ref a :: st) M Q = (fk 2 (kO M a) = true ∧ Wp d 86 216 ls (va_rf (mR M 2 a) :: st) M Q) := fun d ls a st M Q => w_getR (show ins 86 213 = some (.getfield 67, 3) by decide +kernel) (show fRes (mC 86) 67 = some (2, 1, false) by decide +kernel) (by decide +kernel)
set_option maxRecDepth 100000 in
theorem r_86_216 : ∀ (d : Nat) (ls : Lc) (a : Nat) (st : List Value) (M : Mem) (Q : Outcome → Mem → Prop), Wp d 86 216 ls (.ref a :: st) M Q = (fk 20 (kO M a) = true ∧ Wp d 86 219 ls (.int (mF M 20 a) :: st) M Q) := fun d ls a st M Q => w_getI (show ins 86 216 = some (.getfield 339, 3) by decide +kernel) (show fRes (mC 86) 339 = some (20, 4, true) by decide +kernel) (by decide +kernel)
set_option maxRecDepth 100000 in
theorem r_86_219 : ∀ (d : Nat) (ls : Lc) (v : Int32) (M : Mem) (Q : Outcome → Mem → Prop), Wp d 86 219 ls [.int v] M Q = Q (.returned (some (.int v))) M := fun d ls v M Q => w_ireturn (show ins 86 219 = some (.ireturn, 1) by decide +kernel) (by decide +kernel)
set_option maxRecDepth 100000 in
theorem r_86_220 : ∀ (d : Nat) (l1 l2 l3 l4 l5 l6 l7 : Option Value) (v : Nat) (st : List Value) (M : Mem) (Q : Outcome → Mem → Prop), Wp d 86 220 [some (.ref v), l1, l2, l3, l4, l5, l6, l7] st M Q = Wp d 86 221 [some (.ref v), l1, l2, l3, l4, l5, l6, l7] (.ref v :: st) M Q := fun d l1 l2 l3 l4 l5 l6 l7 v st M Q => wA (show ins 86 220 = some (.aload_n 0, 1) by decide +kernel) rfl
set_option maxRecDepth 100000 in
theorem r_86_221 : ∀ (d : Nat) (ls : Lc) (a : Nat) (st : List Value) (M : Mem) (Q : Outcome → Mem → Prop), Wp d 86 221 ls (.ref a :: st) M Q = (fk 2 (kO M a) = true ∧ Wp d 86 224 ls (va_rf (mR M 2 a) :: st) M Q) := fun d ls a st M Q => w_getR (show ins 86 221 = some (.getfield 67, 3) by decide +kernel) (show fRes (mC 86) 67 = some (2, 1, false) by decide +kernel) (by decide +kernel)
set_option maxRecDepth 100000 in
theorem r_86_224 : ∀ (d : Nat) (ls : Lc) (a : Nat) (st : List Value) (M : Mem) (Q : Outcome → Mem → Prop), Wp d 86 224 ls (.ref a :: st) M Q = (fk 29 (kO M a) = true ∧ Wp d 86 227 ls (.int (mF M 29 a) :: st) M Q) := fun d ls a st M Q => w_getI (show ins 86 224 = some (.getfield 336, 3) by decide +kernel) (show fRes (mC 86) 336 = some (29, 4, true) by decide +kernel) (by decide +kernel)
set_option maxRecDepth 100000 in
theorem r_86_227 : ∀ (d : Nat) (ls : Lc) (v : Int32) (M : Mem) (Q : Outcome → Mem → Prop), Wp d 86 227 ls [.int v] M Q = Q (.returned (some (.int v))) M := fun d ls v M Q => w_ireturn (show ins 86 227 = some (.ireturn, 1) by decide +kernel) (by decide +kernel)
set_option maxRecDepth 100000 in
theorem r_86_228 : ∀ (d : Nat) (l1 l2 l3 l4 l5 l6 l7 : Option Value) (v : Nat) (st : List Value) (M : Mem) (Q : Outcome → Mem → Prop), Wp d 86 228 [some (.ref v), l1, l2, l3, l4, l5, l6, l7] st M Q = Wp d 86 229 [some (.ref v), l1, l2, l3, l4, l5, l6, l7] (.ref v :: st) M Q := fun d l1 l2 l3 l4 l5 l6 l7 v st M Q => wA (show ins 86 228 = some (.aload_n 0, 1) by decide +kernel) rfl
set_option maxRecDepth 100000 in
theorem r_86_229 : ∀ (d : Nat) (ls : Lc) (a : Nat) (st : List Value) (M : Mem) (Q : Outcome → Mem → Prop), Wp d 86 229 ls (.ref a :: st) M Q = (fk 2 (kO M a) = true ∧ Wp d 86 232 ls (va_rf (mR M 2 a) :: st) M Q) := fun d ls a st M Q => w_getR (show ins 86 229 = some (.getfield 67, 3) by decide +kernel) (show fRes (mC 86) 67 = some (2, 1, false) by decide +kernel) (by decide +kernel)
set_option maxRecDepth 100000 in
theorem r_86_232 : ∀ (d : Nat) (ls : Lc) (a : Nat) (st : List Value) (M : Mem) (Q : Outcome → Mem → Prop), Wp d 86 232 ls (.ref a :: st) M Q = (fk 19 (kO M a) = true ∧ Wp d 86 235 ls (.int (mF M 19 a) :: st) M Q) := fun d ls a st M Q => w_getI (show ins 86 232 = some (.getfield 363, 3) by decide +kernel) (show fRes (mC 86) 363 = some (19, 4, true) by decide +kernel) (by decide +kernel)
set_option maxRecDepth 100000 in
theorem r_86_235 : ∀ (d : Nat) (ls : Lc) (v : Int32) (M : Mem) (Q : Outcome → Mem → Prop), Wp d 86 235 ls [.int v] M Q = Q (.returned (some (.int v))) M := fun d ls v M Q => w_ireturn (show ins 86 235 = some (.ireturn, 1) by decide +kernel) (by decide +kernel)
set_option maxRecDepth 100000 in
theorem w_86_41 : (type_of% r_86_41) ∧ (type_of% r_86_41_1) := ⟨r_86_41, r_86_41_1⟩
set_option maxRecDepth 100000 in
theorem w_86_70 : (type_of% r_86_70) := r_86_70
set_option maxRecDepth 100000 in
theorem W_86 : (type_of% r_86_0) ∧ (type_of% r_86_1) ∧ (type_of% r_86_4) ∧ (type_of% r_86_5) ∧ (type_of% r_86_8) ∧ (type_of% r_86_9) ∧ (type_of% r_86_11) ∧ (type_of% r_86_14) ∧ (type_of% r_86_15) ∧ (type_of% r_86_18) ∧ (type_of% r_86_19) ∧ (type_of% r_86_22) ∧ (type_of% r_86_23) ∧ (type_of% r_86_24) ∧ (type_of% r_86_25) ∧ (type_of% r_86_26) ∧ (type_of% r_86_27) ∧ (type_of% r_86_29) ∧ (type_of% r_86_30) ∧ (type_of% r_86_32) ∧ (type_of% r_86_33) ∧ (type_of% r_86_36) ∧ (type_of% r_86_39) ∧ (type_of% r_86_39_1) ∧ (type_of% r_86_43) ∧ (type_of% r_86_43_1) ∧ (type_of% r_86_46) ∧ (type_of% r_86_49) ∧ (type_of% r_86_50) ∧ (type_of% r_86_50_1) ∧ (type_of% r_86_52) ∧ (type_of% r_86_55) ∧ (type_of% r_86_56) ∧ (type_of% r_86_57) ∧ (type_of% r_86_59) ∧ (type_of% r_86_59_1) ∧ (type_of% r_86_61) ∧ (type_of% r_86_64) ∧ (type_of% r_86_65) ∧ (type_of% r_86_67) ∧ (type_of% r_86_68) ∧ (type_of% r_86_72) ∧ (type_of% r_86_72_1) ∧ (type_of% r_86_74) ∧ (type_of% r_86_77) ∧ (type_of% r_86_80) ∧ (type_of% r_86_82) ∧ (type_of% r_86_82_1) ∧ (type_of% r_86_84) ∧ (type_of% r_86_87) ∧ (type_of% r_86_89) ∧ (type_of% r_86_90) ∧ (type_of% r_86_93) ∧ (type_of% r_86_96) ∧ (type_of% r_86_97) ∧ (type_of% r_86_100) ∧ (type_of% r_86_101) ∧ (type_of% r_86_102) ∧ (type_of% r_86_104) ∧ (type_of% r_86_107) ∧ (type_of% r_86_110) ∧ (type_of% r_86_110_1) ∧ (type_of% r_86_112) ∧ (type_of% r_86_115) ∧ (type_of% r_86_115_1) ∧ (type_of% r_86_118) ∧ (type_of% r_86_118_1) ∧ (type_of% r_86_120) ∧ (type_of% r_86_123) ∧ (type_of% r_86_124) ∧ (type_of% r_86_124_1) ∧ (type_of% r_86_124_2) ∧ (type_of% r_86_124_3) ∧ (type_of% r_86_124_4) ∧ (type_of% r_86_124_5) ∧ (type_of% r_86_124_6) ∧ (type_of% r_86_124_7) ∧ (type_of% r_86_124_8) ∧ (type_of% r_86_124_9) ∧ (type_of% r_86_176) ∧ (type_of% r_86_177) ∧ (type_of% r_86_180) ∧ (type_of% r_86_183) ∧ (type_of% r_86_184) ∧ (type_of% r_86_185) ∧ (type_of% r_86_186) ∧ (type_of% r_86_187) ∧ (type_of% r_86_190) ∧ (type_of% r_86_193) ∧ (type_of% r_86_196) ∧ (type_of% r_86_197) ∧ (type_of% r_86_198) ∧ (type_of% r_86_199) ∧ (type_of% r_86_201) ∧ (type_of% r_86_202) ∧ (type_of% r_86_203) ∧ (type_of% r_86_204) ∧ (type_of% r_86_206) ∧ (type_of% r_86_207) ∧ (type_of% r_86_208) ∧ (type_of% r_86_211) ∧ (type_of% r_86_212) ∧ (type_of% r_86_213) ∧ (type_of% r_86_216) ∧ (type_of% r_86_219) ∧ (type_of% r_86_220) ∧ (type_of% r_86_221) ∧ (type_of% r_86_224) ∧ (type_of% r_86_227) ∧ (type_of% r_86_228) ∧ (type_of% r_86_229) ∧ (type_of% r_86_232) ∧ (type_of% r_86_235) := ⟨r_86_0, r_86_1, r_86_4, r_86_5, r_86_8, r_86_9, r_86_11, r_86_14, r_86_15, r_86_18, r_86_19, r_86_22, r_86_23, r_86_24, r_86_25, r_86_26, r_86_27, r_86_29, r_86_30, r_86_32, r_86_33, r_86_36, r_86_39, r_86_39_1, r_86_43, r_86_43_1, r_86_46, r_86_49, r_86_50, r_86_50_1, r_86_52, r_86_55, r_86_56, r_86_57, r_86_59, r_86_59_1, r_86_61, r_86_64, r_86_65, r_86_67, r_86_68, r_86_72, r_86_72_1, r_86_74, r_86_77, r_86_80, r_86_82, r_86_82_1, r_86_84, r_86_87, r_86_89, r_86_90, r_86_93, r_86_96, r_86_97, r_86_100, r_86_101, r_86_102, r_86_104, r_86_107, r_86_110, r_86_110_1, r_86_112, r_86_115, r_86_115_1, r_86_118, r_86_118_1, r_86_120, r_86_123, r_86_124, r_86_124_1, r_86_124_2, r_86_124_3, r_86_124_4, r_86_124_5, r_86_124_6, r_86_124_7, r_86_124_8, r_86_124_9, r_86_176, r_86_177, r_86_180, r_86_183, r_86_184, r_86_185, r_86_186, r_86_187, r_86_190, r_86_193, r_86_196, r_86_197, r_86_198, r_86_199, r_86_201, r_86_202, r_86_203, r_86_204, r_86_206, r_86_207, r_86_208, r_86_211, r_86_212, r_86_213, r_86_216, r_86_219, r_86_220, r_86_221, r_86_224, r_86_227, r_86_228, r_86_229, r_86_232, r_86_235⟩
set_option maxRecDepth 100000 in
theorem ca_86 {d y pc : Nat} {ls : Lc} {a : Nat} {z0 : Int32} {r : List Value} {M : Mem} {Q : Outcome → Mem → Prop} (hd : 0 < d) (hw : Wp (d - 1) 86 0 [some (.ref a), some (.int z0), none, none, none, none, none, none] [] M (Cq d y pc ls r Q)) : Ca d y pc ls 86 [.ref a, .int z0] r M Q := ca_of (mq_get (by decide)) (by rfl) hd hw
