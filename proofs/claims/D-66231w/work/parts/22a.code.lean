/-! 0 PackedTreeLaw.cell([II)I; loop heads [] -/
set_option maxRecDepth 100000 in
theorem r_0_0 : ∀ (d : Nat) (l0 : Option Value) (v : Int32) (st : List Value) (M : Mem) (Q : Outcome → Mem → Prop), Wp d 0 0 [l0, some (.int v)] st M Q = Wp d 0 1 [l0, some (.int v)] (.int v :: st) M Q := fun d l0 v st M Q => wA (show ins 0 0 = some (.iload_n 1, 1) by decide +kernel) rfl
set_option maxRecDepth 100000 in
theorem r_0_1 : ∀ (d : Nat) (l1 : Option Value) (v : Nat) (st : List Value) (M : Mem) (Q : Outcome → Mem → Prop), Wp d 0 1 [some (.ref v), l1] st M Q = Wp d 0 2 [some (.ref v), l1] (.ref v :: st) M Q := fun d l1 v st M Q => wA (show ins 0 1 = some (.aload_n 0, 1) by decide +kernel) rfl
set_option maxRecDepth 100000 in
theorem r_0_1_1 : ∀ (d : Nat) (l1 : Option Value) (st : List Value) (M : Mem) (Q : Outcome → Mem → Prop), Wp d 0 1 [some .null, l1] st M Q = Wp d 0 2 [some .null, l1] (.null :: st) M Q := fun d l1 st M Q => wA (show ins 0 1 = some (.aload_n 0, 1) by decide +kernel) rfl
set_option maxRecDepth 100000 in
theorem r_0_2 : ∀ (d : Nat) (ls : Lc) (a t n : Nat) (st : List Value) (M : Mem) (Q : Outcome → Mem → Prop), (kX M a = (t, n)) → (t ≠ 9) → Wp d 0 2 ls (.ref a :: st) M Q = Wp d 0 3 ls (.int (I (n : Nat)) :: st) M Q := fun d ls a t n st M Q h0 h1 => w_arrlen (show ins 0 2 = some (.arraylength, 1) by decide +kernel) h0 h1
set_option maxRecDepth 100000 in
theorem r_0_3 : ∀ (d : Nat) (ls : Lc) (a b : Int32) (st : List Value) (M : Mem) (Q : Outcome → Mem → Prop), Wp d 0 3 ls (.int b :: .int a :: st) M Q = Br (b ≤ a) d 0 12 6 ls st M Q := fun d ls a b st M Q => w_icmp (show ins 0 3 = some (.if_icmp .ge 9, 3) by decide +kernel) rfl rfl
set_option maxRecDepth 100000 in
theorem r_0_6 : ∀ (d : Nat) (l1 : Option Value) (v : Nat) (st : List Value) (M : Mem) (Q : Outcome → Mem → Prop), Wp d 0 6 [some (.ref v), l1] st M Q = Wp d 0 7 [some (.ref v), l1] (.ref v :: st) M Q := fun d l1 v st M Q => wA (show ins 0 6 = some (.aload_n 0, 1) by decide +kernel) rfl
set_option maxRecDepth 100000 in
theorem r_0_6_1 : ∀ (d : Nat) (l1 : Option Value) (st : List Value) (M : Mem) (Q : Outcome → Mem → Prop), Wp d 0 6 [some .null, l1] st M Q = Wp d 0 7 [some .null, l1] (.null :: st) M Q := fun d l1 st M Q => wA (show ins 0 6 = some (.aload_n 0, 1) by decide +kernel) rfl
set_option maxRecDepth 100000 in
theorem r_0_7 : ∀ (d : Nat) (l0 : Option Value) (v : Int32) (st : List Value) (M : Mem) (Q : Outcome → Mem → Prop), Wp d 0 7 [l0, some (.int v)] st M Q = Wp d 0 8 [l0, some (.int v)] (.int v :: st) M Q := fun d l0 v st M Q => wA (show ins 0 7 = some (.iload_n 1, 1) by decide +kernel) rfl
set_option maxRecDepth 100000 in
theorem r_0_8 : ∀ (d : Nat) (ls : Lc) (a : Nat) (j : Int32) (st : List Value) (M : Mem) (Q : Outcome → Mem → Prop), Wp d 0 8 ls (.int j :: .ref a :: st) M Q = ((((kX M a).1 = 0 ∨ (kX M a).1 = 8) ∧ inB j (kX M a).2 = true) ∧ Wp d 0 9 ls (.int (mA M a j.toNatClampNeg) :: st) M Q) := fun d ls a j st M Q => w_iaload (show ins 0 8 = some (.iaload, 1) by decide +kernel)
set_option maxRecDepth 100000 in
theorem r_0_9 : ∀ (d : Nat) (ls : Lc) (st : List Value) (M : Mem) (Q : Outcome → Mem → Prop), Wp d 0 9 ls st M Q = Wp d 0 13 ls st M Q := fun d ls st M Q => w_goto (show ins 0 9 = some (.goto 4, 3) by decide +kernel) rfl
set_option maxRecDepth 100000 in
theorem r_0_12 : ∀ (d : Nat) (ls : Lc) (st : List Value) (M : Mem) (Q : Outcome → Mem → Prop), Wp d 0 12 ls st M Q = Wp d 0 13 ls (.int (I 0) :: st) M Q := fun d ls st M Q => w_iconst (show ins 0 12 = some (.iconst 0, 1) by decide +kernel)
set_option maxRecDepth 100000 in
theorem r_0_13 : ∀ (d : Nat) (ls : Lc) (v : Int32) (M : Mem) (Q : Outcome → Mem → Prop), Wp d 0 13 ls [.int v] M Q = Q (.returned (some (.int v))) M := fun d ls v M Q => w_ireturn (show ins 0 13 = some (.ireturn, 1) by decide +kernel) (by decide +kernel)
set_option maxRecDepth 100000 in
theorem W_0 : (type_of% r_0_0) ∧ (type_of% r_0_1) ∧ (type_of% r_0_1_1) ∧ (type_of% r_0_2) ∧ (type_of% r_0_3) ∧ (type_of% r_0_6) ∧ (type_of% r_0_6_1) ∧ (type_of% r_0_7) ∧ (type_of% r_0_8) ∧ (type_of% r_0_9) ∧ (type_of% r_0_12) ∧ (type_of% r_0_13) := ⟨r_0_0, r_0_1, r_0_1_1, r_0_2, r_0_3, r_0_6, r_0_6_1, r_0_7, r_0_8, r_0_9, r_0_12, r_0_13⟩
set_option maxRecDepth 100000 in
theorem ca_0 {d y pc : Nat} {ls : Lc} {o0 : Option Nat} {z1 : Int32} {r : List Value} {M : Mem} {Q : Outcome → Mem → Prop} (hd : 0 < d) (hw : Wp (d - 1) 0 0 [some (va_rf o0), some (.int z1)] [] M (Cq d y pc ls r Q)) : Ca d y pc ls 0 [va_rf o0, .int z1] r M Q := ca_of (mq_get (by decide)) (by cases o0 <;> rfl) hd hw
/-! 1 PackedTreeLaw.make(LPackedTree;IIZ[J)I; loop heads [] -/
set_option maxRecDepth 100000 in
theorem r_1_0 : ∀ (d : Nat) (l0 l1 l2 l3 l5 : Option Value) (v : Nat) (st : List Value) (M : Mem) (Q : Outcome → Mem → Prop), Wp d 1 0 [l0, l1, l2, l3, some (.ref v), l5] st M Q = Wp d 1 2 [l0, l1, l2, l3, some (.ref v), l5] (.ref v :: st) M Q := fun d l0 l1 l2 l3 l5 v st M Q => wA (show ins 1 0 = some (.aload 4, 2) by decide +kernel) rfl
set_option maxRecDepth 100000 in
theorem r_1_0_1 : ∀ (d : Nat) (l0 l1 l2 l3 l5 : Option Value) (st : List Value) (M : Mem) (Q : Outcome → Mem → Prop), Wp d 1 0 [l0, l1, l2, l3, some .null, l5] st M Q = Wp d 1 2 [l0, l1, l2, l3, some .null, l5] (.null :: st) M Q := fun d l0 l1 l2 l3 l5 st M Q => wA (show ins 1 0 = some (.aload 4, 2) by decide +kernel) rfl
set_option maxRecDepth 100000 in
theorem r_1_2 : ∀ (d : Nat) (ls : Lc) (st : List Value) (M : Mem) (Q : Outcome → Mem → Prop), Wp d 1 2 ls st M Q = Wp d 1 3 ls (.int (I 0) :: st) M Q := fun d ls st M Q => w_iconst (show ins 1 2 = some (.iconst 0, 1) by decide +kernel)
set_option maxRecDepth 100000 in
theorem r_1_3 : ∀ (d : Nat) (l1 l2 l3 l4 l5 : Option Value) (v : Nat) (st : List Value) (M : Mem) (Q : Outcome → Mem → Prop), Wp d 1 3 [some (.ref v), l1, l2, l3, l4, l5] st M Q = Wp d 1 4 [some (.ref v), l1, l2, l3, l4, l5] (.ref v :: st) M Q := fun d l1 l2 l3 l4 l5 v st M Q => wA (show ins 1 3 = some (.aload_n 0, 1) by decide +kernel) rfl
set_option maxRecDepth 100000 in
theorem r_1_3_1 : ∀ (d : Nat) (l1 l2 l3 l4 l5 : Option Value) (st : List Value) (M : Mem) (Q : Outcome → Mem → Prop), Wp d 1 3 [some .null, l1, l2, l3, l4, l5] st M Q = Wp d 1 4 [some .null, l1, l2, l3, l4, l5] (.null :: st) M Q := fun d l1 l2 l3 l4 l5 st M Q => wA (show ins 1 3 = some (.aload_n 0, 1) by decide +kernel) rfl
set_option maxRecDepth 100000 in
theorem r_1_4 : ∀ (d : Nat) (l0 l2 l3 l4 l5 : Option Value) (v : Int32) (st : List Value) (M : Mem) (Q : Outcome → Mem → Prop), Wp d 1 4 [l0, some (.int v), l2, l3, l4, l5] st M Q = Wp d 1 5 [l0, some (.int v), l2, l3, l4, l5] (.int v :: st) M Q := fun d l0 l2 l3 l4 l5 v st M Q => wA (show ins 1 4 = some (.iload_n 1, 1) by decide +kernel) rfl
set_option maxRecDepth 100000 in
theorem r_1_5 : ∀ (d : Nat) (l0 l1 l3 l4 l5 : Option Value) (v : Int32) (st : List Value) (M : Mem) (Q : Outcome → Mem → Prop), Wp d 1 5 [l0, l1, some (.int v), l3, l4, l5] st M Q = Wp d 1 6 [l0, l1, some (.int v), l3, l4, l5] (.int v :: st) M Q := fun d l0 l1 l3 l4 l5 v st M Q => wA (show ins 1 5 = some (.iload_n 2, 1) by decide +kernel) rfl
set_option maxRecDepth 100000 in
theorem r_1_6 : ∀ (d : Nat) (l0 l1 l2 l4 l5 : Option Value) (v : Int32) (st : List Value) (M : Mem) (Q : Outcome → Mem → Prop), Wp d 1 6 [l0, l1, l2, some (.int v), l4, l5] st M Q = Wp d 1 7 [l0, l1, l2, some (.int v), l4, l5] (.int v :: st) M Q := fun d l0 l1 l2 l4 l5 v st M Q => wA (show ins 1 6 = some (.iload_n 3, 1) by decide +kernel) rfl
set_option maxRecDepth 100000 in
theorem r_1_7 : ∀ (d : Nat) (ls : Lc) (v0 v1 v2 : Value) (a : Nat) (st : List Value) (M : Mem) (Q : Outcome → Mem → Prop), (smallR st = true) → Wp d 1 7 ls (v2 :: v1 :: v0 :: .ref a :: st) M Q = (kO M a = 1 ∧ Ca d 1 7 ls 29 (.ref a :: [v0, v1, v2]) st M Q) := fun d ls v0 v1 v2 a st M Q h0 => w_virt1 (as := [v0, v1, v2]) (show ins 1 7 = some (.invokevirtual 7, 3) by decide +kernel) (show mRes (mC 1) 7 = some (3, 1, [(1, 29)]) by decide +kernel) (by decide +kernel) rfl (by decide +kernel) (by decide +kernel) h0
set_option maxRecDepth 100000 in
theorem r_1_10 : ∀ (d : Nat) (ls : Lc) (a : Int32) (st : List Value) (M : Mem) (Q : Outcome → Mem → Prop), Wp d 1 10 ls (.int a :: st) M Q = Wp d 1 11 ls (.long a.toInt64 :: st) M Q := fun d ls a st M Q => wA (show ins 1 10 = some (.i2l, 1) by decide +kernel) rfl
set_option maxRecDepth 100000 in
theorem r_1_11 : ∀ (d : Nat) (ls : Lc) (a : Nat) (j : Int32) (v : Int64) (st : List Value) (M : Mem) (Q : Outcome → Mem → Prop), Wp d 1 11 ls (.long v :: .int j :: .ref a :: st) M Q = (((kX M a).1 = 3 ∧ inB j (kX M a).2 = true) ∧ Wp d 1 12 ls st (sL M a j.toNatClampNeg v) Q) := fun d ls a j v st M Q => w_lastore (show ins 1 11 = some (.lastore, 1) by decide +kernel)
set_option maxRecDepth 100000 in
theorem r_1_12 : ∀ (d : Nat) (ls : Lc) (st : List Value) (M : Mem) (Q : Outcome → Mem → Prop), Wp d 1 12 ls st M Q = Wp d 1 31 ls st M Q := fun d ls st M Q => w_goto (show ins 1 12 = some (.goto 19, 3) by decide +kernel) rfl
set_option maxRecDepth 100000 in
theorem r_1_15 : ∀ (d : Nat) (l0 l1 l2 l3 l4 l5 : Option Value) (v : Nat) (st : List Value) (M : Mem) (Q : Outcome → Mem → Prop), (lo l4 = false) → Wp d 1 15 [l0, l1, l2, l3, l4, l5] (.ref v :: st) M Q = Wp d 1 17 [l0, l1, l2, l3, l4, some (.ref v)] st M Q := fun d l0 l1 l2 l3 l4 l5 v st M Q hl => w_astore (show ins 1 15 = some (.astore 5, 2) by decide +kernel) (st1_S rfl rfl hl)
set_option maxRecDepth 100000 in
theorem r_1_15_1 : ∀ (d : Nat) (l0 l1 l2 l3 l4 l5 : Option Value) (st : List Value) (M : Mem) (Q : Outcome → Mem → Prop), (lo l4 = false) → Wp d 1 15 [l0, l1, l2, l3, l4, l5] (.null :: st) M Q = Wp d 1 17 [l0, l1, l2, l3, l4, some (.null)] st M Q := fun d l0 l1 l2 l3 l4 l5 st M Q hl => w_astoreN (show ins 1 15 = some (.astore 5, 2) by decide +kernel) (st1_S rfl rfl hl)
set_option maxRecDepth 100000 in
theorem r_1_17 : ∀ (d : Nat) (ls : Lc) (st : List Value) (M : Mem) (Q : Outcome → Mem → Prop), Wp d 1 17 ls st M Q = Wp d 1 18 ls (.int (I 1) :: st) M Q := fun d ls st M Q => w_iconst (show ins 1 17 = some (.iconst 1, 1) by decide +kernel)
set_option maxRecDepth 100000 in
theorem r_1_18 : ∀ (d : Nat) (ls : Lc) (v : Int32) (M : Mem) (Q : Outcome → Mem → Prop), Wp d 1 18 ls [.int v] M Q = Q (.returned (some (.int v))) M := fun d ls v M Q => w_ireturn (show ins 1 18 = some (.ireturn, 1) by decide +kernel) (by decide +kernel)
set_option maxRecDepth 100000 in
theorem r_1_19 : ∀ (d : Nat) (l0 l1 l2 l3 l4 l5 : Option Value) (v : Nat) (st : List Value) (M : Mem) (Q : Outcome → Mem → Prop), (lo l4 = false) → Wp d 1 19 [l0, l1, l2, l3, l4, l5] (.ref v :: st) M Q = Wp d 1 21 [l0, l1, l2, l3, l4, some (.ref v)] st M Q := fun d l0 l1 l2 l3 l4 l5 v st M Q hl => w_astore (show ins 1 19 = some (.astore 5, 2) by decide +kernel) (st1_S rfl rfl hl)
set_option maxRecDepth 100000 in
theorem r_1_19_1 : ∀ (d : Nat) (l0 l1 l2 l3 l4 l5 : Option Value) (st : List Value) (M : Mem) (Q : Outcome → Mem → Prop), (lo l4 = false) → Wp d 1 19 [l0, l1, l2, l3, l4, l5] (.null :: st) M Q = Wp d 1 21 [l0, l1, l2, l3, l4, some (.null)] st M Q := fun d l0 l1 l2 l3 l4 l5 st M Q hl => w_astoreN (show ins 1 19 = some (.astore 5, 2) by decide +kernel) (st1_S rfl rfl hl)
set_option maxRecDepth 100000 in
theorem r_1_21 : ∀ (d : Nat) (ls : Lc) (st : List Value) (M : Mem) (Q : Outcome → Mem → Prop), Wp d 1 21 ls st M Q = Wp d 1 22 ls (.int (I 2) :: st) M Q := fun d ls st M Q => w_iconst (show ins 1 21 = some (.iconst 2, 1) by decide +kernel)
set_option maxRecDepth 100000 in
theorem r_1_22 : ∀ (d : Nat) (ls : Lc) (v : Int32) (M : Mem) (Q : Outcome → Mem → Prop), Wp d 1 22 ls [.int v] M Q = Q (.returned (some (.int v))) M := fun d ls v M Q => w_ireturn (show ins 1 22 = some (.ireturn, 1) by decide +kernel) (by decide +kernel)
set_option maxRecDepth 100000 in
theorem r_1_23 : ∀ (d : Nat) (l0 l1 l2 l3 l4 l5 : Option Value) (v : Nat) (st : List Value) (M : Mem) (Q : Outcome → Mem → Prop), (lo l4 = false) → Wp d 1 23 [l0, l1, l2, l3, l4, l5] (.ref v :: st) M Q = Wp d 1 25 [l0, l1, l2, l3, l4, some (.ref v)] st M Q := fun d l0 l1 l2 l3 l4 l5 v st M Q hl => w_astore (show ins 1 23 = some (.astore 5, 2) by decide +kernel) (st1_S rfl rfl hl)
set_option maxRecDepth 100000 in
theorem r_1_23_1 : ∀ (d : Nat) (l0 l1 l2 l3 l4 l5 : Option Value) (st : List Value) (M : Mem) (Q : Outcome → Mem → Prop), (lo l4 = false) → Wp d 1 23 [l0, l1, l2, l3, l4, l5] (.null :: st) M Q = Wp d 1 25 [l0, l1, l2, l3, l4, some (.null)] st M Q := fun d l0 l1 l2 l3 l4 l5 st M Q hl => w_astoreN (show ins 1 23 = some (.astore 5, 2) by decide +kernel) (st1_S rfl rfl hl)
set_option maxRecDepth 100000 in
theorem r_1_25 : ∀ (d : Nat) (ls : Lc) (st : List Value) (M : Mem) (Q : Outcome → Mem → Prop), Wp d 1 25 ls st M Q = Wp d 1 26 ls (.int (I 3) :: st) M Q := fun d ls st M Q => w_iconst (show ins 1 25 = some (.iconst 3, 1) by decide +kernel)
set_option maxRecDepth 100000 in
theorem r_1_26 : ∀ (d : Nat) (ls : Lc) (v : Int32) (M : Mem) (Q : Outcome → Mem → Prop), Wp d 1 26 ls [.int v] M Q = Q (.returned (some (.int v))) M := fun d ls v M Q => w_ireturn (show ins 1 26 = some (.ireturn, 1) by decide +kernel) (by decide +kernel)
set_option maxRecDepth 100000 in
theorem r_1_27 : ∀ (d : Nat) (l0 l1 l2 l3 l4 l5 : Option Value) (v : Nat) (st : List Value) (M : Mem) (Q : Outcome → Mem → Prop), (lo l4 = false) → Wp d 1 27 [l0, l1, l2, l3, l4, l5] (.ref v :: st) M Q = Wp d 1 29 [l0, l1, l2, l3, l4, some (.ref v)] st M Q := fun d l0 l1 l2 l3 l4 l5 v st M Q hl => w_astore (show ins 1 27 = some (.astore 5, 2) by decide +kernel) (st1_S rfl rfl hl)
set_option maxRecDepth 100000 in
theorem r_1_27_1 : ∀ (d : Nat) (l0 l1 l2 l3 l4 l5 : Option Value) (st : List Value) (M : Mem) (Q : Outcome → Mem → Prop), (lo l4 = false) → Wp d 1 27 [l0, l1, l2, l3, l4, l5] (.null :: st) M Q = Wp d 1 29 [l0, l1, l2, l3, l4, some (.null)] st M Q := fun d l0 l1 l2 l3 l4 l5 st M Q hl => w_astoreN (show ins 1 27 = some (.astore 5, 2) by decide +kernel) (st1_S rfl rfl hl)
set_option maxRecDepth 100000 in
theorem r_1_29 : ∀ (d : Nat) (ls : Lc) (st : List Value) (M : Mem) (Q : Outcome → Mem → Prop), Wp d 1 29 ls st M Q = Wp d 1 30 ls (.int (I 4) :: st) M Q := fun d ls st M Q => w_iconst (show ins 1 29 = some (.iconst 4, 1) by decide +kernel)
set_option maxRecDepth 100000 in
theorem r_1_30 : ∀ (d : Nat) (ls : Lc) (v : Int32) (M : Mem) (Q : Outcome → Mem → Prop), Wp d 1 30 ls [.int v] M Q = Q (.returned (some (.int v))) M := fun d ls v M Q => w_ireturn (show ins 1 30 = some (.ireturn, 1) by decide +kernel) (by decide +kernel)
set_option maxRecDepth 100000 in
theorem r_1_31 : ∀ (d : Nat) (ls : Lc) (st : List Value) (M : Mem) (Q : Outcome → Mem → Prop), Wp d 1 31 ls st M Q = Wp d 1 32 ls (.int (I 0) :: st) M Q := fun d ls st M Q => w_iconst (show ins 1 31 = some (.iconst 0, 1) by decide +kernel)
set_option maxRecDepth 100000 in
theorem r_1_32 : ∀ (d : Nat) (ls : Lc) (v : Int32) (M : Mem) (Q : Outcome → Mem → Prop), Wp d 1 32 ls [.int v] M Q = Q (.returned (some (.int v))) M := fun d ls v M Q => w_ireturn (show ins 1 32 = some (.ireturn, 1) by decide +kernel) (by decide +kernel)
set_option maxRecDepth 100000 in
theorem W_1 : (type_of% r_1_0) ∧ (type_of% r_1_0_1) ∧ (type_of% r_1_2) ∧ (type_of% r_1_3) ∧ (type_of% r_1_3_1) ∧ (type_of% r_1_4) ∧ (type_of% r_1_5) ∧ (type_of% r_1_6) ∧ (type_of% r_1_7) ∧ (type_of% r_1_10) ∧ (type_of% r_1_11) ∧ (type_of% r_1_12) ∧ (type_of% r_1_15) ∧ (type_of% r_1_15_1) ∧ (type_of% r_1_17) ∧ (type_of% r_1_18) ∧ (type_of% r_1_19) ∧ (type_of% r_1_19_1) ∧ (type_of% r_1_21) ∧ (type_of% r_1_22) ∧ (type_of% r_1_23) ∧ (type_of% r_1_23_1) ∧ (type_of% r_1_25) ∧ (type_of% r_1_26) ∧ (type_of% r_1_27) ∧ (type_of% r_1_27_1) ∧ (type_of% r_1_29) ∧ (type_of% r_1_30) ∧ (type_of% r_1_31) ∧ (type_of% r_1_32) := ⟨r_1_0, r_1_0_1, r_1_2, r_1_3, r_1_3_1, r_1_4, r_1_5, r_1_6, r_1_7, r_1_10, r_1_11, r_1_12, r_1_15, r_1_15_1, r_1_17, r_1_18, r_1_19, r_1_19_1, r_1_21, r_1_22, r_1_23, r_1_23_1, r_1_25, r_1_26, r_1_27, r_1_27_1, r_1_29, r_1_30, r_1_31, r_1_32⟩
set_option maxRecDepth 100000 in
theorem ca_1 {d y pc : Nat} {ls : Lc} {o0 : Option Nat} {z1 : Int32} {z2 : Int32} {z3 : Int32} {o4 : Option Nat} {r : List Value} {M : Mem} {Q : Outcome → Mem → Prop} (hd : 0 < d) (hw : Wp (d - 1) 1 0 [some (va_rf o0), some (.int z1), some (.int z2), some (.int z3), some (va_rf o4), none] [] M (Cq d y pc ls r Q)) : Ca d y pc ls 1 [va_rf o0, .int z1, .int z2, .int z3, va_rf o4] r M Q := ca_of (mq_get (by decide)) (by cases o0 <;> cases o4 <;> rfl) hd hw
/-! 2 PackedTreeLaw.link(LPackedTree;III[J)I; loop heads [] -/
set_option maxRecDepth 100000 in
theorem r_2_0 : ∀ (d : Nat) (l0 l1 l2 l3 l5 : Option Value) (v : Nat) (st : List Value) (M : Mem) (Q : Outcome → Mem → Prop), Wp d 2 0 [l0, l1, l2, l3, some (.ref v), l5] st M Q = Wp d 2 2 [l0, l1, l2, l3, some (.ref v), l5] (.ref v :: st) M Q := fun d l0 l1 l2 l3 l5 v st M Q => wA (show ins 2 0 = some (.aload 4, 2) by decide +kernel) rfl
set_option maxRecDepth 100000 in
theorem r_2_0_1 : ∀ (d : Nat) (l0 l1 l2 l3 l5 : Option Value) (st : List Value) (M : Mem) (Q : Outcome → Mem → Prop), Wp d 2 0 [l0, l1, l2, l3, some .null, l5] st M Q = Wp d 2 2 [l0, l1, l2, l3, some .null, l5] (.null :: st) M Q := fun d l0 l1 l2 l3 l5 st M Q => wA (show ins 2 0 = some (.aload 4, 2) by decide +kernel) rfl
set_option maxRecDepth 100000 in
theorem r_2_2 : ∀ (d : Nat) (ls : Lc) (st : List Value) (M : Mem) (Q : Outcome → Mem → Prop), Wp d 2 2 ls st M Q = Wp d 2 3 ls (.int (I 0) :: st) M Q := fun d ls st M Q => w_iconst (show ins 2 2 = some (.iconst 0, 1) by decide +kernel)
set_option maxRecDepth 100000 in
theorem r_2_3 : ∀ (d : Nat) (l1 l2 l3 l4 l5 : Option Value) (v : Nat) (st : List Value) (M : Mem) (Q : Outcome → Mem → Prop), Wp d 2 3 [some (.ref v), l1, l2, l3, l4, l5] st M Q = Wp d 2 4 [some (.ref v), l1, l2, l3, l4, l5] (.ref v :: st) M Q := fun d l1 l2 l3 l4 l5 v st M Q => wA (show ins 2 3 = some (.aload_n 0, 1) by decide +kernel) rfl
set_option maxRecDepth 100000 in
theorem r_2_3_1 : ∀ (d : Nat) (l1 l2 l3 l4 l5 : Option Value) (st : List Value) (M : Mem) (Q : Outcome → Mem → Prop), Wp d 2 3 [some .null, l1, l2, l3, l4, l5] st M Q = Wp d 2 4 [some .null, l1, l2, l3, l4, l5] (.null :: st) M Q := fun d l1 l2 l3 l4 l5 st M Q => wA (show ins 2 3 = some (.aload_n 0, 1) by decide +kernel) rfl
set_option maxRecDepth 100000 in
theorem r_2_4 : ∀ (d : Nat) (l0 l2 l3 l4 l5 : Option Value) (v : Int32) (st : List Value) (M : Mem) (Q : Outcome → Mem → Prop), Wp d 2 4 [l0, some (.int v), l2, l3, l4, l5] st M Q = Wp d 2 5 [l0, some (.int v), l2, l3, l4, l5] (.int v :: st) M Q := fun d l0 l2 l3 l4 l5 v st M Q => wA (show ins 2 4 = some (.iload_n 1, 1) by decide +kernel) rfl
set_option maxRecDepth 100000 in
theorem r_2_5 : ∀ (d : Nat) (l0 l1 l3 l4 l5 : Option Value) (v : Int32) (st : List Value) (M : Mem) (Q : Outcome → Mem → Prop), Wp d 2 5 [l0, l1, some (.int v), l3, l4, l5] st M Q = Wp d 2 6 [l0, l1, some (.int v), l3, l4, l5] (.int v :: st) M Q := fun d l0 l1 l3 l4 l5 v st M Q => wA (show ins 2 5 = some (.iload_n 2, 1) by decide +kernel) rfl
set_option maxRecDepth 100000 in
theorem r_2_6 : ∀ (d : Nat) (l0 l1 l2 l4 l5 : Option Value) (v : Int32) (st : List Value) (M : Mem) (Q : Outcome → Mem → Prop), Wp d 2 6 [l0, l1, l2, some (.int v), l4, l5] st M Q = Wp d 2 7 [l0, l1, l2, some (.int v), l4, l5] (.int v :: st) M Q := fun d l0 l1 l2 l4 l5 v st M Q => wA (show ins 2 6 = some (.iload_n 3, 1) by decide +kernel) rfl
set_option maxRecDepth 100000 in
theorem r_2_7 : ∀ (d : Nat) (ls : Lc) (v0 v1 v2 : Value) (a : Nat) (st : List Value) (M : Mem) (Q : Outcome → Mem → Prop), (smallR st = true) → Wp d 2 7 ls (v2 :: v1 :: v0 :: .ref a :: st) M Q = (kO M a = 1 ∧ Ca d 2 7 ls 51 (.ref a :: [v0, v1, v2]) st M Q) := fun d ls v0 v1 v2 a st M Q h0 => w_virt1 (as := [v0, v1, v2]) (show ins 2 7 = some (.invokevirtual 21, 3) by decide +kernel) (show mRes (mC 2) 21 = some (3, 1, [(1, 51)]) by decide +kernel) (by decide +kernel) rfl (by decide +kernel) (by decide +kernel) h0
set_option maxRecDepth 100000 in
theorem r_2_10 : ∀ (d : Nat) (ls : Lc) (a : Int32) (st : List Value) (M : Mem) (Q : Outcome → Mem → Prop), Wp d 2 10 ls (.int a :: st) M Q = Wp d 2 11 ls (.long a.toInt64 :: st) M Q := fun d ls a st M Q => wA (show ins 2 10 = some (.i2l, 1) by decide +kernel) rfl
set_option maxRecDepth 100000 in
theorem r_2_11 : ∀ (d : Nat) (ls : Lc) (a : Nat) (j : Int32) (v : Int64) (st : List Value) (M : Mem) (Q : Outcome → Mem → Prop), Wp d 2 11 ls (.long v :: .int j :: .ref a :: st) M Q = (((kX M a).1 = 3 ∧ inB j (kX M a).2 = true) ∧ Wp d 2 12 ls st (sL M a j.toNatClampNeg v) Q) := fun d ls a j v st M Q => w_lastore (show ins 2 11 = some (.lastore, 1) by decide +kernel)
set_option maxRecDepth 100000 in
theorem r_2_12 : ∀ (d : Nat) (ls : Lc) (st : List Value) (M : Mem) (Q : Outcome → Mem → Prop), Wp d 2 12 ls st M Q = Wp d 2 31 ls st M Q := fun d ls st M Q => w_goto (show ins 2 12 = some (.goto 19, 3) by decide +kernel) rfl
set_option maxRecDepth 100000 in
theorem r_2_15 : ∀ (d : Nat) (l0 l1 l2 l3 l4 l5 : Option Value) (v : Nat) (st : List Value) (M : Mem) (Q : Outcome → Mem → Prop), (lo l4 = false) → Wp d 2 15 [l0, l1, l2, l3, l4, l5] (.ref v :: st) M Q = Wp d 2 17 [l0, l1, l2, l3, l4, some (.ref v)] st M Q := fun d l0 l1 l2 l3 l4 l5 v st M Q hl => w_astore (show ins 2 15 = some (.astore 5, 2) by decide +kernel) (st1_S rfl rfl hl)
set_option maxRecDepth 100000 in
theorem r_2_15_1 : ∀ (d : Nat) (l0 l1 l2 l3 l4 l5 : Option Value) (st : List Value) (M : Mem) (Q : Outcome → Mem → Prop), (lo l4 = false) → Wp d 2 15 [l0, l1, l2, l3, l4, l5] (.null :: st) M Q = Wp d 2 17 [l0, l1, l2, l3, l4, some (.null)] st M Q := fun d l0 l1 l2 l3 l4 l5 st M Q hl => w_astoreN (show ins 2 15 = some (.astore 5, 2) by decide +kernel) (st1_S rfl rfl hl)
set_option maxRecDepth 100000 in
theorem r_2_17 : ∀ (d : Nat) (ls : Lc) (st : List Value) (M : Mem) (Q : Outcome → Mem → Prop), Wp d 2 17 ls st M Q = Wp d 2 18 ls (.int (I 1) :: st) M Q := fun d ls st M Q => w_iconst (show ins 2 17 = some (.iconst 1, 1) by decide +kernel)
set_option maxRecDepth 100000 in
theorem r_2_18 : ∀ (d : Nat) (ls : Lc) (v : Int32) (M : Mem) (Q : Outcome → Mem → Prop), Wp d 2 18 ls [.int v] M Q = Q (.returned (some (.int v))) M := fun d ls v M Q => w_ireturn (show ins 2 18 = some (.ireturn, 1) by decide +kernel) (by decide +kernel)
set_option maxRecDepth 100000 in
theorem r_2_19 : ∀ (d : Nat) (l0 l1 l2 l3 l4 l5 : Option Value) (v : Nat) (st : List Value) (M : Mem) (Q : Outcome → Mem → Prop), (lo l4 = false) → Wp d 2 19 [l0, l1, l2, l3, l4, l5] (.ref v :: st) M Q = Wp d 2 21 [l0, l1, l2, l3, l4, some (.ref v)] st M Q := fun d l0 l1 l2 l3 l4 l5 v st M Q hl => w_astore (show ins 2 19 = some (.astore 5, 2) by decide +kernel) (st1_S rfl rfl hl)
set_option maxRecDepth 100000 in
theorem r_2_19_1 : ∀ (d : Nat) (l0 l1 l2 l3 l4 l5 : Option Value) (st : List Value) (M : Mem) (Q : Outcome → Mem → Prop), (lo l4 = false) → Wp d 2 19 [l0, l1, l2, l3, l4, l5] (.null :: st) M Q = Wp d 2 21 [l0, l1, l2, l3, l4, some (.null)] st M Q := fun d l0 l1 l2 l3 l4 l5 st M Q hl => w_astoreN (show ins 2 19 = some (.astore 5, 2) by decide +kernel) (st1_S rfl rfl hl)
set_option maxRecDepth 100000 in
theorem r_2_21 : ∀ (d : Nat) (ls : Lc) (st : List Value) (M : Mem) (Q : Outcome → Mem → Prop), Wp d 2 21 ls st M Q = Wp d 2 22 ls (.int (I 2) :: st) M Q := fun d ls st M Q => w_iconst (show ins 2 21 = some (.iconst 2, 1) by decide +kernel)
set_option maxRecDepth 100000 in
theorem r_2_22 : ∀ (d : Nat) (ls : Lc) (v : Int32) (M : Mem) (Q : Outcome → Mem → Prop), Wp d 2 22 ls [.int v] M Q = Q (.returned (some (.int v))) M := fun d ls v M Q => w_ireturn (show ins 2 22 = some (.ireturn, 1) by decide +kernel) (by decide +kernel)
set_option maxRecDepth 100000 in
theorem r_2_23 : ∀ (d : Nat) (l0 l1 l2 l3 l4 l5 : Option Value) (v : Nat) (st : List Value) (M : Mem) (Q : Outcome → Mem → Prop), (lo l4 = false) → Wp d 2 23 [l0, l1, l2, l3, l4, l5] (.ref v :: st) M Q = Wp d 2 25 [l0, l1, l2, l3, l4, some (.ref v)] st M Q := fun d l0 l1 l2 l3 l4 l5 v st M Q hl => w_astore (show ins 2 23 = some (.astore 5, 2) by decide +kernel) (st1_S rfl rfl hl)
set_option maxRecDepth 100000 in
theorem r_2_23_1 : ∀ (d : Nat) (l0 l1 l2 l3 l4 l5 : Option Value) (st : List Value) (M : Mem) (Q : Outcome → Mem → Prop), (lo l4 = false) → Wp d 2 23 [l0, l1, l2, l3, l4, l5] (.null :: st) M Q = Wp d 2 25 [l0, l1, l2, l3, l4, some (.null)] st M Q := fun d l0 l1 l2 l3 l4 l5 st M Q hl => w_astoreN (show ins 2 23 = some (.astore 5, 2) by decide +kernel) (st1_S rfl rfl hl)
set_option maxRecDepth 100000 in
theorem r_2_25 : ∀ (d : Nat) (ls : Lc) (st : List Value) (M : Mem) (Q : Outcome → Mem → Prop), Wp d 2 25 ls st M Q = Wp d 2 26 ls (.int (I 3) :: st) M Q := fun d ls st M Q => w_iconst (show ins 2 25 = some (.iconst 3, 1) by decide +kernel)
set_option maxRecDepth 100000 in
theorem r_2_26 : ∀ (d : Nat) (ls : Lc) (v : Int32) (M : Mem) (Q : Outcome → Mem → Prop), Wp d 2 26 ls [.int v] M Q = Q (.returned (some (.int v))) M := fun d ls v M Q => w_ireturn (show ins 2 26 = some (.ireturn, 1) by decide +kernel) (by decide +kernel)
set_option maxRecDepth 100000 in
theorem r_2_27 : ∀ (d : Nat) (l0 l1 l2 l3 l4 l5 : Option Value) (v : Nat) (st : List Value) (M : Mem) (Q : Outcome → Mem → Prop), (lo l4 = false) → Wp d 2 27 [l0, l1, l2, l3, l4, l5] (.ref v :: st) M Q = Wp d 2 29 [l0, l1, l2, l3, l4, some (.ref v)] st M Q := fun d l0 l1 l2 l3 l4 l5 v st M Q hl => w_astore (show ins 2 27 = some (.astore 5, 2) by decide +kernel) (st1_S rfl rfl hl)
set_option maxRecDepth 100000 in
theorem r_2_27_1 : ∀ (d : Nat) (l0 l1 l2 l3 l4 l5 : Option Value) (st : List Value) (M : Mem) (Q : Outcome → Mem → Prop), (lo l4 = false) → Wp d 2 27 [l0, l1, l2, l3, l4, l5] (.null :: st) M Q = Wp d 2 29 [l0, l1, l2, l3, l4, some (.null)] st M Q := fun d l0 l1 l2 l3 l4 l5 st M Q hl => w_astoreN (show ins 2 27 = some (.astore 5, 2) by decide +kernel) (st1_S rfl rfl hl)
set_option maxRecDepth 100000 in
theorem r_2_29 : ∀ (d : Nat) (ls : Lc) (st : List Value) (M : Mem) (Q : Outcome → Mem → Prop), Wp d 2 29 ls st M Q = Wp d 2 30 ls (.int (I 4) :: st) M Q := fun d ls st M Q => w_iconst (show ins 2 29 = some (.iconst 4, 1) by decide +kernel)
set_option maxRecDepth 100000 in
theorem r_2_30 : ∀ (d : Nat) (ls : Lc) (v : Int32) (M : Mem) (Q : Outcome → Mem → Prop), Wp d 2 30 ls [.int v] M Q = Q (.returned (some (.int v))) M := fun d ls v M Q => w_ireturn (show ins 2 30 = some (.ireturn, 1) by decide +kernel) (by decide +kernel)
set_option maxRecDepth 100000 in
theorem r_2_31 : ∀ (d : Nat) (ls : Lc) (st : List Value) (M : Mem) (Q : Outcome → Mem → Prop), Wp d 2 31 ls st M Q = Wp d 2 32 ls (.int (I 0) :: st) M Q := fun d ls st M Q => w_iconst (show ins 2 31 = some (.iconst 0, 1) by decide +kernel)
set_option maxRecDepth 100000 in
theorem r_2_32 : ∀ (d : Nat) (ls : Lc) (v : Int32) (M : Mem) (Q : Outcome → Mem → Prop), Wp d 2 32 ls [.int v] M Q = Q (.returned (some (.int v))) M := fun d ls v M Q => w_ireturn (show ins 2 32 = some (.ireturn, 1) by decide +kernel) (by decide +kernel)
set_option maxRecDepth 100000 in
theorem W_2 : (type_of% r_2_0) ∧ (type_of% r_2_0_1) ∧ (type_of% r_2_2) ∧ (type_of% r_2_3) ∧ (type_of% r_2_3_1) ∧ (type_of% r_2_4) ∧ (type_of% r_2_5) ∧ (type_of% r_2_6) ∧ (type_of% r_2_7) ∧ (type_of% r_2_10) ∧ (type_of% r_2_11) ∧ (type_of% r_2_12) ∧ (type_of% r_2_15) ∧ (type_of% r_2_15_1) ∧ (type_of% r_2_17) ∧ (type_of% r_2_18) ∧ (type_of% r_2_19) ∧ (type_of% r_2_19_1) ∧ (type_of% r_2_21) ∧ (type_of% r_2_22) ∧ (type_of% r_2_23) ∧ (type_of% r_2_23_1) ∧ (type_of% r_2_25) ∧ (type_of% r_2_26) ∧ (type_of% r_2_27) ∧ (type_of% r_2_27_1) ∧ (type_of% r_2_29) ∧ (type_of% r_2_30) ∧ (type_of% r_2_31) ∧ (type_of% r_2_32) := ⟨r_2_0, r_2_0_1, r_2_2, r_2_3, r_2_3_1, r_2_4, r_2_5, r_2_6, r_2_7, r_2_10, r_2_11, r_2_12, r_2_15, r_2_15_1, r_2_17, r_2_18, r_2_19, r_2_19_1, r_2_21, r_2_22, r_2_23, r_2_23_1, r_2_25, r_2_26, r_2_27, r_2_27_1, r_2_29, r_2_30, r_2_31, r_2_32⟩
set_option maxRecDepth 100000 in
theorem ca_2 {d y pc : Nat} {ls : Lc} {o0 : Option Nat} {z1 : Int32} {z2 : Int32} {z3 : Int32} {o4 : Option Nat} {r : List Value} {M : Mem} {Q : Outcome → Mem → Prop} (hd : 0 < d) (hw : Wp (d - 1) 2 0 [some (va_rf o0), some (.int z1), some (.int z2), some (.int z3), some (va_rf o4), none] [] M (Cq d y pc ls r Q)) : Ca d y pc ls 2 [va_rf o0, .int z1, .int z2, .int z3, va_rf o4] r M Q := ca_of (mq_get (by decide)) (by cases o0 <;> cases o4 <;> rfl) hd hw
/-! 3 PackedTreeLaw.unlink(LPackedTree;II[J)I; loop heads [] -/
set_option maxRecDepth 100000 in
theorem r_3_0 : ∀ (d : Nat) (l0 l1 l2 l4 : Option Value) (v : Nat) (st : List Value) (M : Mem) (Q : Outcome → Mem → Prop), Wp d 3 0 [l0, l1, l2, some (.ref v), l4] st M Q = Wp d 3 1 [l0, l1, l2, some (.ref v), l4] (.ref v :: st) M Q := fun d l0 l1 l2 l4 v st M Q => wA (show ins 3 0 = some (.aload_n 3, 1) by decide +kernel) rfl
set_option maxRecDepth 100000 in
theorem r_3_0_1 : ∀ (d : Nat) (l0 l1 l2 l4 : Option Value) (st : List Value) (M : Mem) (Q : Outcome → Mem → Prop), Wp d 3 0 [l0, l1, l2, some .null, l4] st M Q = Wp d 3 1 [l0, l1, l2, some .null, l4] (.null :: st) M Q := fun d l0 l1 l2 l4 st M Q => wA (show ins 3 0 = some (.aload_n 3, 1) by decide +kernel) rfl
set_option maxRecDepth 100000 in
theorem r_3_1 : ∀ (d : Nat) (ls : Lc) (st : List Value) (M : Mem) (Q : Outcome → Mem → Prop), Wp d 3 1 ls st M Q = Wp d 3 2 ls (.int (I 0) :: st) M Q := fun d ls st M Q => w_iconst (show ins 3 1 = some (.iconst 0, 1) by decide +kernel)
set_option maxRecDepth 100000 in
theorem r_3_2 : ∀ (d : Nat) (l1 l2 l3 l4 : Option Value) (v : Nat) (st : List Value) (M : Mem) (Q : Outcome → Mem → Prop), Wp d 3 2 [some (.ref v), l1, l2, l3, l4] st M Q = Wp d 3 3 [some (.ref v), l1, l2, l3, l4] (.ref v :: st) M Q := fun d l1 l2 l3 l4 v st M Q => wA (show ins 3 2 = some (.aload_n 0, 1) by decide +kernel) rfl
set_option maxRecDepth 100000 in
theorem r_3_2_1 : ∀ (d : Nat) (l1 l2 l3 l4 : Option Value) (st : List Value) (M : Mem) (Q : Outcome → Mem → Prop), Wp d 3 2 [some .null, l1, l2, l3, l4] st M Q = Wp d 3 3 [some .null, l1, l2, l3, l4] (.null :: st) M Q := fun d l1 l2 l3 l4 st M Q => wA (show ins 3 2 = some (.aload_n 0, 1) by decide +kernel) rfl
set_option maxRecDepth 100000 in
theorem r_3_3 : ∀ (d : Nat) (l0 l2 l3 l4 : Option Value) (v : Int32) (st : List Value) (M : Mem) (Q : Outcome → Mem → Prop), Wp d 3 3 [l0, some (.int v), l2, l3, l4] st M Q = Wp d 3 4 [l0, some (.int v), l2, l3, l4] (.int v :: st) M Q := fun d l0 l2 l3 l4 v st M Q => wA (show ins 3 3 = some (.iload_n 1, 1) by decide +kernel) rfl
set_option maxRecDepth 100000 in
theorem r_3_4 : ∀ (d : Nat) (l0 l1 l3 l4 : Option Value) (v : Int32) (st : List Value) (M : Mem) (Q : Outcome → Mem → Prop), Wp d 3 4 [l0, l1, some (.int v), l3, l4] st M Q = Wp d 3 5 [l0, l1, some (.int v), l3, l4] (.int v :: st) M Q := fun d l0 l1 l3 l4 v st M Q => wA (show ins 3 4 = some (.iload_n 2, 1) by decide +kernel) rfl
set_option maxRecDepth 100000 in
theorem r_3_5 : ∀ (d : Nat) (ls : Lc) (v0 v1 : Value) (a : Nat) (st : List Value) (M : Mem) (Q : Outcome → Mem → Prop), (smallR st = true) → Wp d 3 5 ls (v1 :: v0 :: .ref a :: st) M Q = (kO M a = 1 ∧ Ca d 3 5 ls 53 (.ref a :: [v0, v1]) st M Q) := fun d ls v0 v1 a st M Q h0 => w_virt1 (as := [v0, v1]) (show ins 3 5 = some (.invokevirtual 25, 3) by decide +kernel) (show mRes (mC 3) 25 = some (3, 1, [(1, 53)]) by decide +kernel) (by decide +kernel) rfl (by decide +kernel) (by decide +kernel) h0
set_option maxRecDepth 100000 in
theorem r_3_8 : ∀ (d : Nat) (ls : Lc) (a : Int32) (st : List Value) (M : Mem) (Q : Outcome → Mem → Prop), Wp d 3 8 ls (.int a :: st) M Q = Wp d 3 9 ls (.long a.toInt64 :: st) M Q := fun d ls a st M Q => wA (show ins 3 8 = some (.i2l, 1) by decide +kernel) rfl
set_option maxRecDepth 100000 in
theorem r_3_9 : ∀ (d : Nat) (ls : Lc) (a : Nat) (j : Int32) (v : Int64) (st : List Value) (M : Mem) (Q : Outcome → Mem → Prop), Wp d 3 9 ls (.long v :: .int j :: .ref a :: st) M Q = (((kX M a).1 = 3 ∧ inB j (kX M a).2 = true) ∧ Wp d 3 10 ls st (sL M a j.toNatClampNeg v) Q) := fun d ls a j v st M Q => w_lastore (show ins 3 9 = some (.lastore, 1) by decide +kernel)
set_option maxRecDepth 100000 in
theorem r_3_10 : ∀ (d : Nat) (ls : Lc) (st : List Value) (M : Mem) (Q : Outcome → Mem → Prop), Wp d 3 10 ls st M Q = Wp d 3 25 ls st M Q := fun d ls st M Q => w_goto (show ins 3 10 = some (.goto 15, 3) by decide +kernel) rfl
set_option maxRecDepth 100000 in
theorem r_3_13 : ∀ (d : Nat) (l0 l1 l2 l3 l4 : Option Value) (v : Nat) (st : List Value) (M : Mem) (Q : Outcome → Mem → Prop), (lo l3 = false) → Wp d 3 13 [l0, l1, l2, l3, l4] (.ref v :: st) M Q = Wp d 3 15 [l0, l1, l2, l3, some (.ref v)] st M Q := fun d l0 l1 l2 l3 l4 v st M Q hl => w_astore (show ins 3 13 = some (.astore 4, 2) by decide +kernel) (st1_S rfl rfl hl)
set_option maxRecDepth 100000 in
theorem r_3_13_1 : ∀ (d : Nat) (l0 l1 l2 l3 l4 : Option Value) (st : List Value) (M : Mem) (Q : Outcome → Mem → Prop), (lo l3 = false) → Wp d 3 13 [l0, l1, l2, l3, l4] (.null :: st) M Q = Wp d 3 15 [l0, l1, l2, l3, some (.null)] st M Q := fun d l0 l1 l2 l3 l4 st M Q hl => w_astoreN (show ins 3 13 = some (.astore 4, 2) by decide +kernel) (st1_S rfl rfl hl)
set_option maxRecDepth 100000 in
theorem r_3_15 : ∀ (d : Nat) (ls : Lc) (st : List Value) (M : Mem) (Q : Outcome → Mem → Prop), Wp d 3 15 ls st M Q = Wp d 3 16 ls (.int (I 1) :: st) M Q := fun d ls st M Q => w_iconst (show ins 3 15 = some (.iconst 1, 1) by decide +kernel)
set_option maxRecDepth 100000 in
theorem r_3_16 : ∀ (d : Nat) (ls : Lc) (v : Int32) (M : Mem) (Q : Outcome → Mem → Prop), Wp d 3 16 ls [.int v] M Q = Q (.returned (some (.int v))) M := fun d ls v M Q => w_ireturn (show ins 3 16 = some (.ireturn, 1) by decide +kernel) (by decide +kernel)
set_option maxRecDepth 100000 in
theorem r_3_17 : ∀ (d : Nat) (l0 l1 l2 l3 l4 : Option Value) (v : Nat) (st : List Value) (M : Mem) (Q : Outcome → Mem → Prop), (lo l3 = false) → Wp d 3 17 [l0, l1, l2, l3, l4] (.ref v :: st) M Q = Wp d 3 19 [l0, l1, l2, l3, some (.ref v)] st M Q := fun d l0 l1 l2 l3 l4 v st M Q hl => w_astore (show ins 3 17 = some (.astore 4, 2) by decide +kernel) (st1_S rfl rfl hl)
set_option maxRecDepth 100000 in
theorem r_3_17_1 : ∀ (d : Nat) (l0 l1 l2 l3 l4 : Option Value) (st : List Value) (M : Mem) (Q : Outcome → Mem → Prop), (lo l3 = false) → Wp d 3 17 [l0, l1, l2, l3, l4] (.null :: st) M Q = Wp d 3 19 [l0, l1, l2, l3, some (.null)] st M Q := fun d l0 l1 l2 l3 l4 st M Q hl => w_astoreN (show ins 3 17 = some (.astore 4, 2) by decide +kernel) (st1_S rfl rfl hl)
set_option maxRecDepth 100000 in
theorem r_3_19 : ∀ (d : Nat) (ls : Lc) (st : List Value) (M : Mem) (Q : Outcome → Mem → Prop), Wp d 3 19 ls st M Q = Wp d 3 20 ls (.int (I 2) :: st) M Q := fun d ls st M Q => w_iconst (show ins 3 19 = some (.iconst 2, 1) by decide +kernel)
set_option maxRecDepth 100000 in
theorem r_3_20 : ∀ (d : Nat) (ls : Lc) (v : Int32) (M : Mem) (Q : Outcome → Mem → Prop), Wp d 3 20 ls [.int v] M Q = Q (.returned (some (.int v))) M := fun d ls v M Q => w_ireturn (show ins 3 20 = some (.ireturn, 1) by decide +kernel) (by decide +kernel)
set_option maxRecDepth 100000 in
theorem r_3_21 : ∀ (d : Nat) (l0 l1 l2 l3 l4 : Option Value) (v : Nat) (st : List Value) (M : Mem) (Q : Outcome → Mem → Prop), (lo l3 = false) → Wp d 3 21 [l0, l1, l2, l3, l4] (.ref v :: st) M Q = Wp d 3 23 [l0, l1, l2, l3, some (.ref v)] st M Q := fun d l0 l1 l2 l3 l4 v st M Q hl => w_astore (show ins 3 21 = some (.astore 4, 2) by decide +kernel) (st1_S rfl rfl hl)
set_option maxRecDepth 100000 in
theorem r_3_21_1 : ∀ (d : Nat) (l0 l1 l2 l3 l4 : Option Value) (st : List Value) (M : Mem) (Q : Outcome → Mem → Prop), (lo l3 = false) → Wp d 3 21 [l0, l1, l2, l3, l4] (.null :: st) M Q = Wp d 3 23 [l0, l1, l2, l3, some (.null)] st M Q := fun d l0 l1 l2 l3 l4 st M Q hl => w_astoreN (show ins 3 21 = some (.astore 4, 2) by decide +kernel) (st1_S rfl rfl hl)
set_option maxRecDepth 100000 in
theorem r_3_23 : ∀ (d : Nat) (ls : Lc) (st : List Value) (M : Mem) (Q : Outcome → Mem → Prop), Wp d 3 23 ls st M Q = Wp d 3 24 ls (.int (I 3) :: st) M Q := fun d ls st M Q => w_iconst (show ins 3 23 = some (.iconst 3, 1) by decide +kernel)
set_option maxRecDepth 100000 in
theorem r_3_24 : ∀ (d : Nat) (ls : Lc) (v : Int32) (M : Mem) (Q : Outcome → Mem → Prop), Wp d 3 24 ls [.int v] M Q = Q (.returned (some (.int v))) M := fun d ls v M Q => w_ireturn (show ins 3 24 = some (.ireturn, 1) by decide +kernel) (by decide +kernel)
set_option maxRecDepth 100000 in
theorem r_3_25 : ∀ (d : Nat) (ls : Lc) (st : List Value) (M : Mem) (Q : Outcome → Mem → Prop), Wp d 3 25 ls st M Q = Wp d 3 26 ls (.int (I 0) :: st) M Q := fun d ls st M Q => w_iconst (show ins 3 25 = some (.iconst 0, 1) by decide +kernel)
set_option maxRecDepth 100000 in
theorem r_3_26 : ∀ (d : Nat) (ls : Lc) (v : Int32) (M : Mem) (Q : Outcome → Mem → Prop), Wp d 3 26 ls [.int v] M Q = Q (.returned (some (.int v))) M := fun d ls v M Q => w_ireturn (show ins 3 26 = some (.ireturn, 1) by decide +kernel) (by decide +kernel)
set_option maxRecDepth 100000 in
theorem W_3 : (type_of% r_3_0) ∧ (type_of% r_3_0_1) ∧ (type_of% r_3_1) ∧ (type_of% r_3_2) ∧ (type_of% r_3_2_1) ∧ (type_of% r_3_3) ∧ (type_of% r_3_4) ∧ (type_of% r_3_5) ∧ (type_of% r_3_8) ∧ (type_of% r_3_9) ∧ (type_of% r_3_10) ∧ (type_of% r_3_13) ∧ (type_of% r_3_13_1) ∧ (type_of% r_3_15) ∧ (type_of% r_3_16) ∧ (type_of% r_3_17) ∧ (type_of% r_3_17_1) ∧ (type_of% r_3_19) ∧ (type_of% r_3_20) ∧ (type_of% r_3_21) ∧ (type_of% r_3_21_1) ∧ (type_of% r_3_23) ∧ (type_of% r_3_24) ∧ (type_of% r_3_25) ∧ (type_of% r_3_26) := ⟨r_3_0, r_3_0_1, r_3_1, r_3_2, r_3_2_1, r_3_3, r_3_4, r_3_5, r_3_8, r_3_9, r_3_10, r_3_13, r_3_13_1, r_3_15, r_3_16, r_3_17, r_3_17_1, r_3_19, r_3_20, r_3_21, r_3_21_1, r_3_23, r_3_24, r_3_25, r_3_26⟩
set_option maxRecDepth 100000 in
theorem ca_3 {d y pc : Nat} {ls : Lc} {o0 : Option Nat} {z1 : Int32} {z2 : Int32} {o3 : Option Nat} {r : List Value} {M : Mem} {Q : Outcome → Mem → Prop} (hd : 0 < d) (hw : Wp (d - 1) 3 0 [some (va_rf o0), some (.int z1), some (.int z2), some (va_rf o3), none] [] M (Cq d y pc ls r Q)) : Ca d y pc ls 3 [va_rf o0, .int z1, .int z2, va_rf o3] r M Q := ca_of (mq_get (by decide)) (by cases o0 <;> cases o3 <;> rfl) hd hw
/-! 4 PackedTreeLaw.move(LPackedTree;IIII[J)I; loop heads [] -/
set_option maxRecDepth 100000 in
theorem r_4_0 : ∀ (d : Nat) (l0 l1 l2 l3 l4 l6 : Option Value) (v : Nat) (st : List Value) (M : Mem) (Q : Outcome → Mem → Prop), Wp d 4 0 [l0, l1, l2, l3, l4, some (.ref v), l6] st M Q = Wp d 4 2 [l0, l1, l2, l3, l4, some (.ref v), l6] (.ref v :: st) M Q := fun d l0 l1 l2 l3 l4 l6 v st M Q => wA (show ins 4 0 = some (.aload 5, 2) by decide +kernel) rfl
set_option maxRecDepth 100000 in
theorem r_4_0_1 : ∀ (d : Nat) (l0 l1 l2 l3 l4 l6 : Option Value) (st : List Value) (M : Mem) (Q : Outcome → Mem → Prop), Wp d 4 0 [l0, l1, l2, l3, l4, some .null, l6] st M Q = Wp d 4 2 [l0, l1, l2, l3, l4, some .null, l6] (.null :: st) M Q := fun d l0 l1 l2 l3 l4 l6 st M Q => wA (show ins 4 0 = some (.aload 5, 2) by decide +kernel) rfl
set_option maxRecDepth 100000 in
theorem r_4_2 : ∀ (d : Nat) (ls : Lc) (st : List Value) (M : Mem) (Q : Outcome → Mem → Prop), Wp d 4 2 ls st M Q = Wp d 4 3 ls (.int (I 0) :: st) M Q := fun d ls st M Q => w_iconst (show ins 4 2 = some (.iconst 0, 1) by decide +kernel)
set_option maxRecDepth 100000 in
theorem r_4_3 : ∀ (d : Nat) (l1 l2 l3 l4 l5 l6 : Option Value) (v : Nat) (st : List Value) (M : Mem) (Q : Outcome → Mem → Prop), Wp d 4 3 [some (.ref v), l1, l2, l3, l4, l5, l6] st M Q = Wp d 4 4 [some (.ref v), l1, l2, l3, l4, l5, l6] (.ref v :: st) M Q := fun d l1 l2 l3 l4 l5 l6 v st M Q => wA (show ins 4 3 = some (.aload_n 0, 1) by decide +kernel) rfl
set_option maxRecDepth 100000 in
theorem r_4_3_1 : ∀ (d : Nat) (l1 l2 l3 l4 l5 l6 : Option Value) (st : List Value) (M : Mem) (Q : Outcome → Mem → Prop), Wp d 4 3 [some .null, l1, l2, l3, l4, l5, l6] st M Q = Wp d 4 4 [some .null, l1, l2, l3, l4, l5, l6] (.null :: st) M Q := fun d l1 l2 l3 l4 l5 l6 st M Q => wA (show ins 4 3 = some (.aload_n 0, 1) by decide +kernel) rfl
set_option maxRecDepth 100000 in
theorem r_4_4 : ∀ (d : Nat) (l0 l2 l3 l4 l5 l6 : Option Value) (v : Int32) (st : List Value) (M : Mem) (Q : Outcome → Mem → Prop), Wp d 4 4 [l0, some (.int v), l2, l3, l4, l5, l6] st M Q = Wp d 4 5 [l0, some (.int v), l2, l3, l4, l5, l6] (.int v :: st) M Q := fun d l0 l2 l3 l4 l5 l6 v st M Q => wA (show ins 4 4 = some (.iload_n 1, 1) by decide +kernel) rfl
set_option maxRecDepth 100000 in
theorem r_4_5 : ∀ (d : Nat) (l0 l1 l3 l4 l5 l6 : Option Value) (v : Int32) (st : List Value) (M : Mem) (Q : Outcome → Mem → Prop), Wp d 4 5 [l0, l1, some (.int v), l3, l4, l5, l6] st M Q = Wp d 4 6 [l0, l1, some (.int v), l3, l4, l5, l6] (.int v :: st) M Q := fun d l0 l1 l3 l4 l5 l6 v st M Q => wA (show ins 4 5 = some (.iload_n 2, 1) by decide +kernel) rfl
set_option maxRecDepth 100000 in
theorem r_4_6 : ∀ (d : Nat) (l0 l1 l2 l4 l5 l6 : Option Value) (v : Int32) (st : List Value) (M : Mem) (Q : Outcome → Mem → Prop), Wp d 4 6 [l0, l1, l2, some (.int v), l4, l5, l6] st M Q = Wp d 4 7 [l0, l1, l2, some (.int v), l4, l5, l6] (.int v :: st) M Q := fun d l0 l1 l2 l4 l5 l6 v st M Q => wA (show ins 4 6 = some (.iload_n 3, 1) by decide +kernel) rfl
set_option maxRecDepth 100000 in
theorem r_4_7 : ∀ (d : Nat) (l0 l1 l2 l3 l5 l6 : Option Value) (v : Int32) (st : List Value) (M : Mem) (Q : Outcome → Mem → Prop), Wp d 4 7 [l0, l1, l2, l3, some (.int v), l5, l6] st M Q = Wp d 4 9 [l0, l1, l2, l3, some (.int v), l5, l6] (.int v :: st) M Q := fun d l0 l1 l2 l3 l5 l6 v st M Q => wA (show ins 4 7 = some (.iload 4, 2) by decide +kernel) rfl
set_option maxRecDepth 100000 in
theorem r_4_9 : ∀ (d : Nat) (ls : Lc) (v0 v1 v2 v3 : Value) (a : Nat) (st : List Value) (M : Mem) (Q : Outcome → Mem → Prop), (smallR st = true) → Wp d 4 9 ls (v3 :: v2 :: v1 :: v0 :: .ref a :: st) M Q = (kO M a = 1 ∧ Ca d 4 9 ls 58 (.ref a :: [v0, v1, v2, v3]) st M Q) := fun d ls v0 v1 v2 v3 a st M Q h0 => w_virt1 (as := [v0, v1, v2, v3]) (show ins 4 9 = some (.invokevirtual 29, 3) by decide +kernel) (show mRes (mC 4) 29 = some (3, 1, [(1, 58)]) by decide +kernel) (by decide +kernel) rfl (by decide +kernel) (by decide +kernel) h0
set_option maxRecDepth 100000 in
theorem r_4_12 : ∀ (d : Nat) (ls : Lc) (a : Int32) (st : List Value) (M : Mem) (Q : Outcome → Mem → Prop), Wp d 4 12 ls (.int a :: st) M Q = Wp d 4 13 ls (.long a.toInt64 :: st) M Q := fun d ls a st M Q => wA (show ins 4 12 = some (.i2l, 1) by decide +kernel) rfl
set_option maxRecDepth 100000 in
theorem r_4_13 : ∀ (d : Nat) (ls : Lc) (a : Nat) (j : Int32) (v : Int64) (st : List Value) (M : Mem) (Q : Outcome → Mem → Prop), Wp d 4 13 ls (.long v :: .int j :: .ref a :: st) M Q = (((kX M a).1 = 3 ∧ inB j (kX M a).2 = true) ∧ Wp d 4 14 ls st (sL M a j.toNatClampNeg v) Q) := fun d ls a j v st M Q => w_lastore (show ins 4 13 = some (.lastore, 1) by decide +kernel)
set_option maxRecDepth 100000 in
theorem r_4_14 : ∀ (d : Nat) (ls : Lc) (st : List Value) (M : Mem) (Q : Outcome → Mem → Prop), Wp d 4 14 ls st M Q = Wp d 4 33 ls st M Q := fun d ls st M Q => w_goto (show ins 4 14 = some (.goto 19, 3) by decide +kernel) rfl
set_option maxRecDepth 100000 in
theorem r_4_17 : ∀ (d : Nat) (l0 l1 l2 l3 l4 l5 l6 : Option Value) (v : Nat) (st : List Value) (M : Mem) (Q : Outcome → Mem → Prop), (lo l5 = false) → Wp d 4 17 [l0, l1, l2, l3, l4, l5, l6] (.ref v :: st) M Q = Wp d 4 19 [l0, l1, l2, l3, l4, l5, some (.ref v)] st M Q := fun d l0 l1 l2 l3 l4 l5 l6 v st M Q hl => w_astore (show ins 4 17 = some (.astore 6, 2) by decide +kernel) (st1_S rfl rfl hl)
set_option maxRecDepth 100000 in
theorem r_4_17_1 : ∀ (d : Nat) (l0 l1 l2 l3 l4 l5 l6 : Option Value) (st : List Value) (M : Mem) (Q : Outcome → Mem → Prop), (lo l5 = false) → Wp d 4 17 [l0, l1, l2, l3, l4, l5, l6] (.null :: st) M Q = Wp d 4 19 [l0, l1, l2, l3, l4, l5, some (.null)] st M Q := fun d l0 l1 l2 l3 l4 l5 l6 st M Q hl => w_astoreN (show ins 4 17 = some (.astore 6, 2) by decide +kernel) (st1_S rfl rfl hl)
set_option maxRecDepth 100000 in
theorem r_4_19 : ∀ (d : Nat) (ls : Lc) (st : List Value) (M : Mem) (Q : Outcome → Mem → Prop), Wp d 4 19 ls st M Q = Wp d 4 20 ls (.int (I 1) :: st) M Q := fun d ls st M Q => w_iconst (show ins 4 19 = some (.iconst 1, 1) by decide +kernel)
set_option maxRecDepth 100000 in
theorem r_4_20 : ∀ (d : Nat) (ls : Lc) (v : Int32) (M : Mem) (Q : Outcome → Mem → Prop), Wp d 4 20 ls [.int v] M Q = Q (.returned (some (.int v))) M := fun d ls v M Q => w_ireturn (show ins 4 20 = some (.ireturn, 1) by decide +kernel) (by decide +kernel)
set_option maxRecDepth 100000 in
theorem r_4_21 : ∀ (d : Nat) (l0 l1 l2 l3 l4 l5 l6 : Option Value) (v : Nat) (st : List Value) (M : Mem) (Q : Outcome → Mem → Prop), (lo l5 = false) → Wp d 4 21 [l0, l1, l2, l3, l4, l5, l6] (.ref v :: st) M Q = Wp d 4 23 [l0, l1, l2, l3, l4, l5, some (.ref v)] st M Q := fun d l0 l1 l2 l3 l4 l5 l6 v st M Q hl => w_astore (show ins 4 21 = some (.astore 6, 2) by decide +kernel) (st1_S rfl rfl hl)
set_option maxRecDepth 100000 in
theorem r_4_21_1 : ∀ (d : Nat) (l0 l1 l2 l3 l4 l5 l6 : Option Value) (st : List Value) (M : Mem) (Q : Outcome → Mem → Prop), (lo l5 = false) → Wp d 4 21 [l0, l1, l2, l3, l4, l5, l6] (.null :: st) M Q = Wp d 4 23 [l0, l1, l2, l3, l4, l5, some (.null)] st M Q := fun d l0 l1 l2 l3 l4 l5 l6 st M Q hl => w_astoreN (show ins 4 21 = some (.astore 6, 2) by decide +kernel) (st1_S rfl rfl hl)
set_option maxRecDepth 100000 in
theorem r_4_23 : ∀ (d : Nat) (ls : Lc) (st : List Value) (M : Mem) (Q : Outcome → Mem → Prop), Wp d 4 23 ls st M Q = Wp d 4 24 ls (.int (I 2) :: st) M Q := fun d ls st M Q => w_iconst (show ins 4 23 = some (.iconst 2, 1) by decide +kernel)
set_option maxRecDepth 100000 in
theorem r_4_24 : ∀ (d : Nat) (ls : Lc) (v : Int32) (M : Mem) (Q : Outcome → Mem → Prop), Wp d 4 24 ls [.int v] M Q = Q (.returned (some (.int v))) M := fun d ls v M Q => w_ireturn (show ins 4 24 = some (.ireturn, 1) by decide +kernel) (by decide +kernel)
set_option maxRecDepth 100000 in
theorem r_4_25 : ∀ (d : Nat) (l0 l1 l2 l3 l4 l5 l6 : Option Value) (v : Nat) (st : List Value) (M : Mem) (Q : Outcome → Mem → Prop), (lo l5 = false) → Wp d 4 25 [l0, l1, l2, l3, l4, l5, l6] (.ref v :: st) M Q = Wp d 4 27 [l0, l1, l2, l3, l4, l5, some (.ref v)] st M Q := fun d l0 l1 l2 l3 l4 l5 l6 v st M Q hl => w_astore (show ins 4 25 = some (.astore 6, 2) by decide +kernel) (st1_S rfl rfl hl)
set_option maxRecDepth 100000 in
theorem r_4_25_1 : ∀ (d : Nat) (l0 l1 l2 l3 l4 l5 l6 : Option Value) (st : List Value) (M : Mem) (Q : Outcome → Mem → Prop), (lo l5 = false) → Wp d 4 25 [l0, l1, l2, l3, l4, l5, l6] (.null :: st) M Q = Wp d 4 27 [l0, l1, l2, l3, l4, l5, some (.null)] st M Q := fun d l0 l1 l2 l3 l4 l5 l6 st M Q hl => w_astoreN (show ins 4 25 = some (.astore 6, 2) by decide +kernel) (st1_S rfl rfl hl)
set_option maxRecDepth 100000 in
theorem r_4_27 : ∀ (d : Nat) (ls : Lc) (st : List Value) (M : Mem) (Q : Outcome → Mem → Prop), Wp d 4 27 ls st M Q = Wp d 4 28 ls (.int (I 3) :: st) M Q := fun d ls st M Q => w_iconst (show ins 4 27 = some (.iconst 3, 1) by decide +kernel)
set_option maxRecDepth 100000 in
theorem r_4_28 : ∀ (d : Nat) (ls : Lc) (v : Int32) (M : Mem) (Q : Outcome → Mem → Prop), Wp d 4 28 ls [.int v] M Q = Q (.returned (some (.int v))) M := fun d ls v M Q => w_ireturn (show ins 4 28 = some (.ireturn, 1) by decide +kernel) (by decide +kernel)
set_option maxRecDepth 100000 in
theorem r_4_29 : ∀ (d : Nat) (l0 l1 l2 l3 l4 l5 l6 : Option Value) (v : Nat) (st : List Value) (M : Mem) (Q : Outcome → Mem → Prop), (lo l5 = false) → Wp d 4 29 [l0, l1, l2, l3, l4, l5, l6] (.ref v :: st) M Q = Wp d 4 31 [l0, l1, l2, l3, l4, l5, some (.ref v)] st M Q := fun d l0 l1 l2 l3 l4 l5 l6 v st M Q hl => w_astore (show ins 4 29 = some (.astore 6, 2) by decide +kernel) (st1_S rfl rfl hl)
set_option maxRecDepth 100000 in
theorem r_4_29_1 : ∀ (d : Nat) (l0 l1 l2 l3 l4 l5 l6 : Option Value) (st : List Value) (M : Mem) (Q : Outcome → Mem → Prop), (lo l5 = false) → Wp d 4 29 [l0, l1, l2, l3, l4, l5, l6] (.null :: st) M Q = Wp d 4 31 [l0, l1, l2, l3, l4, l5, some (.null)] st M Q := fun d l0 l1 l2 l3 l4 l5 l6 st M Q hl => w_astoreN (show ins 4 29 = some (.astore 6, 2) by decide +kernel) (st1_S rfl rfl hl)
set_option maxRecDepth 100000 in
theorem r_4_31 : ∀ (d : Nat) (ls : Lc) (st : List Value) (M : Mem) (Q : Outcome → Mem → Prop), Wp d 4 31 ls st M Q = Wp d 4 32 ls (.int (I 4) :: st) M Q := fun d ls st M Q => w_iconst (show ins 4 31 = some (.iconst 4, 1) by decide +kernel)
set_option maxRecDepth 100000 in
theorem r_4_32 : ∀ (d : Nat) (ls : Lc) (v : Int32) (M : Mem) (Q : Outcome → Mem → Prop), Wp d 4 32 ls [.int v] M Q = Q (.returned (some (.int v))) M := fun d ls v M Q => w_ireturn (show ins 4 32 = some (.ireturn, 1) by decide +kernel) (by decide +kernel)
set_option maxRecDepth 100000 in
theorem r_4_33 : ∀ (d : Nat) (ls : Lc) (st : List Value) (M : Mem) (Q : Outcome → Mem → Prop), Wp d 4 33 ls st M Q = Wp d 4 34 ls (.int (I 0) :: st) M Q := fun d ls st M Q => w_iconst (show ins 4 33 = some (.iconst 0, 1) by decide +kernel)
set_option maxRecDepth 100000 in
theorem r_4_34 : ∀ (d : Nat) (ls : Lc) (v : Int32) (M : Mem) (Q : Outcome → Mem → Prop), Wp d 4 34 ls [.int v] M Q = Q (.returned (some (.int v))) M := fun d ls v M Q => w_ireturn (show ins 4 34 = some (.ireturn, 1) by decide +kernel) (by decide +kernel)
set_option maxRecDepth 100000 in
theorem W_4 : (type_of% r_4_0) ∧ (type_of% r_4_0_1) ∧ (type_of% r_4_2) ∧ (type_of% r_4_3) ∧ (type_of% r_4_3_1) ∧ (type_of% r_4_4) ∧ (type_of% r_4_5) ∧ (type_of% r_4_6) ∧ (type_of% r_4_7) ∧ (type_of% r_4_9) ∧ (type_of% r_4_12) ∧ (type_of% r_4_13) ∧ (type_of% r_4_14) ∧ (type_of% r_4_17) ∧ (type_of% r_4_17_1) ∧ (type_of% r_4_19) ∧ (type_of% r_4_20) ∧ (type_of% r_4_21) ∧ (type_of% r_4_21_1) ∧ (type_of% r_4_23) ∧ (type_of% r_4_24) ∧ (type_of% r_4_25) ∧ (type_of% r_4_25_1) ∧ (type_of% r_4_27) ∧ (type_of% r_4_28) ∧ (type_of% r_4_29) ∧ (type_of% r_4_29_1) ∧ (type_of% r_4_31) ∧ (type_of% r_4_32) ∧ (type_of% r_4_33) ∧ (type_of% r_4_34) := ⟨r_4_0, r_4_0_1, r_4_2, r_4_3, r_4_3_1, r_4_4, r_4_5, r_4_6, r_4_7, r_4_9, r_4_12, r_4_13, r_4_14, r_4_17, r_4_17_1, r_4_19, r_4_20, r_4_21, r_4_21_1, r_4_23, r_4_24, r_4_25, r_4_25_1, r_4_27, r_4_28, r_4_29, r_4_29_1, r_4_31, r_4_32, r_4_33, r_4_34⟩
set_option maxRecDepth 100000 in
theorem ca_4 {d y pc : Nat} {ls : Lc} {o0 : Option Nat} {z1 : Int32} {z2 : Int32} {z3 : Int32} {z4 : Int32} {o5 : Option Nat} {r : List Value} {M : Mem} {Q : Outcome → Mem → Prop} (hd : 0 < d) (hw : Wp (d - 1) 4 0 [some (va_rf o0), some (.int z1), some (.int z2), some (.int z3), some (.int z4), some (va_rf o5), none] [] M (Cq d y pc ls r Q)) : Ca d y pc ls 4 [va_rf o0, .int z1, .int z2, .int z3, .int z4, va_rf o5] r M Q := ca_of (mq_get (by decide)) (by cases o0 <;> cases o5 <;> rfl) hd hw
/-! 5 PackedTreeLaw.write(LPackedTree;IIJI[J)I; loop heads [] -/
set_option maxRecDepth 100000 in
theorem r_5_0 : ∀ (d : Nat) (l0 l1 l2 l3 l4 l5 l7 : Option Value) (v : Nat) (st : List Value) (M : Mem) (Q : Outcome → Mem → Prop), Wp d 5 0 [l0, l1, l2, l3, l4, l5, some (.ref v), l7] st M Q = Wp d 5 2 [l0, l1, l2, l3, l4, l5, some (.ref v), l7] (.ref v :: st) M Q := fun d l0 l1 l2 l3 l4 l5 l7 v st M Q => wA (show ins 5 0 = some (.aload 6, 2) by decide +kernel) rfl
set_option maxRecDepth 100000 in
theorem r_5_0_1 : ∀ (d : Nat) (l0 l1 l2 l3 l4 l5 l7 : Option Value) (st : List Value) (M : Mem) (Q : Outcome → Mem → Prop), Wp d 5 0 [l0, l1, l2, l3, l4, l5, some .null, l7] st M Q = Wp d 5 2 [l0, l1, l2, l3, l4, l5, some .null, l7] (.null :: st) M Q := fun d l0 l1 l2 l3 l4 l5 l7 st M Q => wA (show ins 5 0 = some (.aload 6, 2) by decide +kernel) rfl
set_option maxRecDepth 100000 in
theorem r_5_2 : ∀ (d : Nat) (ls : Lc) (st : List Value) (M : Mem) (Q : Outcome → Mem → Prop), Wp d 5 2 ls st M Q = Wp d 5 3 ls (.int (I 0) :: st) M Q := fun d ls st M Q => w_iconst (show ins 5 2 = some (.iconst 0, 1) by decide +kernel)
set_option maxRecDepth 100000 in
theorem r_5_3 : ∀ (d : Nat) (l1 l2 l3 l4 l5 l6 l7 : Option Value) (v : Nat) (st : List Value) (M : Mem) (Q : Outcome → Mem → Prop), Wp d 5 3 [some (.ref v), l1, l2, l3, l4, l5, l6, l7] st M Q = Wp d 5 4 [some (.ref v), l1, l2, l3, l4, l5, l6, l7] (.ref v :: st) M Q := fun d l1 l2 l3 l4 l5 l6 l7 v st M Q => wA (show ins 5 3 = some (.aload_n 0, 1) by decide +kernel) rfl
set_option maxRecDepth 100000 in
theorem r_5_3_1 : ∀ (d : Nat) (l1 l2 l3 l4 l5 l6 l7 : Option Value) (st : List Value) (M : Mem) (Q : Outcome → Mem → Prop), Wp d 5 3 [some .null, l1, l2, l3, l4, l5, l6, l7] st M Q = Wp d 5 4 [some .null, l1, l2, l3, l4, l5, l6, l7] (.null :: st) M Q := fun d l1 l2 l3 l4 l5 l6 l7 st M Q => wA (show ins 5 3 = some (.aload_n 0, 1) by decide +kernel) rfl
set_option maxRecDepth 100000 in
theorem r_5_4 : ∀ (d : Nat) (l0 l2 l3 l4 l5 l6 l7 : Option Value) (v : Int32) (st : List Value) (M : Mem) (Q : Outcome → Mem → Prop), Wp d 5 4 [l0, some (.int v), l2, l3, l4, l5, l6, l7] st M Q = Wp d 5 5 [l0, some (.int v), l2, l3, l4, l5, l6, l7] (.int v :: st) M Q := fun d l0 l2 l3 l4 l5 l6 l7 v st M Q => wA (show ins 5 4 = some (.iload_n 1, 1) by decide +kernel) rfl
set_option maxRecDepth 100000 in
theorem r_5_5 : ∀ (d : Nat) (l0 l1 l3 l4 l5 l6 l7 : Option Value) (v : Int32) (st : List Value) (M : Mem) (Q : Outcome → Mem → Prop), Wp d 5 5 [l0, l1, some (.int v), l3, l4, l5, l6, l7] st M Q = Wp d 5 6 [l0, l1, some (.int v), l3, l4, l5, l6, l7] (.int v :: st) M Q := fun d l0 l1 l3 l4 l5 l6 l7 v st M Q => wA (show ins 5 5 = some (.iload_n 2, 1) by decide +kernel) rfl
set_option maxRecDepth 100000 in
theorem r_5_6 : ∀ (d : Nat) (l0 l1 l2 l4 l5 l6 l7 : Option Value) (v : Int64) (st : List Value) (M : Mem) (Q : Outcome → Mem → Prop), Wp d 5 6 [l0, l1, l2, some (.long v), l4, l5, l6, l7] st M Q = Wp d 5 7 [l0, l1, l2, some (.long v), l4, l5, l6, l7] (.long v :: st) M Q := fun d l0 l1 l2 l4 l5 l6 l7 v st M Q => wA (show ins 5 6 = some (.lload_n 3, 1) by decide +kernel) rfl
set_option maxRecDepth 100000 in
theorem r_5_7 : ∀ (d : Nat) (l0 l1 l2 l3 l4 l6 l7 : Option Value) (v : Int32) (st : List Value) (M : Mem) (Q : Outcome → Mem → Prop), Wp d 5 7 [l0, l1, l2, l3, l4, some (.int v), l6, l7] st M Q = Wp d 5 9 [l0, l1, l2, l3, l4, some (.int v), l6, l7] (.int v :: st) M Q := fun d l0 l1 l2 l3 l4 l6 l7 v st M Q => wA (show ins 5 7 = some (.iload 5, 2) by decide +kernel) rfl
set_option maxRecDepth 100000 in
theorem r_5_9 : ∀ (d : Nat) (ls : Lc) (v0 v1 v2 v3 : Value) (a : Nat) (st : List Value) (M : Mem) (Q : Outcome → Mem → Prop), (smallR st = true) → Wp d 5 9 ls (v3 :: v2 :: v1 :: v0 :: .ref a :: st) M Q = (kO M a = 1 ∧ Ca d 5 9 ls 63 (.ref a :: [v0, v1, v2, v3]) st M Q) := fun d ls v0 v1 v2 v3 a st M Q h0 => w_virt1 (as := [v0, v1, v2, v3]) (show ins 5 9 = some (.invokevirtual 33, 3) by decide +kernel) (show mRes (mC 5) 33 = some (3, 1, [(1, 63)]) by decide +kernel) (by decide +kernel) rfl (by decide +kernel) (by decide +kernel) h0
set_option maxRecDepth 100000 in
theorem r_5_12 : ∀ (d : Nat) (ls : Lc) (a : Int32) (st : List Value) (M : Mem) (Q : Outcome → Mem → Prop), Wp d 5 12 ls (.int a :: st) M Q = Wp d 5 13 ls (.long a.toInt64 :: st) M Q := fun d ls a st M Q => wA (show ins 5 12 = some (.i2l, 1) by decide +kernel) rfl
set_option maxRecDepth 100000 in
theorem r_5_13 : ∀ (d : Nat) (ls : Lc) (a : Nat) (j : Int32) (v : Int64) (st : List Value) (M : Mem) (Q : Outcome → Mem → Prop), Wp d 5 13 ls (.long v :: .int j :: .ref a :: st) M Q = (((kX M a).1 = 3 ∧ inB j (kX M a).2 = true) ∧ Wp d 5 14 ls st (sL M a j.toNatClampNeg v) Q) := fun d ls a j v st M Q => w_lastore (show ins 5 13 = some (.lastore, 1) by decide +kernel)
set_option maxRecDepth 100000 in
theorem r_5_14 : ∀ (d : Nat) (ls : Lc) (st : List Value) (M : Mem) (Q : Outcome → Mem → Prop), Wp d 5 14 ls st M Q = Wp d 5 33 ls st M Q := fun d ls st M Q => w_goto (show ins 5 14 = some (.goto 19, 3) by decide +kernel) rfl
set_option maxRecDepth 100000 in
theorem r_5_17 : ∀ (d : Nat) (l0 l1 l2 l3 l4 l5 l6 l7 : Option Value) (v : Nat) (st : List Value) (M : Mem) (Q : Outcome → Mem → Prop), (lo l6 = false) → Wp d 5 17 [l0, l1, l2, l3, l4, l5, l6, l7] (.ref v :: st) M Q = Wp d 5 19 [l0, l1, l2, l3, l4, l5, l6, some (.ref v)] st M Q := fun d l0 l1 l2 l3 l4 l5 l6 l7 v st M Q hl => w_astore (show ins 5 17 = some (.astore 7, 2) by decide +kernel) (st1_S rfl rfl hl)
set_option maxRecDepth 100000 in
theorem r_5_17_1 : ∀ (d : Nat) (l0 l1 l2 l3 l4 l5 l6 l7 : Option Value) (st : List Value) (M : Mem) (Q : Outcome → Mem → Prop), (lo l6 = false) → Wp d 5 17 [l0, l1, l2, l3, l4, l5, l6, l7] (.null :: st) M Q = Wp d 5 19 [l0, l1, l2, l3, l4, l5, l6, some (.null)] st M Q := fun d l0 l1 l2 l3 l4 l5 l6 l7 st M Q hl => w_astoreN (show ins 5 17 = some (.astore 7, 2) by decide +kernel) (st1_S rfl rfl hl)
set_option maxRecDepth 100000 in
theorem r_5_19 : ∀ (d : Nat) (ls : Lc) (st : List Value) (M : Mem) (Q : Outcome → Mem → Prop), Wp d 5 19 ls st M Q = Wp d 5 20 ls (.int (I 1) :: st) M Q := fun d ls st M Q => w_iconst (show ins 5 19 = some (.iconst 1, 1) by decide +kernel)
set_option maxRecDepth 100000 in
theorem r_5_20 : ∀ (d : Nat) (ls : Lc) (v : Int32) (M : Mem) (Q : Outcome → Mem → Prop), Wp d 5 20 ls [.int v] M Q = Q (.returned (some (.int v))) M := fun d ls v M Q => w_ireturn (show ins 5 20 = some (.ireturn, 1) by decide +kernel) (by decide +kernel)
set_option maxRecDepth 100000 in
theorem r_5_21 : ∀ (d : Nat) (l0 l1 l2 l3 l4 l5 l6 l7 : Option Value) (v : Nat) (st : List Value) (M : Mem) (Q : Outcome → Mem → Prop), (lo l6 = false) → Wp d 5 21 [l0, l1, l2, l3, l4, l5, l6, l7] (.ref v :: st) M Q = Wp d 5 23 [l0, l1, l2, l3, l4, l5, l6, some (.ref v)] st M Q := fun d l0 l1 l2 l3 l4 l5 l6 l7 v st M Q hl => w_astore (show ins 5 21 = some (.astore 7, 2) by decide +kernel) (st1_S rfl rfl hl)
set_option maxRecDepth 100000 in
theorem r_5_21_1 : ∀ (d : Nat) (l0 l1 l2 l3 l4 l5 l6 l7 : Option Value) (st : List Value) (M : Mem) (Q : Outcome → Mem → Prop), (lo l6 = false) → Wp d 5 21 [l0, l1, l2, l3, l4, l5, l6, l7] (.null :: st) M Q = Wp d 5 23 [l0, l1, l2, l3, l4, l5, l6, some (.null)] st M Q := fun d l0 l1 l2 l3 l4 l5 l6 l7 st M Q hl => w_astoreN (show ins 5 21 = some (.astore 7, 2) by decide +kernel) (st1_S rfl rfl hl)
set_option maxRecDepth 100000 in
theorem r_5_23 : ∀ (d : Nat) (ls : Lc) (st : List Value) (M : Mem) (Q : Outcome → Mem → Prop), Wp d 5 23 ls st M Q = Wp d 5 24 ls (.int (I 2) :: st) M Q := fun d ls st M Q => w_iconst (show ins 5 23 = some (.iconst 2, 1) by decide +kernel)
set_option maxRecDepth 100000 in
theorem r_5_24 : ∀ (d : Nat) (ls : Lc) (v : Int32) (M : Mem) (Q : Outcome → Mem → Prop), Wp d 5 24 ls [.int v] M Q = Q (.returned (some (.int v))) M := fun d ls v M Q => w_ireturn (show ins 5 24 = some (.ireturn, 1) by decide +kernel) (by decide +kernel)
set_option maxRecDepth 100000 in
theorem r_5_25 : ∀ (d : Nat) (l0 l1 l2 l3 l4 l5 l6 l7 : Option Value) (v : Nat) (st : List Value) (M : Mem) (Q : Outcome → Mem → Prop), (lo l6 = false) → Wp d 5 25 [l0, l1, l2, l3, l4, l5, l6, l7] (.ref v :: st) M Q = Wp d 5 27 [l0, l1, l2, l3, l4, l5, l6, some (.ref v)] st M Q := fun d l0 l1 l2 l3 l4 l5 l6 l7 v st M Q hl => w_astore (show ins 5 25 = some (.astore 7, 2) by decide +kernel) (st1_S rfl rfl hl)
set_option maxRecDepth 100000 in
theorem r_5_25_1 : ∀ (d : Nat) (l0 l1 l2 l3 l4 l5 l6 l7 : Option Value) (st : List Value) (M : Mem) (Q : Outcome → Mem → Prop), (lo l6 = false) → Wp d 5 25 [l0, l1, l2, l3, l4, l5, l6, l7] (.null :: st) M Q = Wp d 5 27 [l0, l1, l2, l3, l4, l5, l6, some (.null)] st M Q := fun d l0 l1 l2 l3 l4 l5 l6 l7 st M Q hl => w_astoreN (show ins 5 25 = some (.astore 7, 2) by decide +kernel) (st1_S rfl rfl hl)
set_option maxRecDepth 100000 in
theorem r_5_27 : ∀ (d : Nat) (ls : Lc) (st : List Value) (M : Mem) (Q : Outcome → Mem → Prop), Wp d 5 27 ls st M Q = Wp d 5 28 ls (.int (I 3) :: st) M Q := fun d ls st M Q => w_iconst (show ins 5 27 = some (.iconst 3, 1) by decide +kernel)
set_option maxRecDepth 100000 in
theorem r_5_28 : ∀ (d : Nat) (ls : Lc) (v : Int32) (M : Mem) (Q : Outcome → Mem → Prop), Wp d 5 28 ls [.int v] M Q = Q (.returned (some (.int v))) M := fun d ls v M Q => w_ireturn (show ins 5 28 = some (.ireturn, 1) by decide +kernel) (by decide +kernel)
set_option maxRecDepth 100000 in
theorem r_5_29 : ∀ (d : Nat) (l0 l1 l2 l3 l4 l5 l6 l7 : Option Value) (v : Nat) (st : List Value) (M : Mem) (Q : Outcome → Mem → Prop), (lo l6 = false) → Wp d 5 29 [l0, l1, l2, l3, l4, l5, l6, l7] (.ref v :: st) M Q = Wp d 5 31 [l0, l1, l2, l3, l4, l5, l6, some (.ref v)] st M Q := fun d l0 l1 l2 l3 l4 l5 l6 l7 v st M Q hl => w_astore (show ins 5 29 = some (.astore 7, 2) by decide +kernel) (st1_S rfl rfl hl)
set_option maxRecDepth 100000 in
theorem r_5_29_1 : ∀ (d : Nat) (l0 l1 l2 l3 l4 l5 l6 l7 : Option Value) (st : List Value) (M : Mem) (Q : Outcome → Mem → Prop), (lo l6 = false) → Wp d 5 29 [l0, l1, l2, l3, l4, l5, l6, l7] (.null :: st) M Q = Wp d 5 31 [l0, l1, l2, l3, l4, l5, l6, some (.null)] st M Q := fun d l0 l1 l2 l3 l4 l5 l6 l7 st M Q hl => w_astoreN (show ins 5 29 = some (.astore 7, 2) by decide +kernel) (st1_S rfl rfl hl)
set_option maxRecDepth 100000 in
theorem r_5_31 : ∀ (d : Nat) (ls : Lc) (st : List Value) (M : Mem) (Q : Outcome → Mem → Prop), Wp d 5 31 ls st M Q = Wp d 5 32 ls (.int (I 4) :: st) M Q := fun d ls st M Q => w_iconst (show ins 5 31 = some (.iconst 4, 1) by decide +kernel)
set_option maxRecDepth 100000 in
theorem r_5_32 : ∀ (d : Nat) (ls : Lc) (v : Int32) (M : Mem) (Q : Outcome → Mem → Prop), Wp d 5 32 ls [.int v] M Q = Q (.returned (some (.int v))) M := fun d ls v M Q => w_ireturn (show ins 5 32 = some (.ireturn, 1) by decide +kernel) (by decide +kernel)
set_option maxRecDepth 100000 in
theorem r_5_33 : ∀ (d : Nat) (ls : Lc) (st : List Value) (M : Mem) (Q : Outcome → Mem → Prop), Wp d 5 33 ls st M Q = Wp d 5 34 ls (.int (I 0) :: st) M Q := fun d ls st M Q => w_iconst (show ins 5 33 = some (.iconst 0, 1) by decide +kernel)
set_option maxRecDepth 100000 in
theorem r_5_34 : ∀ (d : Nat) (ls : Lc) (v : Int32) (M : Mem) (Q : Outcome → Mem → Prop), Wp d 5 34 ls [.int v] M Q = Q (.returned (some (.int v))) M := fun d ls v M Q => w_ireturn (show ins 5 34 = some (.ireturn, 1) by decide +kernel) (by decide +kernel)
set_option maxRecDepth 100000 in
theorem W_5 : (type_of% r_5_0) ∧ (type_of% r_5_0_1) ∧ (type_of% r_5_2) ∧ (type_of% r_5_3) ∧ (type_of% r_5_3_1) ∧ (type_of% r_5_4) ∧ (type_of% r_5_5) ∧ (type_of% r_5_6) ∧ (type_of% r_5_7) ∧ (type_of% r_5_9) ∧ (type_of% r_5_12) ∧ (type_of% r_5_13) ∧ (type_of% r_5_14) ∧ (type_of% r_5_17) ∧ (type_of% r_5_17_1) ∧ (type_of% r_5_19) ∧ (type_of% r_5_20) ∧ (type_of% r_5_21) ∧ (type_of% r_5_21_1) ∧ (type_of% r_5_23) ∧ (type_of% r_5_24) ∧ (type_of% r_5_25) ∧ (type_of% r_5_25_1) ∧ (type_of% r_5_27) ∧ (type_of% r_5_28) ∧ (type_of% r_5_29) ∧ (type_of% r_5_29_1) ∧ (type_of% r_5_31) ∧ (type_of% r_5_32) ∧ (type_of% r_5_33) ∧ (type_of% r_5_34) := ⟨r_5_0, r_5_0_1, r_5_2, r_5_3, r_5_3_1, r_5_4, r_5_5, r_5_6, r_5_7, r_5_9, r_5_12, r_5_13, r_5_14, r_5_17, r_5_17_1, r_5_19, r_5_20, r_5_21, r_5_21_1, r_5_23, r_5_24, r_5_25, r_5_25_1, r_5_27, r_5_28, r_5_29, r_5_29_1, r_5_31, r_5_32, r_5_33, r_5_34⟩
set_option maxRecDepth 100000 in
theorem ca_5 {d y pc : Nat} {ls : Lc} {o0 : Option Nat} {z1 : Int32} {z2 : Int32} {z3 : Int64} {z4 : Int32} {o5 : Option Nat} {r : List Value} {M : Mem} {Q : Outcome → Mem → Prop} (hd : 0 < d) (hw : Wp (d - 1) 5 0 [some (va_rf o0), some (.int z1), some (.int z2), some (.long z3), none, some (.int z4), some (va_rf o5), none] [] M (Cq d y pc ls r Q)) : Ca d y pc ls 5 [va_rf o0, .int z1, .int z2, .long z3, .int z4, va_rf o5] r M Q := ca_of (mq_get (by decide)) (by cases o0 <;> cases o5 <;> rfl) hd hw
/-! 6 PackedTreeLaw.fill(LPackedTree;IIII[J)I; loop heads [] -/
set_option maxRecDepth 100000 in
theorem r_6_0 : ∀ (d : Nat) (l0 l1 l2 l3 l4 l6 : Option Value) (v : Nat) (st : List Value) (M : Mem) (Q : Outcome → Mem → Prop), Wp d 6 0 [l0, l1, l2, l3, l4, some (.ref v), l6] st M Q = Wp d 6 2 [l0, l1, l2, l3, l4, some (.ref v), l6] (.ref v :: st) M Q := fun d l0 l1 l2 l3 l4 l6 v st M Q => wA (show ins 6 0 = some (.aload 5, 2) by decide +kernel) rfl
set_option maxRecDepth 100000 in
theorem r_6_0_1 : ∀ (d : Nat) (l0 l1 l2 l3 l4 l6 : Option Value) (st : List Value) (M : Mem) (Q : Outcome → Mem → Prop), Wp d 6 0 [l0, l1, l2, l3, l4, some .null, l6] st M Q = Wp d 6 2 [l0, l1, l2, l3, l4, some .null, l6] (.null :: st) M Q := fun d l0 l1 l2 l3 l4 l6 st M Q => wA (show ins 6 0 = some (.aload 5, 2) by decide +kernel) rfl
set_option maxRecDepth 100000 in
theorem r_6_2 : ∀ (d : Nat) (ls : Lc) (st : List Value) (M : Mem) (Q : Outcome → Mem → Prop), Wp d 6 2 ls st M Q = Wp d 6 3 ls (.int (I 0) :: st) M Q := fun d ls st M Q => w_iconst (show ins 6 2 = some (.iconst 0, 1) by decide +kernel)
set_option maxRecDepth 100000 in
theorem r_6_3 : ∀ (d : Nat) (l1 l2 l3 l4 l5 l6 : Option Value) (v : Nat) (st : List Value) (M : Mem) (Q : Outcome → Mem → Prop), Wp d 6 3 [some (.ref v), l1, l2, l3, l4, l5, l6] st M Q = Wp d 6 4 [some (.ref v), l1, l2, l3, l4, l5, l6] (.ref v :: st) M Q := fun d l1 l2 l3 l4 l5 l6 v st M Q => wA (show ins 6 3 = some (.aload_n 0, 1) by decide +kernel) rfl
set_option maxRecDepth 100000 in
theorem r_6_3_1 : ∀ (d : Nat) (l1 l2 l3 l4 l5 l6 : Option Value) (st : List Value) (M : Mem) (Q : Outcome → Mem → Prop), Wp d 6 3 [some .null, l1, l2, l3, l4, l5, l6] st M Q = Wp d 6 4 [some .null, l1, l2, l3, l4, l5, l6] (.null :: st) M Q := fun d l1 l2 l3 l4 l5 l6 st M Q => wA (show ins 6 3 = some (.aload_n 0, 1) by decide +kernel) rfl
set_option maxRecDepth 100000 in
theorem r_6_4 : ∀ (d : Nat) (l0 l2 l3 l4 l5 l6 : Option Value) (v : Int32) (st : List Value) (M : Mem) (Q : Outcome → Mem → Prop), Wp d 6 4 [l0, some (.int v), l2, l3, l4, l5, l6] st M Q = Wp d 6 5 [l0, some (.int v), l2, l3, l4, l5, l6] (.int v :: st) M Q := fun d l0 l2 l3 l4 l5 l6 v st M Q => wA (show ins 6 4 = some (.iload_n 1, 1) by decide +kernel) rfl
set_option maxRecDepth 100000 in
theorem r_6_5 : ∀ (d : Nat) (l0 l1 l3 l4 l5 l6 : Option Value) (v : Int32) (st : List Value) (M : Mem) (Q : Outcome → Mem → Prop), Wp d 6 5 [l0, l1, some (.int v), l3, l4, l5, l6] st M Q = Wp d 6 6 [l0, l1, some (.int v), l3, l4, l5, l6] (.int v :: st) M Q := fun d l0 l1 l3 l4 l5 l6 v st M Q => wA (show ins 6 5 = some (.iload_n 2, 1) by decide +kernel) rfl
set_option maxRecDepth 100000 in
theorem r_6_6 : ∀ (d : Nat) (l0 l1 l2 l4 l5 l6 : Option Value) (v : Int32) (st : List Value) (M : Mem) (Q : Outcome → Mem → Prop), Wp d 6 6 [l0, l1, l2, some (.int v), l4, l5, l6] st M Q = Wp d 6 7 [l0, l1, l2, some (.int v), l4, l5, l6] (.int v :: st) M Q := fun d l0 l1 l2 l4 l5 l6 v st M Q => wA (show ins 6 6 = some (.iload_n 3, 1) by decide +kernel) rfl
set_option maxRecDepth 100000 in
theorem r_6_7 : ∀ (d : Nat) (l0 l1 l2 l3 l5 l6 : Option Value) (v : Int32) (st : List Value) (M : Mem) (Q : Outcome → Mem → Prop), Wp d 6 7 [l0, l1, l2, l3, some (.int v), l5, l6] st M Q = Wp d 6 9 [l0, l1, l2, l3, some (.int v), l5, l6] (.int v :: st) M Q := fun d l0 l1 l2 l3 l5 l6 v st M Q => wA (show ins 6 7 = some (.iload 4, 2) by decide +kernel) rfl
set_option maxRecDepth 100000 in
theorem r_6_9 : ∀ (d : Nat) (ls : Lc) (v0 v1 v2 v3 : Value) (a : Nat) (st : List Value) (M : Mem) (Q : Outcome → Mem → Prop), (smallR st = true) → Wp d 6 9 ls (v3 :: v2 :: v1 :: v0 :: .ref a :: st) M Q = (kO M a = 1 ∧ Ca d 6 9 ls 70 (.ref a :: [v0, v1, v2, v3]) st M Q) := fun d ls v0 v1 v2 v3 a st M Q h0 => w_virt1 (as := [v0, v1, v2, v3]) (show ins 6 9 = some (.invokevirtual 37, 3) by decide +kernel) (show mRes (mC 6) 37 = some (3, 1, [(1, 70)]) by decide +kernel) (by decide +kernel) rfl (by decide +kernel) (by decide +kernel) h0
set_option maxRecDepth 100000 in
theorem r_6_12 : ∀ (d : Nat) (ls : Lc) (a : Int32) (st : List Value) (M : Mem) (Q : Outcome → Mem → Prop), Wp d 6 12 ls (.int a :: st) M Q = Wp d 6 13 ls (.long a.toInt64 :: st) M Q := fun d ls a st M Q => wA (show ins 6 12 = some (.i2l, 1) by decide +kernel) rfl
set_option maxRecDepth 100000 in
theorem r_6_13 : ∀ (d : Nat) (ls : Lc) (a : Nat) (j : Int32) (v : Int64) (st : List Value) (M : Mem) (Q : Outcome → Mem → Prop), Wp d 6 13 ls (.long v :: .int j :: .ref a :: st) M Q = (((kX M a).1 = 3 ∧ inB j (kX M a).2 = true) ∧ Wp d 6 14 ls st (sL M a j.toNatClampNeg v) Q) := fun d ls a j v st M Q => w_lastore (show ins 6 13 = some (.lastore, 1) by decide +kernel)
set_option maxRecDepth 100000 in
theorem r_6_14 : ∀ (d : Nat) (ls : Lc) (st : List Value) (M : Mem) (Q : Outcome → Mem → Prop), Wp d 6 14 ls st M Q = Wp d 6 33 ls st M Q := fun d ls st M Q => w_goto (show ins 6 14 = some (.goto 19, 3) by decide +kernel) rfl
set_option maxRecDepth 100000 in
theorem r_6_17 : ∀ (d : Nat) (l0 l1 l2 l3 l4 l5 l6 : Option Value) (v : Nat) (st : List Value) (M : Mem) (Q : Outcome → Mem → Prop), (lo l5 = false) → Wp d 6 17 [l0, l1, l2, l3, l4, l5, l6] (.ref v :: st) M Q = Wp d 6 19 [l0, l1, l2, l3, l4, l5, some (.ref v)] st M Q := fun d l0 l1 l2 l3 l4 l5 l6 v st M Q hl => w_astore (show ins 6 17 = some (.astore 6, 2) by decide +kernel) (st1_S rfl rfl hl)
set_option maxRecDepth 100000 in
theorem r_6_17_1 : ∀ (d : Nat) (l0 l1 l2 l3 l4 l5 l6 : Option Value) (st : List Value) (M : Mem) (Q : Outcome → Mem → Prop), (lo l5 = false) → Wp d 6 17 [l0, l1, l2, l3, l4, l5, l6] (.null :: st) M Q = Wp d 6 19 [l0, l1, l2, l3, l4, l5, some (.null)] st M Q := fun d l0 l1 l2 l3 l4 l5 l6 st M Q hl => w_astoreN (show ins 6 17 = some (.astore 6, 2) by decide +kernel) (st1_S rfl rfl hl)
set_option maxRecDepth 100000 in
theorem r_6_19 : ∀ (d : Nat) (ls : Lc) (st : List Value) (M : Mem) (Q : Outcome → Mem → Prop), Wp d 6 19 ls st M Q = Wp d 6 20 ls (.int (I 1) :: st) M Q := fun d ls st M Q => w_iconst (show ins 6 19 = some (.iconst 1, 1) by decide +kernel)
set_option maxRecDepth 100000 in
theorem r_6_20 : ∀ (d : Nat) (ls : Lc) (v : Int32) (M : Mem) (Q : Outcome → Mem → Prop), Wp d 6 20 ls [.int v] M Q = Q (.returned (some (.int v))) M := fun d ls v M Q => w_ireturn (show ins 6 20 = some (.ireturn, 1) by decide +kernel) (by decide +kernel)
set_option maxRecDepth 100000 in
theorem r_6_21 : ∀ (d : Nat) (l0 l1 l2 l3 l4 l5 l6 : Option Value) (v : Nat) (st : List Value) (M : Mem) (Q : Outcome → Mem → Prop), (lo l5 = false) → Wp d 6 21 [l0, l1, l2, l3, l4, l5, l6] (.ref v :: st) M Q = Wp d 6 23 [l0, l1, l2, l3, l4, l5, some (.ref v)] st M Q := fun d l0 l1 l2 l3 l4 l5 l6 v st M Q hl => w_astore (show ins 6 21 = some (.astore 6, 2) by decide +kernel) (st1_S rfl rfl hl)
set_option maxRecDepth 100000 in
theorem r_6_21_1 : ∀ (d : Nat) (l0 l1 l2 l3 l4 l5 l6 : Option Value) (st : List Value) (M : Mem) (Q : Outcome → Mem → Prop), (lo l5 = false) → Wp d 6 21 [l0, l1, l2, l3, l4, l5, l6] (.null :: st) M Q = Wp d 6 23 [l0, l1, l2, l3, l4, l5, some (.null)] st M Q := fun d l0 l1 l2 l3 l4 l5 l6 st M Q hl => w_astoreN (show ins 6 21 = some (.astore 6, 2) by decide +kernel) (st1_S rfl rfl hl)
set_option maxRecDepth 100000 in
theorem r_6_23 : ∀ (d : Nat) (ls : Lc) (st : List Value) (M : Mem) (Q : Outcome → Mem → Prop), Wp d 6 23 ls st M Q = Wp d 6 24 ls (.int (I 2) :: st) M Q := fun d ls st M Q => w_iconst (show ins 6 23 = some (.iconst 2, 1) by decide +kernel)
set_option maxRecDepth 100000 in
theorem r_6_24 : ∀ (d : Nat) (ls : Lc) (v : Int32) (M : Mem) (Q : Outcome → Mem → Prop), Wp d 6 24 ls [.int v] M Q = Q (.returned (some (.int v))) M := fun d ls v M Q => w_ireturn (show ins 6 24 = some (.ireturn, 1) by decide +kernel) (by decide +kernel)
set_option maxRecDepth 100000 in
theorem r_6_25 : ∀ (d : Nat) (l0 l1 l2 l3 l4 l5 l6 : Option Value) (v : Nat) (st : List Value) (M : Mem) (Q : Outcome → Mem → Prop), (lo l5 = false) → Wp d 6 25 [l0, l1, l2, l3, l4, l5, l6] (.ref v :: st) M Q = Wp d 6 27 [l0, l1, l2, l3, l4, l5, some (.ref v)] st M Q := fun d l0 l1 l2 l3 l4 l5 l6 v st M Q hl => w_astore (show ins 6 25 = some (.astore 6, 2) by decide +kernel) (st1_S rfl rfl hl)
set_option maxRecDepth 100000 in
theorem r_6_25_1 : ∀ (d : Nat) (l0 l1 l2 l3 l4 l5 l6 : Option Value) (st : List Value) (M : Mem) (Q : Outcome → Mem → Prop), (lo l5 = false) → Wp d 6 25 [l0, l1, l2, l3, l4, l5, l6] (.null :: st) M Q = Wp d 6 27 [l0, l1, l2, l3, l4, l5, some (.null)] st M Q := fun d l0 l1 l2 l3 l4 l5 l6 st M Q hl => w_astoreN (show ins 6 25 = some (.astore 6, 2) by decide +kernel) (st1_S rfl rfl hl)
set_option maxRecDepth 100000 in
theorem r_6_27 : ∀ (d : Nat) (ls : Lc) (st : List Value) (M : Mem) (Q : Outcome → Mem → Prop), Wp d 6 27 ls st M Q = Wp d 6 28 ls (.int (I 3) :: st) M Q := fun d ls st M Q => w_iconst (show ins 6 27 = some (.iconst 3, 1) by decide +kernel)
set_option maxRecDepth 100000 in
theorem r_6_28 : ∀ (d : Nat) (ls : Lc) (v : Int32) (M : Mem) (Q : Outcome → Mem → Prop), Wp d 6 28 ls [.int v] M Q = Q (.returned (some (.int v))) M := fun d ls v M Q => w_ireturn (show ins 6 28 = some (.ireturn, 1) by decide +kernel) (by decide +kernel)
set_option maxRecDepth 100000 in
theorem r_6_29 : ∀ (d : Nat) (l0 l1 l2 l3 l4 l5 l6 : Option Value) (v : Nat) (st : List Value) (M : Mem) (Q : Outcome → Mem → Prop), (lo l5 = false) → Wp d 6 29 [l0, l1, l2, l3, l4, l5, l6] (.ref v :: st) M Q = Wp d 6 31 [l0, l1, l2, l3, l4, l5, some (.ref v)] st M Q := fun d l0 l1 l2 l3 l4 l5 l6 v st M Q hl => w_astore (show ins 6 29 = some (.astore 6, 2) by decide +kernel) (st1_S rfl rfl hl)
set_option maxRecDepth 100000 in
theorem r_6_29_1 : ∀ (d : Nat) (l0 l1 l2 l3 l4 l5 l6 : Option Value) (st : List Value) (M : Mem) (Q : Outcome → Mem → Prop), (lo l5 = false) → Wp d 6 29 [l0, l1, l2, l3, l4, l5, l6] (.null :: st) M Q = Wp d 6 31 [l0, l1, l2, l3, l4, l5, some (.null)] st M Q := fun d l0 l1 l2 l3 l4 l5 l6 st M Q hl => w_astoreN (show ins 6 29 = some (.astore 6, 2) by decide +kernel) (st1_S rfl rfl hl)
set_option maxRecDepth 100000 in
theorem r_6_31 : ∀ (d : Nat) (ls : Lc) (st : List Value) (M : Mem) (Q : Outcome → Mem → Prop), Wp d 6 31 ls st M Q = Wp d 6 32 ls (.int (I 4) :: st) M Q := fun d ls st M Q => w_iconst (show ins 6 31 = some (.iconst 4, 1) by decide +kernel)
set_option maxRecDepth 100000 in
theorem r_6_32 : ∀ (d : Nat) (ls : Lc) (v : Int32) (M : Mem) (Q : Outcome → Mem → Prop), Wp d 6 32 ls [.int v] M Q = Q (.returned (some (.int v))) M := fun d ls v M Q => w_ireturn (show ins 6 32 = some (.ireturn, 1) by decide +kernel) (by decide +kernel)
set_option maxRecDepth 100000 in
theorem r_6_33 : ∀ (d : Nat) (ls : Lc) (st : List Value) (M : Mem) (Q : Outcome → Mem → Prop), Wp d 6 33 ls st M Q = Wp d 6 34 ls (.int (I 0) :: st) M Q := fun d ls st M Q => w_iconst (show ins 6 33 = some (.iconst 0, 1) by decide +kernel)
set_option maxRecDepth 100000 in
theorem r_6_34 : ∀ (d : Nat) (ls : Lc) (v : Int32) (M : Mem) (Q : Outcome → Mem → Prop), Wp d 6 34 ls [.int v] M Q = Q (.returned (some (.int v))) M := fun d ls v M Q => w_ireturn (show ins 6 34 = some (.ireturn, 1) by decide +kernel) (by decide +kernel)
set_option maxRecDepth 100000 in
theorem W_6 : (type_of% r_6_0) ∧ (type_of% r_6_0_1) ∧ (type_of% r_6_2) ∧ (type_of% r_6_3) ∧ (type_of% r_6_3_1) ∧ (type_of% r_6_4) ∧ (type_of% r_6_5) ∧ (type_of% r_6_6) ∧ (type_of% r_6_7) ∧ (type_of% r_6_9) ∧ (type_of% r_6_12) ∧ (type_of% r_6_13) ∧ (type_of% r_6_14) ∧ (type_of% r_6_17) ∧ (type_of% r_6_17_1) ∧ (type_of% r_6_19) ∧ (type_of% r_6_20) ∧ (type_of% r_6_21) ∧ (type_of% r_6_21_1) ∧ (type_of% r_6_23) ∧ (type_of% r_6_24) ∧ (type_of% r_6_25) ∧ (type_of% r_6_25_1) ∧ (type_of% r_6_27) ∧ (type_of% r_6_28) ∧ (type_of% r_6_29) ∧ (type_of% r_6_29_1) ∧ (type_of% r_6_31) ∧ (type_of% r_6_32) ∧ (type_of% r_6_33) ∧ (type_of% r_6_34) := ⟨r_6_0, r_6_0_1, r_6_2, r_6_3, r_6_3_1, r_6_4, r_6_5, r_6_6, r_6_7, r_6_9, r_6_12, r_6_13, r_6_14, r_6_17, r_6_17_1, r_6_19, r_6_20, r_6_21, r_6_21_1, r_6_23, r_6_24, r_6_25, r_6_25_1, r_6_27, r_6_28, r_6_29, r_6_29_1, r_6_31, r_6_32, r_6_33, r_6_34⟩
set_option maxRecDepth 100000 in
theorem ca_6 {d y pc : Nat} {ls : Lc} {o0 : Option Nat} {z1 : Int32} {z2 : Int32} {z3 : Int32} {z4 : Int32} {o5 : Option Nat} {r : List Value} {M : Mem} {Q : Outcome → Mem → Prop} (hd : 0 < d) (hw : Wp (d - 1) 6 0 [some (va_rf o0), some (.int z1), some (.int z2), some (.int z3), some (.int z4), some (va_rf o5), none] [] M (Cq d y pc ls r Q)) : Ca d y pc ls 6 [va_rf o0, .int z1, .int z2, .int z3, .int z4, va_rf o5] r M Q := ca_of (mq_get (by decide)) (by cases o0 <;> cases o5 <;> rfl) hd hw
/-! 7 PackedTreeLaw.cut(LPackedTree;II[J)I; loop heads [] -/
set_option maxRecDepth 100000 in
theorem r_7_0 : ∀ (d : Nat) (l0 l1 l2 l4 : Option Value) (v : Nat) (st : List Value) (M : Mem) (Q : Outcome → Mem → Prop), Wp d 7 0 [l0, l1, l2, some (.ref v), l4] st M Q = Wp d 7 1 [l0, l1, l2, some (.ref v), l4] (.ref v :: st) M Q := fun d l0 l1 l2 l4 v st M Q => wA (show ins 7 0 = some (.aload_n 3, 1) by decide +kernel) rfl
set_option maxRecDepth 100000 in
theorem r_7_0_1 : ∀ (d : Nat) (l0 l1 l2 l4 : Option Value) (st : List Value) (M : Mem) (Q : Outcome → Mem → Prop), Wp d 7 0 [l0, l1, l2, some .null, l4] st M Q = Wp d 7 1 [l0, l1, l2, some .null, l4] (.null :: st) M Q := fun d l0 l1 l2 l4 st M Q => wA (show ins 7 0 = some (.aload_n 3, 1) by decide +kernel) rfl
set_option maxRecDepth 100000 in
theorem r_7_1 : ∀ (d : Nat) (ls : Lc) (st : List Value) (M : Mem) (Q : Outcome → Mem → Prop), Wp d 7 1 ls st M Q = Wp d 7 2 ls (.int (I 0) :: st) M Q := fun d ls st M Q => w_iconst (show ins 7 1 = some (.iconst 0, 1) by decide +kernel)
set_option maxRecDepth 100000 in
theorem r_7_2 : ∀ (d : Nat) (l1 l2 l3 l4 : Option Value) (v : Nat) (st : List Value) (M : Mem) (Q : Outcome → Mem → Prop), Wp d 7 2 [some (.ref v), l1, l2, l3, l4] st M Q = Wp d 7 3 [some (.ref v), l1, l2, l3, l4] (.ref v :: st) M Q := fun d l1 l2 l3 l4 v st M Q => wA (show ins 7 2 = some (.aload_n 0, 1) by decide +kernel) rfl
set_option maxRecDepth 100000 in
theorem r_7_2_1 : ∀ (d : Nat) (l1 l2 l3 l4 : Option Value) (st : List Value) (M : Mem) (Q : Outcome → Mem → Prop), Wp d 7 2 [some .null, l1, l2, l3, l4] st M Q = Wp d 7 3 [some .null, l1, l2, l3, l4] (.null :: st) M Q := fun d l1 l2 l3 l4 st M Q => wA (show ins 7 2 = some (.aload_n 0, 1) by decide +kernel) rfl
set_option maxRecDepth 100000 in
theorem r_7_3 : ∀ (d : Nat) (l0 l2 l3 l4 : Option Value) (v : Int32) (st : List Value) (M : Mem) (Q : Outcome → Mem → Prop), Wp d 7 3 [l0, some (.int v), l2, l3, l4] st M Q = Wp d 7 4 [l0, some (.int v), l2, l3, l4] (.int v :: st) M Q := fun d l0 l2 l3 l4 v st M Q => wA (show ins 7 3 = some (.iload_n 1, 1) by decide +kernel) rfl
set_option maxRecDepth 100000 in
theorem r_7_4 : ∀ (d : Nat) (l0 l1 l3 l4 : Option Value) (v : Int32) (st : List Value) (M : Mem) (Q : Outcome → Mem → Prop), Wp d 7 4 [l0, l1, some (.int v), l3, l4] st M Q = Wp d 7 5 [l0, l1, some (.int v), l3, l4] (.int v :: st) M Q := fun d l0 l1 l3 l4 v st M Q => wA (show ins 7 4 = some (.iload_n 2, 1) by decide +kernel) rfl
set_option maxRecDepth 100000 in
theorem r_7_5 : ∀ (d : Nat) (ls : Lc) (v0 v1 : Value) (a : Nat) (st : List Value) (M : Mem) (Q : Outcome → Mem → Prop), (smallR st = true) → Wp d 7 5 ls (v1 :: v0 :: .ref a :: st) M Q = (kO M a = 1 ∧ Ca d 7 5 ls 71 (.ref a :: [v0, v1]) st M Q) := fun d ls v0 v1 a st M Q h0 => w_virt1 (as := [v0, v1]) (show ins 7 5 = some (.invokevirtual 40, 3) by decide +kernel) (show mRes (mC 7) 40 = some (3, 1, [(1, 71)]) by decide +kernel) (by decide +kernel) rfl (by decide +kernel) (by decide +kernel) h0
set_option maxRecDepth 100000 in
theorem r_7_8 : ∀ (d : Nat) (ls : Lc) (a : Int32) (st : List Value) (M : Mem) (Q : Outcome → Mem → Prop), Wp d 7 8 ls (.int a :: st) M Q = Wp d 7 9 ls (.long a.toInt64 :: st) M Q := fun d ls a st M Q => wA (show ins 7 8 = some (.i2l, 1) by decide +kernel) rfl
set_option maxRecDepth 100000 in
theorem r_7_9 : ∀ (d : Nat) (ls : Lc) (a : Nat) (j : Int32) (v : Int64) (st : List Value) (M : Mem) (Q : Outcome → Mem → Prop), Wp d 7 9 ls (.long v :: .int j :: .ref a :: st) M Q = (((kX M a).1 = 3 ∧ inB j (kX M a).2 = true) ∧ Wp d 7 10 ls st (sL M a j.toNatClampNeg v) Q) := fun d ls a j v st M Q => w_lastore (show ins 7 9 = some (.lastore, 1) by decide +kernel)
set_option maxRecDepth 100000 in
theorem r_7_10 : ∀ (d : Nat) (ls : Lc) (st : List Value) (M : Mem) (Q : Outcome → Mem → Prop), Wp d 7 10 ls st M Q = Wp d 7 29 ls st M Q := fun d ls st M Q => w_goto (show ins 7 10 = some (.goto 19, 3) by decide +kernel) rfl
set_option maxRecDepth 100000 in
theorem r_7_13 : ∀ (d : Nat) (l0 l1 l2 l3 l4 : Option Value) (v : Nat) (st : List Value) (M : Mem) (Q : Outcome → Mem → Prop), (lo l3 = false) → Wp d 7 13 [l0, l1, l2, l3, l4] (.ref v :: st) M Q = Wp d 7 15 [l0, l1, l2, l3, some (.ref v)] st M Q := fun d l0 l1 l2 l3 l4 v st M Q hl => w_astore (show ins 7 13 = some (.astore 4, 2) by decide +kernel) (st1_S rfl rfl hl)
set_option maxRecDepth 100000 in
theorem r_7_13_1 : ∀ (d : Nat) (l0 l1 l2 l3 l4 : Option Value) (st : List Value) (M : Mem) (Q : Outcome → Mem → Prop), (lo l3 = false) → Wp d 7 13 [l0, l1, l2, l3, l4] (.null :: st) M Q = Wp d 7 15 [l0, l1, l2, l3, some (.null)] st M Q := fun d l0 l1 l2 l3 l4 st M Q hl => w_astoreN (show ins 7 13 = some (.astore 4, 2) by decide +kernel) (st1_S rfl rfl hl)
set_option maxRecDepth 100000 in
theorem r_7_15 : ∀ (d : Nat) (ls : Lc) (st : List Value) (M : Mem) (Q : Outcome → Mem → Prop), Wp d 7 15 ls st M Q = Wp d 7 16 ls (.int (I 1) :: st) M Q := fun d ls st M Q => w_iconst (show ins 7 15 = some (.iconst 1, 1) by decide +kernel)
set_option maxRecDepth 100000 in
theorem r_7_16 : ∀ (d : Nat) (ls : Lc) (v : Int32) (M : Mem) (Q : Outcome → Mem → Prop), Wp d 7 16 ls [.int v] M Q = Q (.returned (some (.int v))) M := fun d ls v M Q => w_ireturn (show ins 7 16 = some (.ireturn, 1) by decide +kernel) (by decide +kernel)
set_option maxRecDepth 100000 in
theorem r_7_17 : ∀ (d : Nat) (l0 l1 l2 l3 l4 : Option Value) (v : Nat) (st : List Value) (M : Mem) (Q : Outcome → Mem → Prop), (lo l3 = false) → Wp d 7 17 [l0, l1, l2, l3, l4] (.ref v :: st) M Q = Wp d 7 19 [l0, l1, l2, l3, some (.ref v)] st M Q := fun d l0 l1 l2 l3 l4 v st M Q hl => w_astore (show ins 7 17 = some (.astore 4, 2) by decide +kernel) (st1_S rfl rfl hl)
set_option maxRecDepth 100000 in
theorem r_7_17_1 : ∀ (d : Nat) (l0 l1 l2 l3 l4 : Option Value) (st : List Value) (M : Mem) (Q : Outcome → Mem → Prop), (lo l3 = false) → Wp d 7 17 [l0, l1, l2, l3, l4] (.null :: st) M Q = Wp d 7 19 [l0, l1, l2, l3, some (.null)] st M Q := fun d l0 l1 l2 l3 l4 st M Q hl => w_astoreN (show ins 7 17 = some (.astore 4, 2) by decide +kernel) (st1_S rfl rfl hl)
set_option maxRecDepth 100000 in
theorem r_7_19 : ∀ (d : Nat) (ls : Lc) (st : List Value) (M : Mem) (Q : Outcome → Mem → Prop), Wp d 7 19 ls st M Q = Wp d 7 20 ls (.int (I 2) :: st) M Q := fun d ls st M Q => w_iconst (show ins 7 19 = some (.iconst 2, 1) by decide +kernel)
set_option maxRecDepth 100000 in
theorem r_7_20 : ∀ (d : Nat) (ls : Lc) (v : Int32) (M : Mem) (Q : Outcome → Mem → Prop), Wp d 7 20 ls [.int v] M Q = Q (.returned (some (.int v))) M := fun d ls v M Q => w_ireturn (show ins 7 20 = some (.ireturn, 1) by decide +kernel) (by decide +kernel)
set_option maxRecDepth 100000 in
theorem r_7_21 : ∀ (d : Nat) (l0 l1 l2 l3 l4 : Option Value) (v : Nat) (st : List Value) (M : Mem) (Q : Outcome → Mem → Prop), (lo l3 = false) → Wp d 7 21 [l0, l1, l2, l3, l4] (.ref v :: st) M Q = Wp d 7 23 [l0, l1, l2, l3, some (.ref v)] st M Q := fun d l0 l1 l2 l3 l4 v st M Q hl => w_astore (show ins 7 21 = some (.astore 4, 2) by decide +kernel) (st1_S rfl rfl hl)
set_option maxRecDepth 100000 in
theorem r_7_21_1 : ∀ (d : Nat) (l0 l1 l2 l3 l4 : Option Value) (st : List Value) (M : Mem) (Q : Outcome → Mem → Prop), (lo l3 = false) → Wp d 7 21 [l0, l1, l2, l3, l4] (.null :: st) M Q = Wp d 7 23 [l0, l1, l2, l3, some (.null)] st M Q := fun d l0 l1 l2 l3 l4 st M Q hl => w_astoreN (show ins 7 21 = some (.astore 4, 2) by decide +kernel) (st1_S rfl rfl hl)
set_option maxRecDepth 100000 in
theorem r_7_23 : ∀ (d : Nat) (ls : Lc) (st : List Value) (M : Mem) (Q : Outcome → Mem → Prop), Wp d 7 23 ls st M Q = Wp d 7 24 ls (.int (I 3) :: st) M Q := fun d ls st M Q => w_iconst (show ins 7 23 = some (.iconst 3, 1) by decide +kernel)
set_option maxRecDepth 100000 in
theorem r_7_24 : ∀ (d : Nat) (ls : Lc) (v : Int32) (M : Mem) (Q : Outcome → Mem → Prop), Wp d 7 24 ls [.int v] M Q = Q (.returned (some (.int v))) M := fun d ls v M Q => w_ireturn (show ins 7 24 = some (.ireturn, 1) by decide +kernel) (by decide +kernel)
set_option maxRecDepth 100000 in
theorem r_7_25 : ∀ (d : Nat) (l0 l1 l2 l3 l4 : Option Value) (v : Nat) (st : List Value) (M : Mem) (Q : Outcome → Mem → Prop), (lo l3 = false) → Wp d 7 25 [l0, l1, l2, l3, l4] (.ref v :: st) M Q = Wp d 7 27 [l0, l1, l2, l3, some (.ref v)] st M Q := fun d l0 l1 l2 l3 l4 v st M Q hl => w_astore (show ins 7 25 = some (.astore 4, 2) by decide +kernel) (st1_S rfl rfl hl)
set_option maxRecDepth 100000 in
theorem r_7_25_1 : ∀ (d : Nat) (l0 l1 l2 l3 l4 : Option Value) (st : List Value) (M : Mem) (Q : Outcome → Mem → Prop), (lo l3 = false) → Wp d 7 25 [l0, l1, l2, l3, l4] (.null :: st) M Q = Wp d 7 27 [l0, l1, l2, l3, some (.null)] st M Q := fun d l0 l1 l2 l3 l4 st M Q hl => w_astoreN (show ins 7 25 = some (.astore 4, 2) by decide +kernel) (st1_S rfl rfl hl)
set_option maxRecDepth 100000 in
theorem r_7_27 : ∀ (d : Nat) (ls : Lc) (st : List Value) (M : Mem) (Q : Outcome → Mem → Prop), Wp d 7 27 ls st M Q = Wp d 7 28 ls (.int (I 4) :: st) M Q := fun d ls st M Q => w_iconst (show ins 7 27 = some (.iconst 4, 1) by decide +kernel)
set_option maxRecDepth 100000 in
theorem r_7_28 : ∀ (d : Nat) (ls : Lc) (v : Int32) (M : Mem) (Q : Outcome → Mem → Prop), Wp d 7 28 ls [.int v] M Q = Q (.returned (some (.int v))) M := fun d ls v M Q => w_ireturn (show ins 7 28 = some (.ireturn, 1) by decide +kernel) (by decide +kernel)
set_option maxRecDepth 100000 in
theorem r_7_29 : ∀ (d : Nat) (ls : Lc) (st : List Value) (M : Mem) (Q : Outcome → Mem → Prop), Wp d 7 29 ls st M Q = Wp d 7 30 ls (.int (I 0) :: st) M Q := fun d ls st M Q => w_iconst (show ins 7 29 = some (.iconst 0, 1) by decide +kernel)
set_option maxRecDepth 100000 in
theorem r_7_30 : ∀ (d : Nat) (ls : Lc) (v : Int32) (M : Mem) (Q : Outcome → Mem → Prop), Wp d 7 30 ls [.int v] M Q = Q (.returned (some (.int v))) M := fun d ls v M Q => w_ireturn (show ins 7 30 = some (.ireturn, 1) by decide +kernel) (by decide +kernel)
set_option maxRecDepth 100000 in
theorem W_7 : (type_of% r_7_0) ∧ (type_of% r_7_0_1) ∧ (type_of% r_7_1) ∧ (type_of% r_7_2) ∧ (type_of% r_7_2_1) ∧ (type_of% r_7_3) ∧ (type_of% r_7_4) ∧ (type_of% r_7_5) ∧ (type_of% r_7_8) ∧ (type_of% r_7_9) ∧ (type_of% r_7_10) ∧ (type_of% r_7_13) ∧ (type_of% r_7_13_1) ∧ (type_of% r_7_15) ∧ (type_of% r_7_16) ∧ (type_of% r_7_17) ∧ (type_of% r_7_17_1) ∧ (type_of% r_7_19) ∧ (type_of% r_7_20) ∧ (type_of% r_7_21) ∧ (type_of% r_7_21_1) ∧ (type_of% r_7_23) ∧ (type_of% r_7_24) ∧ (type_of% r_7_25) ∧ (type_of% r_7_25_1) ∧ (type_of% r_7_27) ∧ (type_of% r_7_28) ∧ (type_of% r_7_29) ∧ (type_of% r_7_30) := ⟨r_7_0, r_7_0_1, r_7_1, r_7_2, r_7_2_1, r_7_3, r_7_4, r_7_5, r_7_8, r_7_9, r_7_10, r_7_13, r_7_13_1, r_7_15, r_7_16, r_7_17, r_7_17_1, r_7_19, r_7_20, r_7_21, r_7_21_1, r_7_23, r_7_24, r_7_25, r_7_25_1, r_7_27, r_7_28, r_7_29, r_7_30⟩
set_option maxRecDepth 100000 in
theorem ca_7 {d y pc : Nat} {ls : Lc} {o0 : Option Nat} {z1 : Int32} {z2 : Int32} {o3 : Option Nat} {r : List Value} {M : Mem} {Q : Outcome → Mem → Prop} (hd : 0 < d) (hw : Wp (d - 1) 7 0 [some (va_rf o0), some (.int z1), some (.int z2), some (va_rf o3), none] [] M (Cq d y pc ls r Q)) : Ca d y pc ls 7 [va_rf o0, .int z1, .int z2, va_rf o3] r M Q := ca_of (mq_get (by decide)) (by cases o0 <;> cases o3 <;> rfl) hd hw
/-! 8 PackedTreeLaw.read(LPackedTree;II[J)I; loop heads [] -/
set_option maxRecDepth 100000 in
theorem r_8_0 : ∀ (d : Nat) (l0 l1 l2 l4 : Option Value) (v : Nat) (st : List Value) (M : Mem) (Q : Outcome → Mem → Prop), Wp d 8 0 [l0, l1, l2, some (.ref v), l4] st M Q = Wp d 8 1 [l0, l1, l2, some (.ref v), l4] (.ref v :: st) M Q := fun d l0 l1 l2 l4 v st M Q => wA (show ins 8 0 = some (.aload_n 3, 1) by decide +kernel) rfl
set_option maxRecDepth 100000 in
theorem r_8_0_1 : ∀ (d : Nat) (l0 l1 l2 l4 : Option Value) (st : List Value) (M : Mem) (Q : Outcome → Mem → Prop), Wp d 8 0 [l0, l1, l2, some .null, l4] st M Q = Wp d 8 1 [l0, l1, l2, some .null, l4] (.null :: st) M Q := fun d l0 l1 l2 l4 st M Q => wA (show ins 8 0 = some (.aload_n 3, 1) by decide +kernel) rfl
set_option maxRecDepth 100000 in
theorem r_8_1 : ∀ (d : Nat) (ls : Lc) (st : List Value) (M : Mem) (Q : Outcome → Mem → Prop), Wp d 8 1 ls st M Q = Wp d 8 2 ls (.int (I 0) :: st) M Q := fun d ls st M Q => w_iconst (show ins 8 1 = some (.iconst 0, 1) by decide +kernel)
set_option maxRecDepth 100000 in
theorem r_8_2 : ∀ (d : Nat) (l1 l2 l3 l4 : Option Value) (v : Nat) (st : List Value) (M : Mem) (Q : Outcome → Mem → Prop), Wp d 8 2 [some (.ref v), l1, l2, l3, l4] st M Q = Wp d 8 3 [some (.ref v), l1, l2, l3, l4] (.ref v :: st) M Q := fun d l1 l2 l3 l4 v st M Q => wA (show ins 8 2 = some (.aload_n 0, 1) by decide +kernel) rfl
set_option maxRecDepth 100000 in
theorem r_8_2_1 : ∀ (d : Nat) (l1 l2 l3 l4 : Option Value) (st : List Value) (M : Mem) (Q : Outcome → Mem → Prop), Wp d 8 2 [some .null, l1, l2, l3, l4] st M Q = Wp d 8 3 [some .null, l1, l2, l3, l4] (.null :: st) M Q := fun d l1 l2 l3 l4 st M Q => wA (show ins 8 2 = some (.aload_n 0, 1) by decide +kernel) rfl
set_option maxRecDepth 100000 in
theorem r_8_3 : ∀ (d : Nat) (l0 l2 l3 l4 : Option Value) (v : Int32) (st : List Value) (M : Mem) (Q : Outcome → Mem → Prop), Wp d 8 3 [l0, some (.int v), l2, l3, l4] st M Q = Wp d 8 4 [l0, some (.int v), l2, l3, l4] (.int v :: st) M Q := fun d l0 l2 l3 l4 v st M Q => wA (show ins 8 3 = some (.iload_n 1, 1) by decide +kernel) rfl
set_option maxRecDepth 100000 in
theorem r_8_4 : ∀ (d : Nat) (l0 l1 l3 l4 : Option Value) (v : Int32) (st : List Value) (M : Mem) (Q : Outcome → Mem → Prop), Wp d 8 4 [l0, l1, some (.int v), l3, l4] st M Q = Wp d 8 5 [l0, l1, some (.int v), l3, l4] (.int v :: st) M Q := fun d l0 l1 l3 l4 v st M Q => wA (show ins 8 4 = some (.iload_n 2, 1) by decide +kernel) rfl
set_option maxRecDepth 100000 in
theorem r_8_5 : ∀ (d : Nat) (ls : Lc) (v0 v1 : Value) (a : Nat) (st : List Value) (M : Mem) (Q : Outcome → Mem → Prop), (smallR st = true) → Wp d 8 5 ls (v1 :: v0 :: .ref a :: st) M Q = (kO M a = 1 ∧ Ca d 8 5 ls 72 (.ref a :: [v0, v1]) st M Q) := fun d ls v0 v1 a st M Q h0 => w_virt1 (as := [v0, v1]) (show ins 8 5 = some (.invokevirtual 43, 3) by decide +kernel) (show mRes (mC 8) 43 = some (3, 1, [(1, 72)]) by decide +kernel) (by decide +kernel) rfl (by decide +kernel) (by decide +kernel) h0
set_option maxRecDepth 100000 in
theorem r_8_8 : ∀ (d : Nat) (ls : Lc) (a : Int32) (st : List Value) (M : Mem) (Q : Outcome → Mem → Prop), Wp d 8 8 ls (.int a :: st) M Q = Wp d 8 9 ls (.long a.toInt64 :: st) M Q := fun d ls a st M Q => wA (show ins 8 8 = some (.i2l, 1) by decide +kernel) rfl
set_option maxRecDepth 100000 in
theorem r_8_9 : ∀ (d : Nat) (ls : Lc) (a : Nat) (j : Int32) (v : Int64) (st : List Value) (M : Mem) (Q : Outcome → Mem → Prop), Wp d 8 9 ls (.long v :: .int j :: .ref a :: st) M Q = (((kX M a).1 = 3 ∧ inB j (kX M a).2 = true) ∧ Wp d 8 10 ls st (sL M a j.toNatClampNeg v) Q) := fun d ls a j v st M Q => w_lastore (show ins 8 9 = some (.lastore, 1) by decide +kernel)
set_option maxRecDepth 100000 in
theorem r_8_10 : ∀ (d : Nat) (ls : Lc) (st : List Value) (M : Mem) (Q : Outcome → Mem → Prop), Wp d 8 10 ls st M Q = Wp d 8 21 ls st M Q := fun d ls st M Q => w_goto (show ins 8 10 = some (.goto 11, 3) by decide +kernel) rfl
set_option maxRecDepth 100000 in
theorem r_8_13 : ∀ (d : Nat) (l0 l1 l2 l3 l4 : Option Value) (v : Nat) (st : List Value) (M : Mem) (Q : Outcome → Mem → Prop), (lo l3 = false) → Wp d 8 13 [l0, l1, l2, l3, l4] (.ref v :: st) M Q = Wp d 8 15 [l0, l1, l2, l3, some (.ref v)] st M Q := fun d l0 l1 l2 l3 l4 v st M Q hl => w_astore (show ins 8 13 = some (.astore 4, 2) by decide +kernel) (st1_S rfl rfl hl)
set_option maxRecDepth 100000 in
theorem r_8_13_1 : ∀ (d : Nat) (l0 l1 l2 l3 l4 : Option Value) (st : List Value) (M : Mem) (Q : Outcome → Mem → Prop), (lo l3 = false) → Wp d 8 13 [l0, l1, l2, l3, l4] (.null :: st) M Q = Wp d 8 15 [l0, l1, l2, l3, some (.null)] st M Q := fun d l0 l1 l2 l3 l4 st M Q hl => w_astoreN (show ins 8 13 = some (.astore 4, 2) by decide +kernel) (st1_S rfl rfl hl)
set_option maxRecDepth 100000 in
theorem r_8_15 : ∀ (d : Nat) (ls : Lc) (st : List Value) (M : Mem) (Q : Outcome → Mem → Prop), Wp d 8 15 ls st M Q = Wp d 8 16 ls (.int (I 1) :: st) M Q := fun d ls st M Q => w_iconst (show ins 8 15 = some (.iconst 1, 1) by decide +kernel)
set_option maxRecDepth 100000 in
theorem r_8_16 : ∀ (d : Nat) (ls : Lc) (v : Int32) (M : Mem) (Q : Outcome → Mem → Prop), Wp d 8 16 ls [.int v] M Q = Q (.returned (some (.int v))) M := fun d ls v M Q => w_ireturn (show ins 8 16 = some (.ireturn, 1) by decide +kernel) (by decide +kernel)
set_option maxRecDepth 100000 in
theorem r_8_17 : ∀ (d : Nat) (l0 l1 l2 l3 l4 : Option Value) (v : Nat) (st : List Value) (M : Mem) (Q : Outcome → Mem → Prop), (lo l3 = false) → Wp d 8 17 [l0, l1, l2, l3, l4] (.ref v :: st) M Q = Wp d 8 19 [l0, l1, l2, l3, some (.ref v)] st M Q := fun d l0 l1 l2 l3 l4 v st M Q hl => w_astore (show ins 8 17 = some (.astore 4, 2) by decide +kernel) (st1_S rfl rfl hl)
set_option maxRecDepth 100000 in
theorem r_8_17_1 : ∀ (d : Nat) (l0 l1 l2 l3 l4 : Option Value) (st : List Value) (M : Mem) (Q : Outcome → Mem → Prop), (lo l3 = false) → Wp d 8 17 [l0, l1, l2, l3, l4] (.null :: st) M Q = Wp d 8 19 [l0, l1, l2, l3, some (.null)] st M Q := fun d l0 l1 l2 l3 l4 st M Q hl => w_astoreN (show ins 8 17 = some (.astore 4, 2) by decide +kernel) (st1_S rfl rfl hl)
set_option maxRecDepth 100000 in
theorem r_8_19 : ∀ (d : Nat) (ls : Lc) (st : List Value) (M : Mem) (Q : Outcome → Mem → Prop), Wp d 8 19 ls st M Q = Wp d 8 20 ls (.int (I 2) :: st) M Q := fun d ls st M Q => w_iconst (show ins 8 19 = some (.iconst 2, 1) by decide +kernel)
set_option maxRecDepth 100000 in
theorem r_8_20 : ∀ (d : Nat) (ls : Lc) (v : Int32) (M : Mem) (Q : Outcome → Mem → Prop), Wp d 8 20 ls [.int v] M Q = Q (.returned (some (.int v))) M := fun d ls v M Q => w_ireturn (show ins 8 20 = some (.ireturn, 1) by decide +kernel) (by decide +kernel)
set_option maxRecDepth 100000 in
theorem r_8_21 : ∀ (d : Nat) (ls : Lc) (st : List Value) (M : Mem) (Q : Outcome → Mem → Prop), Wp d 8 21 ls st M Q = Wp d 8 22 ls (.int (I 0) :: st) M Q := fun d ls st M Q => w_iconst (show ins 8 21 = some (.iconst 0, 1) by decide +kernel)
set_option maxRecDepth 100000 in
theorem r_8_22 : ∀ (d : Nat) (ls : Lc) (v : Int32) (M : Mem) (Q : Outcome → Mem → Prop), Wp d 8 22 ls [.int v] M Q = Q (.returned (some (.int v))) M := fun d ls v M Q => w_ireturn (show ins 8 22 = some (.ireturn, 1) by decide +kernel) (by decide +kernel)
set_option maxRecDepth 100000 in
theorem W_8 : (type_of% r_8_0) ∧ (type_of% r_8_0_1) ∧ (type_of% r_8_1) ∧ (type_of% r_8_2) ∧ (type_of% r_8_2_1) ∧ (type_of% r_8_3) ∧ (type_of% r_8_4) ∧ (type_of% r_8_5) ∧ (type_of% r_8_8) ∧ (type_of% r_8_9) ∧ (type_of% r_8_10) ∧ (type_of% r_8_13) ∧ (type_of% r_8_13_1) ∧ (type_of% r_8_15) ∧ (type_of% r_8_16) ∧ (type_of% r_8_17) ∧ (type_of% r_8_17_1) ∧ (type_of% r_8_19) ∧ (type_of% r_8_20) ∧ (type_of% r_8_21) ∧ (type_of% r_8_22) := ⟨r_8_0, r_8_0_1, r_8_1, r_8_2, r_8_2_1, r_8_3, r_8_4, r_8_5, r_8_8, r_8_9, r_8_10, r_8_13, r_8_13_1, r_8_15, r_8_16, r_8_17, r_8_17_1, r_8_19, r_8_20, r_8_21, r_8_22⟩
set_option maxRecDepth 100000 in
theorem ca_8 {d y pc : Nat} {ls : Lc} {o0 : Option Nat} {z1 : Int32} {z2 : Int32} {o3 : Option Nat} {r : List Value} {M : Mem} {Q : Outcome → Mem → Prop} (hd : 0 < d) (hw : Wp (d - 1) 8 0 [some (va_rf o0), some (.int z1), some (.int z2), some (va_rf o3), none] [] M (Cq d y pc ls r Q)) : Ca d y pc ls 8 [va_rf o0, .int z1, .int z2, va_rf o3] r M Q := ca_of (mq_get (by decide)) (by cases o0 <;> cases o3 <;> rfl) hd hw
/-! 9 PackedTreeLaw.look(LPackedTree;II[J)I; loop heads [] -/
set_option maxRecDepth 100000 in
theorem r_9_0 : ∀ (d : Nat) (l0 l1 l2 l4 : Option Value) (v : Nat) (st : List Value) (M : Mem) (Q : Outcome → Mem → Prop), Wp d 9 0 [l0, l1, l2, some (.ref v), l4] st M Q = Wp d 9 1 [l0, l1, l2, some (.ref v), l4] (.ref v :: st) M Q := fun d l0 l1 l2 l4 v st M Q => wA (show ins 9 0 = some (.aload_n 3, 1) by decide +kernel) rfl
set_option maxRecDepth 100000 in
theorem r_9_0_1 : ∀ (d : Nat) (l0 l1 l2 l4 : Option Value) (st : List Value) (M : Mem) (Q : Outcome → Mem → Prop), Wp d 9 0 [l0, l1, l2, some .null, l4] st M Q = Wp d 9 1 [l0, l1, l2, some .null, l4] (.null :: st) M Q := fun d l0 l1 l2 l4 st M Q => wA (show ins 9 0 = some (.aload_n 3, 1) by decide +kernel) rfl
set_option maxRecDepth 100000 in
theorem r_9_1 : ∀ (d : Nat) (ls : Lc) (st : List Value) (M : Mem) (Q : Outcome → Mem → Prop), Wp d 9 1 ls st M Q = Wp d 9 2 ls (.int (I 0) :: st) M Q := fun d ls st M Q => w_iconst (show ins 9 1 = some (.iconst 0, 1) by decide +kernel)
set_option maxRecDepth 100000 in
theorem r_9_2 : ∀ (d : Nat) (l1 l2 l3 l4 : Option Value) (v : Nat) (st : List Value) (M : Mem) (Q : Outcome → Mem → Prop), Wp d 9 2 [some (.ref v), l1, l2, l3, l4] st M Q = Wp d 9 3 [some (.ref v), l1, l2, l3, l4] (.ref v :: st) M Q := fun d l1 l2 l3 l4 v st M Q => wA (show ins 9 2 = some (.aload_n 0, 1) by decide +kernel) rfl
set_option maxRecDepth 100000 in
theorem r_9_2_1 : ∀ (d : Nat) (l1 l2 l3 l4 : Option Value) (st : List Value) (M : Mem) (Q : Outcome → Mem → Prop), Wp d 9 2 [some .null, l1, l2, l3, l4] st M Q = Wp d 9 3 [some .null, l1, l2, l3, l4] (.null :: st) M Q := fun d l1 l2 l3 l4 st M Q => wA (show ins 9 2 = some (.aload_n 0, 1) by decide +kernel) rfl
set_option maxRecDepth 100000 in
theorem r_9_3 : ∀ (d : Nat) (l0 l2 l3 l4 : Option Value) (v : Int32) (st : List Value) (M : Mem) (Q : Outcome → Mem → Prop), Wp d 9 3 [l0, some (.int v), l2, l3, l4] st M Q = Wp d 9 4 [l0, some (.int v), l2, l3, l4] (.int v :: st) M Q := fun d l0 l2 l3 l4 v st M Q => wA (show ins 9 3 = some (.iload_n 1, 1) by decide +kernel) rfl
set_option maxRecDepth 100000 in
theorem r_9_4 : ∀ (d : Nat) (l0 l1 l3 l4 : Option Value) (v : Int32) (st : List Value) (M : Mem) (Q : Outcome → Mem → Prop), Wp d 9 4 [l0, l1, some (.int v), l3, l4] st M Q = Wp d 9 5 [l0, l1, some (.int v), l3, l4] (.int v :: st) M Q := fun d l0 l1 l3 l4 v st M Q => wA (show ins 9 4 = some (.iload_n 2, 1) by decide +kernel) rfl
set_option maxRecDepth 100000 in
theorem r_9_5 : ∀ (d : Nat) (ls : Lc) (v0 v1 : Value) (a : Nat) (st : List Value) (M : Mem) (Q : Outcome → Mem → Prop), (smallR st = true) → Wp d 9 5 ls (v1 :: v0 :: .ref a :: st) M Q = (kO M a = 1 ∧ Ca d 9 5 ls 73 (.ref a :: [v0, v1]) st M Q) := fun d ls v0 v1 a st M Q h0 => w_virt1 (as := [v0, v1]) (show ins 9 5 = some (.invokevirtual 46, 3) by decide +kernel) (show mRes (mC 9) 46 = some (3, 1, [(1, 73)]) by decide +kernel) (by decide +kernel) rfl (by decide +kernel) (by decide +kernel) h0
set_option maxRecDepth 100000 in
theorem r_9_8 : ∀ (d : Nat) (ls : Lc) (a : Int32) (st : List Value) (M : Mem) (Q : Outcome → Mem → Prop), Wp d 9 8 ls (.int a :: st) M Q = Wp d 9 9 ls (.long a.toInt64 :: st) M Q := fun d ls a st M Q => wA (show ins 9 8 = some (.i2l, 1) by decide +kernel) rfl
set_option maxRecDepth 100000 in
theorem r_9_9 : ∀ (d : Nat) (ls : Lc) (a : Nat) (j : Int32) (v : Int64) (st : List Value) (M : Mem) (Q : Outcome → Mem → Prop), Wp d 9 9 ls (.long v :: .int j :: .ref a :: st) M Q = (((kX M a).1 = 3 ∧ inB j (kX M a).2 = true) ∧ Wp d 9 10 ls st (sL M a j.toNatClampNeg v) Q) := fun d ls a j v st M Q => w_lastore (show ins 9 9 = some (.lastore, 1) by decide +kernel)
set_option maxRecDepth 100000 in
theorem r_9_10 : ∀ (d : Nat) (ls : Lc) (st : List Value) (M : Mem) (Q : Outcome → Mem → Prop), Wp d 9 10 ls st M Q = Wp d 9 21 ls st M Q := fun d ls st M Q => w_goto (show ins 9 10 = some (.goto 11, 3) by decide +kernel) rfl
set_option maxRecDepth 100000 in
theorem r_9_13 : ∀ (d : Nat) (l0 l1 l2 l3 l4 : Option Value) (v : Nat) (st : List Value) (M : Mem) (Q : Outcome → Mem → Prop), (lo l3 = false) → Wp d 9 13 [l0, l1, l2, l3, l4] (.ref v :: st) M Q = Wp d 9 15 [l0, l1, l2, l3, some (.ref v)] st M Q := fun d l0 l1 l2 l3 l4 v st M Q hl => w_astore (show ins 9 13 = some (.astore 4, 2) by decide +kernel) (st1_S rfl rfl hl)
set_option maxRecDepth 100000 in
theorem r_9_13_1 : ∀ (d : Nat) (l0 l1 l2 l3 l4 : Option Value) (st : List Value) (M : Mem) (Q : Outcome → Mem → Prop), (lo l3 = false) → Wp d 9 13 [l0, l1, l2, l3, l4] (.null :: st) M Q = Wp d 9 15 [l0, l1, l2, l3, some (.null)] st M Q := fun d l0 l1 l2 l3 l4 st M Q hl => w_astoreN (show ins 9 13 = some (.astore 4, 2) by decide +kernel) (st1_S rfl rfl hl)
set_option maxRecDepth 100000 in
theorem r_9_15 : ∀ (d : Nat) (ls : Lc) (st : List Value) (M : Mem) (Q : Outcome → Mem → Prop), Wp d 9 15 ls st M Q = Wp d 9 16 ls (.int (I 1) :: st) M Q := fun d ls st M Q => w_iconst (show ins 9 15 = some (.iconst 1, 1) by decide +kernel)
set_option maxRecDepth 100000 in
theorem r_9_16 : ∀ (d : Nat) (ls : Lc) (v : Int32) (M : Mem) (Q : Outcome → Mem → Prop), Wp d 9 16 ls [.int v] M Q = Q (.returned (some (.int v))) M := fun d ls v M Q => w_ireturn (show ins 9 16 = some (.ireturn, 1) by decide +kernel) (by decide +kernel)
set_option maxRecDepth 100000 in
theorem r_9_17 : ∀ (d : Nat) (l0 l1 l2 l3 l4 : Option Value) (v : Nat) (st : List Value) (M : Mem) (Q : Outcome → Mem → Prop), (lo l3 = false) → Wp d 9 17 [l0, l1, l2, l3, l4] (.ref v :: st) M Q = Wp d 9 19 [l0, l1, l2, l3, some (.ref v)] st M Q := fun d l0 l1 l2 l3 l4 v st M Q hl => w_astore (show ins 9 17 = some (.astore 4, 2) by decide +kernel) (st1_S rfl rfl hl)
set_option maxRecDepth 100000 in
theorem r_9_17_1 : ∀ (d : Nat) (l0 l1 l2 l3 l4 : Option Value) (st : List Value) (M : Mem) (Q : Outcome → Mem → Prop), (lo l3 = false) → Wp d 9 17 [l0, l1, l2, l3, l4] (.null :: st) M Q = Wp d 9 19 [l0, l1, l2, l3, some (.null)] st M Q := fun d l0 l1 l2 l3 l4 st M Q hl => w_astoreN (show ins 9 17 = some (.astore 4, 2) by decide +kernel) (st1_S rfl rfl hl)
set_option maxRecDepth 100000 in
theorem r_9_19 : ∀ (d : Nat) (ls : Lc) (st : List Value) (M : Mem) (Q : Outcome → Mem → Prop), Wp d 9 19 ls st M Q = Wp d 9 20 ls (.int (I 2) :: st) M Q := fun d ls st M Q => w_iconst (show ins 9 19 = some (.iconst 2, 1) by decide +kernel)
set_option maxRecDepth 100000 in
theorem r_9_20 : ∀ (d : Nat) (ls : Lc) (v : Int32) (M : Mem) (Q : Outcome → Mem → Prop), Wp d 9 20 ls [.int v] M Q = Q (.returned (some (.int v))) M := fun d ls v M Q => w_ireturn (show ins 9 20 = some (.ireturn, 1) by decide +kernel) (by decide +kernel)
set_option maxRecDepth 100000 in
theorem r_9_21 : ∀ (d : Nat) (ls : Lc) (st : List Value) (M : Mem) (Q : Outcome → Mem → Prop), Wp d 9 21 ls st M Q = Wp d 9 22 ls (.int (I 0) :: st) M Q := fun d ls st M Q => w_iconst (show ins 9 21 = some (.iconst 0, 1) by decide +kernel)
set_option maxRecDepth 100000 in
theorem r_9_22 : ∀ (d : Nat) (ls : Lc) (v : Int32) (M : Mem) (Q : Outcome → Mem → Prop), Wp d 9 22 ls [.int v] M Q = Q (.returned (some (.int v))) M := fun d ls v M Q => w_ireturn (show ins 9 22 = some (.ireturn, 1) by decide +kernel) (by decide +kernel)
set_option maxRecDepth 100000 in
theorem W_9 : (type_of% r_9_0) ∧ (type_of% r_9_0_1) ∧ (type_of% r_9_1) ∧ (type_of% r_9_2) ∧ (type_of% r_9_2_1) ∧ (type_of% r_9_3) ∧ (type_of% r_9_4) ∧ (type_of% r_9_5) ∧ (type_of% r_9_8) ∧ (type_of% r_9_9) ∧ (type_of% r_9_10) ∧ (type_of% r_9_13) ∧ (type_of% r_9_13_1) ∧ (type_of% r_9_15) ∧ (type_of% r_9_16) ∧ (type_of% r_9_17) ∧ (type_of% r_9_17_1) ∧ (type_of% r_9_19) ∧ (type_of% r_9_20) ∧ (type_of% r_9_21) ∧ (type_of% r_9_22) := ⟨r_9_0, r_9_0_1, r_9_1, r_9_2, r_9_2_1, r_9_3, r_9_4, r_9_5, r_9_8, r_9_9, r_9_10, r_9_13, r_9_13_1, r_9_15, r_9_16, r_9_17, r_9_17_1, r_9_19, r_9_20, r_9_21, r_9_22⟩
set_option maxRecDepth 100000 in
theorem ca_9 {d y pc : Nat} {ls : Lc} {o0 : Option Nat} {z1 : Int32} {z2 : Int32} {o3 : Option Nat} {r : List Value} {M : Mem} {Q : Outcome → Mem → Prop} (hd : 0 < d) (hw : Wp (d - 1) 9 0 [some (va_rf o0), some (.int z1), some (.int z2), some (va_rf o3), none] [] M (Cq d y pc ls r Q)) : Ca d y pc ls 9 [va_rf o0, .int z1, .int z2, va_rf o3] r M Q := ca_of (mq_get (by decide)) (by cases o0 <;> cases o3 <;> rfl) hd hw
/-! 10 PackedTreeLaw.name(LPackedTree;II[J)I; loop heads [] -/
set_option maxRecDepth 100000 in
theorem r_10_0 : ∀ (d : Nat) (l0 l1 l2 l4 : Option Value) (v : Nat) (st : List Value) (M : Mem) (Q : Outcome → Mem → Prop), Wp d 10 0 [l0, l1, l2, some (.ref v), l4] st M Q = Wp d 10 1 [l0, l1, l2, some (.ref v), l4] (.ref v :: st) M Q := fun d l0 l1 l2 l4 v st M Q => wA (show ins 10 0 = some (.aload_n 3, 1) by decide +kernel) rfl
set_option maxRecDepth 100000 in
theorem r_10_0_1 : ∀ (d : Nat) (l0 l1 l2 l4 : Option Value) (st : List Value) (M : Mem) (Q : Outcome → Mem → Prop), Wp d 10 0 [l0, l1, l2, some .null, l4] st M Q = Wp d 10 1 [l0, l1, l2, some .null, l4] (.null :: st) M Q := fun d l0 l1 l2 l4 st M Q => wA (show ins 10 0 = some (.aload_n 3, 1) by decide +kernel) rfl
set_option maxRecDepth 100000 in
theorem r_10_1 : ∀ (d : Nat) (ls : Lc) (st : List Value) (M : Mem) (Q : Outcome → Mem → Prop), Wp d 10 1 ls st M Q = Wp d 10 2 ls (.int (I 0) :: st) M Q := fun d ls st M Q => w_iconst (show ins 10 1 = some (.iconst 0, 1) by decide +kernel)
set_option maxRecDepth 100000 in
theorem r_10_2 : ∀ (d : Nat) (l1 l2 l3 l4 : Option Value) (v : Nat) (st : List Value) (M : Mem) (Q : Outcome → Mem → Prop), Wp d 10 2 [some (.ref v), l1, l2, l3, l4] st M Q = Wp d 10 3 [some (.ref v), l1, l2, l3, l4] (.ref v :: st) M Q := fun d l1 l2 l3 l4 v st M Q => wA (show ins 10 2 = some (.aload_n 0, 1) by decide +kernel) rfl
set_option maxRecDepth 100000 in
theorem r_10_2_1 : ∀ (d : Nat) (l1 l2 l3 l4 : Option Value) (st : List Value) (M : Mem) (Q : Outcome → Mem → Prop), Wp d 10 2 [some .null, l1, l2, l3, l4] st M Q = Wp d 10 3 [some .null, l1, l2, l3, l4] (.null :: st) M Q := fun d l1 l2 l3 l4 st M Q => wA (show ins 10 2 = some (.aload_n 0, 1) by decide +kernel) rfl
set_option maxRecDepth 100000 in
theorem r_10_3 : ∀ (d : Nat) (l0 l2 l3 l4 : Option Value) (v : Int32) (st : List Value) (M : Mem) (Q : Outcome → Mem → Prop), Wp d 10 3 [l0, some (.int v), l2, l3, l4] st M Q = Wp d 10 4 [l0, some (.int v), l2, l3, l4] (.int v :: st) M Q := fun d l0 l2 l3 l4 v st M Q => wA (show ins 10 3 = some (.iload_n 1, 1) by decide +kernel) rfl
set_option maxRecDepth 100000 in
theorem r_10_4 : ∀ (d : Nat) (l0 l1 l3 l4 : Option Value) (v : Int32) (st : List Value) (M : Mem) (Q : Outcome → Mem → Prop), Wp d 10 4 [l0, l1, some (.int v), l3, l4] st M Q = Wp d 10 5 [l0, l1, some (.int v), l3, l4] (.int v :: st) M Q := fun d l0 l1 l3 l4 v st M Q => wA (show ins 10 4 = some (.iload_n 2, 1) by decide +kernel) rfl
set_option maxRecDepth 100000 in
theorem r_10_5 : ∀ (d : Nat) (ls : Lc) (v0 v1 : Value) (a : Nat) (st : List Value) (M : Mem) (Q : Outcome → Mem → Prop), (smallR st = true) → Wp d 10 5 ls (v1 :: v0 :: .ref a :: st) M Q = (kO M a = 1 ∧ Ca d 10 5 ls 74 (.ref a :: [v0, v1]) st M Q) := fun d ls v0 v1 a st M Q h0 => w_virt1 (as := [v0, v1]) (show ins 10 5 = some (.invokevirtual 49, 3) by decide +kernel) (show mRes (mC 10) 49 = some (3, 1, [(1, 74)]) by decide +kernel) (by decide +kernel) rfl (by decide +kernel) (by decide +kernel) h0
set_option maxRecDepth 100000 in
theorem r_10_8 : ∀ (d : Nat) (ls : Lc) (a : Int32) (st : List Value) (M : Mem) (Q : Outcome → Mem → Prop), Wp d 10 8 ls (.int a :: st) M Q = Wp d 10 9 ls (.long a.toInt64 :: st) M Q := fun d ls a st M Q => wA (show ins 10 8 = some (.i2l, 1) by decide +kernel) rfl
set_option maxRecDepth 100000 in
theorem r_10_9 : ∀ (d : Nat) (ls : Lc) (a : Nat) (j : Int32) (v : Int64) (st : List Value) (M : Mem) (Q : Outcome → Mem → Prop), Wp d 10 9 ls (.long v :: .int j :: .ref a :: st) M Q = (((kX M a).1 = 3 ∧ inB j (kX M a).2 = true) ∧ Wp d 10 10 ls st (sL M a j.toNatClampNeg v) Q) := fun d ls a j v st M Q => w_lastore (show ins 10 9 = some (.lastore, 1) by decide +kernel)
set_option maxRecDepth 100000 in
theorem r_10_10 : ∀ (d : Nat) (ls : Lc) (st : List Value) (M : Mem) (Q : Outcome → Mem → Prop), Wp d 10 10 ls st M Q = Wp d 10 21 ls st M Q := fun d ls st M Q => w_goto (show ins 10 10 = some (.goto 11, 3) by decide +kernel) rfl
set_option maxRecDepth 100000 in
theorem r_10_13 : ∀ (d : Nat) (l0 l1 l2 l3 l4 : Option Value) (v : Nat) (st : List Value) (M : Mem) (Q : Outcome → Mem → Prop), (lo l3 = false) → Wp d 10 13 [l0, l1, l2, l3, l4] (.ref v :: st) M Q = Wp d 10 15 [l0, l1, l2, l3, some (.ref v)] st M Q := fun d l0 l1 l2 l3 l4 v st M Q hl => w_astore (show ins 10 13 = some (.astore 4, 2) by decide +kernel) (st1_S rfl rfl hl)
set_option maxRecDepth 100000 in
theorem r_10_13_1 : ∀ (d : Nat) (l0 l1 l2 l3 l4 : Option Value) (st : List Value) (M : Mem) (Q : Outcome → Mem → Prop), (lo l3 = false) → Wp d 10 13 [l0, l1, l2, l3, l4] (.null :: st) M Q = Wp d 10 15 [l0, l1, l2, l3, some (.null)] st M Q := fun d l0 l1 l2 l3 l4 st M Q hl => w_astoreN (show ins 10 13 = some (.astore 4, 2) by decide +kernel) (st1_S rfl rfl hl)
set_option maxRecDepth 100000 in
theorem r_10_15 : ∀ (d : Nat) (ls : Lc) (st : List Value) (M : Mem) (Q : Outcome → Mem → Prop), Wp d 10 15 ls st M Q = Wp d 10 16 ls (.int (I 1) :: st) M Q := fun d ls st M Q => w_iconst (show ins 10 15 = some (.iconst 1, 1) by decide +kernel)
set_option maxRecDepth 100000 in
theorem r_10_16 : ∀ (d : Nat) (ls : Lc) (v : Int32) (M : Mem) (Q : Outcome → Mem → Prop), Wp d 10 16 ls [.int v] M Q = Q (.returned (some (.int v))) M := fun d ls v M Q => w_ireturn (show ins 10 16 = some (.ireturn, 1) by decide +kernel) (by decide +kernel)
set_option maxRecDepth 100000 in
theorem r_10_17 : ∀ (d : Nat) (l0 l1 l2 l3 l4 : Option Value) (v : Nat) (st : List Value) (M : Mem) (Q : Outcome → Mem → Prop), (lo l3 = false) → Wp d 10 17 [l0, l1, l2, l3, l4] (.ref v :: st) M Q = Wp d 10 19 [l0, l1, l2, l3, some (.ref v)] st M Q := fun d l0 l1 l2 l3 l4 v st M Q hl => w_astore (show ins 10 17 = some (.astore 4, 2) by decide +kernel) (st1_S rfl rfl hl)
set_option maxRecDepth 100000 in
theorem r_10_17_1 : ∀ (d : Nat) (l0 l1 l2 l3 l4 : Option Value) (st : List Value) (M : Mem) (Q : Outcome → Mem → Prop), (lo l3 = false) → Wp d 10 17 [l0, l1, l2, l3, l4] (.null :: st) M Q = Wp d 10 19 [l0, l1, l2, l3, some (.null)] st M Q := fun d l0 l1 l2 l3 l4 st M Q hl => w_astoreN (show ins 10 17 = some (.astore 4, 2) by decide +kernel) (st1_S rfl rfl hl)
set_option maxRecDepth 100000 in
theorem r_10_19 : ∀ (d : Nat) (ls : Lc) (st : List Value) (M : Mem) (Q : Outcome → Mem → Prop), Wp d 10 19 ls st M Q = Wp d 10 20 ls (.int (I 2) :: st) M Q := fun d ls st M Q => w_iconst (show ins 10 19 = some (.iconst 2, 1) by decide +kernel)
set_option maxRecDepth 100000 in
theorem r_10_20 : ∀ (d : Nat) (ls : Lc) (v : Int32) (M : Mem) (Q : Outcome → Mem → Prop), Wp d 10 20 ls [.int v] M Q = Q (.returned (some (.int v))) M := fun d ls v M Q => w_ireturn (show ins 10 20 = some (.ireturn, 1) by decide +kernel) (by decide +kernel)
set_option maxRecDepth 100000 in
theorem r_10_21 : ∀ (d : Nat) (ls : Lc) (st : List Value) (M : Mem) (Q : Outcome → Mem → Prop), Wp d 10 21 ls st M Q = Wp d 10 22 ls (.int (I 0) :: st) M Q := fun d ls st M Q => w_iconst (show ins 10 21 = some (.iconst 0, 1) by decide +kernel)
set_option maxRecDepth 100000 in
theorem r_10_22 : ∀ (d : Nat) (ls : Lc) (v : Int32) (M : Mem) (Q : Outcome → Mem → Prop), Wp d 10 22 ls [.int v] M Q = Q (.returned (some (.int v))) M := fun d ls v M Q => w_ireturn (show ins 10 22 = some (.ireturn, 1) by decide +kernel) (by decide +kernel)
set_option maxRecDepth 100000 in
theorem W_10 : (type_of% r_10_0) ∧ (type_of% r_10_0_1) ∧ (type_of% r_10_1) ∧ (type_of% r_10_2) ∧ (type_of% r_10_2_1) ∧ (type_of% r_10_3) ∧ (type_of% r_10_4) ∧ (type_of% r_10_5) ∧ (type_of% r_10_8) ∧ (type_of% r_10_9) ∧ (type_of% r_10_10) ∧ (type_of% r_10_13) ∧ (type_of% r_10_13_1) ∧ (type_of% r_10_15) ∧ (type_of% r_10_16) ∧ (type_of% r_10_17) ∧ (type_of% r_10_17_1) ∧ (type_of% r_10_19) ∧ (type_of% r_10_20) ∧ (type_of% r_10_21) ∧ (type_of% r_10_22) := ⟨r_10_0, r_10_0_1, r_10_1, r_10_2, r_10_2_1, r_10_3, r_10_4, r_10_5, r_10_8, r_10_9, r_10_10, r_10_13, r_10_13_1, r_10_15, r_10_16, r_10_17, r_10_17_1, r_10_19, r_10_20, r_10_21, r_10_22⟩
set_option maxRecDepth 100000 in
theorem ca_10 {d y pc : Nat} {ls : Lc} {o0 : Option Nat} {z1 : Int32} {z2 : Int32} {o3 : Option Nat} {r : List Value} {M : Mem} {Q : Outcome → Mem → Prop} (hd : 0 < d) (hw : Wp (d - 1) 10 0 [some (va_rf o0), some (.int z1), some (.int z2), some (va_rf o3), none] [] M (Cq d y pc ls r Q)) : Ca d y pc ls 10 [va_rf o0, .int z1, .int z2, va_rf o3] r M Q := ca_of (mq_get (by decide)) (by cases o0 <;> cases o3 <;> rfl) hd hw
/-! 11 PackedTreeLaw.about(LPackedTree;II[J)I; loop heads [] -/
set_option maxRecDepth 100000 in
theorem r_11_0 : ∀ (d : Nat) (l0 l1 l2 l4 : Option Value) (v : Nat) (st : List Value) (M : Mem) (Q : Outcome → Mem → Prop), Wp d 11 0 [l0, l1, l2, some (.ref v), l4] st M Q = Wp d 11 1 [l0, l1, l2, some (.ref v), l4] (.ref v :: st) M Q := fun d l0 l1 l2 l4 v st M Q => wA (show ins 11 0 = some (.aload_n 3, 1) by decide +kernel) rfl
set_option maxRecDepth 100000 in
theorem r_11_0_1 : ∀ (d : Nat) (l0 l1 l2 l4 : Option Value) (st : List Value) (M : Mem) (Q : Outcome → Mem → Prop), Wp d 11 0 [l0, l1, l2, some .null, l4] st M Q = Wp d 11 1 [l0, l1, l2, some .null, l4] (.null :: st) M Q := fun d l0 l1 l2 l4 st M Q => wA (show ins 11 0 = some (.aload_n 3, 1) by decide +kernel) rfl
set_option maxRecDepth 100000 in
theorem r_11_1 : ∀ (d : Nat) (ls : Lc) (st : List Value) (M : Mem) (Q : Outcome → Mem → Prop), Wp d 11 1 ls st M Q = Wp d 11 2 ls (.int (I 0) :: st) M Q := fun d ls st M Q => w_iconst (show ins 11 1 = some (.iconst 0, 1) by decide +kernel)
set_option maxRecDepth 100000 in
theorem r_11_2 : ∀ (d : Nat) (l1 l2 l3 l4 : Option Value) (v : Nat) (st : List Value) (M : Mem) (Q : Outcome → Mem → Prop), Wp d 11 2 [some (.ref v), l1, l2, l3, l4] st M Q = Wp d 11 3 [some (.ref v), l1, l2, l3, l4] (.ref v :: st) M Q := fun d l1 l2 l3 l4 v st M Q => wA (show ins 11 2 = some (.aload_n 0, 1) by decide +kernel) rfl
set_option maxRecDepth 100000 in
theorem r_11_2_1 : ∀ (d : Nat) (l1 l2 l3 l4 : Option Value) (st : List Value) (M : Mem) (Q : Outcome → Mem → Prop), Wp d 11 2 [some .null, l1, l2, l3, l4] st M Q = Wp d 11 3 [some .null, l1, l2, l3, l4] (.null :: st) M Q := fun d l1 l2 l3 l4 st M Q => wA (show ins 11 2 = some (.aload_n 0, 1) by decide +kernel) rfl
set_option maxRecDepth 100000 in
theorem r_11_3 : ∀ (d : Nat) (l0 l2 l3 l4 : Option Value) (v : Int32) (st : List Value) (M : Mem) (Q : Outcome → Mem → Prop), Wp d 11 3 [l0, some (.int v), l2, l3, l4] st M Q = Wp d 11 4 [l0, some (.int v), l2, l3, l4] (.int v :: st) M Q := fun d l0 l2 l3 l4 v st M Q => wA (show ins 11 3 = some (.iload_n 1, 1) by decide +kernel) rfl
set_option maxRecDepth 100000 in
theorem r_11_4 : ∀ (d : Nat) (l0 l1 l3 l4 : Option Value) (v : Int32) (st : List Value) (M : Mem) (Q : Outcome → Mem → Prop), Wp d 11 4 [l0, l1, some (.int v), l3, l4] st M Q = Wp d 11 5 [l0, l1, some (.int v), l3, l4] (.int v :: st) M Q := fun d l0 l1 l3 l4 v st M Q => wA (show ins 11 4 = some (.iload_n 2, 1) by decide +kernel) rfl
set_option maxRecDepth 100000 in
theorem r_11_5 : ∀ (d : Nat) (ls : Lc) (v0 v1 : Value) (a : Nat) (st : List Value) (M : Mem) (Q : Outcome → Mem → Prop), (smallR st = true) → Wp d 11 5 ls (v1 :: v0 :: .ref a :: st) M Q = (kO M a = 1 ∧ Ca d 11 5 ls 75 (.ref a :: [v0, v1]) st M Q) := fun d ls v0 v1 a st M Q h0 => w_virt1 (as := [v0, v1]) (show ins 11 5 = some (.invokevirtual 52, 3) by decide +kernel) (show mRes (mC 11) 52 = some (3, 1, [(1, 75)]) by decide +kernel) (by decide +kernel) rfl (by decide +kernel) (by decide +kernel) h0
set_option maxRecDepth 100000 in
theorem r_11_8 : ∀ (d : Nat) (ls : Lc) (a : Int32) (st : List Value) (M : Mem) (Q : Outcome → Mem → Prop), Wp d 11 8 ls (.int a :: st) M Q = Wp d 11 9 ls (.long a.toInt64 :: st) M Q := fun d ls a st M Q => wA (show ins 11 8 = some (.i2l, 1) by decide +kernel) rfl
set_option maxRecDepth 100000 in
theorem r_11_9 : ∀ (d : Nat) (ls : Lc) (a : Nat) (j : Int32) (v : Int64) (st : List Value) (M : Mem) (Q : Outcome → Mem → Prop), Wp d 11 9 ls (.long v :: .int j :: .ref a :: st) M Q = (((kX M a).1 = 3 ∧ inB j (kX M a).2 = true) ∧ Wp d 11 10 ls st (sL M a j.toNatClampNeg v) Q) := fun d ls a j v st M Q => w_lastore (show ins 11 9 = some (.lastore, 1) by decide +kernel)
set_option maxRecDepth 100000 in
theorem r_11_10 : ∀ (d : Nat) (ls : Lc) (st : List Value) (M : Mem) (Q : Outcome → Mem → Prop), Wp d 11 10 ls st M Q = Wp d 11 25 ls st M Q := fun d ls st M Q => w_goto (show ins 11 10 = some (.goto 15, 3) by decide +kernel) rfl
set_option maxRecDepth 100000 in
theorem r_11_13 : ∀ (d : Nat) (l0 l1 l2 l3 l4 : Option Value) (v : Nat) (st : List Value) (M : Mem) (Q : Outcome → Mem → Prop), (lo l3 = false) → Wp d 11 13 [l0, l1, l2, l3, l4] (.ref v :: st) M Q = Wp d 11 15 [l0, l1, l2, l3, some (.ref v)] st M Q := fun d l0 l1 l2 l3 l4 v st M Q hl => w_astore (show ins 11 13 = some (.astore 4, 2) by decide +kernel) (st1_S rfl rfl hl)
set_option maxRecDepth 100000 in
theorem r_11_13_1 : ∀ (d : Nat) (l0 l1 l2 l3 l4 : Option Value) (st : List Value) (M : Mem) (Q : Outcome → Mem → Prop), (lo l3 = false) → Wp d 11 13 [l0, l1, l2, l3, l4] (.null :: st) M Q = Wp d 11 15 [l0, l1, l2, l3, some (.null)] st M Q := fun d l0 l1 l2 l3 l4 st M Q hl => w_astoreN (show ins 11 13 = some (.astore 4, 2) by decide +kernel) (st1_S rfl rfl hl)
set_option maxRecDepth 100000 in
theorem r_11_15 : ∀ (d : Nat) (ls : Lc) (st : List Value) (M : Mem) (Q : Outcome → Mem → Prop), Wp d 11 15 ls st M Q = Wp d 11 16 ls (.int (I 1) :: st) M Q := fun d ls st M Q => w_iconst (show ins 11 15 = some (.iconst 1, 1) by decide +kernel)
set_option maxRecDepth 100000 in
theorem r_11_16 : ∀ (d : Nat) (ls : Lc) (v : Int32) (M : Mem) (Q : Outcome → Mem → Prop), Wp d 11 16 ls [.int v] M Q = Q (.returned (some (.int v))) M := fun d ls v M Q => w_ireturn (show ins 11 16 = some (.ireturn, 1) by decide +kernel) (by decide +kernel)
set_option maxRecDepth 100000 in
theorem r_11_17 : ∀ (d : Nat) (l0 l1 l2 l3 l4 : Option Value) (v : Nat) (st : List Value) (M : Mem) (Q : Outcome → Mem → Prop), (lo l3 = false) → Wp d 11 17 [l0, l1, l2, l3, l4] (.ref v :: st) M Q = Wp d 11 19 [l0, l1, l2, l3, some (.ref v)] st M Q := fun d l0 l1 l2 l3 l4 v st M Q hl => w_astore (show ins 11 17 = some (.astore 4, 2) by decide +kernel) (st1_S rfl rfl hl)
set_option maxRecDepth 100000 in
theorem r_11_17_1 : ∀ (d : Nat) (l0 l1 l2 l3 l4 : Option Value) (st : List Value) (M : Mem) (Q : Outcome → Mem → Prop), (lo l3 = false) → Wp d 11 17 [l0, l1, l2, l3, l4] (.null :: st) M Q = Wp d 11 19 [l0, l1, l2, l3, some (.null)] st M Q := fun d l0 l1 l2 l3 l4 st M Q hl => w_astoreN (show ins 11 17 = some (.astore 4, 2) by decide +kernel) (st1_S rfl rfl hl)
set_option maxRecDepth 100000 in
theorem r_11_19 : ∀ (d : Nat) (ls : Lc) (st : List Value) (M : Mem) (Q : Outcome → Mem → Prop), Wp d 11 19 ls st M Q = Wp d 11 20 ls (.int (I 2) :: st) M Q := fun d ls st M Q => w_iconst (show ins 11 19 = some (.iconst 2, 1) by decide +kernel)
set_option maxRecDepth 100000 in
theorem r_11_20 : ∀ (d : Nat) (ls : Lc) (v : Int32) (M : Mem) (Q : Outcome → Mem → Prop), Wp d 11 20 ls [.int v] M Q = Q (.returned (some (.int v))) M := fun d ls v M Q => w_ireturn (show ins 11 20 = some (.ireturn, 1) by decide +kernel) (by decide +kernel)
set_option maxRecDepth 100000 in
theorem r_11_21 : ∀ (d : Nat) (l0 l1 l2 l3 l4 : Option Value) (v : Nat) (st : List Value) (M : Mem) (Q : Outcome → Mem → Prop), (lo l3 = false) → Wp d 11 21 [l0, l1, l2, l3, l4] (.ref v :: st) M Q = Wp d 11 23 [l0, l1, l2, l3, some (.ref v)] st M Q := fun d l0 l1 l2 l3 l4 v st M Q hl => w_astore (show ins 11 21 = some (.astore 4, 2) by decide +kernel) (st1_S rfl rfl hl)
set_option maxRecDepth 100000 in
theorem r_11_21_1 : ∀ (d : Nat) (l0 l1 l2 l3 l4 : Option Value) (st : List Value) (M : Mem) (Q : Outcome → Mem → Prop), (lo l3 = false) → Wp d 11 21 [l0, l1, l2, l3, l4] (.null :: st) M Q = Wp d 11 23 [l0, l1, l2, l3, some (.null)] st M Q := fun d l0 l1 l2 l3 l4 st M Q hl => w_astoreN (show ins 11 21 = some (.astore 4, 2) by decide +kernel) (st1_S rfl rfl hl)
set_option maxRecDepth 100000 in
theorem r_11_23 : ∀ (d : Nat) (ls : Lc) (st : List Value) (M : Mem) (Q : Outcome → Mem → Prop), Wp d 11 23 ls st M Q = Wp d 11 24 ls (.int (I 3) :: st) M Q := fun d ls st M Q => w_iconst (show ins 11 23 = some (.iconst 3, 1) by decide +kernel)
set_option maxRecDepth 100000 in
theorem r_11_24 : ∀ (d : Nat) (ls : Lc) (v : Int32) (M : Mem) (Q : Outcome → Mem → Prop), Wp d 11 24 ls [.int v] M Q = Q (.returned (some (.int v))) M := fun d ls v M Q => w_ireturn (show ins 11 24 = some (.ireturn, 1) by decide +kernel) (by decide +kernel)
set_option maxRecDepth 100000 in
theorem r_11_25 : ∀ (d : Nat) (ls : Lc) (st : List Value) (M : Mem) (Q : Outcome → Mem → Prop), Wp d 11 25 ls st M Q = Wp d 11 26 ls (.int (I 0) :: st) M Q := fun d ls st M Q => w_iconst (show ins 11 25 = some (.iconst 0, 1) by decide +kernel)
set_option maxRecDepth 100000 in
theorem r_11_26 : ∀ (d : Nat) (ls : Lc) (v : Int32) (M : Mem) (Q : Outcome → Mem → Prop), Wp d 11 26 ls [.int v] M Q = Q (.returned (some (.int v))) M := fun d ls v M Q => w_ireturn (show ins 11 26 = some (.ireturn, 1) by decide +kernel) (by decide +kernel)
set_option maxRecDepth 100000 in
theorem W_11 : (type_of% r_11_0) ∧ (type_of% r_11_0_1) ∧ (type_of% r_11_1) ∧ (type_of% r_11_2) ∧ (type_of% r_11_2_1) ∧ (type_of% r_11_3) ∧ (type_of% r_11_4) ∧ (type_of% r_11_5) ∧ (type_of% r_11_8) ∧ (type_of% r_11_9) ∧ (type_of% r_11_10) ∧ (type_of% r_11_13) ∧ (type_of% r_11_13_1) ∧ (type_of% r_11_15) ∧ (type_of% r_11_16) ∧ (type_of% r_11_17) ∧ (type_of% r_11_17_1) ∧ (type_of% r_11_19) ∧ (type_of% r_11_20) ∧ (type_of% r_11_21) ∧ (type_of% r_11_21_1) ∧ (type_of% r_11_23) ∧ (type_of% r_11_24) ∧ (type_of% r_11_25) ∧ (type_of% r_11_26) := ⟨r_11_0, r_11_0_1, r_11_1, r_11_2, r_11_2_1, r_11_3, r_11_4, r_11_5, r_11_8, r_11_9, r_11_10, r_11_13, r_11_13_1, r_11_15, r_11_16, r_11_17, r_11_17_1, r_11_19, r_11_20, r_11_21, r_11_21_1, r_11_23, r_11_24, r_11_25, r_11_26⟩
set_option maxRecDepth 100000 in
theorem ca_11 {d y pc : Nat} {ls : Lc} {o0 : Option Nat} {z1 : Int32} {z2 : Int32} {o3 : Option Nat} {r : List Value} {M : Mem} {Q : Outcome → Mem → Prop} (hd : 0 < d) (hw : Wp (d - 1) 11 0 [some (va_rf o0), some (.int z1), some (.int z2), some (va_rf o3), none] [] M (Cq d y pc ls r Q)) : Ca d y pc ls 11 [va_rf o0, .int z1, .int z2, va_rf o3] r M Q := ca_of (mq_get (by decide)) (by cases o0 <;> cases o3 <;> rfl) hd hw
/-! 12 PackedTreeLaw.node(LPackedTree;III[J)I; loop heads [] -/
set_option maxRecDepth 100000 in
theorem r_12_0 : ∀ (d : Nat) (l0 l1 l2 l3 l5 : Option Value) (v : Nat) (st : List Value) (M : Mem) (Q : Outcome → Mem → Prop), Wp d 12 0 [l0, l1, l2, l3, some (.ref v), l5] st M Q = Wp d 12 2 [l0, l1, l2, l3, some (.ref v), l5] (.ref v :: st) M Q := fun d l0 l1 l2 l3 l5 v st M Q => wA (show ins 12 0 = some (.aload 4, 2) by decide +kernel) rfl
set_option maxRecDepth 100000 in
theorem r_12_0_1 : ∀ (d : Nat) (l0 l1 l2 l3 l5 : Option Value) (st : List Value) (M : Mem) (Q : Outcome → Mem → Prop), Wp d 12 0 [l0, l1, l2, l3, some .null, l5] st M Q = Wp d 12 2 [l0, l1, l2, l3, some .null, l5] (.null :: st) M Q := fun d l0 l1 l2 l3 l5 st M Q => wA (show ins 12 0 = some (.aload 4, 2) by decide +kernel) rfl
set_option maxRecDepth 100000 in
theorem r_12_2 : ∀ (d : Nat) (ls : Lc) (st : List Value) (M : Mem) (Q : Outcome → Mem → Prop), Wp d 12 2 ls st M Q = Wp d 12 3 ls (.int (I 0) :: st) M Q := fun d ls st M Q => w_iconst (show ins 12 2 = some (.iconst 0, 1) by decide +kernel)
set_option maxRecDepth 100000 in
theorem r_12_3 : ∀ (d : Nat) (l1 l2 l3 l4 l5 : Option Value) (v : Nat) (st : List Value) (M : Mem) (Q : Outcome → Mem → Prop), Wp d 12 3 [some (.ref v), l1, l2, l3, l4, l5] st M Q = Wp d 12 4 [some (.ref v), l1, l2, l3, l4, l5] (.ref v :: st) M Q := fun d l1 l2 l3 l4 l5 v st M Q => wA (show ins 12 3 = some (.aload_n 0, 1) by decide +kernel) rfl
set_option maxRecDepth 100000 in
theorem r_12_3_1 : ∀ (d : Nat) (l1 l2 l3 l4 l5 : Option Value) (st : List Value) (M : Mem) (Q : Outcome → Mem → Prop), Wp d 12 3 [some .null, l1, l2, l3, l4, l5] st M Q = Wp d 12 4 [some .null, l1, l2, l3, l4, l5] (.null :: st) M Q := fun d l1 l2 l3 l4 l5 st M Q => wA (show ins 12 3 = some (.aload_n 0, 1) by decide +kernel) rfl
set_option maxRecDepth 100000 in
theorem r_12_4 : ∀ (d : Nat) (l0 l2 l3 l4 l5 : Option Value) (v : Int32) (st : List Value) (M : Mem) (Q : Outcome → Mem → Prop), Wp d 12 4 [l0, some (.int v), l2, l3, l4, l5] st M Q = Wp d 12 5 [l0, some (.int v), l2, l3, l4, l5] (.int v :: st) M Q := fun d l0 l2 l3 l4 l5 v st M Q => wA (show ins 12 4 = some (.iload_n 1, 1) by decide +kernel) rfl
set_option maxRecDepth 100000 in
theorem r_12_5 : ∀ (d : Nat) (l0 l1 l3 l4 l5 : Option Value) (v : Int32) (st : List Value) (M : Mem) (Q : Outcome → Mem → Prop), Wp d 12 5 [l0, l1, some (.int v), l3, l4, l5] st M Q = Wp d 12 6 [l0, l1, some (.int v), l3, l4, l5] (.int v :: st) M Q := fun d l0 l1 l3 l4 l5 v st M Q => wA (show ins 12 5 = some (.iload_n 2, 1) by decide +kernel) rfl
set_option maxRecDepth 100000 in
theorem r_12_6 : ∀ (d : Nat) (l0 l1 l2 l4 l5 : Option Value) (v : Int32) (st : List Value) (M : Mem) (Q : Outcome → Mem → Prop), Wp d 12 6 [l0, l1, l2, some (.int v), l4, l5] st M Q = Wp d 12 7 [l0, l1, l2, some (.int v), l4, l5] (.int v :: st) M Q := fun d l0 l1 l2 l4 l5 v st M Q => wA (show ins 12 6 = some (.iload_n 3, 1) by decide +kernel) rfl
set_option maxRecDepth 100000 in
theorem r_12_7 : ∀ (d : Nat) (ls : Lc) (v0 v1 v2 : Value) (a : Nat) (st : List Value) (M : Mem) (Q : Outcome → Mem → Prop), (smallR st = true) → Wp d 12 7 ls (v2 :: v1 :: v0 :: .ref a :: st) M Q = (kO M a = 1 ∧ Ca d 12 7 ls 76 (.ref a :: [v0, v1, v2]) st M Q) := fun d ls v0 v1 v2 a st M Q h0 => w_virt1 (as := [v0, v1, v2]) (show ins 12 7 = some (.invokevirtual 55, 3) by decide +kernel) (show mRes (mC 12) 55 = some (3, 1, [(1, 76)]) by decide +kernel) (by decide +kernel) rfl (by decide +kernel) (by decide +kernel) h0
set_option maxRecDepth 100000 in
theorem r_12_10 : ∀ (d : Nat) (ls : Lc) (a : Int32) (st : List Value) (M : Mem) (Q : Outcome → Mem → Prop), Wp d 12 10 ls (.int a :: st) M Q = Wp d 12 11 ls (.long a.toInt64 :: st) M Q := fun d ls a st M Q => wA (show ins 12 10 = some (.i2l, 1) by decide +kernel) rfl
set_option maxRecDepth 100000 in
theorem r_12_11 : ∀ (d : Nat) (ls : Lc) (a : Nat) (j : Int32) (v : Int64) (st : List Value) (M : Mem) (Q : Outcome → Mem → Prop), Wp d 12 11 ls (.long v :: .int j :: .ref a :: st) M Q = (((kX M a).1 = 3 ∧ inB j (kX M a).2 = true) ∧ Wp d 12 12 ls st (sL M a j.toNatClampNeg v) Q) := fun d ls a j v st M Q => w_lastore (show ins 12 11 = some (.lastore, 1) by decide +kernel)
set_option maxRecDepth 100000 in
theorem r_12_12 : ∀ (d : Nat) (ls : Lc) (st : List Value) (M : Mem) (Q : Outcome → Mem → Prop), Wp d 12 12 ls st M Q = Wp d 12 27 ls st M Q := fun d ls st M Q => w_goto (show ins 12 12 = some (.goto 15, 3) by decide +kernel) rfl
set_option maxRecDepth 100000 in
theorem r_12_15 : ∀ (d : Nat) (l0 l1 l2 l3 l4 l5 : Option Value) (v : Nat) (st : List Value) (M : Mem) (Q : Outcome → Mem → Prop), (lo l4 = false) → Wp d 12 15 [l0, l1, l2, l3, l4, l5] (.ref v :: st) M Q = Wp d 12 17 [l0, l1, l2, l3, l4, some (.ref v)] st M Q := fun d l0 l1 l2 l3 l4 l5 v st M Q hl => w_astore (show ins 12 15 = some (.astore 5, 2) by decide +kernel) (st1_S rfl rfl hl)
set_option maxRecDepth 100000 in
theorem r_12_15_1 : ∀ (d : Nat) (l0 l1 l2 l3 l4 l5 : Option Value) (st : List Value) (M : Mem) (Q : Outcome → Mem → Prop), (lo l4 = false) → Wp d 12 15 [l0, l1, l2, l3, l4, l5] (.null :: st) M Q = Wp d 12 17 [l0, l1, l2, l3, l4, some (.null)] st M Q := fun d l0 l1 l2 l3 l4 l5 st M Q hl => w_astoreN (show ins 12 15 = some (.astore 5, 2) by decide +kernel) (st1_S rfl rfl hl)
set_option maxRecDepth 100000 in
theorem r_12_17 : ∀ (d : Nat) (ls : Lc) (st : List Value) (M : Mem) (Q : Outcome → Mem → Prop), Wp d 12 17 ls st M Q = Wp d 12 18 ls (.int (I 1) :: st) M Q := fun d ls st M Q => w_iconst (show ins 12 17 = some (.iconst 1, 1) by decide +kernel)
set_option maxRecDepth 100000 in
theorem r_12_18 : ∀ (d : Nat) (ls : Lc) (v : Int32) (M : Mem) (Q : Outcome → Mem → Prop), Wp d 12 18 ls [.int v] M Q = Q (.returned (some (.int v))) M := fun d ls v M Q => w_ireturn (show ins 12 18 = some (.ireturn, 1) by decide +kernel) (by decide +kernel)
set_option maxRecDepth 100000 in
theorem r_12_19 : ∀ (d : Nat) (l0 l1 l2 l3 l4 l5 : Option Value) (v : Nat) (st : List Value) (M : Mem) (Q : Outcome → Mem → Prop), (lo l4 = false) → Wp d 12 19 [l0, l1, l2, l3, l4, l5] (.ref v :: st) M Q = Wp d 12 21 [l0, l1, l2, l3, l4, some (.ref v)] st M Q := fun d l0 l1 l2 l3 l4 l5 v st M Q hl => w_astore (show ins 12 19 = some (.astore 5, 2) by decide +kernel) (st1_S rfl rfl hl)
set_option maxRecDepth 100000 in
theorem r_12_19_1 : ∀ (d : Nat) (l0 l1 l2 l3 l4 l5 : Option Value) (st : List Value) (M : Mem) (Q : Outcome → Mem → Prop), (lo l4 = false) → Wp d 12 19 [l0, l1, l2, l3, l4, l5] (.null :: st) M Q = Wp d 12 21 [l0, l1, l2, l3, l4, some (.null)] st M Q := fun d l0 l1 l2 l3 l4 l5 st M Q hl => w_astoreN (show ins 12 19 = some (.astore 5, 2) by decide +kernel) (st1_S rfl rfl hl)
set_option maxRecDepth 100000 in
theorem r_12_21 : ∀ (d : Nat) (ls : Lc) (st : List Value) (M : Mem) (Q : Outcome → Mem → Prop), Wp d 12 21 ls st M Q = Wp d 12 22 ls (.int (I 2) :: st) M Q := fun d ls st M Q => w_iconst (show ins 12 21 = some (.iconst 2, 1) by decide +kernel)
set_option maxRecDepth 100000 in
theorem r_12_22 : ∀ (d : Nat) (ls : Lc) (v : Int32) (M : Mem) (Q : Outcome → Mem → Prop), Wp d 12 22 ls [.int v] M Q = Q (.returned (some (.int v))) M := fun d ls v M Q => w_ireturn (show ins 12 22 = some (.ireturn, 1) by decide +kernel) (by decide +kernel)
set_option maxRecDepth 100000 in
theorem r_12_23 : ∀ (d : Nat) (l0 l1 l2 l3 l4 l5 : Option Value) (v : Nat) (st : List Value) (M : Mem) (Q : Outcome → Mem → Prop), (lo l4 = false) → Wp d 12 23 [l0, l1, l2, l3, l4, l5] (.ref v :: st) M Q = Wp d 12 25 [l0, l1, l2, l3, l4, some (.ref v)] st M Q := fun d l0 l1 l2 l3 l4 l5 v st M Q hl => w_astore (show ins 12 23 = some (.astore 5, 2) by decide +kernel) (st1_S rfl rfl hl)
set_option maxRecDepth 100000 in
theorem r_12_23_1 : ∀ (d : Nat) (l0 l1 l2 l3 l4 l5 : Option Value) (st : List Value) (M : Mem) (Q : Outcome → Mem → Prop), (lo l4 = false) → Wp d 12 23 [l0, l1, l2, l3, l4, l5] (.null :: st) M Q = Wp d 12 25 [l0, l1, l2, l3, l4, some (.null)] st M Q := fun d l0 l1 l2 l3 l4 l5 st M Q hl => w_astoreN (show ins 12 23 = some (.astore 5, 2) by decide +kernel) (st1_S rfl rfl hl)
set_option maxRecDepth 100000 in
theorem r_12_25 : ∀ (d : Nat) (ls : Lc) (st : List Value) (M : Mem) (Q : Outcome → Mem → Prop), Wp d 12 25 ls st M Q = Wp d 12 26 ls (.int (I 3) :: st) M Q := fun d ls st M Q => w_iconst (show ins 12 25 = some (.iconst 3, 1) by decide +kernel)
set_option maxRecDepth 100000 in
theorem r_12_26 : ∀ (d : Nat) (ls : Lc) (v : Int32) (M : Mem) (Q : Outcome → Mem → Prop), Wp d 12 26 ls [.int v] M Q = Q (.returned (some (.int v))) M := fun d ls v M Q => w_ireturn (show ins 12 26 = some (.ireturn, 1) by decide +kernel) (by decide +kernel)
set_option maxRecDepth 100000 in
theorem r_12_27 : ∀ (d : Nat) (ls : Lc) (st : List Value) (M : Mem) (Q : Outcome → Mem → Prop), Wp d 12 27 ls st M Q = Wp d 12 28 ls (.int (I 0) :: st) M Q := fun d ls st M Q => w_iconst (show ins 12 27 = some (.iconst 0, 1) by decide +kernel)
set_option maxRecDepth 100000 in
theorem r_12_28 : ∀ (d : Nat) (ls : Lc) (v : Int32) (M : Mem) (Q : Outcome → Mem → Prop), Wp d 12 28 ls [.int v] M Q = Q (.returned (some (.int v))) M := fun d ls v M Q => w_ireturn (show ins 12 28 = some (.ireturn, 1) by decide +kernel) (by decide +kernel)
set_option maxRecDepth 100000 in
theorem W_12 : (type_of% r_12_0) ∧ (type_of% r_12_0_1) ∧ (type_of% r_12_2) ∧ (type_of% r_12_3) ∧ (type_of% r_12_3_1) ∧ (type_of% r_12_4) ∧ (type_of% r_12_5) ∧ (type_of% r_12_6) ∧ (type_of% r_12_7) ∧ (type_of% r_12_10) ∧ (type_of% r_12_11) ∧ (type_of% r_12_12) ∧ (type_of% r_12_15) ∧ (type_of% r_12_15_1) ∧ (type_of% r_12_17) ∧ (type_of% r_12_18) ∧ (type_of% r_12_19) ∧ (type_of% r_12_19_1) ∧ (type_of% r_12_21) ∧ (type_of% r_12_22) ∧ (type_of% r_12_23) ∧ (type_of% r_12_23_1) ∧ (type_of% r_12_25) ∧ (type_of% r_12_26) ∧ (type_of% r_12_27) ∧ (type_of% r_12_28) := ⟨r_12_0, r_12_0_1, r_12_2, r_12_3, r_12_3_1, r_12_4, r_12_5, r_12_6, r_12_7, r_12_10, r_12_11, r_12_12, r_12_15, r_12_15_1, r_12_17, r_12_18, r_12_19, r_12_19_1, r_12_21, r_12_22, r_12_23, r_12_23_1, r_12_25, r_12_26, r_12_27, r_12_28⟩
set_option maxRecDepth 100000 in
theorem ca_12 {d y pc : Nat} {ls : Lc} {o0 : Option Nat} {z1 : Int32} {z2 : Int32} {z3 : Int32} {o4 : Option Nat} {r : List Value} {M : Mem} {Q : Outcome → Mem → Prop} (hd : 0 < d) (hw : Wp (d - 1) 12 0 [some (va_rf o0), some (.int z1), some (.int z2), some (.int z3), some (va_rf o4), none] [] M (Cq d y pc ls r Q)) : Ca d y pc ls 12 [va_rf o0, .int z1, .int z2, .int z3, va_rf o4] r M Q := ca_of (mq_get (by decide)) (by cases o0 <;> cases o4 <;> rfl) hd hw
/-! 13 PackedTreeLaw.item(LPackedTree;II[J)I; loop heads [] -/
set_option maxRecDepth 100000 in
theorem r_13_0 : ∀ (d : Nat) (l0 l1 l2 l4 : Option Value) (v : Nat) (st : List Value) (M : Mem) (Q : Outcome → Mem → Prop), Wp d 13 0 [l0, l1, l2, some (.ref v), l4] st M Q = Wp d 13 1 [l0, l1, l2, some (.ref v), l4] (.ref v :: st) M Q := fun d l0 l1 l2 l4 v st M Q => wA (show ins 13 0 = some (.aload_n 3, 1) by decide +kernel) rfl
set_option maxRecDepth 100000 in
theorem r_13_0_1 : ∀ (d : Nat) (l0 l1 l2 l4 : Option Value) (st : List Value) (M : Mem) (Q : Outcome → Mem → Prop), Wp d 13 0 [l0, l1, l2, some .null, l4] st M Q = Wp d 13 1 [l0, l1, l2, some .null, l4] (.null :: st) M Q := fun d l0 l1 l2 l4 st M Q => wA (show ins 13 0 = some (.aload_n 3, 1) by decide +kernel) rfl
set_option maxRecDepth 100000 in
theorem r_13_1 : ∀ (d : Nat) (ls : Lc) (st : List Value) (M : Mem) (Q : Outcome → Mem → Prop), Wp d 13 1 ls st M Q = Wp d 13 2 ls (.int (I 0) :: st) M Q := fun d ls st M Q => w_iconst (show ins 13 1 = some (.iconst 0, 1) by decide +kernel)
set_option maxRecDepth 100000 in
theorem r_13_2 : ∀ (d : Nat) (l1 l2 l3 l4 : Option Value) (v : Nat) (st : List Value) (M : Mem) (Q : Outcome → Mem → Prop), Wp d 13 2 [some (.ref v), l1, l2, l3, l4] st M Q = Wp d 13 3 [some (.ref v), l1, l2, l3, l4] (.ref v :: st) M Q := fun d l1 l2 l3 l4 v st M Q => wA (show ins 13 2 = some (.aload_n 0, 1) by decide +kernel) rfl
set_option maxRecDepth 100000 in
theorem r_13_2_1 : ∀ (d : Nat) (l1 l2 l3 l4 : Option Value) (st : List Value) (M : Mem) (Q : Outcome → Mem → Prop), Wp d 13 2 [some .null, l1, l2, l3, l4] st M Q = Wp d 13 3 [some .null, l1, l2, l3, l4] (.null :: st) M Q := fun d l1 l2 l3 l4 st M Q => wA (show ins 13 2 = some (.aload_n 0, 1) by decide +kernel) rfl
set_option maxRecDepth 100000 in
theorem r_13_3 : ∀ (d : Nat) (l0 l2 l3 l4 : Option Value) (v : Int32) (st : List Value) (M : Mem) (Q : Outcome → Mem → Prop), Wp d 13 3 [l0, some (.int v), l2, l3, l4] st M Q = Wp d 13 4 [l0, some (.int v), l2, l3, l4] (.int v :: st) M Q := fun d l0 l2 l3 l4 v st M Q => wA (show ins 13 3 = some (.iload_n 1, 1) by decide +kernel) rfl
set_option maxRecDepth 100000 in
theorem r_13_4 : ∀ (d : Nat) (l0 l1 l3 l4 : Option Value) (v : Int32) (st : List Value) (M : Mem) (Q : Outcome → Mem → Prop), Wp d 13 4 [l0, l1, some (.int v), l3, l4] st M Q = Wp d 13 5 [l0, l1, some (.int v), l3, l4] (.int v :: st) M Q := fun d l0 l1 l3 l4 v st M Q => wA (show ins 13 4 = some (.iload_n 2, 1) by decide +kernel) rfl
set_option maxRecDepth 100000 in
theorem r_13_5 : ∀ (d : Nat) (ls : Lc) (v0 v1 : Value) (a : Nat) (st : List Value) (M : Mem) (Q : Outcome → Mem → Prop), (smallR st = true) → Wp d 13 5 ls (v1 :: v0 :: .ref a :: st) M Q = (kO M a = 1 ∧ Ca d 13 5 ls 77 (.ref a :: [v0, v1]) st M Q) := fun d ls v0 v1 a st M Q h0 => w_virt1 (as := [v0, v1]) (show ins 13 5 = some (.invokevirtual 58, 3) by decide +kernel) (show mRes (mC 13) 58 = some (3, 1, [(1, 77)]) by decide +kernel) (by decide +kernel) rfl (by decide +kernel) (by decide +kernel) h0
set_option maxRecDepth 100000 in
theorem r_13_8 : ∀ (d : Nat) (ls : Lc) (a : Int32) (st : List Value) (M : Mem) (Q : Outcome → Mem → Prop), Wp d 13 8 ls (.int a :: st) M Q = Wp d 13 9 ls (.long a.toInt64 :: st) M Q := fun d ls a st M Q => wA (show ins 13 8 = some (.i2l, 1) by decide +kernel) rfl
set_option maxRecDepth 100000 in
theorem r_13_9 : ∀ (d : Nat) (ls : Lc) (a : Nat) (j : Int32) (v : Int64) (st : List Value) (M : Mem) (Q : Outcome → Mem → Prop), Wp d 13 9 ls (.long v :: .int j :: .ref a :: st) M Q = (((kX M a).1 = 3 ∧ inB j (kX M a).2 = true) ∧ Wp d 13 10 ls st (sL M a j.toNatClampNeg v) Q) := fun d ls a j v st M Q => w_lastore (show ins 13 9 = some (.lastore, 1) by decide +kernel)
set_option maxRecDepth 100000 in
theorem r_13_10 : ∀ (d : Nat) (ls : Lc) (st : List Value) (M : Mem) (Q : Outcome → Mem → Prop), Wp d 13 10 ls st M Q = Wp d 13 25 ls st M Q := fun d ls st M Q => w_goto (show ins 13 10 = some (.goto 15, 3) by decide +kernel) rfl
set_option maxRecDepth 100000 in
theorem r_13_13 : ∀ (d : Nat) (l0 l1 l2 l3 l4 : Option Value) (v : Nat) (st : List Value) (M : Mem) (Q : Outcome → Mem → Prop), (lo l3 = false) → Wp d 13 13 [l0, l1, l2, l3, l4] (.ref v :: st) M Q = Wp d 13 15 [l0, l1, l2, l3, some (.ref v)] st M Q := fun d l0 l1 l2 l3 l4 v st M Q hl => w_astore (show ins 13 13 = some (.astore 4, 2) by decide +kernel) (st1_S rfl rfl hl)
set_option maxRecDepth 100000 in
theorem r_13_13_1 : ∀ (d : Nat) (l0 l1 l2 l3 l4 : Option Value) (st : List Value) (M : Mem) (Q : Outcome → Mem → Prop), (lo l3 = false) → Wp d 13 13 [l0, l1, l2, l3, l4] (.null :: st) M Q = Wp d 13 15 [l0, l1, l2, l3, some (.null)] st M Q := fun d l0 l1 l2 l3 l4 st M Q hl => w_astoreN (show ins 13 13 = some (.astore 4, 2) by decide +kernel) (st1_S rfl rfl hl)
set_option maxRecDepth 100000 in
theorem r_13_15 : ∀ (d : Nat) (ls : Lc) (st : List Value) (M : Mem) (Q : Outcome → Mem → Prop), Wp d 13 15 ls st M Q = Wp d 13 16 ls (.int (I 1) :: st) M Q := fun d ls st M Q => w_iconst (show ins 13 15 = some (.iconst 1, 1) by decide +kernel)
set_option maxRecDepth 100000 in
theorem r_13_16 : ∀ (d : Nat) (ls : Lc) (v : Int32) (M : Mem) (Q : Outcome → Mem → Prop), Wp d 13 16 ls [.int v] M Q = Q (.returned (some (.int v))) M := fun d ls v M Q => w_ireturn (show ins 13 16 = some (.ireturn, 1) by decide +kernel) (by decide +kernel)
set_option maxRecDepth 100000 in
theorem r_13_17 : ∀ (d : Nat) (l0 l1 l2 l3 l4 : Option Value) (v : Nat) (st : List Value) (M : Mem) (Q : Outcome → Mem → Prop), (lo l3 = false) → Wp d 13 17 [l0, l1, l2, l3, l4] (.ref v :: st) M Q = Wp d 13 19 [l0, l1, l2, l3, some (.ref v)] st M Q := fun d l0 l1 l2 l3 l4 v st M Q hl => w_astore (show ins 13 17 = some (.astore 4, 2) by decide +kernel) (st1_S rfl rfl hl)
set_option maxRecDepth 100000 in
theorem r_13_17_1 : ∀ (d : Nat) (l0 l1 l2 l3 l4 : Option Value) (st : List Value) (M : Mem) (Q : Outcome → Mem → Prop), (lo l3 = false) → Wp d 13 17 [l0, l1, l2, l3, l4] (.null :: st) M Q = Wp d 13 19 [l0, l1, l2, l3, some (.null)] st M Q := fun d l0 l1 l2 l3 l4 st M Q hl => w_astoreN (show ins 13 17 = some (.astore 4, 2) by decide +kernel) (st1_S rfl rfl hl)
set_option maxRecDepth 100000 in
theorem r_13_19 : ∀ (d : Nat) (ls : Lc) (st : List Value) (M : Mem) (Q : Outcome → Mem → Prop), Wp d 13 19 ls st M Q = Wp d 13 20 ls (.int (I 2) :: st) M Q := fun d ls st M Q => w_iconst (show ins 13 19 = some (.iconst 2, 1) by decide +kernel)
set_option maxRecDepth 100000 in
theorem r_13_20 : ∀ (d : Nat) (ls : Lc) (v : Int32) (M : Mem) (Q : Outcome → Mem → Prop), Wp d 13 20 ls [.int v] M Q = Q (.returned (some (.int v))) M := fun d ls v M Q => w_ireturn (show ins 13 20 = some (.ireturn, 1) by decide +kernel) (by decide +kernel)
set_option maxRecDepth 100000 in
theorem r_13_21 : ∀ (d : Nat) (l0 l1 l2 l3 l4 : Option Value) (v : Nat) (st : List Value) (M : Mem) (Q : Outcome → Mem → Prop), (lo l3 = false) → Wp d 13 21 [l0, l1, l2, l3, l4] (.ref v :: st) M Q = Wp d 13 23 [l0, l1, l2, l3, some (.ref v)] st M Q := fun d l0 l1 l2 l3 l4 v st M Q hl => w_astore (show ins 13 21 = some (.astore 4, 2) by decide +kernel) (st1_S rfl rfl hl)
set_option maxRecDepth 100000 in
theorem r_13_21_1 : ∀ (d : Nat) (l0 l1 l2 l3 l4 : Option Value) (st : List Value) (M : Mem) (Q : Outcome → Mem → Prop), (lo l3 = false) → Wp d 13 21 [l0, l1, l2, l3, l4] (.null :: st) M Q = Wp d 13 23 [l0, l1, l2, l3, some (.null)] st M Q := fun d l0 l1 l2 l3 l4 st M Q hl => w_astoreN (show ins 13 21 = some (.astore 4, 2) by decide +kernel) (st1_S rfl rfl hl)
set_option maxRecDepth 100000 in
theorem r_13_23 : ∀ (d : Nat) (ls : Lc) (st : List Value) (M : Mem) (Q : Outcome → Mem → Prop), Wp d 13 23 ls st M Q = Wp d 13 24 ls (.int (I 3) :: st) M Q := fun d ls st M Q => w_iconst (show ins 13 23 = some (.iconst 3, 1) by decide +kernel)
set_option maxRecDepth 100000 in
theorem r_13_24 : ∀ (d : Nat) (ls : Lc) (v : Int32) (M : Mem) (Q : Outcome → Mem → Prop), Wp d 13 24 ls [.int v] M Q = Q (.returned (some (.int v))) M := fun d ls v M Q => w_ireturn (show ins 13 24 = some (.ireturn, 1) by decide +kernel) (by decide +kernel)
set_option maxRecDepth 100000 in
theorem r_13_25 : ∀ (d : Nat) (ls : Lc) (st : List Value) (M : Mem) (Q : Outcome → Mem → Prop), Wp d 13 25 ls st M Q = Wp d 13 26 ls (.int (I 0) :: st) M Q := fun d ls st M Q => w_iconst (show ins 13 25 = some (.iconst 0, 1) by decide +kernel)
set_option maxRecDepth 100000 in
theorem r_13_26 : ∀ (d : Nat) (ls : Lc) (v : Int32) (M : Mem) (Q : Outcome → Mem → Prop), Wp d 13 26 ls [.int v] M Q = Q (.returned (some (.int v))) M := fun d ls v M Q => w_ireturn (show ins 13 26 = some (.ireturn, 1) by decide +kernel) (by decide +kernel)
set_option maxRecDepth 100000 in
theorem W_13 : (type_of% r_13_0) ∧ (type_of% r_13_0_1) ∧ (type_of% r_13_1) ∧ (type_of% r_13_2) ∧ (type_of% r_13_2_1) ∧ (type_of% r_13_3) ∧ (type_of% r_13_4) ∧ (type_of% r_13_5) ∧ (type_of% r_13_8) ∧ (type_of% r_13_9) ∧ (type_of% r_13_10) ∧ (type_of% r_13_13) ∧ (type_of% r_13_13_1) ∧ (type_of% r_13_15) ∧ (type_of% r_13_16) ∧ (type_of% r_13_17) ∧ (type_of% r_13_17_1) ∧ (type_of% r_13_19) ∧ (type_of% r_13_20) ∧ (type_of% r_13_21) ∧ (type_of% r_13_21_1) ∧ (type_of% r_13_23) ∧ (type_of% r_13_24) ∧ (type_of% r_13_25) ∧ (type_of% r_13_26) := ⟨r_13_0, r_13_0_1, r_13_1, r_13_2, r_13_2_1, r_13_3, r_13_4, r_13_5, r_13_8, r_13_9, r_13_10, r_13_13, r_13_13_1, r_13_15, r_13_16, r_13_17, r_13_17_1, r_13_19, r_13_20, r_13_21, r_13_21_1, r_13_23, r_13_24, r_13_25, r_13_26⟩
set_option maxRecDepth 100000 in
theorem ca_13 {d y pc : Nat} {ls : Lc} {o0 : Option Nat} {z1 : Int32} {z2 : Int32} {o3 : Option Nat} {r : List Value} {M : Mem} {Q : Outcome → Mem → Prop} (hd : 0 < d) (hw : Wp (d - 1) 13 0 [some (va_rf o0), some (.int z1), some (.int z2), some (va_rf o3), none] [] M (Cq d y pc ls r Q)) : Ca d y pc ls 13 [va_rf o0, .int z1, .int z2, va_rf o3] r M Q := ca_of (mq_get (by decide)) (by cases o0 <;> cases o3 <;> rfl) hd hw
/-! 14 PackedTreeLaw.commit(LPackedTree;[J)I; loop heads [] -/
set_option maxRecDepth 100000 in
theorem r_14_0 : ∀ (d : Nat) (l0 l2 : Option Value) (v : Nat) (st : List Value) (M : Mem) (Q : Outcome → Mem → Prop), Wp d 14 0 [l0, some (.ref v), l2] st M Q = Wp d 14 1 [l0, some (.ref v), l2] (.ref v :: st) M Q := fun d l0 l2 v st M Q => wA (show ins 14 0 = some (.aload_n 1, 1) by decide +kernel) rfl
set_option maxRecDepth 100000 in
theorem r_14_0_1 : ∀ (d : Nat) (l0 l2 : Option Value) (st : List Value) (M : Mem) (Q : Outcome → Mem → Prop), Wp d 14 0 [l0, some .null, l2] st M Q = Wp d 14 1 [l0, some .null, l2] (.null :: st) M Q := fun d l0 l2 st M Q => wA (show ins 14 0 = some (.aload_n 1, 1) by decide +kernel) rfl
set_option maxRecDepth 100000 in
theorem r_14_1 : ∀ (d : Nat) (ls : Lc) (st : List Value) (M : Mem) (Q : Outcome → Mem → Prop), Wp d 14 1 ls st M Q = Wp d 14 2 ls (.int (I 0) :: st) M Q := fun d ls st M Q => w_iconst (show ins 14 1 = some (.iconst 0, 1) by decide +kernel)
set_option maxRecDepth 100000 in
theorem r_14_2 : ∀ (d : Nat) (l1 l2 : Option Value) (v : Nat) (st : List Value) (M : Mem) (Q : Outcome → Mem → Prop), Wp d 14 2 [some (.ref v), l1, l2] st M Q = Wp d 14 3 [some (.ref v), l1, l2] (.ref v :: st) M Q := fun d l1 l2 v st M Q => wA (show ins 14 2 = some (.aload_n 0, 1) by decide +kernel) rfl
set_option maxRecDepth 100000 in
theorem r_14_2_1 : ∀ (d : Nat) (l1 l2 : Option Value) (st : List Value) (M : Mem) (Q : Outcome → Mem → Prop), Wp d 14 2 [some .null, l1, l2] st M Q = Wp d 14 3 [some .null, l1, l2] (.null :: st) M Q := fun d l1 l2 st M Q => wA (show ins 14 2 = some (.aload_n 0, 1) by decide +kernel) rfl
set_option maxRecDepth 100000 in
theorem r_14_3 : ∀ (d : Nat) (ls : Lc) (a : Nat) (st : List Value) (M : Mem) (Q : Outcome → Mem → Prop), (smallR st = true) → Wp d 14 3 ls (.ref a :: st) M Q = (kO M a = 1 ∧ Ca d 14 3 ls 78 (.ref a :: []) st M Q) := fun d ls a st M Q h0 => w_virt1 (as := []) (show ins 14 3 = some (.invokevirtual 61, 3) by decide +kernel) (show mRes (mC 14) 61 = some (3, 1, [(1, 78)]) by decide +kernel) (by decide +kernel) rfl (by decide +kernel) (by decide +kernel) h0
set_option maxRecDepth 100000 in
theorem r_14_6 : ∀ (d : Nat) (ls : Lc) (a : Int32) (st : List Value) (M : Mem) (Q : Outcome → Mem → Prop), Wp d 14 6 ls (.int a :: st) M Q = Wp d 14 7 ls (.long a.toInt64 :: st) M Q := fun d ls a st M Q => wA (show ins 14 6 = some (.i2l, 1) by decide +kernel) rfl
set_option maxRecDepth 100000 in
theorem r_14_7 : ∀ (d : Nat) (ls : Lc) (a : Nat) (j : Int32) (v : Int64) (st : List Value) (M : Mem) (Q : Outcome → Mem → Prop), Wp d 14 7 ls (.long v :: .int j :: .ref a :: st) M Q = (((kX M a).1 = 3 ∧ inB j (kX M a).2 = true) ∧ Wp d 14 8 ls st (sL M a j.toNatClampNeg v) Q) := fun d ls a j v st M Q => w_lastore (show ins 14 7 = some (.lastore, 1) by decide +kernel)
set_option maxRecDepth 100000 in
theorem r_14_8 : ∀ (d : Nat) (ls : Lc) (st : List Value) (M : Mem) (Q : Outcome → Mem → Prop), Wp d 14 8 ls st M Q = Wp d 14 17 ls st M Q := fun d ls st M Q => w_goto (show ins 14 8 = some (.goto 9, 3) by decide +kernel) rfl
set_option maxRecDepth 100000 in
theorem r_14_11 : ∀ (d : Nat) (l0 l1 l2 : Option Value) (v : Nat) (st : List Value) (M : Mem) (Q : Outcome → Mem → Prop), (lo l1 = false) → Wp d 14 11 [l0, l1, l2] (.ref v :: st) M Q = Wp d 14 12 [l0, l1, some (.ref v)] st M Q := fun d l0 l1 l2 v st M Q hl => w_astore_n (show ins 14 11 = some (.astore_n 2, 1) by decide +kernel) (st1_S rfl rfl hl)
set_option maxRecDepth 100000 in
theorem r_14_11_1 : ∀ (d : Nat) (l0 l1 l2 : Option Value) (st : List Value) (M : Mem) (Q : Outcome → Mem → Prop), (lo l1 = false) → Wp d 14 11 [l0, l1, l2] (.null :: st) M Q = Wp d 14 12 [l0, l1, some (.null)] st M Q := fun d l0 l1 l2 st M Q hl => w_astoreN_n (show ins 14 11 = some (.astore_n 2, 1) by decide +kernel) (st1_S rfl rfl hl)
set_option maxRecDepth 100000 in
theorem r_14_12 : ∀ (d : Nat) (ls : Lc) (st : List Value) (M : Mem) (Q : Outcome → Mem → Prop), Wp d 14 12 ls st M Q = Wp d 14 13 ls (.int (I 1) :: st) M Q := fun d ls st M Q => w_iconst (show ins 14 12 = some (.iconst 1, 1) by decide +kernel)
set_option maxRecDepth 100000 in
theorem r_14_13 : ∀ (d : Nat) (ls : Lc) (v : Int32) (M : Mem) (Q : Outcome → Mem → Prop), Wp d 14 13 ls [.int v] M Q = Q (.returned (some (.int v))) M := fun d ls v M Q => w_ireturn (show ins 14 13 = some (.ireturn, 1) by decide +kernel) (by decide +kernel)
set_option maxRecDepth 100000 in
theorem r_14_14 : ∀ (d : Nat) (l0 l1 l2 : Option Value) (v : Nat) (st : List Value) (M : Mem) (Q : Outcome → Mem → Prop), (lo l1 = false) → Wp d 14 14 [l0, l1, l2] (.ref v :: st) M Q = Wp d 14 15 [l0, l1, some (.ref v)] st M Q := fun d l0 l1 l2 v st M Q hl => w_astore_n (show ins 14 14 = some (.astore_n 2, 1) by decide +kernel) (st1_S rfl rfl hl)
set_option maxRecDepth 100000 in
theorem r_14_14_1 : ∀ (d : Nat) (l0 l1 l2 : Option Value) (st : List Value) (M : Mem) (Q : Outcome → Mem → Prop), (lo l1 = false) → Wp d 14 14 [l0, l1, l2] (.null :: st) M Q = Wp d 14 15 [l0, l1, some (.null)] st M Q := fun d l0 l1 l2 st M Q hl => w_astoreN_n (show ins 14 14 = some (.astore_n 2, 1) by decide +kernel) (st1_S rfl rfl hl)
set_option maxRecDepth 100000 in
theorem r_14_15 : ∀ (d : Nat) (ls : Lc) (st : List Value) (M : Mem) (Q : Outcome → Mem → Prop), Wp d 14 15 ls st M Q = Wp d 14 16 ls (.int (I 2) :: st) M Q := fun d ls st M Q => w_iconst (show ins 14 15 = some (.iconst 2, 1) by decide +kernel)
set_option maxRecDepth 100000 in
theorem r_14_16 : ∀ (d : Nat) (ls : Lc) (v : Int32) (M : Mem) (Q : Outcome → Mem → Prop), Wp d 14 16 ls [.int v] M Q = Q (.returned (some (.int v))) M := fun d ls v M Q => w_ireturn (show ins 14 16 = some (.ireturn, 1) by decide +kernel) (by decide +kernel)
set_option maxRecDepth 100000 in
theorem r_14_17 : ∀ (d : Nat) (ls : Lc) (st : List Value) (M : Mem) (Q : Outcome → Mem → Prop), Wp d 14 17 ls st M Q = Wp d 14 18 ls (.int (I 0) :: st) M Q := fun d ls st M Q => w_iconst (show ins 14 17 = some (.iconst 0, 1) by decide +kernel)
set_option maxRecDepth 100000 in
theorem r_14_18 : ∀ (d : Nat) (ls : Lc) (v : Int32) (M : Mem) (Q : Outcome → Mem → Prop), Wp d 14 18 ls [.int v] M Q = Q (.returned (some (.int v))) M := fun d ls v M Q => w_ireturn (show ins 14 18 = some (.ireturn, 1) by decide +kernel) (by decide +kernel)
set_option maxRecDepth 100000 in
theorem W_14 : (type_of% r_14_0) ∧ (type_of% r_14_0_1) ∧ (type_of% r_14_1) ∧ (type_of% r_14_2) ∧ (type_of% r_14_2_1) ∧ (type_of% r_14_3) ∧ (type_of% r_14_6) ∧ (type_of% r_14_7) ∧ (type_of% r_14_8) ∧ (type_of% r_14_11) ∧ (type_of% r_14_11_1) ∧ (type_of% r_14_12) ∧ (type_of% r_14_13) ∧ (type_of% r_14_14) ∧ (type_of% r_14_14_1) ∧ (type_of% r_14_15) ∧ (type_of% r_14_16) ∧ (type_of% r_14_17) ∧ (type_of% r_14_18) := ⟨r_14_0, r_14_0_1, r_14_1, r_14_2, r_14_2_1, r_14_3, r_14_6, r_14_7, r_14_8, r_14_11, r_14_11_1, r_14_12, r_14_13, r_14_14, r_14_14_1, r_14_15, r_14_16, r_14_17, r_14_18⟩
set_option maxRecDepth 100000 in
theorem ca_14 {d y pc : Nat} {ls : Lc} {o0 : Option Nat} {o1 : Option Nat} {r : List Value} {M : Mem} {Q : Outcome → Mem → Prop} (hd : 0 < d) (hw : Wp (d - 1) 14 0 [some (va_rf o0), some (va_rf o1), none] [] M (Cq d y pc ls r Q)) : Ca d y pc ls 14 [va_rf o0, va_rf o1] r M Q := ca_of (mq_get (by decide)) (by cases o0 <;> cases o1 <;> rfl) hd hw
/-! 15 PackedTreeLaw.checkpoint(LPackedTree;[J)I; loop heads [] -/
set_option maxRecDepth 100000 in
theorem r_15_0 : ∀ (d : Nat) (l0 l2 : Option Value) (v : Nat) (st : List Value) (M : Mem) (Q : Outcome → Mem → Prop), Wp d 15 0 [l0, some (.ref v), l2] st M Q = Wp d 15 1 [l0, some (.ref v), l2] (.ref v :: st) M Q := fun d l0 l2 v st M Q => wA (show ins 15 0 = some (.aload_n 1, 1) by decide +kernel) rfl
set_option maxRecDepth 100000 in
theorem r_15_0_1 : ∀ (d : Nat) (l0 l2 : Option Value) (st : List Value) (M : Mem) (Q : Outcome → Mem → Prop), Wp d 15 0 [l0, some .null, l2] st M Q = Wp d 15 1 [l0, some .null, l2] (.null :: st) M Q := fun d l0 l2 st M Q => wA (show ins 15 0 = some (.aload_n 1, 1) by decide +kernel) rfl
set_option maxRecDepth 100000 in
theorem r_15_1 : ∀ (d : Nat) (ls : Lc) (st : List Value) (M : Mem) (Q : Outcome → Mem → Prop), Wp d 15 1 ls st M Q = Wp d 15 2 ls (.int (I 0) :: st) M Q := fun d ls st M Q => w_iconst (show ins 15 1 = some (.iconst 0, 1) by decide +kernel)
set_option maxRecDepth 100000 in
theorem r_15_2 : ∀ (d : Nat) (l1 l2 : Option Value) (v : Nat) (st : List Value) (M : Mem) (Q : Outcome → Mem → Prop), Wp d 15 2 [some (.ref v), l1, l2] st M Q = Wp d 15 3 [some (.ref v), l1, l2] (.ref v :: st) M Q := fun d l1 l2 v st M Q => wA (show ins 15 2 = some (.aload_n 0, 1) by decide +kernel) rfl
set_option maxRecDepth 100000 in
theorem r_15_2_1 : ∀ (d : Nat) (l1 l2 : Option Value) (st : List Value) (M : Mem) (Q : Outcome → Mem → Prop), Wp d 15 2 [some .null, l1, l2] st M Q = Wp d 15 3 [some .null, l1, l2] (.null :: st) M Q := fun d l1 l2 st M Q => wA (show ins 15 2 = some (.aload_n 0, 1) by decide +kernel) rfl
set_option maxRecDepth 100000 in
theorem r_15_3 : ∀ (d : Nat) (ls : Lc) (a : Nat) (st : List Value) (M : Mem) (Q : Outcome → Mem → Prop), (smallR st = true) → Wp d 15 3 ls (.ref a :: st) M Q = (kO M a = 1 ∧ Ca d 15 3 ls 81 (.ref a :: []) st M Q) := fun d ls a st M Q h0 => w_virt1 (as := []) (show ins 15 3 = some (.invokevirtual 65, 3) by decide +kernel) (show mRes (mC 15) 65 = some (3, 1, [(1, 81)]) by decide +kernel) (by decide +kernel) rfl (by decide +kernel) (by decide +kernel) h0
set_option maxRecDepth 100000 in
theorem r_15_6 : ∀ (d : Nat) (ls : Lc) (a : Int32) (st : List Value) (M : Mem) (Q : Outcome → Mem → Prop), Wp d 15 6 ls (.int a :: st) M Q = Wp d 15 7 ls (.long a.toInt64 :: st) M Q := fun d ls a st M Q => wA (show ins 15 6 = some (.i2l, 1) by decide +kernel) rfl
set_option maxRecDepth 100000 in
theorem r_15_7 : ∀ (d : Nat) (ls : Lc) (a : Nat) (j : Int32) (v : Int64) (st : List Value) (M : Mem) (Q : Outcome → Mem → Prop), Wp d 15 7 ls (.long v :: .int j :: .ref a :: st) M Q = (((kX M a).1 = 3 ∧ inB j (kX M a).2 = true) ∧ Wp d 15 8 ls st (sL M a j.toNatClampNeg v) Q) := fun d ls a j v st M Q => w_lastore (show ins 15 7 = some (.lastore, 1) by decide +kernel)
set_option maxRecDepth 100000 in
theorem r_15_8 : ∀ (d : Nat) (ls : Lc) (st : List Value) (M : Mem) (Q : Outcome → Mem → Prop), Wp d 15 8 ls st M Q = Wp d 15 14 ls st M Q := fun d ls st M Q => w_goto (show ins 15 8 = some (.goto 6, 3) by decide +kernel) rfl
set_option maxRecDepth 100000 in
theorem r_15_11 : ∀ (d : Nat) (l0 l1 l2 : Option Value) (v : Nat) (st : List Value) (M : Mem) (Q : Outcome → Mem → Prop), (lo l1 = false) → Wp d 15 11 [l0, l1, l2] (.ref v :: st) M Q = Wp d 15 12 [l0, l1, some (.ref v)] st M Q := fun d l0 l1 l2 v st M Q hl => w_astore_n (show ins 15 11 = some (.astore_n 2, 1) by decide +kernel) (st1_S rfl rfl hl)
set_option maxRecDepth 100000 in
theorem r_15_11_1 : ∀ (d : Nat) (l0 l1 l2 : Option Value) (st : List Value) (M : Mem) (Q : Outcome → Mem → Prop), (lo l1 = false) → Wp d 15 11 [l0, l1, l2] (.null :: st) M Q = Wp d 15 12 [l0, l1, some (.null)] st M Q := fun d l0 l1 l2 st M Q hl => w_astoreN_n (show ins 15 11 = some (.astore_n 2, 1) by decide +kernel) (st1_S rfl rfl hl)
set_option maxRecDepth 100000 in
theorem r_15_12 : ∀ (d : Nat) (ls : Lc) (st : List Value) (M : Mem) (Q : Outcome → Mem → Prop), Wp d 15 12 ls st M Q = Wp d 15 13 ls (.int (I 1) :: st) M Q := fun d ls st M Q => w_iconst (show ins 15 12 = some (.iconst 1, 1) by decide +kernel)
set_option maxRecDepth 100000 in
theorem r_15_13 : ∀ (d : Nat) (ls : Lc) (v : Int32) (M : Mem) (Q : Outcome → Mem → Prop), Wp d 15 13 ls [.int v] M Q = Q (.returned (some (.int v))) M := fun d ls v M Q => w_ireturn (show ins 15 13 = some (.ireturn, 1) by decide +kernel) (by decide +kernel)
set_option maxRecDepth 100000 in
theorem r_15_14 : ∀ (d : Nat) (ls : Lc) (st : List Value) (M : Mem) (Q : Outcome → Mem → Prop), Wp d 15 14 ls st M Q = Wp d 15 15 ls (.int (I 0) :: st) M Q := fun d ls st M Q => w_iconst (show ins 15 14 = some (.iconst 0, 1) by decide +kernel)
set_option maxRecDepth 100000 in
theorem r_15_15 : ∀ (d : Nat) (ls : Lc) (v : Int32) (M : Mem) (Q : Outcome → Mem → Prop), Wp d 15 15 ls [.int v] M Q = Q (.returned (some (.int v))) M := fun d ls v M Q => w_ireturn (show ins 15 15 = some (.ireturn, 1) by decide +kernel) (by decide +kernel)
set_option maxRecDepth 100000 in
theorem W_15 : (type_of% r_15_0) ∧ (type_of% r_15_0_1) ∧ (type_of% r_15_1) ∧ (type_of% r_15_2) ∧ (type_of% r_15_2_1) ∧ (type_of% r_15_3) ∧ (type_of% r_15_6) ∧ (type_of% r_15_7) ∧ (type_of% r_15_8) ∧ (type_of% r_15_11) ∧ (type_of% r_15_11_1) ∧ (type_of% r_15_12) ∧ (type_of% r_15_13) ∧ (type_of% r_15_14) ∧ (type_of% r_15_15) := ⟨r_15_0, r_15_0_1, r_15_1, r_15_2, r_15_2_1, r_15_3, r_15_6, r_15_7, r_15_8, r_15_11, r_15_11_1, r_15_12, r_15_13, r_15_14, r_15_15⟩
set_option maxRecDepth 100000 in
theorem ca_15 {d y pc : Nat} {ls : Lc} {o0 : Option Nat} {o1 : Option Nat} {r : List Value} {M : Mem} {Q : Outcome → Mem → Prop} (hd : 0 < d) (hw : Wp (d - 1) 15 0 [some (va_rf o0), some (va_rf o1), none] [] M (Cq d y pc ls r Q)) : Ca d y pc ls 15 [va_rf o0, va_rf o1] r M Q := ca_of (mq_get (by decide)) (by cases o0 <;> cases o1 <;> rfl) hd hw
/-! 16 PackedTreeLaw.back(LPackedTree;[J)I; loop heads [] -/
set_option maxRecDepth 100000 in
theorem r_16_0 : ∀ (d : Nat) (l0 l2 : Option Value) (v : Nat) (st : List Value) (M : Mem) (Q : Outcome → Mem → Prop), Wp d 16 0 [l0, some (.ref v), l2] st M Q = Wp d 16 1 [l0, some (.ref v), l2] (.ref v :: st) M Q := fun d l0 l2 v st M Q => wA (show ins 16 0 = some (.aload_n 1, 1) by decide +kernel) rfl
set_option maxRecDepth 100000 in
theorem r_16_0_1 : ∀ (d : Nat) (l0 l2 : Option Value) (st : List Value) (M : Mem) (Q : Outcome → Mem → Prop), Wp d 16 0 [l0, some .null, l2] st M Q = Wp d 16 1 [l0, some .null, l2] (.null :: st) M Q := fun d l0 l2 st M Q => wA (show ins 16 0 = some (.aload_n 1, 1) by decide +kernel) rfl
set_option maxRecDepth 100000 in
theorem r_16_1 : ∀ (d : Nat) (ls : Lc) (st : List Value) (M : Mem) (Q : Outcome → Mem → Prop), Wp d 16 1 ls st M Q = Wp d 16 2 ls (.int (I 0) :: st) M Q := fun d ls st M Q => w_iconst (show ins 16 1 = some (.iconst 0, 1) by decide +kernel)
set_option maxRecDepth 100000 in
theorem r_16_2 : ∀ (d : Nat) (l1 l2 : Option Value) (v : Nat) (st : List Value) (M : Mem) (Q : Outcome → Mem → Prop), Wp d 16 2 [some (.ref v), l1, l2] st M Q = Wp d 16 3 [some (.ref v), l1, l2] (.ref v :: st) M Q := fun d l1 l2 v st M Q => wA (show ins 16 2 = some (.aload_n 0, 1) by decide +kernel) rfl
set_option maxRecDepth 100000 in
theorem r_16_2_1 : ∀ (d : Nat) (l1 l2 : Option Value) (st : List Value) (M : Mem) (Q : Outcome → Mem → Prop), Wp d 16 2 [some .null, l1, l2] st M Q = Wp d 16 3 [some .null, l1, l2] (.null :: st) M Q := fun d l1 l2 st M Q => wA (show ins 16 2 = some (.aload_n 0, 1) by decide +kernel) rfl
set_option maxRecDepth 100000 in
theorem r_16_3 : ∀ (d : Nat) (ls : Lc) (a : Nat) (st : List Value) (M : Mem) (Q : Outcome → Mem → Prop), (smallR st = true) → Wp d 16 3 ls (.ref a :: st) M Q = (kO M a = 1 ∧ Ca d 16 3 ls 82 (.ref a :: []) st M Q) := fun d ls a st M Q h0 => w_virt1 (as := []) (show ins 16 3 = some (.invokevirtual 68, 3) by decide +kernel) (show mRes (mC 16) 68 = some (3, 1, [(1, 82)]) by decide +kernel) (by decide +kernel) rfl (by decide +kernel) (by decide +kernel) h0
set_option maxRecDepth 100000 in
theorem r_16_6 : ∀ (d : Nat) (ls : Lc) (a : Int32) (st : List Value) (M : Mem) (Q : Outcome → Mem → Prop), Wp d 16 6 ls (.int a :: st) M Q = Wp d 16 7 ls (.long a.toInt64 :: st) M Q := fun d ls a st M Q => wA (show ins 16 6 = some (.i2l, 1) by decide +kernel) rfl
set_option maxRecDepth 100000 in
theorem r_16_7 : ∀ (d : Nat) (ls : Lc) (a : Nat) (j : Int32) (v : Int64) (st : List Value) (M : Mem) (Q : Outcome → Mem → Prop), Wp d 16 7 ls (.long v :: .int j :: .ref a :: st) M Q = (((kX M a).1 = 3 ∧ inB j (kX M a).2 = true) ∧ Wp d 16 8 ls st (sL M a j.toNatClampNeg v) Q) := fun d ls a j v st M Q => w_lastore (show ins 16 7 = some (.lastore, 1) by decide +kernel)
set_option maxRecDepth 100000 in
theorem r_16_8 : ∀ (d : Nat) (ls : Lc) (st : List Value) (M : Mem) (Q : Outcome → Mem → Prop), Wp d 16 8 ls st M Q = Wp d 16 14 ls st M Q := fun d ls st M Q => w_goto (show ins 16 8 = some (.goto 6, 3) by decide +kernel) rfl
set_option maxRecDepth 100000 in
theorem r_16_11 : ∀ (d : Nat) (l0 l1 l2 : Option Value) (v : Nat) (st : List Value) (M : Mem) (Q : Outcome → Mem → Prop), (lo l1 = false) → Wp d 16 11 [l0, l1, l2] (.ref v :: st) M Q = Wp d 16 12 [l0, l1, some (.ref v)] st M Q := fun d l0 l1 l2 v st M Q hl => w_astore_n (show ins 16 11 = some (.astore_n 2, 1) by decide +kernel) (st1_S rfl rfl hl)
set_option maxRecDepth 100000 in
theorem r_16_11_1 : ∀ (d : Nat) (l0 l1 l2 : Option Value) (st : List Value) (M : Mem) (Q : Outcome → Mem → Prop), (lo l1 = false) → Wp d 16 11 [l0, l1, l2] (.null :: st) M Q = Wp d 16 12 [l0, l1, some (.null)] st M Q := fun d l0 l1 l2 st M Q hl => w_astoreN_n (show ins 16 11 = some (.astore_n 2, 1) by decide +kernel) (st1_S rfl rfl hl)
set_option maxRecDepth 100000 in
theorem r_16_12 : ∀ (d : Nat) (ls : Lc) (st : List Value) (M : Mem) (Q : Outcome → Mem → Prop), Wp d 16 12 ls st M Q = Wp d 16 13 ls (.int (I 1) :: st) M Q := fun d ls st M Q => w_iconst (show ins 16 12 = some (.iconst 1, 1) by decide +kernel)
set_option maxRecDepth 100000 in
theorem r_16_13 : ∀ (d : Nat) (ls : Lc) (v : Int32) (M : Mem) (Q : Outcome → Mem → Prop), Wp d 16 13 ls [.int v] M Q = Q (.returned (some (.int v))) M := fun d ls v M Q => w_ireturn (show ins 16 13 = some (.ireturn, 1) by decide +kernel) (by decide +kernel)
set_option maxRecDepth 100000 in
theorem r_16_14 : ∀ (d : Nat) (ls : Lc) (st : List Value) (M : Mem) (Q : Outcome → Mem → Prop), Wp d 16 14 ls st M Q = Wp d 16 15 ls (.int (I 0) :: st) M Q := fun d ls st M Q => w_iconst (show ins 16 14 = some (.iconst 0, 1) by decide +kernel)
set_option maxRecDepth 100000 in
theorem r_16_15 : ∀ (d : Nat) (ls : Lc) (v : Int32) (M : Mem) (Q : Outcome → Mem → Prop), Wp d 16 15 ls [.int v] M Q = Q (.returned (some (.int v))) M := fun d ls v M Q => w_ireturn (show ins 16 15 = some (.ireturn, 1) by decide +kernel) (by decide +kernel)
set_option maxRecDepth 100000 in
theorem W_16 : (type_of% r_16_0) ∧ (type_of% r_16_0_1) ∧ (type_of% r_16_1) ∧ (type_of% r_16_2) ∧ (type_of% r_16_2_1) ∧ (type_of% r_16_3) ∧ (type_of% r_16_6) ∧ (type_of% r_16_7) ∧ (type_of% r_16_8) ∧ (type_of% r_16_11) ∧ (type_of% r_16_11_1) ∧ (type_of% r_16_12) ∧ (type_of% r_16_13) ∧ (type_of% r_16_14) ∧ (type_of% r_16_15) := ⟨r_16_0, r_16_0_1, r_16_1, r_16_2, r_16_2_1, r_16_3, r_16_6, r_16_7, r_16_8, r_16_11, r_16_11_1, r_16_12, r_16_13, r_16_14, r_16_15⟩
set_option maxRecDepth 100000 in
theorem ca_16 {d y pc : Nat} {ls : Lc} {o0 : Option Nat} {o1 : Option Nat} {r : List Value} {M : Mem} {Q : Outcome → Mem → Prop} (hd : 0 < d) (hw : Wp (d - 1) 16 0 [some (va_rf o0), some (va_rf o1), none] [] M (Cq d y pc ls r Q)) : Ca d y pc ls 16 [va_rf o0, va_rf o1] r M Q := ca_of (mq_get (by decide)) (by cases o0 <;> cases o1 <;> rfl) hd hw
/-! 17 PackedTreeLaw.fail(LPackedTree;I)I; loop heads [] -/
set_option maxRecDepth 100000 in
theorem r_17_0 : ∀ (d : Nat) (l1 l2 : Option Value) (v : Nat) (st : List Value) (M : Mem) (Q : Outcome → Mem → Prop), Wp d 17 0 [some (.ref v), l1, l2] st M Q = Wp d 17 1 [some (.ref v), l1, l2] (.ref v :: st) M Q := fun d l1 l2 v st M Q => wA (show ins 17 0 = some (.aload_n 0, 1) by decide +kernel) rfl
set_option maxRecDepth 100000 in
theorem r_17_0_1 : ∀ (d : Nat) (l1 l2 : Option Value) (st : List Value) (M : Mem) (Q : Outcome → Mem → Prop), Wp d 17 0 [some .null, l1, l2] st M Q = Wp d 17 1 [some .null, l1, l2] (.null :: st) M Q := fun d l1 l2 st M Q => wA (show ins 17 0 = some (.aload_n 0, 1) by decide +kernel) rfl
set_option maxRecDepth 100000 in
theorem r_17_1 : ∀ (d : Nat) (l0 l2 : Option Value) (v : Int32) (st : List Value) (M : Mem) (Q : Outcome → Mem → Prop), Wp d 17 1 [l0, some (.int v), l2] st M Q = Wp d 17 2 [l0, some (.int v), l2] (.int v :: st) M Q := fun d l0 l2 v st M Q => wA (show ins 17 1 = some (.iload_n 1, 1) by decide +kernel) rfl
set_option maxRecDepth 100000 in
theorem r_17_2 : ∀ (d : Nat) (ls : Lc) (v0 : Value) (a : Nat) (st : List Value) (M : Mem) (Q : Outcome → Mem → Prop), (smallR st = true) → Wp d 17 2 ls (v0 :: .ref a :: st) M Q = (kO M a = 1 ∧ Ca d 17 2 ls 84 (.ref a :: [v0]) st M Q) := fun d ls v0 a st M Q h0 => w_virt1 (as := [v0]) (show ins 17 2 = some (.invokevirtual 71, 3) by decide +kernel) (show mRes (mC 17) 71 = some (3, 1, [(1, 84)]) by decide +kernel) (by decide +kernel) rfl (by decide +kernel) (by decide +kernel) h0
set_option maxRecDepth 100000 in
theorem r_17_5 : ∀ (d : Nat) (ls : Lc) (st : List Value) (M : Mem) (Q : Outcome → Mem → Prop), Wp d 17 5 ls st M Q = Wp d 17 11 ls st M Q := fun d ls st M Q => w_goto (show ins 17 5 = some (.goto 6, 3) by decide +kernel) rfl
set_option maxRecDepth 100000 in
theorem r_17_8 : ∀ (d : Nat) (l0 l1 l2 : Option Value) (v : Nat) (st : List Value) (M : Mem) (Q : Outcome → Mem → Prop), (lo l1 = false) → Wp d 17 8 [l0, l1, l2] (.ref v :: st) M Q = Wp d 17 9 [l0, l1, some (.ref v)] st M Q := fun d l0 l1 l2 v st M Q hl => w_astore_n (show ins 17 8 = some (.astore_n 2, 1) by decide +kernel) (st1_S rfl rfl hl)
set_option maxRecDepth 100000 in
theorem r_17_8_1 : ∀ (d : Nat) (l0 l1 l2 : Option Value) (st : List Value) (M : Mem) (Q : Outcome → Mem → Prop), (lo l1 = false) → Wp d 17 8 [l0, l1, l2] (.null :: st) M Q = Wp d 17 9 [l0, l1, some (.null)] st M Q := fun d l0 l1 l2 st M Q hl => w_astoreN_n (show ins 17 8 = some (.astore_n 2, 1) by decide +kernel) (st1_S rfl rfl hl)
set_option maxRecDepth 100000 in
theorem r_17_9 : ∀ (d : Nat) (ls : Lc) (st : List Value) (M : Mem) (Q : Outcome → Mem → Prop), Wp d 17 9 ls st M Q = Wp d 17 10 ls (.int (I 1) :: st) M Q := fun d ls st M Q => w_iconst (show ins 17 9 = some (.iconst 1, 1) by decide +kernel)
set_option maxRecDepth 100000 in
theorem r_17_10 : ∀ (d : Nat) (ls : Lc) (v : Int32) (M : Mem) (Q : Outcome → Mem → Prop), Wp d 17 10 ls [.int v] M Q = Q (.returned (some (.int v))) M := fun d ls v M Q => w_ireturn (show ins 17 10 = some (.ireturn, 1) by decide +kernel) (by decide +kernel)
set_option maxRecDepth 100000 in
theorem r_17_11 : ∀ (d : Nat) (ls : Lc) (st : List Value) (M : Mem) (Q : Outcome → Mem → Prop), Wp d 17 11 ls st M Q = Wp d 17 12 ls (.int (I 0) :: st) M Q := fun d ls st M Q => w_iconst (show ins 17 11 = some (.iconst 0, 1) by decide +kernel)
set_option maxRecDepth 100000 in
theorem r_17_12 : ∀ (d : Nat) (ls : Lc) (v : Int32) (M : Mem) (Q : Outcome → Mem → Prop), Wp d 17 12 ls [.int v] M Q = Q (.returned (some (.int v))) M := fun d ls v M Q => w_ireturn (show ins 17 12 = some (.ireturn, 1) by decide +kernel) (by decide +kernel)
set_option maxRecDepth 100000 in
theorem W_17 : (type_of% r_17_0) ∧ (type_of% r_17_0_1) ∧ (type_of% r_17_1) ∧ (type_of% r_17_2) ∧ (type_of% r_17_5) ∧ (type_of% r_17_8) ∧ (type_of% r_17_8_1) ∧ (type_of% r_17_9) ∧ (type_of% r_17_10) ∧ (type_of% r_17_11) ∧ (type_of% r_17_12) := ⟨r_17_0, r_17_0_1, r_17_1, r_17_2, r_17_5, r_17_8, r_17_8_1, r_17_9, r_17_10, r_17_11, r_17_12⟩
set_option maxRecDepth 100000 in
theorem ca_17 {d y pc : Nat} {ls : Lc} {o0 : Option Nat} {z1 : Int32} {r : List Value} {M : Mem} {Q : Outcome → Mem → Prop} (hd : 0 < d) (hw : Wp (d - 1) 17 0 [some (va_rf o0), some (.int z1), none] [] M (Cq d y pc ls r Q)) : Ca d y pc ls 17 [va_rf o0, .int z1] r M Q := ca_of (mq_get (by decide)) (by cases o0 <;> rfl) hd hw
/-! 18 PackedTreeLaw.recover(LPackedTree;[J)I; loop heads [] -/
set_option maxRecDepth 100000 in
theorem r_18_0 : ∀ (d : Nat) (l0 l2 : Option Value) (v : Nat) (st : List Value) (M : Mem) (Q : Outcome → Mem → Prop), Wp d 18 0 [l0, some (.ref v), l2] st M Q = Wp d 18 1 [l0, some (.ref v), l2] (.ref v :: st) M Q := fun d l0 l2 v st M Q => wA (show ins 18 0 = some (.aload_n 1, 1) by decide +kernel) rfl
set_option maxRecDepth 100000 in
theorem r_18_0_1 : ∀ (d : Nat) (l0 l2 : Option Value) (st : List Value) (M : Mem) (Q : Outcome → Mem → Prop), Wp d 18 0 [l0, some .null, l2] st M Q = Wp d 18 1 [l0, some .null, l2] (.null :: st) M Q := fun d l0 l2 st M Q => wA (show ins 18 0 = some (.aload_n 1, 1) by decide +kernel) rfl
set_option maxRecDepth 100000 in
theorem r_18_1 : ∀ (d : Nat) (ls : Lc) (st : List Value) (M : Mem) (Q : Outcome → Mem → Prop), Wp d 18 1 ls st M Q = Wp d 18 2 ls (.int (I 0) :: st) M Q := fun d ls st M Q => w_iconst (show ins 18 1 = some (.iconst 0, 1) by decide +kernel)
set_option maxRecDepth 100000 in
theorem r_18_2 : ∀ (d : Nat) (l1 l2 : Option Value) (v : Nat) (st : List Value) (M : Mem) (Q : Outcome → Mem → Prop), Wp d 18 2 [some (.ref v), l1, l2] st M Q = Wp d 18 3 [some (.ref v), l1, l2] (.ref v :: st) M Q := fun d l1 l2 v st M Q => wA (show ins 18 2 = some (.aload_n 0, 1) by decide +kernel) rfl
set_option maxRecDepth 100000 in
theorem r_18_2_1 : ∀ (d : Nat) (l1 l2 : Option Value) (st : List Value) (M : Mem) (Q : Outcome → Mem → Prop), Wp d 18 2 [some .null, l1, l2] st M Q = Wp d 18 3 [some .null, l1, l2] (.null :: st) M Q := fun d l1 l2 st M Q => wA (show ins 18 2 = some (.aload_n 0, 1) by decide +kernel) rfl
set_option maxRecDepth 100000 in
theorem r_18_3 : ∀ (d : Nat) (ls : Lc) (a : Nat) (st : List Value) (M : Mem) (Q : Outcome → Mem → Prop), (smallR st = true) → Wp d 18 3 ls (.ref a :: st) M Q = (kO M a = 1 ∧ Ca d 18 3 ls 85 (.ref a :: []) st M Q) := fun d ls a st M Q h0 => w_virt1 (as := []) (show ins 18 3 = some (.invokevirtual 75, 3) by decide +kernel) (show mRes (mC 18) 75 = some (3, 1, [(1, 85)]) by decide +kernel) (by decide +kernel) rfl (by decide +kernel) (by decide +kernel) h0
set_option maxRecDepth 100000 in
theorem r_18_6 : ∀ (d : Nat) (ls : Lc) (a : Int32) (st : List Value) (M : Mem) (Q : Outcome → Mem → Prop), Wp d 18 6 ls (.int a :: st) M Q = Wp d 18 7 ls (.long a.toInt64 :: st) M Q := fun d ls a st M Q => wA (show ins 18 6 = some (.i2l, 1) by decide +kernel) rfl
set_option maxRecDepth 100000 in
theorem r_18_7 : ∀ (d : Nat) (ls : Lc) (a : Nat) (j : Int32) (v : Int64) (st : List Value) (M : Mem) (Q : Outcome → Mem → Prop), Wp d 18 7 ls (.long v :: .int j :: .ref a :: st) M Q = (((kX M a).1 = 3 ∧ inB j (kX M a).2 = true) ∧ Wp d 18 8 ls st (sL M a j.toNatClampNeg v) Q) := fun d ls a j v st M Q => w_lastore (show ins 18 7 = some (.lastore, 1) by decide +kernel)
set_option maxRecDepth 100000 in
theorem r_18_8 : ∀ (d : Nat) (ls : Lc) (st : List Value) (M : Mem) (Q : Outcome → Mem → Prop), Wp d 18 8 ls st M Q = Wp d 18 14 ls st M Q := fun d ls st M Q => w_goto (show ins 18 8 = some (.goto 6, 3) by decide +kernel) rfl
set_option maxRecDepth 100000 in
theorem r_18_11 : ∀ (d : Nat) (l0 l1 l2 : Option Value) (v : Nat) (st : List Value) (M : Mem) (Q : Outcome → Mem → Prop), (lo l1 = false) → Wp d 18 11 [l0, l1, l2] (.ref v :: st) M Q = Wp d 18 12 [l0, l1, some (.ref v)] st M Q := fun d l0 l1 l2 v st M Q hl => w_astore_n (show ins 18 11 = some (.astore_n 2, 1) by decide +kernel) (st1_S rfl rfl hl)
set_option maxRecDepth 100000 in
theorem r_18_11_1 : ∀ (d : Nat) (l0 l1 l2 : Option Value) (st : List Value) (M : Mem) (Q : Outcome → Mem → Prop), (lo l1 = false) → Wp d 18 11 [l0, l1, l2] (.null :: st) M Q = Wp d 18 12 [l0, l1, some (.null)] st M Q := fun d l0 l1 l2 st M Q hl => w_astoreN_n (show ins 18 11 = some (.astore_n 2, 1) by decide +kernel) (st1_S rfl rfl hl)
set_option maxRecDepth 100000 in
theorem r_18_12 : ∀ (d : Nat) (ls : Lc) (st : List Value) (M : Mem) (Q : Outcome → Mem → Prop), Wp d 18 12 ls st M Q = Wp d 18 13 ls (.int (I 1) :: st) M Q := fun d ls st M Q => w_iconst (show ins 18 12 = some (.iconst 1, 1) by decide +kernel)
set_option maxRecDepth 100000 in
theorem r_18_13 : ∀ (d : Nat) (ls : Lc) (v : Int32) (M : Mem) (Q : Outcome → Mem → Prop), Wp d 18 13 ls [.int v] M Q = Q (.returned (some (.int v))) M := fun d ls v M Q => w_ireturn (show ins 18 13 = some (.ireturn, 1) by decide +kernel) (by decide +kernel)
set_option maxRecDepth 100000 in
theorem r_18_14 : ∀ (d : Nat) (ls : Lc) (st : List Value) (M : Mem) (Q : Outcome → Mem → Prop), Wp d 18 14 ls st M Q = Wp d 18 15 ls (.int (I 0) :: st) M Q := fun d ls st M Q => w_iconst (show ins 18 14 = some (.iconst 0, 1) by decide +kernel)
set_option maxRecDepth 100000 in
theorem r_18_15 : ∀ (d : Nat) (ls : Lc) (v : Int32) (M : Mem) (Q : Outcome → Mem → Prop), Wp d 18 15 ls [.int v] M Q = Q (.returned (some (.int v))) M := fun d ls v M Q => w_ireturn (show ins 18 15 = some (.ireturn, 1) by decide +kernel) (by decide +kernel)
set_option maxRecDepth 100000 in
theorem W_18 : (type_of% r_18_0) ∧ (type_of% r_18_0_1) ∧ (type_of% r_18_1) ∧ (type_of% r_18_2) ∧ (type_of% r_18_2_1) ∧ (type_of% r_18_3) ∧ (type_of% r_18_6) ∧ (type_of% r_18_7) ∧ (type_of% r_18_8) ∧ (type_of% r_18_11) ∧ (type_of% r_18_11_1) ∧ (type_of% r_18_12) ∧ (type_of% r_18_13) ∧ (type_of% r_18_14) ∧ (type_of% r_18_15) := ⟨r_18_0, r_18_0_1, r_18_1, r_18_2, r_18_2_1, r_18_3, r_18_6, r_18_7, r_18_8, r_18_11, r_18_11_1, r_18_12, r_18_13, r_18_14, r_18_15⟩
set_option maxRecDepth 100000 in
theorem ca_18 {d y pc : Nat} {ls : Lc} {o0 : Option Nat} {o1 : Option Nat} {r : List Value} {M : Mem} {Q : Outcome → Mem → Prop} (hd : 0 < d) (hw : Wp (d - 1) 18 0 [some (va_rf o0), some (va_rf o1), none] [] M (Cq d y pc ls r Q)) : Ca d y pc ls 18 [va_rf o0, va_rf o1] r M Q := ca_of (mq_get (by decide)) (by cases o0 <;> cases o1 <;> rfl) hd hw
/-! 19 PackedTreeLaw.count(LPackedTree;I[J)I; loop heads [] -/
set_option maxRecDepth 100000 in
theorem r_19_0 : ∀ (d : Nat) (l0 l1 l3 : Option Value) (v : Nat) (st : List Value) (M : Mem) (Q : Outcome → Mem → Prop), Wp d 19 0 [l0, l1, some (.ref v), l3] st M Q = Wp d 19 1 [l0, l1, some (.ref v), l3] (.ref v :: st) M Q := fun d l0 l1 l3 v st M Q => wA (show ins 19 0 = some (.aload_n 2, 1) by decide +kernel) rfl
set_option maxRecDepth 100000 in
theorem r_19_0_1 : ∀ (d : Nat) (l0 l1 l3 : Option Value) (st : List Value) (M : Mem) (Q : Outcome → Mem → Prop), Wp d 19 0 [l0, l1, some .null, l3] st M Q = Wp d 19 1 [l0, l1, some .null, l3] (.null :: st) M Q := fun d l0 l1 l3 st M Q => wA (show ins 19 0 = some (.aload_n 2, 1) by decide +kernel) rfl
set_option maxRecDepth 100000 in
theorem r_19_1 : ∀ (d : Nat) (ls : Lc) (st : List Value) (M : Mem) (Q : Outcome → Mem → Prop), Wp d 19 1 ls st M Q = Wp d 19 2 ls (.int (I 0) :: st) M Q := fun d ls st M Q => w_iconst (show ins 19 1 = some (.iconst 0, 1) by decide +kernel)
set_option maxRecDepth 100000 in
theorem r_19_2 : ∀ (d : Nat) (l1 l2 l3 : Option Value) (v : Nat) (st : List Value) (M : Mem) (Q : Outcome → Mem → Prop), Wp d 19 2 [some (.ref v), l1, l2, l3] st M Q = Wp d 19 3 [some (.ref v), l1, l2, l3] (.ref v :: st) M Q := fun d l1 l2 l3 v st M Q => wA (show ins 19 2 = some (.aload_n 0, 1) by decide +kernel) rfl
set_option maxRecDepth 100000 in
theorem r_19_2_1 : ∀ (d : Nat) (l1 l2 l3 : Option Value) (st : List Value) (M : Mem) (Q : Outcome → Mem → Prop), Wp d 19 2 [some .null, l1, l2, l3] st M Q = Wp d 19 3 [some .null, l1, l2, l3] (.null :: st) M Q := fun d l1 l2 l3 st M Q => wA (show ins 19 2 = some (.aload_n 0, 1) by decide +kernel) rfl
set_option maxRecDepth 100000 in
theorem r_19_3 : ∀ (d : Nat) (l0 l2 l3 : Option Value) (v : Int32) (st : List Value) (M : Mem) (Q : Outcome → Mem → Prop), Wp d 19 3 [l0, some (.int v), l2, l3] st M Q = Wp d 19 4 [l0, some (.int v), l2, l3] (.int v :: st) M Q := fun d l0 l2 l3 v st M Q => wA (show ins 19 3 = some (.iload_n 1, 1) by decide +kernel) rfl
set_option maxRecDepth 100000 in
theorem r_19_4 : ∀ (d : Nat) (ls : Lc) (v0 : Value) (a : Nat) (st : List Value) (M : Mem) (Q : Outcome → Mem → Prop), (smallR st = true) → Wp d 19 4 ls (v0 :: .ref a :: st) M Q = (kO M a = 1 ∧ Ca d 19 4 ls 86 (.ref a :: [v0]) st M Q) := fun d ls v0 a st M Q h0 => w_virt1 (as := [v0]) (show ins 19 4 = some (.invokevirtual 78, 3) by decide +kernel) (show mRes (mC 19) 78 = some (3, 1, [(1, 86)]) by decide +kernel) (by decide +kernel) rfl (by decide +kernel) (by decide +kernel) h0
set_option maxRecDepth 100000 in
theorem r_19_7 : ∀ (d : Nat) (ls : Lc) (a : Int32) (st : List Value) (M : Mem) (Q : Outcome → Mem → Prop), Wp d 19 7 ls (.int a :: st) M Q = Wp d 19 8 ls (.long a.toInt64 :: st) M Q := fun d ls a st M Q => wA (show ins 19 7 = some (.i2l, 1) by decide +kernel) rfl
set_option maxRecDepth 100000 in
theorem r_19_8 : ∀ (d : Nat) (ls : Lc) (a : Nat) (j : Int32) (v : Int64) (st : List Value) (M : Mem) (Q : Outcome → Mem → Prop), Wp d 19 8 ls (.long v :: .int j :: .ref a :: st) M Q = (((kX M a).1 = 3 ∧ inB j (kX M a).2 = true) ∧ Wp d 19 9 ls st (sL M a j.toNatClampNeg v) Q) := fun d ls a j v st M Q => w_lastore (show ins 19 8 = some (.lastore, 1) by decide +kernel)
set_option maxRecDepth 100000 in
theorem r_19_9 : ∀ (d : Nat) (ls : Lc) (st : List Value) (M : Mem) (Q : Outcome → Mem → Prop), Wp d 19 9 ls st M Q = Wp d 19 18 ls st M Q := fun d ls st M Q => w_goto (show ins 19 9 = some (.goto 9, 3) by decide +kernel) rfl
set_option maxRecDepth 100000 in
theorem r_19_12 : ∀ (d : Nat) (l0 l1 l2 l3 : Option Value) (v : Nat) (st : List Value) (M : Mem) (Q : Outcome → Mem → Prop), (lo l2 = false) → Wp d 19 12 [l0, l1, l2, l3] (.ref v :: st) M Q = Wp d 19 13 [l0, l1, l2, some (.ref v)] st M Q := fun d l0 l1 l2 l3 v st M Q hl => w_astore_n (show ins 19 12 = some (.astore_n 3, 1) by decide +kernel) (st1_S rfl rfl hl)
set_option maxRecDepth 100000 in
theorem r_19_12_1 : ∀ (d : Nat) (l0 l1 l2 l3 : Option Value) (st : List Value) (M : Mem) (Q : Outcome → Mem → Prop), (lo l2 = false) → Wp d 19 12 [l0, l1, l2, l3] (.null :: st) M Q = Wp d 19 13 [l0, l1, l2, some (.null)] st M Q := fun d l0 l1 l2 l3 st M Q hl => w_astoreN_n (show ins 19 12 = some (.astore_n 3, 1) by decide +kernel) (st1_S rfl rfl hl)
set_option maxRecDepth 100000 in
theorem r_19_13 : ∀ (d : Nat) (ls : Lc) (st : List Value) (M : Mem) (Q : Outcome → Mem → Prop), Wp d 19 13 ls st M Q = Wp d 19 14 ls (.int (I 1) :: st) M Q := fun d ls st M Q => w_iconst (show ins 19 13 = some (.iconst 1, 1) by decide +kernel)
set_option maxRecDepth 100000 in
theorem r_19_14 : ∀ (d : Nat) (ls : Lc) (v : Int32) (M : Mem) (Q : Outcome → Mem → Prop), Wp d 19 14 ls [.int v] M Q = Q (.returned (some (.int v))) M := fun d ls v M Q => w_ireturn (show ins 19 14 = some (.ireturn, 1) by decide +kernel) (by decide +kernel)
set_option maxRecDepth 100000 in
theorem r_19_15 : ∀ (d : Nat) (l0 l1 l2 l3 : Option Value) (v : Nat) (st : List Value) (M : Mem) (Q : Outcome → Mem → Prop), (lo l2 = false) → Wp d 19 15 [l0, l1, l2, l3] (.ref v :: st) M Q = Wp d 19 16 [l0, l1, l2, some (.ref v)] st M Q := fun d l0 l1 l2 l3 v st M Q hl => w_astore_n (show ins 19 15 = some (.astore_n 3, 1) by decide +kernel) (st1_S rfl rfl hl)
set_option maxRecDepth 100000 in
theorem r_19_15_1 : ∀ (d : Nat) (l0 l1 l2 l3 : Option Value) (st : List Value) (M : Mem) (Q : Outcome → Mem → Prop), (lo l2 = false) → Wp d 19 15 [l0, l1, l2, l3] (.null :: st) M Q = Wp d 19 16 [l0, l1, l2, some (.null)] st M Q := fun d l0 l1 l2 l3 st M Q hl => w_astoreN_n (show ins 19 15 = some (.astore_n 3, 1) by decide +kernel) (st1_S rfl rfl hl)
set_option maxRecDepth 100000 in
theorem r_19_16 : ∀ (d : Nat) (ls : Lc) (st : List Value) (M : Mem) (Q : Outcome → Mem → Prop), Wp d 19 16 ls st M Q = Wp d 19 17 ls (.int (I 2) :: st) M Q := fun d ls st M Q => w_iconst (show ins 19 16 = some (.iconst 2, 1) by decide +kernel)
set_option maxRecDepth 100000 in
theorem r_19_17 : ∀ (d : Nat) (ls : Lc) (v : Int32) (M : Mem) (Q : Outcome → Mem → Prop), Wp d 19 17 ls [.int v] M Q = Q (.returned (some (.int v))) M := fun d ls v M Q => w_ireturn (show ins 19 17 = some (.ireturn, 1) by decide +kernel) (by decide +kernel)
set_option maxRecDepth 100000 in
theorem r_19_18 : ∀ (d : Nat) (ls : Lc) (st : List Value) (M : Mem) (Q : Outcome → Mem → Prop), Wp d 19 18 ls st M Q = Wp d 19 19 ls (.int (I 0) :: st) M Q := fun d ls st M Q => w_iconst (show ins 19 18 = some (.iconst 0, 1) by decide +kernel)
set_option maxRecDepth 100000 in
theorem r_19_19 : ∀ (d : Nat) (ls : Lc) (v : Int32) (M : Mem) (Q : Outcome → Mem → Prop), Wp d 19 19 ls [.int v] M Q = Q (.returned (some (.int v))) M := fun d ls v M Q => w_ireturn (show ins 19 19 = some (.ireturn, 1) by decide +kernel) (by decide +kernel)
set_option maxRecDepth 100000 in
theorem W_19 : (type_of% r_19_0) ∧ (type_of% r_19_0_1) ∧ (type_of% r_19_1) ∧ (type_of% r_19_2) ∧ (type_of% r_19_2_1) ∧ (type_of% r_19_3) ∧ (type_of% r_19_4) ∧ (type_of% r_19_7) ∧ (type_of% r_19_8) ∧ (type_of% r_19_9) ∧ (type_of% r_19_12) ∧ (type_of% r_19_12_1) ∧ (type_of% r_19_13) ∧ (type_of% r_19_14) ∧ (type_of% r_19_15) ∧ (type_of% r_19_15_1) ∧ (type_of% r_19_16) ∧ (type_of% r_19_17) ∧ (type_of% r_19_18) ∧ (type_of% r_19_19) := ⟨r_19_0, r_19_0_1, r_19_1, r_19_2, r_19_2_1, r_19_3, r_19_4, r_19_7, r_19_8, r_19_9, r_19_12, r_19_12_1, r_19_13, r_19_14, r_19_15, r_19_15_1, r_19_16, r_19_17, r_19_18, r_19_19⟩
set_option maxRecDepth 100000 in
theorem ca_19 {d y pc : Nat} {ls : Lc} {o0 : Option Nat} {z1 : Int32} {o2 : Option Nat} {r : List Value} {M : Mem} {Q : Outcome → Mem → Prop} (hd : 0 < d) (hw : Wp (d - 1) 19 0 [some (va_rf o0), some (.int z1), some (va_rf o2), none] [] M (Cq d y pc ls r Q)) : Ca d y pc ls 19 [va_rf o0, .int z1, va_rf o2] r M Q := ca_of (mq_get (by decide)) (by cases o0 <;> cases o2 <;> rfl) hd hw
/-! 20 PackedTree.<init>(II)V; loop heads [176] -/
set_option maxRecDepth 100000 in
theorem r_20_0 : ∀ (d : Nat) (l1 l2 l3 l4 : Option Value) (v : Nat) (st : List Value) (M : Mem) (Q : Outcome → Mem → Prop), Wp d 20 0 [some (.ref v), l1, l2, l3, l4] st M Q = Wp d 20 1 [some (.ref v), l1, l2, l3, l4] (.ref v :: st) M Q := fun d l1 l2 l3 l4 v st M Q => wA (show ins 20 0 = some (.aload_n 0, 1) by decide +kernel) rfl
set_option maxRecDepth 100000 in
theorem r_20_1 : ∀ (d : Nat) (ls : Lc) (a : Nat) (st : List Value) (M : Mem) (Q : Outcome → Mem → Prop), (smallR st = true) → Wp d 20 1 ls (.ref a :: st) M Q = Wp d 20 4 ls st M Q := fun d ls a st M Q h0 => w_obj (show ins 20 1 = some (.invokespecial 7, 3) by decide +kernel) (show mRes (mC 20) 7 = some (2, 10, [(0, 232)]) by decide +kernel) h0
set_option maxRecDepth 100000 in
theorem r_20_4 : ∀ (d : Nat) (l1 l2 l3 l4 : Option Value) (v : Nat) (st : List Value) (M : Mem) (Q : Outcome → Mem → Prop), Wp d 20 4 [some (.ref v), l1, l2, l3, l4] st M Q = Wp d 20 5 [some (.ref v), l1, l2, l3, l4] (.ref v :: st) M Q := fun d l1 l2 l3 l4 v st M Q => wA (show ins 20 4 = some (.aload_n 0, 1) by decide +kernel) rfl
set_option maxRecDepth 100000 in
theorem r_20_5 : ∀ (d : Nat) (ls : Lc) (st : List Value) (M : Mem) (Q : Outcome → Mem → Prop), Wp d 20 5 ls st M Q = Wp d 20 7 ls (.int (I 96) :: st) M Q := fun d ls st M Q => w_bipush (show ins 20 5 = some (.bipush 96, 2) by decide +kernel) (by decide)
set_option maxRecDepth 100000 in
theorem r_20_7 : ∀ (d : Nat) (ls : Lc) (st : List Value) (M : Mem) (Q : Outcome → Mem → Prop), Wp d 20 7 ls st M Q = Wp d 20 10 ls (.int (I 129) :: st) M Q := fun d ls st M Q => w_sipush (show ins 20 7 = some (.sipush 129, 3) by decide +kernel) (by decide)
set_option maxRecDepth 100000 in
theorem r_20_10 : ∀ (d : Nat) (ls : Lc) (n k : Int) (st : List Value) (M : Mem) (Q : Outcome → Mem → Prop), (0 ≤ n) → (n ≤ 1000) → (0 ≤ k) → (k ≤ 1000) → Wp d 20 10 ls (.int (I k) :: .int (I n) :: st) M Q = Wp d 20 14 ls (.ref (mN M) :: st) (nw2 M n.toNat k.toNat) Q := fun d ls n k st M Q h0 h1 h2 h3 => w_multi (show ins 20 10 = some (.multianewarray 13 2, 4) by decide +kernel) (by decide +kernel) h0 h1 h2 h3
set_option maxRecDepth 100000 in
theorem r_20_14 : ∀ (d : Nat) (ls : Lc) (a b : Nat) (st : List Value) (M : Mem) (Q : Outcome → Mem → Prop), Wp d 20 14 ls (.ref b :: .ref a :: st) M Q = (fk 4 (kO M a) = true ∧ Wp d 20 17 ls st (sR M 4 a (some b)) Q) := fun d ls a b st M Q => w_putR (v := some b) (show ins 20 14 = some (.putfield 15, 3) by decide +kernel) (show fRes (mC 20) 15 = some (4, 1, false) by decide +kernel) (by decide +kernel) (by decide +kernel)
set_option maxRecDepth 100000 in
theorem r_20_14_1 : ∀ (d : Nat) (ls : Lc) (a : Nat) (st : List Value) (M : Mem) (Q : Outcome → Mem → Prop), Wp d 20 14 ls (.null :: .ref a :: st) M Q = (fk 4 (kO M a) = true ∧ Wp d 20 17 ls st (sR M 4 a none) Q) := fun d ls a st M Q => w_putR (v := none) (show ins 20 14 = some (.putfield 15, 3) by decide +kernel) (show fRes (mC 20) 15 = some (4, 1, false) by decide +kernel) (by decide +kernel) (by decide +kernel)
set_option maxRecDepth 100000 in
theorem r_20_17 : ∀ (d : Nat) (l1 l2 l3 l4 : Option Value) (v : Nat) (st : List Value) (M : Mem) (Q : Outcome → Mem → Prop), Wp d 20 17 [some (.ref v), l1, l2, l3, l4] st M Q = Wp d 20 18 [some (.ref v), l1, l2, l3, l4] (.ref v :: st) M Q := fun d l1 l2 l3 l4 v st M Q => wA (show ins 20 17 = some (.aload_n 0, 1) by decide +kernel) rfl
set_option maxRecDepth 100000 in
theorem r_20_18 : ∀ (d : Nat) (ls : Lc) (st : List Value) (M : Mem) (Q : Outcome → Mem → Prop), Wp d 20 18 ls st M Q = Wp d 20 20 ls (.int (I 96) :: st) M Q := fun d ls st M Q => w_bipush (show ins 20 18 = some (.bipush 96, 2) by decide +kernel) (by decide)
set_option maxRecDepth 100000 in
theorem r_20_20 : ∀ (d : Nat) (ls : Lc) (st : List Value) (M : Mem) (Q : Outcome → Mem → Prop), Wp d 20 20 ls st M Q = Wp d 20 23 ls (.int (I 129) :: st) M Q := fun d ls st M Q => w_sipush (show ins 20 20 = some (.sipush 129, 3) by decide +kernel) (by decide)
set_option maxRecDepth 100000 in
theorem r_20_23 : ∀ (d : Nat) (ls : Lc) (n k : Int) (st : List Value) (M : Mem) (Q : Outcome → Mem → Prop), (0 ≤ n) → (n ≤ 1000) → (0 ≤ k) → (k ≤ 1000) → Wp d 20 23 ls (.int (I k) :: .int (I n) :: st) M Q = Wp d 20 27 ls (.ref (mN M) :: st) (nw2 M n.toNat k.toNat) Q := fun d ls n k st M Q h0 h1 h2 h3 => w_multi (show ins 20 23 = some (.multianewarray 13 2, 4) by decide +kernel) (by decide +kernel) h0 h1 h2 h3
set_option maxRecDepth 100000 in
theorem r_20_27 : ∀ (d : Nat) (ls : Lc) (a b : Nat) (st : List Value) (M : Mem) (Q : Outcome → Mem → Prop), Wp d 20 27 ls (.ref b :: .ref a :: st) M Q = (fk 8 (kO M a) = true ∧ Wp d 20 30 ls st (sR M 8 a (some b)) Q) := fun d ls a b st M Q => w_putR (v := some b) (show ins 20 27 = some (.putfield 18, 3) by decide +kernel) (show fRes (mC 20) 18 = some (8, 1, false) by decide +kernel) (by decide +kernel) (by decide +kernel)
set_option maxRecDepth 100000 in
theorem r_20_27_1 : ∀ (d : Nat) (ls : Lc) (a : Nat) (st : List Value) (M : Mem) (Q : Outcome → Mem → Prop), Wp d 20 27 ls (.null :: .ref a :: st) M Q = (fk 8 (kO M a) = true ∧ Wp d 20 30 ls st (sR M 8 a none) Q) := fun d ls a st M Q => w_putR (v := none) (show ins 20 27 = some (.putfield 18, 3) by decide +kernel) (show fRes (mC 20) 18 = some (8, 1, false) by decide +kernel) (by decide +kernel) (by decide +kernel)
set_option maxRecDepth 100000 in
theorem r_20_30 : ∀ (d : Nat) (l1 l2 l3 l4 : Option Value) (v : Nat) (st : List Value) (M : Mem) (Q : Outcome → Mem → Prop), Wp d 20 30 [some (.ref v), l1, l2, l3, l4] st M Q = Wp d 20 31 [some (.ref v), l1, l2, l3, l4] (.ref v :: st) M Q := fun d l1 l2 l3 l4 v st M Q => wA (show ins 20 30 = some (.aload_n 0, 1) by decide +kernel) rfl
set_option maxRecDepth 100000 in
theorem r_20_31 : ∀ (d : Nat) (ls : Lc) (st : List Value) (M : Mem) (Q : Outcome → Mem → Prop), Wp d 20 31 ls st M Q = Wp d 20 33 ls (.int (I 96) :: st) M Q := fun d ls st M Q => w_bipush (show ins 20 31 = some (.bipush 96, 2) by decide +kernel) (by decide)
set_option maxRecDepth 100000 in
theorem r_20_33 : ∀ (d : Nat) (ls : Lc) (n : Int) (st : List Value) (M : Mem) (Q : Outcome → Mem → Prop), (0 ≤ n) → (n ≤ 60000) → Wp d 20 33 ls (.int (I n) :: st) M Q = Wp d 20 35 ls (.ref (mN M) :: st) (nw M (.inr (2, n.toNat)) n.toNat) Q := fun d ls n st M Q h0 h1 => w_newarray (show ins 20 33 = some (.newarray .boolean, 2) by decide +kernel) rfl h0 h1
set_option maxRecDepth 100000 in
theorem r_20_35 : ∀ (d : Nat) (ls : Lc) (a b : Nat) (st : List Value) (M : Mem) (Q : Outcome → Mem → Prop), Wp d 20 35 ls (.ref b :: .ref a :: st) M Q = (fk 1 (kO M a) = true ∧ Wp d 20 38 ls st (sR M 1 a (some b)) Q) := fun d ls a b st M Q => w_putR (v := some b) (show ins 20 35 = some (.putfield 21, 3) by decide +kernel) (show fRes (mC 20) 21 = some (1, 1, false) by decide +kernel) (by decide +kernel) (by decide +kernel)
set_option maxRecDepth 100000 in
theorem r_20_35_1 : ∀ (d : Nat) (ls : Lc) (a : Nat) (st : List Value) (M : Mem) (Q : Outcome → Mem → Prop), Wp d 20 35 ls (.null :: .ref a :: st) M Q = (fk 1 (kO M a) = true ∧ Wp d 20 38 ls st (sR M 1 a none) Q) := fun d ls a st M Q => w_putR (v := none) (show ins 20 35 = some (.putfield 21, 3) by decide +kernel) (show fRes (mC 20) 21 = some (1, 1, false) by decide +kernel) (by decide +kernel) (by decide +kernel)
set_option maxRecDepth 100000 in
theorem r_20_38 : ∀ (d : Nat) (l1 l2 l3 l4 : Option Value) (v : Nat) (st : List Value) (M : Mem) (Q : Outcome → Mem → Prop), Wp d 20 38 [some (.ref v), l1, l2, l3, l4] st M Q = Wp d 20 39 [some (.ref v), l1, l2, l3, l4] (.ref v :: st) M Q := fun d l1 l2 l3 l4 v st M Q => wA (show ins 20 38 = some (.aload_n 0, 1) by decide +kernel) rfl
set_option maxRecDepth 100000 in
theorem r_20_39 : ∀ (d : Nat) (ls : Lc) (st : List Value) (M : Mem) (Q : Outcome → Mem → Prop), Wp d 20 39 ls st M Q = Wp d 20 41 ls (.int (I 48) :: st) M Q := fun d ls st M Q => w_bipush (show ins 20 39 = some (.bipush 48, 2) by decide +kernel) (by decide)
set_option maxRecDepth 100000 in
theorem r_20_41 : ∀ (d : Nat) (ls : Lc) (n : Int) (st : List Value) (M : Mem) (Q : Outcome → Mem → Prop), (0 ≤ n) → (n ≤ 60000) → Wp d 20 41 ls (.int (I n) :: st) M Q = Wp d 20 43 ls (.ref (mN M) :: st) (nw M (.inr (1, n.toNat)) n.toNat) Q := fun d ls n st M Q h0 h1 => w_newarray (show ins 20 41 = some (.newarray .byte, 2) by decide +kernel) rfl h0 h1
set_option maxRecDepth 100000 in
theorem r_20_43 : ∀ (d : Nat) (ls : Lc) (a b : Nat) (st : List Value) (M : Mem) (Q : Outcome → Mem → Prop), Wp d 20 43 ls (.ref b :: .ref a :: st) M Q = (fk 0 (kO M a) = true ∧ Wp d 20 46 ls st (sR M 0 a (some b)) Q) := fun d ls a b st M Q => w_putR (v := some b) (show ins 20 43 = some (.putfield 25, 3) by decide +kernel) (show fRes (mC 20) 25 = some (0, 1, false) by decide +kernel) (by decide +kernel) (by decide +kernel)
set_option maxRecDepth 100000 in
theorem r_20_43_1 : ∀ (d : Nat) (ls : Lc) (a : Nat) (st : List Value) (M : Mem) (Q : Outcome → Mem → Prop), Wp d 20 43 ls (.null :: .ref a :: st) M Q = (fk 0 (kO M a) = true ∧ Wp d 20 46 ls st (sR M 0 a none) Q) := fun d ls a st M Q => w_putR (v := none) (show ins 20 43 = some (.putfield 25, 3) by decide +kernel) (show fRes (mC 20) 25 = some (0, 1, false) by decide +kernel) (by decide +kernel) (by decide +kernel)
set_option maxRecDepth 100000 in
theorem r_20_46 : ∀ (d : Nat) (l1 l2 l3 l4 : Option Value) (v : Nat) (st : List Value) (M : Mem) (Q : Outcome → Mem → Prop), Wp d 20 46 [some (.ref v), l1, l2, l3, l4] st M Q = Wp d 20 47 [some (.ref v), l1, l2, l3, l4] (.ref v :: st) M Q := fun d l1 l2 l3 l4 v st M Q => wA (show ins 20 46 = some (.aload_n 0, 1) by decide +kernel) rfl
set_option maxRecDepth 100000 in
theorem r_20_47 : ∀ (d : Nat) (ls : Lc) (st : List Value) (M : Mem) (Q : Outcome → Mem → Prop), Wp d 20 47 ls st M Q = Wp d 20 50 ls (.int (I 2048) :: st) M Q := fun d ls st M Q => w_sipush (show ins 20 47 = some (.sipush 2048, 3) by decide +kernel) (by decide)
set_option maxRecDepth 100000 in
theorem r_20_50 : ∀ (d : Nat) (ls : Lc) (n : Int) (st : List Value) (M : Mem) (Q : Outcome → Mem → Prop), (0 ≤ n) → (n ≤ 60000) → Wp d 20 50 ls (.int (I n) :: st) M Q = Wp d 20 52 ls (.ref (mN M) :: st) (nw M (.inr (1, n.toNat)) n.toNat) Q := fun d ls n st M Q h0 h1 => w_newarray (show ins 20 50 = some (.newarray .byte, 2) by decide +kernel) rfl h0 h1
set_option maxRecDepth 100000 in
theorem r_20_52 : ∀ (d : Nat) (ls : Lc) (a b : Nat) (st : List Value) (M : Mem) (Q : Outcome → Mem → Prop), Wp d 20 52 ls (.ref b :: .ref a :: st) M Q = (fk 3 (kO M a) = true ∧ Wp d 20 55 ls st (sR M 3 a (some b)) Q) := fun d ls a b st M Q => w_putR (v := some b) (show ins 20 52 = some (.putfield 29, 3) by decide +kernel) (show fRes (mC 20) 29 = some (3, 1, false) by decide +kernel) (by decide +kernel) (by decide +kernel)
set_option maxRecDepth 100000 in
theorem r_20_52_1 : ∀ (d : Nat) (ls : Lc) (a : Nat) (st : List Value) (M : Mem) (Q : Outcome → Mem → Prop), Wp d 20 52 ls (.null :: .ref a :: st) M Q = (fk 3 (kO M a) = true ∧ Wp d 20 55 ls st (sR M 3 a none) Q) := fun d ls a st M Q => w_putR (v := none) (show ins 20 52 = some (.putfield 29, 3) by decide +kernel) (show fRes (mC 20) 29 = some (3, 1, false) by decide +kernel) (by decide +kernel) (by decide +kernel)
set_option maxRecDepth 100000 in
theorem r_20_55 : ∀ (d : Nat) (l1 l2 l3 l4 : Option Value) (v : Nat) (st : List Value) (M : Mem) (Q : Outcome → Mem → Prop), Wp d 20 55 [some (.ref v), l1, l2, l3, l4] st M Q = Wp d 20 56 [some (.ref v), l1, l2, l3, l4] (.ref v :: st) M Q := fun d l1 l2 l3 l4 v st M Q => wA (show ins 20 55 = some (.aload_n 0, 1) by decide +kernel) rfl
set_option maxRecDepth 100000 in
theorem r_20_56 : ∀ (d : Nat) (ls : Lc) (st : List Value) (M : Mem) (Q : Outcome → Mem → Prop), Wp d 20 56 ls st M Q = Wp d 20 58 ls (.int (I 16) :: st) M Q := fun d ls st M Q => w_bipush (show ins 20 56 = some (.bipush 16, 2) by decide +kernel) (by decide)
set_option maxRecDepth 100000 in
theorem r_20_58 : ∀ (d : Nat) (ls : Lc) (n : Int) (st : List Value) (M : Mem) (Q : Outcome → Mem → Prop), (0 ≤ n) → (n ≤ 60000) → Wp d 20 58 ls (.int (I n) :: st) M Q = Wp d 20 60 ls (.ref (mN M) :: st) (nw M (.inr (0, n.toNat)) n.toNat) Q := fun d ls n st M Q h0 h1 => w_newarray (show ins 20 58 = some (.newarray .int, 2) by decide +kernel) rfl h0 h1
set_option maxRecDepth 100000 in
theorem r_20_60 : ∀ (d : Nat) (ls : Lc) (a b : Nat) (st : List Value) (M : Mem) (Q : Outcome → Mem → Prop), Wp d 20 60 ls (.ref b :: .ref a :: st) M Q = (fk 5 (kO M a) = true ∧ Wp d 20 63 ls st (sR M 5 a (some b)) Q) := fun d ls a b st M Q => w_putR (v := some b) (show ins 20 60 = some (.putfield 32, 3) by decide +kernel) (show fRes (mC 20) 32 = some (5, 1, false) by decide +kernel) (by decide +kernel) (by decide +kernel)
set_option maxRecDepth 100000 in
theorem r_20_60_1 : ∀ (d : Nat) (ls : Lc) (a : Nat) (st : List Value) (M : Mem) (Q : Outcome → Mem → Prop), Wp d 20 60 ls (.null :: .ref a :: st) M Q = (fk 5 (kO M a) = true ∧ Wp d 20 63 ls st (sR M 5 a none) Q) := fun d ls a st M Q => w_putR (v := none) (show ins 20 60 = some (.putfield 32, 3) by decide +kernel) (show fRes (mC 20) 32 = some (5, 1, false) by decide +kernel) (by decide +kernel) (by decide +kernel)
set_option maxRecDepth 100000 in
theorem r_20_63 : ∀ (d : Nat) (l1 l2 l3 l4 : Option Value) (v : Nat) (st : List Value) (M : Mem) (Q : Outcome → Mem → Prop), Wp d 20 63 [some (.ref v), l1, l2, l3, l4] st M Q = Wp d 20 64 [some (.ref v), l1, l2, l3, l4] (.ref v :: st) M Q := fun d l1 l2 l3 l4 v st M Q => wA (show ins 20 63 = some (.aload_n 0, 1) by decide +kernel) rfl
set_option maxRecDepth 100000 in
theorem r_20_64 : ∀ (d : Nat) (l0 l2 l3 l4 : Option Value) (v : Int32) (st : List Value) (M : Mem) (Q : Outcome → Mem → Prop), Wp d 20 64 [l0, some (.int v), l2, l3, l4] st M Q = Wp d 20 65 [l0, some (.int v), l2, l3, l4] (.int v :: st) M Q := fun d l0 l2 l3 l4 v st M Q => wA (show ins 20 64 = some (.iload_n 1, 1) by decide +kernel) rfl
set_option maxRecDepth 100000 in
theorem r_20_65 : ∀ (d : Nat) (ls : Lc) (st : List Value) (M : Mem) (Q : Outcome → Mem → Prop), Wp d 20 65 ls st M Q = Wp d 20 67 ls (.int (I 16) :: st) M Q := fun d ls st M Q => w_bipush (show ins 20 65 = some (.bipush 16, 2) by decide +kernel) (by decide)
set_option maxRecDepth 100000 in
theorem r_20_67 : ∀ (d : Nat) (ls : Lc) (st : List Value) (M : Mem) (Q : Outcome → Mem → Prop), Wp d 20 67 ls st M Q = Wp d 20 69 ls (.int (I 96) :: st) M Q := fun d ls st M Q => w_bipush (show ins 20 67 = some (.bipush 96, 2) by decide +kernel) (by decide)
set_option maxRecDepth 100000 in
theorem r_20_69 : ∀ (d : Nat) (ls : Lc) (v0 v1 v2 : Value)  (st : List Value) (M : Mem) (Q : Outcome → Mem → Prop), (smallR st = true) → Wp d 20 69 ls (v2 :: v1 :: v0 :: st) M Q = Ca d 20 69 ls 21 [v0, v1, v2] st M Q := fun d ls v0 v1 v2 st M Q h0 => w_stat (as := [v0, v1, v2]) (show ins 20 69 = some (.invokestatic 36, 3) by decide +kernel) (show mRes (mC 20) 36 = some (0, 1, [(0, 21)]) by decide +kernel) (by decide +kernel) (by decide +kernel) rfl h0
set_option maxRecDepth 100000 in
theorem r_20_72 : ∀ (d : Nat) (ls : Lc) (a : Nat) (v : Int32) (st : List Value) (M : Mem) (Q : Outcome → Mem → Prop), Wp d 20 72 ls (.int v :: .ref a :: st) M Q = (fk 7 (kO M a) = true ∧ Wp d 20 75 ls st (sF M 7 a v) Q) := fun d ls a v st M Q => w_putI (show ins 20 72 = some (.putfield 40, 3) by decide +kernel) (show fRes (mC 20) 40 = some (7, 1, false) by decide +kernel) (by decide +kernel) (by decide +kernel)
set_option maxRecDepth 100000 in
theorem r_20_75 : ∀ (d : Nat) (l1 l2 l3 l4 : Option Value) (v : Nat) (st : List Value) (M : Mem) (Q : Outcome → Mem → Prop), Wp d 20 75 [some (.ref v), l1, l2, l3, l4] st M Q = Wp d 20 76 [some (.ref v), l1, l2, l3, l4] (.ref v :: st) M Q := fun d l1 l2 l3 l4 v st M Q => wA (show ins 20 75 = some (.aload_n 0, 1) by decide +kernel) rfl
set_option maxRecDepth 100000 in
theorem r_20_76 : ∀ (d : Nat) (ls : Lc) (st : List Value) (M : Mem) (Q : Outcome → Mem → Prop), Wp d 20 76 ls st M Q = Wp d 20 79 ls (.ref (mN M) :: st) (nw M (.inl 2) (cSz 2)) Q := fun d ls st M Q => w_new (show ins 20 76 = some (.new 44, 3) by decide +kernel) (show cRes (mC 20) 44 = some 2 by decide +kernel) (by decide +kernel) (by decide +kernel)
set_option maxRecDepth 100000 in
theorem r_20_79 : ∀ (d : Nat) (ls : Lc) (v : Nat) (st : List Value) (M : Mem) (Q : Outcome → Mem → Prop), Wp d 20 79 ls (.ref v :: st) M Q = Wp d 20 80 ls (.ref v :: .ref v :: st) M Q := fun d ls v st M Q => wA (show ins 20 79 = some (.dup, 1) by decide +kernel) rfl
set_option maxRecDepth 100000 in
theorem r_20_79_1 : ∀ (d : Nat) (ls : Lc) (v : Int32) (st : List Value) (M : Mem) (Q : Outcome → Mem → Prop), Wp d 20 79 ls (.int v :: st) M Q = Wp d 20 80 ls (.int v :: .int v :: st) M Q := fun d ls v st M Q => wA (show ins 20 79 = some (.dup, 1) by decide +kernel) rfl
set_option maxRecDepth 100000 in
theorem r_20_80 : ∀ (d : Nat) (l1 l2 l3 l4 : Option Value) (v : Nat) (st : List Value) (M : Mem) (Q : Outcome → Mem → Prop), Wp d 20 80 [some (.ref v), l1, l2, l3, l4] st M Q = Wp d 20 81 [some (.ref v), l1, l2, l3, l4] (.ref v :: st) M Q := fun d l1 l2 l3 l4 v st M Q => wA (show ins 20 80 = some (.aload_n 0, 1) by decide +kernel) rfl
set_option maxRecDepth 100000 in
theorem r_20_81 : ∀ (d : Nat) (ls : Lc) (a : Nat) (st : List Value) (M : Mem) (Q : Outcome → Mem → Prop), Wp d 20 81 ls (.ref a :: st) M Q = (fk 7 (kO M a) = true ∧ Wp d 20 84 ls (.int (mF M 7 a) :: st) M Q) := fun d ls a st M Q => w_getI (show ins 20 81 = some (.getfield 40, 3) by decide +kernel) (show fRes (mC 20) 40 = some (7, 1, false) by decide +kernel) (by decide +kernel)
set_option maxRecDepth 100000 in
theorem r_20_84 : ∀ (d : Nat) (ls : Lc) (v0 : Value) (a : Nat) (st : List Value) (M : Mem) (Q : Outcome → Mem → Prop), (smallR st = true) → Wp d 20 84 ls (v0 :: .ref a :: st) M Q = Ca d 20 84 ls 87 (.ref a :: [v0]) st M Q := fun d ls v0 a st M Q h0 => w_spec (as := [v0]) (show ins 20 84 = some (.invokespecial 46, 3) by decide +kernel) (show mRes (mC 20) 46 = some (2, 2, [(0, 87)]) by decide +kernel) (by decide +kernel) rfl h0
set_option maxRecDepth 100000 in
theorem r_20_87 : ∀ (d : Nat) (ls : Lc) (a b : Nat) (st : List Value) (M : Mem) (Q : Outcome → Mem → Prop), Wp d 20 87 ls (.ref b :: .ref a :: st) M Q = (fk 6 (kO M a) = true ∧ Wp d 20 90 ls st (sR M 6 a (some b)) Q) := fun d ls a b st M Q => w_putR (v := some b) (show ins 20 87 = some (.putfield 49, 3) by decide +kernel) (show fRes (mC 20) 49 = some (6, 1, false) by decide +kernel) (by decide +kernel) (by decide +kernel)
set_option maxRecDepth 100000 in
theorem r_20_87_1 : ∀ (d : Nat) (ls : Lc) (a : Nat) (st : List Value) (M : Mem) (Q : Outcome → Mem → Prop), Wp d 20 87 ls (.null :: .ref a :: st) M Q = (fk 6 (kO M a) = true ∧ Wp d 20 90 ls st (sR M 6 a none) Q) := fun d ls a st M Q => w_putR (v := none) (show ins 20 87 = some (.putfield 49, 3) by decide +kernel) (show fRes (mC 20) 49 = some (6, 1, false) by decide +kernel) (by decide +kernel) (by decide +kernel)
set_option maxRecDepth 100000 in
theorem r_20_90 : ∀ (d : Nat) (l1 l2 l3 l4 : Option Value) (v : Nat) (st : List Value) (M : Mem) (Q : Outcome → Mem → Prop), Wp d 20 90 [some (.ref v), l1, l2, l3, l4] st M Q = Wp d 20 91 [some (.ref v), l1, l2, l3, l4] (.ref v :: st) M Q := fun d l1 l2 l3 l4 v st M Q => wA (show ins 20 90 = some (.aload_n 0, 1) by decide +kernel) rfl
set_option maxRecDepth 100000 in
theorem r_20_91 : ∀ (d : Nat) (ls : Lc) (st : List Value) (M : Mem) (Q : Outcome → Mem → Prop), Wp d 20 91 ls st M Q = Wp d 20 94 ls (.ref (mN M) :: st) (nw M (.inl 3) (cSz 3)) Q := fun d ls st M Q => w_new (show ins 20 91 = some (.new 53, 3) by decide +kernel) (show cRes (mC 20) 53 = some 3 by decide +kernel) (by decide +kernel) (by decide +kernel)
set_option maxRecDepth 100000 in
theorem r_20_94 : ∀ (d : Nat) (ls : Lc) (v : Nat) (st : List Value) (M : Mem) (Q : Outcome → Mem → Prop), Wp d 20 94 ls (.ref v :: st) M Q = Wp d 20 95 ls (.ref v :: .ref v :: st) M Q := fun d ls v st M Q => wA (show ins 20 94 = some (.dup, 1) by decide +kernel) rfl
set_option maxRecDepth 100000 in
theorem r_20_94_1 : ∀ (d : Nat) (ls : Lc) (v : Int32) (st : List Value) (M : Mem) (Q : Outcome → Mem → Prop), Wp d 20 94 ls (.int v :: st) M Q = Wp d 20 95 ls (.int v :: .int v :: st) M Q := fun d ls v st M Q => wA (show ins 20 94 = some (.dup, 1) by decide +kernel) rfl
set_option maxRecDepth 100000 in
theorem r_20_95 : ∀ (d : Nat) (l1 l2 l3 l4 : Option Value) (v : Nat) (st : List Value) (M : Mem) (Q : Outcome → Mem → Prop), Wp d 20 95 [some (.ref v), l1, l2, l3, l4] st M Q = Wp d 20 96 [some (.ref v), l1, l2, l3, l4] (.ref v :: st) M Q := fun d l1 l2 l3 l4 v st M Q => wA (show ins 20 95 = some (.aload_n 0, 1) by decide +kernel) rfl
set_option maxRecDepth 100000 in
theorem r_20_96 : ∀ (d : Nat) (ls : Lc) (a : Nat) (st : List Value) (M : Mem) (Q : Outcome → Mem → Prop), Wp d 20 96 ls (.ref a :: st) M Q = (fk 6 (kO M a) = true ∧ Wp d 20 99 ls (va_rf (mR M 6 a) :: st) M Q) := fun d ls a st M Q => w_getR (show ins 20 96 = some (.getfield 49, 3) by decide +kernel) (show fRes (mC 20) 49 = some (6, 1, false) by decide +kernel) (by decide +kernel)
set_option maxRecDepth 100000 in
theorem r_20_99 : ∀ (d : Nat) (ls : Lc) (v0 : Value) (a : Nat) (st : List Value) (M : Mem) (Q : Outcome → Mem → Prop), (smallR st = true) → Wp d 20 99 ls (v0 :: .ref a :: st) M Q = Ca d 20 99 ls 94 (.ref a :: [v0]) st M Q := fun d ls v0 a st M Q h0 => w_spec (as := [v0]) (show ins 20 99 = some (.invokespecial 55, 3) by decide +kernel) (show mRes (mC 20) 55 = some (2, 3, [(0, 94)]) by decide +kernel) (by decide +kernel) rfl h0
set_option maxRecDepth 100000 in
theorem r_20_102 : ∀ (d : Nat) (ls : Lc) (a b : Nat) (st : List Value) (M : Mem) (Q : Outcome → Mem → Prop), Wp d 20 102 ls (.ref b :: .ref a :: st) M Q = (fk 9 (kO M a) = true ∧ Wp d 20 105 ls st (sR M 9 a (some b)) Q) := fun d ls a b st M Q => w_putR (v := some b) (show ins 20 102 = some (.putfield 58, 3) by decide +kernel) (show fRes (mC 20) 58 = some (9, 1, false) by decide +kernel) (by decide +kernel) (by decide +kernel)
set_option maxRecDepth 100000 in
theorem r_20_102_1 : ∀ (d : Nat) (ls : Lc) (a : Nat) (st : List Value) (M : Mem) (Q : Outcome → Mem → Prop), Wp d 20 102 ls (.null :: .ref a :: st) M Q = (fk 9 (kO M a) = true ∧ Wp d 20 105 ls st (sR M 9 a none) Q) := fun d ls a st M Q => w_putR (v := none) (show ins 20 102 = some (.putfield 58, 3) by decide +kernel) (show fRes (mC 20) 58 = some (9, 1, false) by decide +kernel) (by decide +kernel) (by decide +kernel)
set_option maxRecDepth 100000 in
theorem r_20_105 : ∀ (d : Nat) (l1 l2 l3 l4 : Option Value) (v : Nat) (st : List Value) (M : Mem) (Q : Outcome → Mem → Prop), Wp d 20 105 [some (.ref v), l1, l2, l3, l4] st M Q = Wp d 20 106 [some (.ref v), l1, l2, l3, l4] (.ref v :: st) M Q := fun d l1 l2 l3 l4 v st M Q => wA (show ins 20 105 = some (.aload_n 0, 1) by decide +kernel) rfl
set_option maxRecDepth 100000 in
theorem r_20_106 : ∀ (d : Nat) (ls : Lc) (st : List Value) (M : Mem) (Q : Outcome → Mem → Prop), Wp d 20 106 ls st M Q = Wp d 20 109 ls (.ref (mN M) :: st) (nw M (.inl 4) (cSz 4)) Q := fun d ls st M Q => w_new (show ins 20 106 = some (.new 62, 3) by decide +kernel) (show cRes (mC 20) 62 = some 4 by decide +kernel) (by decide +kernel) (by decide +kernel)
set_option maxRecDepth 100000 in
theorem r_20_109 : ∀ (d : Nat) (ls : Lc) (v : Nat) (st : List Value) (M : Mem) (Q : Outcome → Mem → Prop), Wp d 20 109 ls (.ref v :: st) M Q = Wp d 20 110 ls (.ref v :: .ref v :: st) M Q := fun d ls v st M Q => wA (show ins 20 109 = some (.dup, 1) by decide +kernel) rfl
set_option maxRecDepth 100000 in
theorem r_20_109_1 : ∀ (d : Nat) (ls : Lc) (v : Int32) (st : List Value) (M : Mem) (Q : Outcome → Mem → Prop), Wp d 20 109 ls (.int v :: st) M Q = Wp d 20 110 ls (.int v :: .int v :: st) M Q := fun d ls v st M Q => wA (show ins 20 109 = some (.dup, 1) by decide +kernel) rfl
set_option maxRecDepth 100000 in
theorem r_20_110 : ∀ (d : Nat) (l1 l2 l3 l4 : Option Value) (v : Nat) (st : List Value) (M : Mem) (Q : Outcome → Mem → Prop), Wp d 20 110 [some (.ref v), l1, l2, l3, l4] st M Q = Wp d 20 111 [some (.ref v), l1, l2, l3, l4] (.ref v :: st) M Q := fun d l1 l2 l3 l4 v st M Q => wA (show ins 20 110 = some (.aload_n 0, 1) by decide +kernel) rfl
set_option maxRecDepth 100000 in
theorem r_20_111 : ∀ (d : Nat) (ls : Lc) (a : Nat) (st : List Value) (M : Mem) (Q : Outcome → Mem → Prop), Wp d 20 111 ls (.ref a :: st) M Q = (fk 7 (kO M a) = true ∧ Wp d 20 114 ls (.int (mF M 7 a) :: st) M Q) := fun d ls a st M Q => w_getI (show ins 20 111 = some (.getfield 40, 3) by decide +kernel) (show fRes (mC 20) 40 = some (7, 1, false) by decide +kernel) (by decide +kernel)
set_option maxRecDepth 100000 in
theorem r_20_114 : ∀ (d : Nat) (l0 l1 l3 l4 : Option Value) (v : Int32) (st : List Value) (M : Mem) (Q : Outcome → Mem → Prop), Wp d 20 114 [l0, l1, some (.int v), l3, l4] st M Q = Wp d 20 115 [l0, l1, some (.int v), l3, l4] (.int v :: st) M Q := fun d l0 l1 l3 l4 v st M Q => wA (show ins 20 114 = some (.iload_n 2, 1) by decide +kernel) rfl
set_option maxRecDepth 100000 in
theorem r_20_115 : ∀ (d : Nat) (ls : Lc) (st : List Value) (M : Mem) (Q : Outcome → Mem → Prop), Wp d 20 115 ls st M Q = Wp d 20 117 ls (.int (I 6) :: st) M Q := fun d ls st M Q => w_bipush (show ins 20 115 = some (.bipush 6, 2) by decide +kernel) (by decide)
set_option maxRecDepth 100000 in
theorem r_20_117 : ∀ (d : Nat) (ls : Lc) (st : List Value) (M : Mem) (Q : Outcome → Mem → Prop), Wp d 20 117 ls st M Q = Wp d 20 119 ls (.int (I 64) :: st) M Q := fun d ls st M Q => w_bipush (show ins 20 117 = some (.bipush 64, 2) by decide +kernel) (by decide)
set_option maxRecDepth 100000 in
theorem r_20_119 : ∀ (d : Nat) (ls : Lc) (v0 v1 v2 : Value)  (st : List Value) (M : Mem) (Q : Outcome → Mem → Prop), (smallR st = true) → Wp d 20 119 ls (v2 :: v1 :: v0 :: st) M Q = Ca d 20 119 ls 21 [v0, v1, v2] st M Q := fun d ls v0 v1 v2 st M Q h0 => w_stat (as := [v0, v1, v2]) (show ins 20 119 = some (.invokestatic 36, 3) by decide +kernel) (show mRes (mC 20) 36 = some (0, 1, [(0, 21)]) by decide +kernel) (by decide +kernel) (by decide +kernel) rfl h0
set_option maxRecDepth 100000 in
theorem r_20_122 : ∀ (d : Nat) (ls : Lc) (v0 v1 : Value) (a : Nat) (st : List Value) (M : Mem) (Q : Outcome → Mem → Prop), (smallR st = true) → Wp d 20 122 ls (v1 :: v0 :: .ref a :: st) M Q = Ca d 20 122 ls 112 (.ref a :: [v0, v1]) st M Q := fun d ls v0 v1 a st M Q h0 => w_spec (as := [v0, v1]) (show ins 20 122 = some (.invokespecial 64, 3) by decide +kernel) (show mRes (mC 20) 64 = some (2, 4, [(0, 112)]) by decide +kernel) (by decide +kernel) rfl h0
set_option maxRecDepth 100000 in
theorem r_20_125 : ∀ (d : Nat) (ls : Lc) (a b : Nat) (st : List Value) (M : Mem) (Q : Outcome → Mem → Prop), Wp d 20 125 ls (.ref b :: .ref a :: st) M Q = (fk 2 (kO M a) = true ∧ Wp d 20 128 ls st (sR M 2 a (some b)) Q) := fun d ls a b st M Q => w_putR (v := some b) (show ins 20 125 = some (.putfield 67, 3) by decide +kernel) (show fRes (mC 20) 67 = some (2, 1, false) by decide +kernel) (by decide +kernel) (by decide +kernel)
set_option maxRecDepth 100000 in
theorem r_20_125_1 : ∀ (d : Nat) (ls : Lc) (a : Nat) (st : List Value) (M : Mem) (Q : Outcome → Mem → Prop), Wp d 20 125 ls (.null :: .ref a :: st) M Q = (fk 2 (kO M a) = true ∧ Wp d 20 128 ls st (sR M 2 a none) Q) := fun d ls a st M Q => w_putR (v := none) (show ins 20 125 = some (.putfield 67, 3) by decide +kernel) (show fRes (mC 20) 67 = some (2, 1, false) by decide +kernel) (by decide +kernel) (by decide +kernel)
set_option maxRecDepth 100000 in
theorem r_20_128 : ∀ (d : Nat) (l1 l2 l3 l4 : Option Value) (v : Nat) (st : List Value) (M : Mem) (Q : Outcome → Mem → Prop), Wp d 20 128 [some (.ref v), l1, l2, l3, l4] st M Q = Wp d 20 129 [some (.ref v), l1, l2, l3, l4] (.ref v :: st) M Q := fun d l1 l2 l3 l4 v st M Q => wA (show ins 20 128 = some (.aload_n 0, 1) by decide +kernel) rfl
set_option maxRecDepth 100000 in
theorem r_20_129 : ∀ (d : Nat) (ls : Lc) (a : Nat) (st : List Value) (M : Mem) (Q : Outcome → Mem → Prop), Wp d 20 129 ls (.ref a :: st) M Q = (fk 6 (kO M a) = true ∧ Wp d 20 132 ls (va_rf (mR M 6 a) :: st) M Q) := fun d ls a st M Q => w_getR (show ins 20 129 = some (.getfield 49, 3) by decide +kernel) (show fRes (mC 20) 49 = some (6, 1, false) by decide +kernel) (by decide +kernel)
set_option maxRecDepth 100000 in
theorem r_20_132 : ∀ (d : Nat) (ls : Lc) (a : Nat) (st : List Value) (M : Mem) (Q : Outcome → Mem → Prop), (smallR st = true) → Wp d 20 132 ls (.ref a :: st) M Q = (kO M a = 2 ∧ Ca d 20 132 ls 88 (.ref a :: []) st M Q) := fun d ls a st M Q h0 => w_virt1 (as := []) (show ins 20 132 = some (.invokevirtual 71, 3) by decide +kernel) (show mRes (mC 20) 71 = some (3, 2, [(2, 88)]) by decide +kernel) (by decide +kernel) rfl (by decide +kernel) (by decide +kernel) h0
set_option maxRecDepth 100000 in
theorem r_20_135 : ∀ (d : Nat) (l0 l1 l2 l3 l4 : Option Value) (v : Int32) (st : List Value) (M : Mem) (Q : Outcome → Mem → Prop), (lo l2 = false) → Wp d 20 135 [l0, l1, l2, l3, l4] (.int v :: st) M Q = Wp d 20 136 [l0, l1, l2, some (.int v), l4] st M Q := fun d l0 l1 l2 l3 l4 v st M Q hl => w_istore_n (show ins 20 135 = some (.istore_n 3, 1) by decide +kernel) (st1_S rfl rfl hl)
set_option maxRecDepth 100000 in
theorem r_20_136 : ∀ (d : Nat) (l1 l2 l3 l4 : Option Value) (v : Nat) (st : List Value) (M : Mem) (Q : Outcome → Mem → Prop), Wp d 20 136 [some (.ref v), l1, l2, l3, l4] st M Q = Wp d 20 137 [some (.ref v), l1, l2, l3, l4] (.ref v :: st) M Q := fun d l1 l2 l3 l4 v st M Q => wA (show ins 20 136 = some (.aload_n 0, 1) by decide +kernel) rfl
set_option maxRecDepth 100000 in
theorem r_20_137 : ∀ (d : Nat) (ls : Lc) (a : Nat) (st : List Value) (M : Mem) (Q : Outcome → Mem → Prop), Wp d 20 137 ls (.ref a :: st) M Q = (fk 9 (kO M a) = true ∧ Wp d 20 140 ls (va_rf (mR M 9 a) :: st) M Q) := fun d ls a st M Q => w_getR (show ins 20 137 = some (.getfield 58, 3) by decide +kernel) (show fRes (mC 20) 58 = some (9, 1, false) by decide +kernel) (by decide +kernel)
set_option maxRecDepth 100000 in
theorem r_20_140 : ∀ (d : Nat) (ls : Lc) (a : Nat) (st : List Value) (M : Mem) (Q : Outcome → Mem → Prop), (smallR st = true) → Wp d 20 140 ls (.ref a :: st) M Q = (kO M a = 3 ∧ Ca d 20 140 ls 95 (.ref a :: []) st M Q) := fun d ls a st M Q h0 => w_virt1 (as := []) (show ins 20 140 = some (.invokevirtual 75, 3) by decide +kernel) (show mRes (mC 20) 75 = some (3, 3, [(3, 95)]) by decide +kernel) (by decide +kernel) rfl (by decide +kernel) (by decide +kernel) h0
set_option maxRecDepth 100000 in
theorem r_20_143 : ∀ (d : Nat) (l1 l2 l3 l4 : Option Value) (v : Nat) (st : List Value) (M : Mem) (Q : Outcome → Mem → Prop), Wp d 20 143 [some (.ref v), l1, l2, l3, l4] st M Q = Wp d 20 144 [some (.ref v), l1, l2, l3, l4] (.ref v :: st) M Q := fun d l1 l2 l3 l4 v st M Q => wA (show ins 20 143 = some (.aload_n 0, 1) by decide +kernel) rfl
set_option maxRecDepth 100000 in
theorem r_20_144 : ∀ (d : Nat) (ls : Lc) (st : List Value) (M : Mem) (Q : Outcome → Mem → Prop), Wp d 20 144 ls st M Q = Wp d 20 145 ls (.int (I 0) :: st) M Q := fun d ls st M Q => w_iconst (show ins 20 144 = some (.iconst 0, 1) by decide +kernel)
set_option maxRecDepth 100000 in
theorem r_20_145 : ∀ (d : Nat) (ls : Lc) (st : List Value) (M : Mem) (Q : Outcome → Mem → Prop), Wp d 20 145 ls st M Q = Wp d 20 146 ls (.int (I 1) :: st) M Q := fun d ls st M Q => w_iconst (show ins 20 145 = some (.iconst 1, 1) by decide +kernel)
set_option maxRecDepth 100000 in
theorem r_20_146 : ∀ (d : Nat) (ls : Lc) (st : List Value) (M : Mem) (Q : Outcome → Mem → Prop), Wp d 20 146 ls st M Q = Wp d 20 147 ls (.int (I 0) :: st) M Q := fun d ls st M Q => w_iconst (show ins 20 146 = some (.iconst 0, 1) by decide +kernel)
set_option maxRecDepth 100000 in
theorem r_20_147 : ∀ (d : Nat) (ls : Lc) (v0 v1 v2 : Value) (a : Nat) (st : List Value) (M : Mem) (Q : Outcome → Mem → Prop), (smallR st = true) → Wp d 20 147 ls (v2 :: v1 :: v0 :: .ref a :: st) M Q = (kO M a = 1 ∧ Ca d 20 147 ls 22 (.ref a :: [v0, v1, v2]) st M Q) := fun d ls v0 v1 v2 a st M Q h0 => w_virt1 (as := [v0, v1, v2]) (show ins 20 147 = some (.invokevirtual 78, 3) by decide +kernel) (show mRes (mC 20) 78 = some (3, 1, [(1, 22)]) by decide +kernel) (by decide +kernel) rfl (by decide +kernel) (by decide +kernel) h0
set_option maxRecDepth 100000 in
theorem r_20_150 : ∀ (d : Nat) (l1 l2 l3 l4 : Option Value) (v : Nat) (st : List Value) (M : Mem) (Q : Outcome → Mem → Prop), Wp d 20 150 [some (.ref v), l1, l2, l3, l4] st M Q = Wp d 20 151 [some (.ref v), l1, l2, l3, l4] (.ref v :: st) M Q := fun d l1 l2 l3 l4 v st M Q => wA (show ins 20 150 = some (.aload_n 0, 1) by decide +kernel) rfl
set_option maxRecDepth 100000 in
theorem r_20_151 : ∀ (d : Nat) (ls : Lc) (a : Nat) (st : List Value) (M : Mem) (Q : Outcome → Mem → Prop), Wp d 20 151 ls (.ref a :: st) M Q = (fk 9 (kO M a) = true ∧ Wp d 20 154 ls (va_rf (mR M 9 a) :: st) M Q) := fun d ls a st M Q => w_getR (show ins 20 151 = some (.getfield 58, 3) by decide +kernel) (show fRes (mC 20) 58 = some (9, 1, false) by decide +kernel) (by decide +kernel)
set_option maxRecDepth 100000 in
theorem r_20_154 : ∀ (d : Nat) (ls : Lc) (st : List Value) (M : Mem) (Q : Outcome → Mem → Prop), Wp d 20 154 ls st M Q = Wp d 20 155 ls (.int (I 1) :: st) M Q := fun d ls st M Q => w_iconst (show ins 20 154 = some (.iconst 1, 1) by decide +kernel)
set_option maxRecDepth 100000 in
theorem r_20_155 : ∀ (d : Nat) (ls : Lc) (st : List Value) (M : Mem) (Q : Outcome → Mem → Prop), Wp d 20 155 ls st M Q = Wp d 20 156 ls (.int (I 0) :: st) M Q := fun d ls st M Q => w_iconst (show ins 20 155 = some (.iconst 0, 1) by decide +kernel)
set_option maxRecDepth 100000 in
theorem r_20_156 : ∀ (d : Nat) (ls : Lc) (st : List Value) (M : Mem) (Q : Outcome → Mem → Prop), Wp d 20 156 ls st M Q = Wp d 20 157 ls (.int (I 0) :: st) M Q := fun d ls st M Q => w_iconst (show ins 20 156 = some (.iconst 0, 1) by decide +kernel)
set_option maxRecDepth 100000 in
theorem r_20_157 : ∀ (d : Nat) (ls : Lc) (v0 v1 v2 : Value)  (st : List Value) (M : Mem) (Q : Outcome → Mem → Prop), (smallR st = true) → Wp d 20 157 ls (v2 :: v1 :: v0 :: st) M Q = Ca d 20 157 ls 24 [v0, v1, v2] st M Q := fun d ls v0 v1 v2 st M Q h0 => w_stat (as := [v0, v1, v2]) (show ins 20 157 = some (.invokestatic 82, 3) by decide +kernel) (show mRes (mC 20) 82 = some (0, 1, [(0, 24)]) by decide +kernel) (by decide +kernel) (by decide +kernel) rfl h0
set_option maxRecDepth 100000 in
theorem r_20_160 : ∀ (d : Nat) (l1 l2 l3 l4 : Option Value) (v : Nat) (st : List Value) (M : Mem) (Q : Outcome → Mem → Prop), Wp d 20 160 [some (.ref v), l1, l2, l3, l4] st M Q = Wp d 20 161 [some (.ref v), l1, l2, l3, l4] (.ref v :: st) M Q := fun d l1 l2 l3 l4 v st M Q => wA (show ins 20 160 = some (.aload_n 0, 1) by decide +kernel) rfl
set_option maxRecDepth 100000 in
theorem r_20_161 : ∀ (d : Nat) (ls : Lc) (a : Nat) (st : List Value) (M : Mem) (Q : Outcome → Mem → Prop), Wp d 20 161 ls (.ref a :: st) M Q = (fk 0 (kO M a) = true ∧ Wp d 20 164 ls (va_rf (mR M 0 a) :: st) M Q) := fun d ls a st M Q => w_getR (show ins 20 161 = some (.getfield 25, 3) by decide +kernel) (show fRes (mC 20) 25 = some (0, 1, false) by decide +kernel) (by decide +kernel)
set_option maxRecDepth 100000 in
theorem r_20_164 : ∀ (d : Nat) (ls : Lc) (st : List Value) (M : Mem) (Q : Outcome → Mem → Prop), Wp d 20 164 ls st M Q = Wp d 20 166 ls (.int (I 6) :: st) M Q := fun d ls st M Q => w_bipush (show ins 20 164 = some (.bipush 6, 2) by decide +kernel) (by decide)
set_option maxRecDepth 100000 in
theorem r_20_166 : ∀ (d : Nat) (ls : Lc) (v0 v1 v2 : Value) (a : Nat) (st : List Value) (M : Mem) (Q : Outcome → Mem → Prop), (smallR st = true) → Wp d 20 166 ls (v2 :: v1 :: v0 :: .ref a :: st) M Q = (kO M a = 3 ∧ Ca d 20 166 ls 97 (.ref a :: [v0, v1, v2]) st M Q) := fun d ls v0 v1 v2 a st M Q h0 => w_virt1 (as := [v0, v1, v2]) (show ins 20 166 = some (.invokevirtual 85, 3) by decide +kernel) (show mRes (mC 20) 85 = some (3, 3, [(3, 97)]) by decide +kernel) (by decide +kernel) rfl (by decide +kernel) (by decide +kernel) h0
set_option maxRecDepth 100000 in
theorem r_20_169 : ∀ (d : Nat) (l1 l2 l3 l4 : Option Value) (v : Nat) (st : List Value) (M : Mem) (Q : Outcome → Mem → Prop), Wp d 20 169 [some (.ref v), l1, l2, l3, l4] st M Q = Wp d 20 170 [some (.ref v), l1, l2, l3, l4] (.ref v :: st) M Q := fun d l1 l2 l3 l4 v st M Q => wA (show ins 20 169 = some (.aload_n 0, 1) by decide +kernel) rfl
set_option maxRecDepth 100000 in
theorem r_20_170 : ∀ (d : Nat) (ls : Lc) (a : Nat) (st : List Value) (M : Mem) (Q : Outcome → Mem → Prop), (smallR st = true) → Wp d 20 170 ls (.ref a :: st) M Q = (kO M a = 1 ∧ Ca d 20 170 ls 25 (.ref a :: []) st M Q) := fun d ls a st M Q h0 => w_virt1 (as := []) (show ins 20 170 = some (.invokevirtual 89, 3) by decide +kernel) (show mRes (mC 20) 89 = some (3, 1, [(1, 25)]) by decide +kernel) (by decide +kernel) rfl (by decide +kernel) (by decide +kernel) h0
set_option maxRecDepth 100000 in
theorem r_20_173 : ∀ (d : Nat) (ls : Lc) (st : List Value) (M : Mem) (Q : Outcome → Mem → Prop), Wp d 20 173 ls st M Q = Wp d 20 174 ls (.int (I 0) :: st) M Q := fun d ls st M Q => w_iconst (show ins 20 173 = some (.iconst 0, 1) by decide +kernel)
set_option maxRecDepth 100000 in
theorem r_20_174 : ∀ (d : Nat) (l0 l1 l2 l3 l4 : Option Value) (v : Int32) (st : List Value) (M : Mem) (Q : Outcome → Mem → Prop), (lo l3 = false) → Wp d 20 174 [l0, l1, l2, l3, l4] (.int v :: st) M Q = Wp d 20 176 [l0, l1, l2, l3, some (.int v)] st M Q := fun d l0 l1 l2 l3 l4 v st M Q hl => w_istore (show ins 20 174 = some (.istore 4, 2) by decide +kernel) (st1_S rfl rfl hl)
set_option maxRecDepth 100000 in
theorem r_20_176 : ∀ (d : Nat) (l0 l1 l2 l3 : Option Value) (v : Int32) (st : List Value) (M : Mem) (Q : Outcome → Mem → Prop), Wp d 20 176 [l0, l1, l2, l3, some (.int v)] st M Q = Wp d 20 178 [l0, l1, l2, l3, some (.int v)] (.int v :: st) M Q := fun d l0 l1 l2 l3 v st M Q => wA (show ins 20 176 = some (.iload 4, 2) by decide +kernel) rfl
set_option maxRecDepth 100000 in
theorem r_20_178 : ∀ (d : Nat) (l1 l2 l3 l4 : Option Value) (v : Nat) (st : List Value) (M : Mem) (Q : Outcome → Mem → Prop), Wp d 20 178 [some (.ref v), l1, l2, l3, l4] st M Q = Wp d 20 179 [some (.ref v), l1, l2, l3, l4] (.ref v :: st) M Q := fun d l1 l2 l3 l4 v st M Q => wA (show ins 20 178 = some (.aload_n 0, 1) by decide +kernel) rfl
set_option maxRecDepth 100000 in
theorem r_20_179 : ∀ (d : Nat) (ls : Lc) (a : Nat) (st : List Value) (M : Mem) (Q : Outcome → Mem → Prop), Wp d 20 179 ls (.ref a :: st) M Q = (fk 7 (kO M a) = true ∧ Wp d 20 182 ls (.int (mF M 7 a) :: st) M Q) := fun d ls a st M Q => w_getI (show ins 20 179 = some (.getfield 40, 3) by decide +kernel) (show fRes (mC 20) 40 = some (7, 1, false) by decide +kernel) (by decide +kernel)
set_option maxRecDepth 100000 in
theorem r_20_182 : ∀ (d : Nat) (ls : Lc) (a b : Int32) (st : List Value) (M : Mem) (Q : Outcome → Mem → Prop), Wp d 20 182 ls (.int b :: .int a :: st) M Q = Br (b ≤ a) d 20 231 185 ls st M Q := fun d ls a b st M Q => w_icmp (show ins 20 182 = some (.if_icmp .ge 49, 3) by decide +kernel) rfl rfl
set_option maxRecDepth 100000 in
theorem r_20_185 : ∀ (d : Nat) (l1 l2 l3 l4 : Option Value) (v : Nat) (st : List Value) (M : Mem) (Q : Outcome → Mem → Prop), Wp d 20 185 [some (.ref v), l1, l2, l3, l4] st M Q = Wp d 20 186 [some (.ref v), l1, l2, l3, l4] (.ref v :: st) M Q := fun d l1 l2 l3 l4 v st M Q => wA (show ins 20 185 = some (.aload_n 0, 1) by decide +kernel) rfl
set_option maxRecDepth 100000 in
theorem r_20_186 : ∀ (d : Nat) (ls : Lc) (a : Nat) (st : List Value) (M : Mem) (Q : Outcome → Mem → Prop), Wp d 20 186 ls (.ref a :: st) M Q = (fk 4 (kO M a) = true ∧ Wp d 20 189 ls (va_rf (mR M 4 a) :: st) M Q) := fun d ls a st M Q => w_getR (show ins 20 186 = some (.getfield 15, 3) by decide +kernel) (show fRes (mC 20) 15 = some (4, 1, false) by decide +kernel) (by decide +kernel)
set_option maxRecDepth 100000 in
theorem r_20_189 : ∀ (d : Nat) (l0 l1 l2 l3 : Option Value) (v : Int32) (st : List Value) (M : Mem) (Q : Outcome → Mem → Prop), Wp d 20 189 [l0, l1, l2, l3, some (.int v)] st M Q = Wp d 20 191 [l0, l1, l2, l3, some (.int v)] (.int v :: st) M Q := fun d l0 l1 l2 l3 v st M Q => wA (show ins 20 189 = some (.iload 4, 2) by decide +kernel) rfl
set_option maxRecDepth 100000 in
theorem r_20_191 : ∀ (d : Nat) (ls : Lc) (a : Nat) (j : Int32) (st : List Value) (M : Mem) (Q : Outcome → Mem → Prop), Wp d 20 191 ls (.int j :: .ref a :: st) M Q = ((((kX M a).1 = 4 ∨ (kX M a).1 = 5 ∨ (kX M a).1 = 6 ∨ (kX M a).1 = 7) ∧ inB j (kX M a).2 = true) ∧ Wp d 20 192 ls (va_rf (mQ M a j.toNatClampNeg) :: st) M Q) := fun d ls a j st M Q => w_aaload (show ins 20 191 = some (.aaload, 1) by decide +kernel)
set_option maxRecDepth 100000 in
theorem r_20_192 : ∀ (d : Nat) (l1 l2 l3 l4 : Option Value) (v : Nat) (st : List Value) (M : Mem) (Q : Outcome → Mem → Prop), Wp d 20 192 [some (.ref v), l1, l2, l3, l4] st M Q = Wp d 20 193 [some (.ref v), l1, l2, l3, l4] (.ref v :: st) M Q := fun d l1 l2 l3 l4 v st M Q => wA (show ins 20 192 = some (.aload_n 0, 1) by decide +kernel) rfl
set_option maxRecDepth 100000 in
theorem r_20_193 : ∀ (d : Nat) (ls : Lc) (a : Nat) (st : List Value) (M : Mem) (Q : Outcome → Mem → Prop), Wp d 20 193 ls (.ref a :: st) M Q = (fk 2 (kO M a) = true ∧ Wp d 20 196 ls (va_rf (mR M 2 a) :: st) M Q) := fun d ls a st M Q => w_getR (show ins 20 193 = some (.getfield 67, 3) by decide +kernel) (show fRes (mC 20) 67 = some (2, 1, false) by decide +kernel) (by decide +kernel)
set_option maxRecDepth 100000 in
theorem r_20_196 : ∀ (d : Nat) (ls : Lc) (a : Nat) (st : List Value) (M : Mem) (Q : Outcome → Mem → Prop), Wp d 20 196 ls (.ref a :: st) M Q = (fk 21 (kO M a) = true ∧ Wp d 20 199 ls (va_rf (mR M 21 a) :: st) M Q) := fun d ls a st M Q => w_getR (show ins 20 196 = some (.getfield 92, 3) by decide +kernel) (show fRes (mC 20) 92 = some (21, 4, true) by decide +kernel) (by decide +kernel)
set_option maxRecDepth 100000 in
theorem r_20_199 : ∀ (d : Nat) (l0 l1 l2 l3 : Option Value) (v : Int32) (st : List Value) (M : Mem) (Q : Outcome → Mem → Prop), Wp d 20 199 [l0, l1, l2, l3, some (.int v)] st M Q = Wp d 20 201 [l0, l1, l2, l3, some (.int v)] (.int v :: st) M Q := fun d l0 l1 l2 l3 v st M Q => wA (show ins 20 199 = some (.iload 4, 2) by decide +kernel) rfl
set_option maxRecDepth 100000 in
theorem r_20_201 : ∀ (d : Nat) (ls : Lc) (a : Nat) (j : Int32) (st : List Value) (M : Mem) (Q : Outcome → Mem → Prop), Wp d 20 201 ls (.int j :: .ref a :: st) M Q = ((((kX M a).1 = 4 ∨ (kX M a).1 = 5 ∨ (kX M a).1 = 6 ∨ (kX M a).1 = 7) ∧ inB j (kX M a).2 = true) ∧ Wp d 20 202 ls (va_rf (mQ M a j.toNatClampNeg) :: st) M Q) := fun d ls a j st M Q => w_aaload (show ins 20 201 = some (.aaload, 1) by decide +kernel)
set_option maxRecDepth 100000 in
theorem r_20_202 : ∀ (d : Nat) (ls : Lc) (v0 v1 : Value)  (st : List Value) (M : Mem) (Q : Outcome → Mem → Prop), (smallR st = true) → Wp d 20 202 ls (v1 :: v0 :: st) M Q = Ca d 20 202 ls 27 [v0, v1] st M Q := fun d ls v0 v1 st M Q h0 => w_stat (as := [v0, v1]) (show ins 20 202 = some (.invokestatic 95, 3) by decide +kernel) (show mRes (mC 20) 95 = some (0, 1, [(0, 27)]) by decide +kernel) (by decide +kernel) (by decide +kernel) rfl h0
set_option maxRecDepth 100000 in
theorem r_20_205 : ∀ (d : Nat) (l1 l2 l3 l4 : Option Value) (v : Nat) (st : List Value) (M : Mem) (Q : Outcome → Mem → Prop), Wp d 20 205 [some (.ref v), l1, l2, l3, l4] st M Q = Wp d 20 206 [some (.ref v), l1, l2, l3, l4] (.ref v :: st) M Q := fun d l1 l2 l3 l4 v st M Q => wA (show ins 20 205 = some (.aload_n 0, 1) by decide +kernel) rfl
set_option maxRecDepth 100000 in
theorem r_20_206 : ∀ (d : Nat) (ls : Lc) (a : Nat) (st : List Value) (M : Mem) (Q : Outcome → Mem → Prop), Wp d 20 206 ls (.ref a :: st) M Q = (fk 4 (kO M a) = true ∧ Wp d 20 209 ls (va_rf (mR M 4 a) :: st) M Q) := fun d ls a st M Q => w_getR (show ins 20 206 = some (.getfield 15, 3) by decide +kernel) (show fRes (mC 20) 15 = some (4, 1, false) by decide +kernel) (by decide +kernel)
set_option maxRecDepth 100000 in
theorem r_20_209 : ∀ (d : Nat) (l0 l1 l2 l3 : Option Value) (v : Int32) (st : List Value) (M : Mem) (Q : Outcome → Mem → Prop), Wp d 20 209 [l0, l1, l2, l3, some (.int v)] st M Q = Wp d 20 211 [l0, l1, l2, l3, some (.int v)] (.int v :: st) M Q := fun d l0 l1 l2 l3 v st M Q => wA (show ins 20 209 = some (.iload 4, 2) by decide +kernel) rfl
set_option maxRecDepth 100000 in
theorem r_20_211 : ∀ (d : Nat) (ls : Lc) (a : Nat) (j : Int32) (st : List Value) (M : Mem) (Q : Outcome → Mem → Prop), Wp d 20 211 ls (.int j :: .ref a :: st) M Q = ((((kX M a).1 = 4 ∨ (kX M a).1 = 5 ∨ (kX M a).1 = 6 ∨ (kX M a).1 = 7) ∧ inB j (kX M a).2 = true) ∧ Wp d 20 212 ls (va_rf (mQ M a j.toNatClampNeg) :: st) M Q) := fun d ls a j st M Q => w_aaload (show ins 20 211 = some (.aaload, 1) by decide +kernel)
set_option maxRecDepth 100000 in
theorem r_20_212 : ∀ (d : Nat) (l1 l2 l3 l4 : Option Value) (v : Nat) (st : List Value) (M : Mem) (Q : Outcome → Mem → Prop), Wp d 20 212 [some (.ref v), l1, l2, l3, l4] st M Q = Wp d 20 213 [some (.ref v), l1, l2, l3, l4] (.ref v :: st) M Q := fun d l1 l2 l3 l4 v st M Q => wA (show ins 20 212 = some (.aload_n 0, 1) by decide +kernel) rfl
set_option maxRecDepth 100000 in
theorem r_20_213 : ∀ (d : Nat) (ls : Lc) (a : Nat) (st : List Value) (M : Mem) (Q : Outcome → Mem → Prop), Wp d 20 213 ls (.ref a :: st) M Q = (fk 2 (kO M a) = true ∧ Wp d 20 216 ls (va_rf (mR M 2 a) :: st) M Q) := fun d ls a st M Q => w_getR (show ins 20 213 = some (.getfield 67, 3) by decide +kernel) (show fRes (mC 20) 67 = some (2, 1, false) by decide +kernel) (by decide +kernel)
set_option maxRecDepth 100000 in
theorem r_20_216 : ∀ (d : Nat) (ls : Lc) (a : Nat) (st : List Value) (M : Mem) (Q : Outcome → Mem → Prop), Wp d 20 216 ls (.ref a :: st) M Q = (fk 22 (kO M a) = true ∧ Wp d 20 219 ls (va_rf (mR M 22 a) :: st) M Q) := fun d ls a st M Q => w_getR (show ins 20 216 = some (.getfield 99, 3) by decide +kernel) (show fRes (mC 20) 99 = some (22, 4, true) by decide +kernel) (by decide +kernel)
set_option maxRecDepth 100000 in
theorem r_20_219 : ∀ (d : Nat) (l0 l1 l2 l3 : Option Value) (v : Int32) (st : List Value) (M : Mem) (Q : Outcome → Mem → Prop), Wp d 20 219 [l0, l1, l2, l3, some (.int v)] st M Q = Wp d 20 221 [l0, l1, l2, l3, some (.int v)] (.int v :: st) M Q := fun d l0 l1 l2 l3 v st M Q => wA (show ins 20 219 = some (.iload 4, 2) by decide +kernel) rfl
set_option maxRecDepth 100000 in
theorem r_20_221 : ∀ (d : Nat) (ls : Lc) (a : Nat) (j : Int32) (st : List Value) (M : Mem) (Q : Outcome → Mem → Prop), Wp d 20 221 ls (.int j :: .ref a :: st) M Q = ((((kX M a).1 = 4 ∨ (kX M a).1 = 5 ∨ (kX M a).1 = 6 ∨ (kX M a).1 = 7) ∧ inB j (kX M a).2 = true) ∧ Wp d 20 222 ls (va_rf (mQ M a j.toNatClampNeg) :: st) M Q) := fun d ls a j st M Q => w_aaload (show ins 20 221 = some (.aaload, 1) by decide +kernel)
set_option maxRecDepth 100000 in
theorem r_20_222 : ∀ (d : Nat) (ls : Lc) (v0 v1 : Value)  (st : List Value) (M : Mem) (Q : Outcome → Mem → Prop), (smallR st = true) → Wp d 20 222 ls (v1 :: v0 :: st) M Q = Ca d 20 222 ls 27 [v0, v1] st M Q := fun d ls v0 v1 st M Q h0 => w_stat (as := [v0, v1]) (show ins 20 222 = some (.invokestatic 95, 3) by decide +kernel) (show mRes (mC 20) 95 = some (0, 1, [(0, 27)]) by decide +kernel) (by decide +kernel) (by decide +kernel) rfl h0
set_option maxRecDepth 100000 in
theorem r_20_225 : ∀ (d : Nat) (l0 l1 l2 l3 : Option Value) (z : Int) (st : List Value) (M : Mem) (Q : Outcome → Mem → Prop), (lo l3 = false) → Wp d 20 225 [l0, l1, l2, l3, some (.int (I z))] st M Q = Wp d 20 228 [l0, l1, l2, l3, some (.int (I (z + 1)))] st M Q := fun d l0 l1 l2 l3 z st M Q hl => w_iinc (show ins 20 225 = some (.iinc 4 1, 3) by decide +kernel) rfl (st1_S rfl rfl hl)
set_option maxRecDepth 100000 in
theorem r_20_228 : ∀ (d : Nat) (ls : Lc) (st : List Value) (M : Mem) (Q : Outcome → Mem → Prop), Wp d 20 228 ls st M Q = Wp d 20 176 ls st M Q := fun d ls st M Q => w_goto (show ins 20 228 = some (.goto (-52), 3) by decide +kernel) rfl
set_option maxRecDepth 100000 in
theorem r_20_231 : ∀ (d : Nat) (ls : Lc) (M : Mem) (Q : Outcome → Mem → Prop), Wp d 20 231 ls [] M Q = Q (.returned none) M := fun d ls M Q => w_return (show ins 20 231 = some (.return_, 1) by decide +kernel) (by decide +kernel)
set_option maxRecDepth 100000 in
theorem w_20_176 : (type_of% r_20_176) := r_20_176
set_option maxRecDepth 100000 in
theorem W_20 : (type_of% r_20_0) ∧ (type_of% r_20_1) ∧ (type_of% r_20_4) ∧ (type_of% r_20_5) ∧ (type_of% r_20_7) ∧ (type_of% r_20_10) ∧ (type_of% r_20_14) ∧ (type_of% r_20_14_1) ∧ (type_of% r_20_17) ∧ (type_of% r_20_18) ∧ (type_of% r_20_20) ∧ (type_of% r_20_23) ∧ (type_of% r_20_27) ∧ (type_of% r_20_27_1) ∧ (type_of% r_20_30) ∧ (type_of% r_20_31) ∧ (type_of% r_20_33) ∧ (type_of% r_20_35) ∧ (type_of% r_20_35_1) ∧ (type_of% r_20_38) ∧ (type_of% r_20_39) ∧ (type_of% r_20_41) ∧ (type_of% r_20_43) ∧ (type_of% r_20_43_1) ∧ (type_of% r_20_46) ∧ (type_of% r_20_47) ∧ (type_of% r_20_50) ∧ (type_of% r_20_52) ∧ (type_of% r_20_52_1) ∧ (type_of% r_20_55) ∧ (type_of% r_20_56) ∧ (type_of% r_20_58) ∧ (type_of% r_20_60) ∧ (type_of% r_20_60_1) ∧ (type_of% r_20_63) ∧ (type_of% r_20_64) ∧ (type_of% r_20_65) ∧ (type_of% r_20_67) ∧ (type_of% r_20_69) ∧ (type_of% r_20_72) ∧ (type_of% r_20_75) ∧ (type_of% r_20_76) ∧ (type_of% r_20_79) ∧ (type_of% r_20_79_1) ∧ (type_of% r_20_80) ∧ (type_of% r_20_81) ∧ (type_of% r_20_84) ∧ (type_of% r_20_87) ∧ (type_of% r_20_87_1) ∧ (type_of% r_20_90) ∧ (type_of% r_20_91) ∧ (type_of% r_20_94) ∧ (type_of% r_20_94_1) ∧ (type_of% r_20_95) ∧ (type_of% r_20_96) ∧ (type_of% r_20_99) ∧ (type_of% r_20_102) ∧ (type_of% r_20_102_1) ∧ (type_of% r_20_105) ∧ (type_of% r_20_106) ∧ (type_of% r_20_109) ∧ (type_of% r_20_109_1) ∧ (type_of% r_20_110) ∧ (type_of% r_20_111) ∧ (type_of% r_20_114) ∧ (type_of% r_20_115) ∧ (type_of% r_20_117) ∧ (type_of% r_20_119) ∧ (type_of% r_20_122) ∧ (type_of% r_20_125) ∧ (type_of% r_20_125_1) ∧ (type_of% r_20_128) ∧ (type_of% r_20_129) ∧ (type_of% r_20_132) ∧ (type_of% r_20_135) ∧ (type_of% r_20_136) ∧ (type_of% r_20_137) ∧ (type_of% r_20_140) ∧ (type_of% r_20_143) ∧ (type_of% r_20_144) ∧ (type_of% r_20_145) ∧ (type_of% r_20_146) ∧ (type_of% r_20_147) ∧ (type_of% r_20_150) ∧ (type_of% r_20_151) ∧ (type_of% r_20_154) ∧ (type_of% r_20_155) ∧ (type_of% r_20_156) ∧ (type_of% r_20_157) ∧ (type_of% r_20_160) ∧ (type_of% r_20_161) ∧ (type_of% r_20_164) ∧ (type_of% r_20_166) ∧ (type_of% r_20_169) ∧ (type_of% r_20_170) ∧ (type_of% r_20_173) ∧ (type_of% r_20_174) ∧ (type_of% r_20_178) ∧ (type_of% r_20_179) ∧ (type_of% r_20_182) ∧ (type_of% r_20_185) ∧ (type_of% r_20_186) ∧ (type_of% r_20_189) ∧ (type_of% r_20_191) ∧ (type_of% r_20_192) ∧ (type_of% r_20_193) ∧ (type_of% r_20_196) ∧ (type_of% r_20_199) ∧ (type_of% r_20_201) ∧ (type_of% r_20_202) ∧ (type_of% r_20_205) ∧ (type_of% r_20_206) ∧ (type_of% r_20_209) ∧ (type_of% r_20_211) ∧ (type_of% r_20_212) ∧ (type_of% r_20_213) ∧ (type_of% r_20_216) ∧ (type_of% r_20_219) ∧ (type_of% r_20_221) ∧ (type_of% r_20_222) ∧ (type_of% r_20_225) ∧ (type_of% r_20_228) ∧ (type_of% r_20_231) := ⟨r_20_0, r_20_1, r_20_4, r_20_5, r_20_7, r_20_10, r_20_14, r_20_14_1, r_20_17, r_20_18, r_20_20, r_20_23, r_20_27, r_20_27_1, r_20_30, r_20_31, r_20_33, r_20_35, r_20_35_1, r_20_38, r_20_39, r_20_41, r_20_43, r_20_43_1, r_20_46, r_20_47, r_20_50, r_20_52, r_20_52_1, r_20_55, r_20_56, r_20_58, r_20_60, r_20_60_1, r_20_63, r_20_64, r_20_65, r_20_67, r_20_69, r_20_72, r_20_75, r_20_76, r_20_79, r_20_79_1, r_20_80, r_20_81, r_20_84, r_20_87, r_20_87_1, r_20_90, r_20_91, r_20_94, r_20_94_1, r_20_95, r_20_96, r_20_99, r_20_102, r_20_102_1, r_20_105, r_20_106, r_20_109, r_20_109_1, r_20_110, r_20_111, r_20_114, r_20_115, r_20_117, r_20_119, r_20_122, r_20_125, r_20_125_1, r_20_128, r_20_129, r_20_132, r_20_135, r_20_136, r_20_137, r_20_140, r_20_143, r_20_144, r_20_145, r_20_146, r_20_147, r_20_150, r_20_151, r_20_154, r_20_155, r_20_156, r_20_157, r_20_160, r_20_161, r_20_164, r_20_166, r_20_169, r_20_170, r_20_173, r_20_174, r_20_178, r_20_179, r_20_182, r_20_185, r_20_186, r_20_189, r_20_191, r_20_192, r_20_193, r_20_196, r_20_199, r_20_201, r_20_202, r_20_205, r_20_206, r_20_209, r_20_211, r_20_212, r_20_213, r_20_216, r_20_219, r_20_221, r_20_222, r_20_225, r_20_228, r_20_231⟩
set_option maxRecDepth 100000 in
theorem ca_20 {d y pc : Nat} {ls : Lc} {a : Nat} {z0 : Int32} {z1 : Int32} {r : List Value} {M : Mem} {Q : Outcome → Mem → Prop} (hd : 0 < d) (hw : Wp (d - 1) 20 0 [some (.ref a), some (.int z0), some (.int z1), none, none] [] M (Cq d y pc ls r Q)) : Ca d y pc ls 20 [.ref a, .int z0, .int z1] r M Q := ca_of (mq_get (by decide)) (by rfl) hd hw
/-! 21 PackedTree.near(III)I; loop heads [] -/
set_option maxRecDepth 100000 in
theorem r_21_0 : ∀ (d : Nat) (l1 l2 : Option Value) (v : Int32) (st : List Value) (M : Mem) (Q : Outcome → Mem → Prop), Wp d 21 0 [some (.int v), l1, l2] st M Q = Wp d 21 1 [some (.int v), l1, l2] (.int v :: st) M Q := fun d l1 l2 v st M Q => wA (show ins 21 0 = some (.iload_n 0, 1) by decide +kernel) rfl
set_option maxRecDepth 100000 in
theorem r_21_1 : ∀ (d : Nat) (l0 l2 : Option Value) (v : Int32) (st : List Value) (M : Mem) (Q : Outcome → Mem → Prop), Wp d 21 1 [l0, some (.int v), l2] st M Q = Wp d 21 2 [l0, some (.int v), l2] (.int v :: st) M Q := fun d l0 l2 v st M Q => wA (show ins 21 1 = some (.iload_n 1, 1) by decide +kernel) rfl
set_option maxRecDepth 100000 in
theorem r_21_2 : ∀ (d : Nat) (ls : Lc) (a b : Int32) (st : List Value) (M : Mem) (Q : Outcome → Mem → Prop), Wp d 21 2 ls (.int b :: .int a :: st) M Q = Br (b ≤ a) d 21 9 5 ls st M Q := fun d ls a b st M Q => w_icmp (show ins 21 2 = some (.if_icmp .ge 7, 3) by decide +kernel) rfl rfl
set_option maxRecDepth 100000 in
theorem r_21_5 : ∀ (d : Nat) (l0 l2 : Option Value) (v : Int32) (st : List Value) (M : Mem) (Q : Outcome → Mem → Prop), Wp d 21 5 [l0, some (.int v), l2] st M Q = Wp d 21 6 [l0, some (.int v), l2] (.int v :: st) M Q := fun d l0 l2 v st M Q => wA (show ins 21 5 = some (.iload_n 1, 1) by decide +kernel) rfl
set_option maxRecDepth 100000 in
theorem r_21_6 : ∀ (d : Nat) (ls : Lc) (st : List Value) (M : Mem) (Q : Outcome → Mem → Prop), Wp d 21 6 ls st M Q = Wp d 21 19 ls st M Q := fun d ls st M Q => w_goto (show ins 21 6 = some (.goto 13, 3) by decide +kernel) rfl
set_option maxRecDepth 100000 in
theorem r_21_9 : ∀ (d : Nat) (l1 l2 : Option Value) (v : Int32) (st : List Value) (M : Mem) (Q : Outcome → Mem → Prop), Wp d 21 9 [some (.int v), l1, l2] st M Q = Wp d 21 10 [some (.int v), l1, l2] (.int v :: st) M Q := fun d l1 l2 v st M Q => wA (show ins 21 9 = some (.iload_n 0, 1) by decide +kernel) rfl
set_option maxRecDepth 100000 in
theorem r_21_10 : ∀ (d : Nat) (l0 l1 : Option Value) (v : Int32) (st : List Value) (M : Mem) (Q : Outcome → Mem → Prop), Wp d 21 10 [l0, l1, some (.int v)] st M Q = Wp d 21 11 [l0, l1, some (.int v)] (.int v :: st) M Q := fun d l0 l1 v st M Q => wA (show ins 21 10 = some (.iload_n 2, 1) by decide +kernel) rfl
set_option maxRecDepth 100000 in
theorem r_21_11 : ∀ (d : Nat) (ls : Lc) (a b : Int32) (st : List Value) (M : Mem) (Q : Outcome → Mem → Prop), Wp d 21 11 ls (.int b :: .int a :: st) M Q = Br (a ≤ b) d 21 18 14 ls st M Q := fun d ls a b st M Q => w_icmp (show ins 21 11 = some (.if_icmp .le 7, 3) by decide +kernel) rfl rfl
set_option maxRecDepth 100000 in
theorem r_21_14 : ∀ (d : Nat) (l0 l1 : Option Value) (v : Int32) (st : List Value) (M : Mem) (Q : Outcome → Mem → Prop), Wp d 21 14 [l0, l1, some (.int v)] st M Q = Wp d 21 15 [l0, l1, some (.int v)] (.int v :: st) M Q := fun d l0 l1 v st M Q => wA (show ins 21 14 = some (.iload_n 2, 1) by decide +kernel) rfl
set_option maxRecDepth 100000 in
theorem r_21_15 : ∀ (d : Nat) (ls : Lc) (st : List Value) (M : Mem) (Q : Outcome → Mem → Prop), Wp d 21 15 ls st M Q = Wp d 21 19 ls st M Q := fun d ls st M Q => w_goto (show ins 21 15 = some (.goto 4, 3) by decide +kernel) rfl
set_option maxRecDepth 100000 in
theorem r_21_18 : ∀ (d : Nat) (l1 l2 : Option Value) (v : Int32) (st : List Value) (M : Mem) (Q : Outcome → Mem → Prop), Wp d 21 18 [some (.int v), l1, l2] st M Q = Wp d 21 19 [some (.int v), l1, l2] (.int v :: st) M Q := fun d l1 l2 v st M Q => wA (show ins 21 18 = some (.iload_n 0, 1) by decide +kernel) rfl
set_option maxRecDepth 100000 in
theorem r_21_19 : ∀ (d : Nat) (ls : Lc) (v : Int32) (M : Mem) (Q : Outcome → Mem → Prop), Wp d 21 19 ls [.int v] M Q = Q (.returned (some (.int v))) M := fun d ls v M Q => w_ireturn (show ins 21 19 = some (.ireturn, 1) by decide +kernel) (by decide +kernel)
set_option maxRecDepth 100000 in
theorem W_21 : (type_of% r_21_0) ∧ (type_of% r_21_1) ∧ (type_of% r_21_2) ∧ (type_of% r_21_5) ∧ (type_of% r_21_6) ∧ (type_of% r_21_9) ∧ (type_of% r_21_10) ∧ (type_of% r_21_11) ∧ (type_of% r_21_14) ∧ (type_of% r_21_15) ∧ (type_of% r_21_18) ∧ (type_of% r_21_19) := ⟨r_21_0, r_21_1, r_21_2, r_21_5, r_21_6, r_21_9, r_21_10, r_21_11, r_21_14, r_21_15, r_21_18, r_21_19⟩
set_option maxRecDepth 100000 in
theorem ca_21 {d y pc : Nat} {ls : Lc} {z0 : Int32} {z1 : Int32} {z2 : Int32} {r : List Value} {M : Mem} {Q : Outcome → Mem → Prop} (hd : 0 < d) (hw : Wp (d - 1) 21 0 [some (.int z0), some (.int z1), some (.int z2)] [] M (Cq d y pc ls r Q)) : Ca d y pc ls 21 [.int z0, .int z1, .int z2] r M Q := ca_of (mq_get (by decide)) (by rfl) hd hw
/-! 22 PackedTree.layStat(III)V; loop heads [] -/
set_option maxRecDepth 100000 in
theorem r_22_0 : ∀ (d : Nat) (l1 l2 l3 : Option Value) (v : Nat) (st : List Value) (M : Mem) (Q : Outcome → Mem → Prop), Wp d 22 0 [some (.ref v), l1, l2, l3] st M Q = Wp d 22 1 [some (.ref v), l1, l2, l3] (.ref v :: st) M Q := fun d l1 l2 l3 v st M Q => wA (show ins 22 0 = some (.aload_n 0, 1) by decide +kernel) rfl
set_option maxRecDepth 100000 in
theorem r_22_1 : ∀ (d : Nat) (ls : Lc) (a : Nat) (st : List Value) (M : Mem) (Q : Outcome → Mem → Prop), Wp d 22 1 ls (.ref a :: st) M Q = (fk 0 (kO M a) = true ∧ Wp d 22 4 ls (va_rf (mR M 0 a) :: st) M Q) := fun d ls a st M Q => w_getR (show ins 22 1 = some (.getfield 25, 3) by decide +kernel) (show fRes (mC 22) 25 = some (0, 1, false) by decide +kernel) (by decide +kernel)
set_option maxRecDepth 100000 in
theorem r_22_4 : ∀ (d : Nat) (ls : Lc) (st : List Value) (M : Mem) (Q : Outcome → Mem → Prop), Wp d 22 4 ls st M Q = Wp d 22 5 ls (.int (I 0) :: st) M Q := fun d ls st M Q => w_iconst (show ins 22 4 = some (.iconst 0, 1) by decide +kernel)
set_option maxRecDepth 100000 in
theorem r_22_5 : ∀ (d : Nat) (l0 l2 l3 : Option Value) (v : Int32) (st : List Value) (M : Mem) (Q : Outcome → Mem → Prop), Wp d 22 5 [l0, some (.int v), l2, l3] st M Q = Wp d 22 6 [l0, some (.int v), l2, l3] (.int v :: st) M Q := fun d l0 l2 l3 v st M Q => wA (show ins 22 5 = some (.iload_n 1, 1) by decide +kernel) rfl
set_option maxRecDepth 100000 in
theorem r_22_6 : ∀ (d : Nat) (ls : Lc) (a : Int32) (st : List Value) (M : Mem) (Q : Outcome → Mem → Prop), Wp d 22 6 ls (.int a :: st) M Q = Wp d 22 7 ls (.int a.toInt8.toInt32 :: st) M Q := fun d ls a st M Q => wA (show ins 22 6 = some (.i2b, 1) by decide +kernel) rfl
set_option maxRecDepth 100000 in
theorem r_22_7 : ∀ (d : Nat) (ls : Lc) (a : Nat) (j v : Int32) (st : List Value) (M : Mem) (Q : Outcome → Mem → Prop), Wp d 22 7 ls (.int v :: .int j :: .ref a :: st) M Q = ((((kX M a).1 = 1 ∨ (kX M a).1 = 2) ∧ inB j (kX M a).2 = true) ∧ Wp d 22 8 ls st (sA M a j.toNatClampNeg (nrw (kX M a).1 v)) Q) := fun d ls a j v st M Q => w_bastore (show ins 22 7 = some (.bastore, 1) by decide +kernel)
set_option maxRecDepth 100000 in
theorem r_22_8 : ∀ (d : Nat) (l1 l2 l3 : Option Value) (v : Nat) (st : List Value) (M : Mem) (Q : Outcome → Mem → Prop), Wp d 22 8 [some (.ref v), l1, l2, l3] st M Q = Wp d 22 9 [some (.ref v), l1, l2, l3] (.ref v :: st) M Q := fun d l1 l2 l3 v st M Q => wA (show ins 22 8 = some (.aload_n 0, 1) by decide +kernel) rfl
set_option maxRecDepth 100000 in
theorem r_22_9 : ∀ (d : Nat) (ls : Lc) (a : Nat) (st : List Value) (M : Mem) (Q : Outcome → Mem → Prop), Wp d 22 9 ls (.ref a :: st) M Q = (fk 0 (kO M a) = true ∧ Wp d 22 12 ls (va_rf (mR M 0 a) :: st) M Q) := fun d ls a st M Q => w_getR (show ins 22 9 = some (.getfield 25, 3) by decide +kernel) (show fRes (mC 22) 25 = some (0, 1, false) by decide +kernel) (by decide +kernel)
set_option maxRecDepth 100000 in
theorem r_22_12 : ∀ (d : Nat) (ls : Lc) (st : List Value) (M : Mem) (Q : Outcome → Mem → Prop), Wp d 22 12 ls st M Q = Wp d 22 13 ls (.int (I 1) :: st) M Q := fun d ls st M Q => w_iconst (show ins 22 12 = some (.iconst 1, 1) by decide +kernel)
set_option maxRecDepth 100000 in
theorem r_22_13 : ∀ (d : Nat) (ls : Lc) (st : List Value) (M : Mem) (Q : Outcome → Mem → Prop), Wp d 22 13 ls st M Q = Wp d 22 14 ls (.int (I 2) :: st) M Q := fun d ls st M Q => w_iconst (show ins 22 13 = some (.iconst 2, 1) by decide +kernel)
set_option maxRecDepth 100000 in
theorem r_22_14 : ∀ (d : Nat) (l0 l1 l3 : Option Value) (v : Int32) (st : List Value) (M : Mem) (Q : Outcome → Mem → Prop), Wp d 22 14 [l0, l1, some (.int v), l3] st M Q = Wp d 22 15 [l0, l1, some (.int v), l3] (.int v :: st) M Q := fun d l0 l1 l3 v st M Q => wA (show ins 22 14 = some (.iload_n 2, 1) by decide +kernel) rfl
set_option maxRecDepth 100000 in
theorem r_22_15 : ∀ (d : Nat) (ls : Lc) (v0 v1 v2 v3 : Value)  (st : List Value) (M : Mem) (Q : Outcome → Mem → Prop), (smallR st = true) → Wp d 22 15 ls (v3 :: v2 :: v1 :: v0 :: st) M Q = Ca d 22 15 ls 23 [v0, v1, v2, v3] st M Q := fun d ls v0 v1 v2 v3 st M Q h0 => w_stat (as := [v0, v1, v2, v3]) (show ins 22 15 = some (.invokestatic 185, 3) by decide +kernel) (show mRes (mC 22) 185 = some (0, 1, [(0, 23)]) by decide +kernel) (by decide +kernel) (by decide +kernel) rfl h0
set_option maxRecDepth 100000 in
theorem r_22_18 : ∀ (d : Nat) (l1 l2 l3 : Option Value) (v : Nat) (st : List Value) (M : Mem) (Q : Outcome → Mem → Prop), Wp d 22 18 [some (.ref v), l1, l2, l3] st M Q = Wp d 22 19 [some (.ref v), l1, l2, l3] (.ref v :: st) M Q := fun d l1 l2 l3 v st M Q => wA (show ins 22 18 = some (.aload_n 0, 1) by decide +kernel) rfl
set_option maxRecDepth 100000 in
theorem r_22_19 : ∀ (d : Nat) (ls : Lc) (a : Nat) (st : List Value) (M : Mem) (Q : Outcome → Mem → Prop), Wp d 22 19 ls (.ref a :: st) M Q = (fk 0 (kO M a) = true ∧ Wp d 22 22 ls (va_rf (mR M 0 a) :: st) M Q) := fun d ls a st M Q => w_getR (show ins 22 19 = some (.getfield 25, 3) by decide +kernel) (show fRes (mC 22) 25 = some (0, 1, false) by decide +kernel) (by decide +kernel)
set_option maxRecDepth 100000 in
theorem r_22_22 : ∀ (d : Nat) (ls : Lc) (st : List Value) (M : Mem) (Q : Outcome → Mem → Prop), Wp d 22 22 ls st M Q = Wp d 22 23 ls (.int (I 3) :: st) M Q := fun d ls st M Q => w_iconst (show ins 22 22 = some (.iconst 3, 1) by decide +kernel)
set_option maxRecDepth 100000 in
theorem r_22_23 : ∀ (d : Nat) (ls : Lc) (st : List Value) (M : Mem) (Q : Outcome → Mem → Prop), Wp d 22 23 ls st M Q = Wp d 22 24 ls (.int (I 2) :: st) M Q := fun d ls st M Q => w_iconst (show ins 22 23 = some (.iconst 2, 1) by decide +kernel)
set_option maxRecDepth 100000 in
theorem r_22_24 : ∀ (d : Nat) (l0 l1 l2 : Option Value) (v : Int32) (st : List Value) (M : Mem) (Q : Outcome → Mem → Prop), Wp d 22 24 [l0, l1, l2, some (.int v)] st M Q = Wp d 22 25 [l0, l1, l2, some (.int v)] (.int v :: st) M Q := fun d l0 l1 l2 v st M Q => wA (show ins 22 24 = some (.iload_n 3, 1) by decide +kernel) rfl
set_option maxRecDepth 100000 in
theorem r_22_25 : ∀ (d : Nat) (ls : Lc) (v0 v1 v2 v3 : Value)  (st : List Value) (M : Mem) (Q : Outcome → Mem → Prop), (smallR st = true) → Wp d 22 25 ls (v3 :: v2 :: v1 :: v0 :: st) M Q = Ca d 22 25 ls 23 [v0, v1, v2, v3] st M Q := fun d ls v0 v1 v2 v3 st M Q h0 => w_stat (as := [v0, v1, v2, v3]) (show ins 22 25 = some (.invokestatic 185, 3) by decide +kernel) (show mRes (mC 22) 185 = some (0, 1, [(0, 23)]) by decide +kernel) (by decide +kernel) (by decide +kernel) rfl h0
set_option maxRecDepth 100000 in
theorem r_22_28 : ∀ (d : Nat) (l1 l2 l3 : Option Value) (v : Nat) (st : List Value) (M : Mem) (Q : Outcome → Mem → Prop), Wp d 22 28 [some (.ref v), l1, l2, l3] st M Q = Wp d 22 29 [some (.ref v), l1, l2, l3] (.ref v :: st) M Q := fun d l1 l2 l3 v st M Q => wA (show ins 22 28 = some (.aload_n 0, 1) by decide +kernel) rfl
set_option maxRecDepth 100000 in
theorem r_22_29 : ∀ (d : Nat) (ls : Lc) (a : Nat) (st : List Value) (M : Mem) (Q : Outcome → Mem → Prop), Wp d 22 29 ls (.ref a :: st) M Q = (fk 0 (kO M a) = true ∧ Wp d 22 32 ls (va_rf (mR M 0 a) :: st) M Q) := fun d ls a st M Q => w_getR (show ins 22 29 = some (.getfield 25, 3) by decide +kernel) (show fRes (mC 22) 25 = some (0, 1, false) by decide +kernel) (by decide +kernel)
set_option maxRecDepth 100000 in
theorem r_22_32 : ∀ (d : Nat) (ls : Lc) (st : List Value) (M : Mem) (Q : Outcome → Mem → Prop), Wp d 22 32 ls st M Q = Wp d 22 33 ls (.int (I 5) :: st) M Q := fun d ls st M Q => w_iconst (show ins 22 32 = some (.iconst 5, 1) by decide +kernel)
set_option maxRecDepth 100000 in
theorem r_22_33 : ∀ (d : Nat) (ls : Lc) (st : List Value) (M : Mem) (Q : Outcome → Mem → Prop), Wp d 22 33 ls st M Q = Wp d 22 34 ls (.int (I 0) :: st) M Q := fun d ls st M Q => w_iconst (show ins 22 33 = some (.iconst 0, 1) by decide +kernel)
set_option maxRecDepth 100000 in
theorem r_22_34 : ∀ (d : Nat) (ls : Lc) (a : Nat) (j v : Int32) (st : List Value) (M : Mem) (Q : Outcome → Mem → Prop), Wp d 22 34 ls (.int v :: .int j :: .ref a :: st) M Q = ((((kX M a).1 = 1 ∨ (kX M a).1 = 2) ∧ inB j (kX M a).2 = true) ∧ Wp d 22 35 ls st (sA M a j.toNatClampNeg (nrw (kX M a).1 v)) Q) := fun d ls a j v st M Q => w_bastore (show ins 22 34 = some (.bastore, 1) by decide +kernel)
set_option maxRecDepth 100000 in
theorem r_22_35 : ∀ (d : Nat) (ls : Lc) (M : Mem) (Q : Outcome → Mem → Prop), Wp d 22 35 ls [] M Q = Q (.returned none) M := fun d ls M Q => w_return (show ins 22 35 = some (.return_, 1) by decide +kernel) (by decide +kernel)
set_option maxRecDepth 100000 in
theorem W_22 : (type_of% r_22_0) ∧ (type_of% r_22_1) ∧ (type_of% r_22_4) ∧ (type_of% r_22_5) ∧ (type_of% r_22_6) ∧ (type_of% r_22_7) ∧ (type_of% r_22_8) ∧ (type_of% r_22_9) ∧ (type_of% r_22_12) ∧ (type_of% r_22_13) ∧ (type_of% r_22_14) ∧ (type_of% r_22_15) ∧ (type_of% r_22_18) ∧ (type_of% r_22_19) ∧ (type_of% r_22_22) ∧ (type_of% r_22_23) ∧ (type_of% r_22_24) ∧ (type_of% r_22_25) ∧ (type_of% r_22_28) ∧ (type_of% r_22_29) ∧ (type_of% r_22_32) ∧ (type_of% r_22_33) ∧ (type_of% r_22_34) ∧ (type_of% r_22_35) := ⟨r_22_0, r_22_1, r_22_4, r_22_5, r_22_6, r_22_7, r_22_8, r_22_9, r_22_12, r_22_13, r_22_14, r_22_15, r_22_18, r_22_19, r_22_22, r_22_23, r_22_24, r_22_25, r_22_28, r_22_29, r_22_32, r_22_33, r_22_34, r_22_35⟩
set_option maxRecDepth 100000 in
theorem ca_22 {d y pc : Nat} {ls : Lc} {a : Nat} {z0 : Int32} {z1 : Int32} {z2 : Int32} {r : List Value} {M : Mem} {Q : Outcome → Mem → Prop} (hd : 0 < d) (hw : Wp (d - 1) 22 0 [some (.ref a), some (.int z0), some (.int z1), some (.int z2)] [] M (Cq d y pc ls r Q)) : Ca d y pc ls 22 [.ref a, .int z0, .int z1, .int z2] r M Q := ca_of (mq_get (by decide)) (by rfl) hd hw
/-! 23 PackedTree.putNumber([BIII)V; loop heads [3] -/
set_option maxRecDepth 100000 in
theorem r_23_0 : ∀ (d : Nat) (ls : Lc) (st : List Value) (M : Mem) (Q : Outcome → Mem → Prop), Wp d 23 0 ls st M Q = Wp d 23 1 ls (.int (I 0) :: st) M Q := fun d ls st M Q => w_iconst (show ins 23 0 = some (.iconst 0, 1) by decide +kernel)
set_option maxRecDepth 100000 in
theorem r_23_1 : ∀ (d : Nat) (l0 l1 l2 l3 l4 : Option Value) (v : Int32) (st : List Value) (M : Mem) (Q : Outcome → Mem → Prop), (lo l3 = false) → Wp d 23 1 [l0, l1, l2, l3, l4] (.int v :: st) M Q = Wp d 23 3 [l0, l1, l2, l3, some (.int v)] st M Q := fun d l0 l1 l2 l3 l4 v st M Q hl => w_istore (show ins 23 1 = some (.istore 4, 2) by decide +kernel) (st1_S rfl rfl hl)
set_option maxRecDepth 100000 in
theorem r_23_3 : ∀ (d : Nat) (l0 l1 l2 l3 : Option Value) (v : Int32) (st : List Value) (M : Mem) (Q : Outcome → Mem → Prop), Wp d 23 3 [l0, l1, l2, l3, some (.int v)] st M Q = Wp d 23 5 [l0, l1, l2, l3, some (.int v)] (.int v :: st) M Q := fun d l0 l1 l2 l3 v st M Q => wA (show ins 23 3 = some (.iload 4, 2) by decide +kernel) rfl
set_option maxRecDepth 100000 in
theorem r_23_5 : ∀ (d : Nat) (l0 l1 l3 l4 : Option Value) (v : Int32) (st : List Value) (M : Mem) (Q : Outcome → Mem → Prop), Wp d 23 5 [l0, l1, some (.int v), l3, l4] st M Q = Wp d 23 6 [l0, l1, some (.int v), l3, l4] (.int v :: st) M Q := fun d l0 l1 l3 l4 v st M Q => wA (show ins 23 5 = some (.iload_n 2, 1) by decide +kernel) rfl
set_option maxRecDepth 100000 in
theorem r_23_6 : ∀ (d : Nat) (ls : Lc) (a b : Int32) (st : List Value) (M : Mem) (Q : Outcome → Mem → Prop), Wp d 23 6 ls (.int b :: .int a :: st) M Q = Br (b ≤ a) d 23 33 9 ls st M Q := fun d ls a b st M Q => w_icmp (show ins 23 6 = some (.if_icmp .ge 27, 3) by decide +kernel) rfl rfl
set_option maxRecDepth 100000 in
theorem r_23_9 : ∀ (d : Nat) (l1 l2 l3 l4 : Option Value) (v : Nat) (st : List Value) (M : Mem) (Q : Outcome → Mem → Prop), Wp d 23 9 [some (.ref v), l1, l2, l3, l4] st M Q = Wp d 23 10 [some (.ref v), l1, l2, l3, l4] (.ref v :: st) M Q := fun d l1 l2 l3 l4 v st M Q => wA (show ins 23 9 = some (.aload_n 0, 1) by decide +kernel) rfl
set_option maxRecDepth 100000 in
theorem r_23_9_1 : ∀ (d : Nat) (l1 l2 l3 l4 : Option Value) (st : List Value) (M : Mem) (Q : Outcome → Mem → Prop), Wp d 23 9 [some .null, l1, l2, l3, l4] st M Q = Wp d 23 10 [some .null, l1, l2, l3, l4] (.null :: st) M Q := fun d l1 l2 l3 l4 st M Q => wA (show ins 23 9 = some (.aload_n 0, 1) by decide +kernel) rfl
set_option maxRecDepth 100000 in
theorem r_23_10 : ∀ (d : Nat) (l0 l2 l3 l4 : Option Value) (v : Int32) (st : List Value) (M : Mem) (Q : Outcome → Mem → Prop), Wp d 23 10 [l0, some (.int v), l2, l3, l4] st M Q = Wp d 23 11 [l0, some (.int v), l2, l3, l4] (.int v :: st) M Q := fun d l0 l2 l3 l4 v st M Q => wA (show ins 23 10 = some (.iload_n 1, 1) by decide +kernel) rfl
set_option maxRecDepth 100000 in
theorem r_23_11 : ∀ (d : Nat) (l0 l1 l2 l3 : Option Value) (v : Int32) (st : List Value) (M : Mem) (Q : Outcome → Mem → Prop), Wp d 23 11 [l0, l1, l2, l3, some (.int v)] st M Q = Wp d 23 13 [l0, l1, l2, l3, some (.int v)] (.int v :: st) M Q := fun d l0 l1 l2 l3 v st M Q => wA (show ins 23 11 = some (.iload 4, 2) by decide +kernel) rfl
set_option maxRecDepth 100000 in
theorem r_23_13 : ∀ (d : Nat) (ls : Lc) (a b : Int) (st : List Value) (M : Mem) (Q : Outcome → Mem → Prop), Wp d 23 13 ls (.int (I b) :: .int (I a) :: st) M Q = Wp d 23 14 ls (.int (I (a + b)) :: st) M Q := fun d ls a b st M Q => w_iadd (show ins 23 13 = some (.iadd, 1) by decide +kernel)
set_option maxRecDepth 100000 in
theorem r_23_14 : ∀ (d : Nat) (l0 l1 l2 l4 : Option Value) (v : Int32) (st : List Value) (M : Mem) (Q : Outcome → Mem → Prop), Wp d 23 14 [l0, l1, l2, some (.int v), l4] st M Q = Wp d 23 15 [l0, l1, l2, some (.int v), l4] (.int v :: st) M Q := fun d l0 l1 l2 l4 v st M Q => wA (show ins 23 14 = some (.iload_n 3, 1) by decide +kernel) rfl
set_option maxRecDepth 100000 in
theorem r_23_15 : ∀ (d : Nat) (ls : Lc) (st : List Value) (M : Mem) (Q : Outcome → Mem → Prop), Wp d 23 15 ls st M Q = Wp d 23 17 ls (.int (I 8) :: st) M Q := fun d ls st M Q => w_bipush (show ins 23 15 = some (.bipush 8, 2) by decide +kernel) (by decide)
set_option maxRecDepth 100000 in
theorem r_23_17 : ∀ (d : Nat) (l0 l1 l3 l4 : Option Value) (v : Int32) (st : List Value) (M : Mem) (Q : Outcome → Mem → Prop), Wp d 23 17 [l0, l1, some (.int v), l3, l4] st M Q = Wp d 23 18 [l0, l1, some (.int v), l3, l4] (.int v :: st) M Q := fun d l0 l1 l3 l4 v st M Q => wA (show ins 23 17 = some (.iload_n 2, 1) by decide +kernel) rfl
set_option maxRecDepth 100000 in
theorem r_23_18 : ∀ (d : Nat) (ls : Lc) (st : List Value) (M : Mem) (Q : Outcome → Mem → Prop), Wp d 23 18 ls st M Q = Wp d 23 19 ls (.int (I 1) :: st) M Q := fun d ls st M Q => w_iconst (show ins 23 18 = some (.iconst 1, 1) by decide +kernel)
set_option maxRecDepth 100000 in
theorem r_23_19 : ∀ (d : Nat) (ls : Lc) (a b : Int) (st : List Value) (M : Mem) (Q : Outcome → Mem → Prop), Wp d 23 19 ls (.int (I b) :: .int (I a) :: st) M Q = Wp d 23 20 ls (.int (I (a - b)) :: st) M Q := fun d ls a b st M Q => w_isub (show ins 23 19 = some (.isub, 1) by decide +kernel)
set_option maxRecDepth 100000 in
theorem r_23_20 : ∀ (d : Nat) (l0 l1 l2 l3 : Option Value) (v : Int32) (st : List Value) (M : Mem) (Q : Outcome → Mem → Prop), Wp d 23 20 [l0, l1, l2, l3, some (.int v)] st M Q = Wp d 23 22 [l0, l1, l2, l3, some (.int v)] (.int v :: st) M Q := fun d l0 l1 l2 l3 v st M Q => wA (show ins 23 20 = some (.iload 4, 2) by decide +kernel) rfl
set_option maxRecDepth 100000 in
theorem r_23_22 : ∀ (d : Nat) (ls : Lc) (a b : Int) (st : List Value) (M : Mem) (Q : Outcome → Mem → Prop), Wp d 23 22 ls (.int (I b) :: .int (I a) :: st) M Q = Wp d 23 23 ls (.int (I (a - b)) :: st) M Q := fun d ls a b st M Q => w_isub (show ins 23 22 = some (.isub, 1) by decide +kernel)
set_option maxRecDepth 100000 in
theorem r_23_23 : ∀ (d : Nat) (ls : Lc) (a b : Int) (st : List Value) (M : Mem) (Q : Outcome → Mem → Prop), Wp d 23 23 ls (.int (I b) :: .int (I a) :: st) M Q = Wp d 23 24 ls (.int (I (a * b)) :: st) M Q := fun d ls a b st M Q => w_imul (show ins 23 23 = some (.imul, 1) by decide +kernel)
set_option maxRecDepth 100000 in
theorem r_23_24 : ∀ (d : Nat) (ls : Lc) (a b : Int32) (st : List Value) (M : Mem) (Q : Outcome → Mem → Prop), Wp d 23 24 ls (.int b :: .int a :: st) M Q = Wp d 23 25 ls (.int (a >>> (b &&& 31)) :: st) M Q := fun d ls a b st M Q => wA (show ins 23 24 = some (.ishr, 1) by decide +kernel) rfl
set_option maxRecDepth 100000 in
theorem r_23_25 : ∀ (d : Nat) (ls : Lc) (a : Int32) (st : List Value) (M : Mem) (Q : Outcome → Mem → Prop), Wp d 23 25 ls (.int a :: st) M Q = Wp d 23 26 ls (.int a.toInt8.toInt32 :: st) M Q := fun d ls a st M Q => wA (show ins 23 25 = some (.i2b, 1) by decide +kernel) rfl
set_option maxRecDepth 100000 in
theorem r_23_26 : ∀ (d : Nat) (ls : Lc) (a : Nat) (j v : Int32) (st : List Value) (M : Mem) (Q : Outcome → Mem → Prop), Wp d 23 26 ls (.int v :: .int j :: .ref a :: st) M Q = ((((kX M a).1 = 1 ∨ (kX M a).1 = 2) ∧ inB j (kX M a).2 = true) ∧ Wp d 23 27 ls st (sA M a j.toNatClampNeg (nrw (kX M a).1 v)) Q) := fun d ls a j v st M Q => w_bastore (show ins 23 26 = some (.bastore, 1) by decide +kernel)
set_option maxRecDepth 100000 in
theorem r_23_27 : ∀ (d : Nat) (l0 l1 l2 l3 : Option Value) (z : Int) (st : List Value) (M : Mem) (Q : Outcome → Mem → Prop), (lo l3 = false) → Wp d 23 27 [l0, l1, l2, l3, some (.int (I z))] st M Q = Wp d 23 30 [l0, l1, l2, l3, some (.int (I (z + 1)))] st M Q := fun d l0 l1 l2 l3 z st M Q hl => w_iinc (show ins 23 27 = some (.iinc 4 1, 3) by decide +kernel) rfl (st1_S rfl rfl hl)
set_option maxRecDepth 100000 in
theorem r_23_30 : ∀ (d : Nat) (ls : Lc) (st : List Value) (M : Mem) (Q : Outcome → Mem → Prop), Wp d 23 30 ls st M Q = Wp d 23 3 ls st M Q := fun d ls st M Q => w_goto (show ins 23 30 = some (.goto (-27), 3) by decide +kernel) rfl
set_option maxRecDepth 100000 in
theorem r_23_33 : ∀ (d : Nat) (ls : Lc) (M : Mem) (Q : Outcome → Mem → Prop), Wp d 23 33 ls [] M Q = Q (.returned none) M := fun d ls M Q => w_return (show ins 23 33 = some (.return_, 1) by decide +kernel) (by decide +kernel)
set_option maxRecDepth 100000 in
theorem w_23_3 : (type_of% r_23_3) := r_23_3
set_option maxRecDepth 100000 in
theorem W_23 : (type_of% r_23_0) ∧ (type_of% r_23_1) ∧ (type_of% r_23_5) ∧ (type_of% r_23_6) ∧ (type_of% r_23_9) ∧ (type_of% r_23_9_1) ∧ (type_of% r_23_10) ∧ (type_of% r_23_11) ∧ (type_of% r_23_13) ∧ (type_of% r_23_14) ∧ (type_of% r_23_15) ∧ (type_of% r_23_17) ∧ (type_of% r_23_18) ∧ (type_of% r_23_19) ∧ (type_of% r_23_20) ∧ (type_of% r_23_22) ∧ (type_of% r_23_23) ∧ (type_of% r_23_24) ∧ (type_of% r_23_25) ∧ (type_of% r_23_26) ∧ (type_of% r_23_27) ∧ (type_of% r_23_30) ∧ (type_of% r_23_33) := ⟨r_23_0, r_23_1, r_23_5, r_23_6, r_23_9, r_23_9_1, r_23_10, r_23_11, r_23_13, r_23_14, r_23_15, r_23_17, r_23_18, r_23_19, r_23_20, r_23_22, r_23_23, r_23_24, r_23_25, r_23_26, r_23_27, r_23_30, r_23_33⟩
set_option maxRecDepth 100000 in
theorem ca_23 {d y pc : Nat} {ls : Lc} {o0 : Option Nat} {z1 : Int32} {z2 : Int32} {z3 : Int32} {r : List Value} {M : Mem} {Q : Outcome → Mem → Prop} (hd : 0 < d) (hw : Wp (d - 1) 23 0 [some (va_rf o0), some (.int z1), some (.int z2), some (.int z3), none] [] M (Cq d y pc ls r Q)) : Ca d y pc ls 23 [va_rf o0, .int z1, .int z2, .int z3] r M Q := ca_of (mq_get (by decide)) (by cases o0 <;> rfl) hd hw
/-! 24 PackedTree.keyOf(III)I; loop heads [] -/
set_option maxRecDepth 100000 in
theorem r_24_0 : ∀ (d : Nat) (l1 l2 : Option Value) (v : Int32) (st : List Value) (M : Mem) (Q : Outcome → Mem → Prop), Wp d 24 0 [some (.int v), l1, l2] st M Q = Wp d 24 1 [some (.int v), l1, l2] (.int v :: st) M Q := fun d l1 l2 v st M Q => wA (show ins 24 0 = some (.iload_n 0, 1) by decide +kernel) rfl
set_option maxRecDepth 100000 in
theorem r_24_1 : ∀ (d : Nat) (ls : Lc) (st : List Value) (M : Mem) (Q : Outcome → Mem → Prop), Wp d 24 1 ls st M Q = Wp d 24 2 ls (.int (I 4) :: st) M Q := fun d ls st M Q => w_iconst (show ins 24 1 = some (.iconst 4, 1) by decide +kernel)
set_option maxRecDepth 100000 in
theorem r_24_2 : ∀ (d : Nat) (ls : Lc) (a b : Int) (st : List Value) (M : Mem) (Q : Outcome → Mem → Prop), Wp d 24 2 ls (.int (I b) :: .int (I a) :: st) M Q = Wp d 24 3 ls (.int (I (a * b)) :: st) M Q := fun d ls a b st M Q => w_imul (show ins 24 2 = some (.imul, 1) by decide +kernel)
set_option maxRecDepth 100000 in
theorem r_24_3 : ∀ (d : Nat) (l0 l2 : Option Value) (v : Int32) (st : List Value) (M : Mem) (Q : Outcome → Mem → Prop), Wp d 24 3 [l0, some (.int v), l2] st M Q = Wp d 24 4 [l0, some (.int v), l2] (.int v :: st) M Q := fun d l0 l2 v st M Q => wA (show ins 24 3 = some (.iload_n 1, 1) by decide +kernel) rfl
set_option maxRecDepth 100000 in
theorem r_24_4 : ∀ (d : Nat) (ls : Lc) (a b : Int) (st : List Value) (M : Mem) (Q : Outcome → Mem → Prop), Wp d 24 4 ls (.int (I b) :: .int (I a) :: st) M Q = Wp d 24 5 ls (.int (I (a + b)) :: st) M Q := fun d ls a b st M Q => w_iadd (show ins 24 4 = some (.iadd, 1) by decide +kernel)
set_option maxRecDepth 100000 in
theorem r_24_5 : ∀ (d : Nat) (ls : Lc) (st : List Value) (M : Mem) (Q : Outcome → Mem → Prop), Wp d 24 5 ls st M Q = Wp d 24 8 ls (.int (I 1024) :: st) M Q := fun d ls st M Q => w_sipush (show ins 24 5 = some (.sipush 1024, 3) by decide +kernel) (by decide)
set_option maxRecDepth 100000 in
theorem r_24_8 : ∀ (d : Nat) (ls : Lc) (a b : Int) (st : List Value) (M : Mem) (Q : Outcome → Mem → Prop), Wp d 24 8 ls (.int (I b) :: .int (I a) :: st) M Q = Wp d 24 9 ls (.int (I (a * b)) :: st) M Q := fun d ls a b st M Q => w_imul (show ins 24 8 = some (.imul, 1) by decide +kernel)
set_option maxRecDepth 100000 in
theorem r_24_9 : ∀ (d : Nat) (l0 l1 : Option Value) (v : Int32) (st : List Value) (M : Mem) (Q : Outcome → Mem → Prop), Wp d 24 9 [l0, l1, some (.int v)] st M Q = Wp d 24 10 [l0, l1, some (.int v)] (.int v :: st) M Q := fun d l0 l1 v st M Q => wA (show ins 24 9 = some (.iload_n 2, 1) by decide +kernel) rfl
set_option maxRecDepth 100000 in
theorem r_24_10 : ∀ (d : Nat) (ls : Lc) (a b : Int) (st : List Value) (M : Mem) (Q : Outcome → Mem → Prop), Wp d 24 10 ls (.int (I b) :: .int (I a) :: st) M Q = Wp d 24 11 ls (.int (I (a + b)) :: st) M Q := fun d ls a b st M Q => w_iadd (show ins 24 10 = some (.iadd, 1) by decide +kernel)
set_option maxRecDepth 100000 in
theorem r_24_11 : ∀ (d : Nat) (ls : Lc) (v : Int32) (M : Mem) (Q : Outcome → Mem → Prop), Wp d 24 11 ls [.int v] M Q = Q (.returned (some (.int v))) M := fun d ls v M Q => w_ireturn (show ins 24 11 = some (.ireturn, 1) by decide +kernel) (by decide +kernel)
set_option maxRecDepth 100000 in
theorem W_24 : (type_of% r_24_0) ∧ (type_of% r_24_1) ∧ (type_of% r_24_2) ∧ (type_of% r_24_3) ∧ (type_of% r_24_4) ∧ (type_of% r_24_5) ∧ (type_of% r_24_8) ∧ (type_of% r_24_9) ∧ (type_of% r_24_10) ∧ (type_of% r_24_11) := ⟨r_24_0, r_24_1, r_24_2, r_24_3, r_24_4, r_24_5, r_24_8, r_24_9, r_24_10, r_24_11⟩
set_option maxRecDepth 100000 in
theorem ca_24 {d y pc : Nat} {ls : Lc} {z0 : Int32} {z1 : Int32} {z2 : Int32} {r : List Value} {M : Mem} {Q : Outcome → Mem → Prop} (hd : 0 < d) (hw : Wp (d - 1) 24 0 [some (.int z0), some (.int z1), some (.int z2)] [] M (Cq d y pc ls r Q)) : Ca d y pc ls 24 [.int z0, .int z1, .int z2] r M Q := ca_of (mq_get (by decide)) (by rfl) hd hw
/-! 25 PackedTree.layAll()V; loop heads [] -/
set_option maxRecDepth 100000 in
theorem r_25_0 : ∀ (d : Nat) (v : Nat) (st : List Value) (M : Mem) (Q : Outcome → Mem → Prop), Wp d 25 0 [some (.ref v)] st M Q = Wp d 25 1 [some (.ref v)] (.ref v :: st) M Q := fun d v st M Q => wA (show ins 25 0 = some (.aload_n 0, 1) by decide +kernel) rfl
set_option maxRecDepth 100000 in
theorem r_25_1 : ∀ (d : Nat) (ls : Lc) (a : Nat) (st : List Value) (M : Mem) (Q : Outcome → Mem → Prop), Wp d 25 1 ls (.ref a :: st) M Q = (fk 9 (kO M a) = true ∧ Wp d 25 4 ls (va_rf (mR M 9 a) :: st) M Q) := fun d ls a st M Q => w_getR (show ins 25 1 = some (.getfield 58, 3) by decide +kernel) (show fRes (mC 25) 58 = some (9, 1, false) by decide +kernel) (by decide +kernel)
set_option maxRecDepth 100000 in
theorem r_25_4 : ∀ (d : Nat) (v : Nat) (st : List Value) (M : Mem) (Q : Outcome → Mem → Prop), Wp d 25 4 [some (.ref v)] st M Q = Wp d 25 5 [some (.ref v)] (.ref v :: st) M Q := fun d v st M Q => wA (show ins 25 4 = some (.aload_n 0, 1) by decide +kernel) rfl
set_option maxRecDepth 100000 in
theorem r_25_5 : ∀ (d : Nat) (ls : Lc) (a : Nat) (st : List Value) (M : Mem) (Q : Outcome → Mem → Prop), Wp d 25 5 ls (.ref a :: st) M Q = (fk 4 (kO M a) = true ∧ Wp d 25 8 ls (va_rf (mR M 4 a) :: st) M Q) := fun d ls a st M Q => w_getR (show ins 25 5 = some (.getfield 15, 3) by decide +kernel) (show fRes (mC 25) 15 = some (4, 1, false) by decide +kernel) (by decide +kernel)
set_option maxRecDepth 100000 in
theorem r_25_8 : ∀ (d : Nat) (ls : Lc) (v0 : Value) (a : Nat) (st : List Value) (M : Mem) (Q : Outcome → Mem → Prop), (smallR st = true) → Wp d 25 8 ls (v0 :: .ref a :: st) M Q = (kO M a = 3 ∧ Ca d 25 8 ls 106 (.ref a :: [v0]) st M Q) := fun d ls v0 a st M Q h0 => w_virt1 (as := [v0]) (show ins 25 8 = some (.invokevirtual 118, 3) by decide +kernel) (show mRes (mC 25) 118 = some (3, 3, [(3, 106)]) by decide +kernel) (by decide +kernel) rfl (by decide +kernel) (by decide +kernel) h0
set_option maxRecDepth 100000 in
theorem r_25_11 : ∀ (d : Nat) (v : Nat) (st : List Value) (M : Mem) (Q : Outcome → Mem → Prop), Wp d 25 11 [some (.ref v)] st M Q = Wp d 25 12 [some (.ref v)] (.ref v :: st) M Q := fun d v st M Q => wA (show ins 25 11 = some (.aload_n 0, 1) by decide +kernel) rfl
set_option maxRecDepth 100000 in
theorem r_25_12 : ∀ (d : Nat) (ls : Lc) (a : Nat) (st : List Value) (M : Mem) (Q : Outcome → Mem → Prop), Wp d 25 12 ls (.ref a :: st) M Q = (fk 6 (kO M a) = true ∧ Wp d 25 15 ls (va_rf (mR M 6 a) :: st) M Q) := fun d ls a st M Q => w_getR (show ins 25 12 = some (.getfield 49, 3) by decide +kernel) (show fRes (mC 25) 49 = some (6, 1, false) by decide +kernel) (by decide +kernel)
set_option maxRecDepth 100000 in
theorem r_25_15 : ∀ (d : Nat) (v : Nat) (st : List Value) (M : Mem) (Q : Outcome → Mem → Prop), Wp d 25 15 [some (.ref v)] st M Q = Wp d 25 16 [some (.ref v)] (.ref v :: st) M Q := fun d v st M Q => wA (show ins 25 15 = some (.aload_n 0, 1) by decide +kernel) rfl
set_option maxRecDepth 100000 in
theorem r_25_16 : ∀ (d : Nat) (ls : Lc) (a : Nat) (st : List Value) (M : Mem) (Q : Outcome → Mem → Prop), Wp d 25 16 ls (.ref a :: st) M Q = (fk 4 (kO M a) = true ∧ Wp d 25 19 ls (va_rf (mR M 4 a) :: st) M Q) := fun d ls a st M Q => w_getR (show ins 25 16 = some (.getfield 15, 3) by decide +kernel) (show fRes (mC 25) 15 = some (4, 1, false) by decide +kernel) (by decide +kernel)
set_option maxRecDepth 100000 in
theorem r_25_19 : ∀ (d : Nat) (ls : Lc) (st : List Value) (M : Mem) (Q : Outcome → Mem → Prop), Wp d 25 19 ls st M Q = Wp d 25 20 ls (.int (I 0) :: st) M Q := fun d ls st M Q => w_iconst (show ins 25 19 = some (.iconst 0, 1) by decide +kernel)
set_option maxRecDepth 100000 in
theorem r_25_20 : ∀ (d : Nat) (ls : Lc) (a : Nat) (j : Int32) (st : List Value) (M : Mem) (Q : Outcome → Mem → Prop), Wp d 25 20 ls (.int j :: .ref a :: st) M Q = ((((kX M a).1 = 4 ∨ (kX M a).1 = 5 ∨ (kX M a).1 = 6 ∨ (kX M a).1 = 7) ∧ inB j (kX M a).2 = true) ∧ Wp d 25 21 ls (va_rf (mQ M a j.toNatClampNeg) :: st) M Q) := fun d ls a j st M Q => w_aaload (show ins 25 20 = some (.aaload, 1) by decide +kernel)
set_option maxRecDepth 100000 in
theorem r_25_21 : ∀ (d : Nat) (v : Nat) (st : List Value) (M : Mem) (Q : Outcome → Mem → Prop), Wp d 25 21 [some (.ref v)] st M Q = Wp d 25 22 [some (.ref v)] (.ref v :: st) M Q := fun d v st M Q => wA (show ins 25 21 = some (.aload_n 0, 1) by decide +kernel) rfl
set_option maxRecDepth 100000 in
theorem r_25_22 : ∀ (d : Nat) (ls : Lc) (a : Nat) (st : List Value) (M : Mem) (Q : Outcome → Mem → Prop), Wp d 25 22 ls (.ref a :: st) M Q = (fk 9 (kO M a) = true ∧ Wp d 25 25 ls (va_rf (mR M 9 a) :: st) M Q) := fun d ls a st M Q => w_getR (show ins 25 22 = some (.getfield 58, 3) by decide +kernel) (show fRes (mC 25) 58 = some (9, 1, false) by decide +kernel) (by decide +kernel)
set_option maxRecDepth 100000 in
theorem r_25_25 : ∀ (d : Nat) (ls : Lc) (a : Nat) (st : List Value) (M : Mem) (Q : Outcome → Mem → Prop), Wp d 25 25 ls (.ref a :: st) M Q = (fk 18 (kO M a) = true ∧ Wp d 25 28 ls (va_rf (mR M 18 a) :: st) M Q) := fun d ls a st M Q => w_getR (show ins 25 25 = some (.getfield 122, 3) by decide +kernel) (show fRes (mC 25) 122 = some (18, 3, true) by decide +kernel) (by decide +kernel)
set_option maxRecDepth 100000 in
theorem r_25_28 : ∀ (d : Nat) (ls : Lc) (a : Nat) (st : List Value) (M : Mem) (Q : Outcome → Mem → Prop), Wp d 25 28 ls (.ref a :: st) M Q = (fk 32 (kO M a) = true ∧ Wp d 25 31 ls (.int (mF M 32 a) :: st) M Q) := fun d ls a st M Q => w_getI (show ins 25 28 = some (.getfield 126, 3) by decide +kernel) (show fRes (mC 25) 126 = some (32, 7, false) by decide +kernel) (by decide +kernel)
set_option maxRecDepth 100000 in
theorem r_25_31 : ∀ (d : Nat) (ls : Lc) (v0 v1 : Value) (a : Nat) (st : List Value) (M : Mem) (Q : Outcome → Mem → Prop), (smallR st = true) → Wp d 25 31 ls (v1 :: v0 :: .ref a :: st) M Q = (kO M a = 2 ∧ Ca d 25 31 ls 90 (.ref a :: [v0, v1]) st M Q) := fun d ls v0 v1 a st M Q h0 => w_virt1 (as := [v0, v1]) (show ins 25 31 = some (.invokevirtual 131, 3) by decide +kernel) (show mRes (mC 25) 131 = some (3, 2, [(2, 90)]) by decide +kernel) (by decide +kernel) rfl (by decide +kernel) (by decide +kernel) h0
set_option maxRecDepth 100000 in
theorem r_25_34 : ∀ (d : Nat) (ls : Lc) (M : Mem) (Q : Outcome → Mem → Prop), Wp d 25 34 ls [] M Q = Q (.returned none) M := fun d ls M Q => w_return (show ins 25 34 = some (.return_, 1) by decide +kernel) (by decide +kernel)
set_option maxRecDepth 100000 in
theorem W_25 : (type_of% r_25_0) ∧ (type_of% r_25_1) ∧ (type_of% r_25_4) ∧ (type_of% r_25_5) ∧ (type_of% r_25_8) ∧ (type_of% r_25_11) ∧ (type_of% r_25_12) ∧ (type_of% r_25_15) ∧ (type_of% r_25_16) ∧ (type_of% r_25_19) ∧ (type_of% r_25_20) ∧ (type_of% r_25_21) ∧ (type_of% r_25_22) ∧ (type_of% r_25_25) ∧ (type_of% r_25_28) ∧ (type_of% r_25_31) ∧ (type_of% r_25_34) := ⟨r_25_0, r_25_1, r_25_4, r_25_5, r_25_8, r_25_11, r_25_12, r_25_15, r_25_16, r_25_19, r_25_20, r_25_21, r_25_22, r_25_25, r_25_28, r_25_31, r_25_34⟩
set_option maxRecDepth 100000 in
theorem ca_25 {d y pc : Nat} {ls : Lc} {a : Nat} {r : List Value} {M : Mem} {Q : Outcome → Mem → Prop} (hd : 0 < d) (hw : Wp (d - 1) 25 0 [some (.ref a)] [] M (Cq d y pc ls r Q)) : Ca d y pc ls 25 [.ref a] r M Q := ca_of (mq_get (by decide)) (by rfl) hd hw
/-! 26 PackedTree.clear([BI)V; loop heads [2] -/
set_option maxRecDepth 100000 in
theorem r_26_0 : ∀ (d : Nat) (ls : Lc) (st : List Value) (M : Mem) (Q : Outcome → Mem → Prop), Wp d 26 0 ls st M Q = Wp d 26 1 ls (.int (I 0) :: st) M Q := fun d ls st M Q => w_iconst (show ins 26 0 = some (.iconst 0, 1) by decide +kernel)
set_option maxRecDepth 100000 in
theorem r_26_1 : ∀ (d : Nat) (l0 l1 l2 : Option Value) (v : Int32) (st : List Value) (M : Mem) (Q : Outcome → Mem → Prop), (lo l1 = false) → Wp d 26 1 [l0, l1, l2] (.int v :: st) M Q = Wp d 26 2 [l0, l1, some (.int v)] st M Q := fun d l0 l1 l2 v st M Q hl => w_istore_n (show ins 26 1 = some (.istore_n 2, 1) by decide +kernel) (st1_S rfl rfl hl)
set_option maxRecDepth 100000 in
theorem r_26_2 : ∀ (d : Nat) (l0 l1 : Option Value) (v : Int32) (st : List Value) (M : Mem) (Q : Outcome → Mem → Prop), Wp d 26 2 [l0, l1, some (.int v)] st M Q = Wp d 26 3 [l0, l1, some (.int v)] (.int v :: st) M Q := fun d l0 l1 v st M Q => wA (show ins 26 2 = some (.iload_n 2, 1) by decide +kernel) rfl
set_option maxRecDepth 100000 in
theorem r_26_3 : ∀ (d : Nat) (ls : Lc) (st : List Value) (M : Mem) (Q : Outcome → Mem → Prop), Wp d 26 3 ls st M Q = Wp d 26 6 ls (.int (I 128) :: st) M Q := fun d ls st M Q => w_sipush (show ins 26 3 = some (.sipush 128, 3) by decide +kernel) (by decide)
set_option maxRecDepth 100000 in
theorem r_26_6 : ∀ (d : Nat) (ls : Lc) (a b : Int32) (st : List Value) (M : Mem) (Q : Outcome → Mem → Prop), Wp d 26 6 ls (.int b :: .int a :: st) M Q = Br (b ≤ a) d 26 19 9 ls st M Q := fun d ls a b st M Q => w_icmp (show ins 26 6 = some (.if_icmp .ge 13, 3) by decide +kernel) rfl rfl
set_option maxRecDepth 100000 in
theorem r_26_9 : ∀ (d : Nat) (l1 l2 : Option Value) (v : Nat) (st : List Value) (M : Mem) (Q : Outcome → Mem → Prop), Wp d 26 9 [some (.ref v), l1, l2] st M Q = Wp d 26 10 [some (.ref v), l1, l2] (.ref v :: st) M Q := fun d l1 l2 v st M Q => wA (show ins 26 9 = some (.aload_n 0, 1) by decide +kernel) rfl
set_option maxRecDepth 100000 in
theorem r_26_9_1 : ∀ (d : Nat) (l1 l2 : Option Value) (st : List Value) (M : Mem) (Q : Outcome → Mem → Prop), Wp d 26 9 [some .null, l1, l2] st M Q = Wp d 26 10 [some .null, l1, l2] (.null :: st) M Q := fun d l1 l2 st M Q => wA (show ins 26 9 = some (.aload_n 0, 1) by decide +kernel) rfl
set_option maxRecDepth 100000 in
theorem r_26_10 : ∀ (d : Nat) (l0 l1 : Option Value) (v : Int32) (st : List Value) (M : Mem) (Q : Outcome → Mem → Prop), Wp d 26 10 [l0, l1, some (.int v)] st M Q = Wp d 26 11 [l0, l1, some (.int v)] (.int v :: st) M Q := fun d l0 l1 v st M Q => wA (show ins 26 10 = some (.iload_n 2, 1) by decide +kernel) rfl
set_option maxRecDepth 100000 in
theorem r_26_11 : ∀ (d : Nat) (ls : Lc) (st : List Value) (M : Mem) (Q : Outcome → Mem → Prop), Wp d 26 11 ls st M Q = Wp d 26 12 ls (.int (I 0) :: st) M Q := fun d ls st M Q => w_iconst (show ins 26 11 = some (.iconst 0, 1) by decide +kernel)
set_option maxRecDepth 100000 in
theorem r_26_12 : ∀ (d : Nat) (ls : Lc) (a : Nat) (j v : Int32) (st : List Value) (M : Mem) (Q : Outcome → Mem → Prop), Wp d 26 12 ls (.int v :: .int j :: .ref a :: st) M Q = ((((kX M a).1 = 1 ∨ (kX M a).1 = 2) ∧ inB j (kX M a).2 = true) ∧ Wp d 26 13 ls st (sA M a j.toNatClampNeg (nrw (kX M a).1 v)) Q) := fun d ls a j v st M Q => w_bastore (show ins 26 12 = some (.bastore, 1) by decide +kernel)
set_option maxRecDepth 100000 in
theorem r_26_13 : ∀ (d : Nat) (l0 l1 : Option Value) (z : Int) (st : List Value) (M : Mem) (Q : Outcome → Mem → Prop), (lo l1 = false) → Wp d 26 13 [l0, l1, some (.int (I z))] st M Q = Wp d 26 16 [l0, l1, some (.int (I (z + 1)))] st M Q := fun d l0 l1 z st M Q hl => w_iinc (show ins 26 13 = some (.iinc 2 1, 3) by decide +kernel) rfl (st1_S rfl rfl hl)
set_option maxRecDepth 100000 in
theorem r_26_16 : ∀ (d : Nat) (ls : Lc) (st : List Value) (M : Mem) (Q : Outcome → Mem → Prop), Wp d 26 16 ls st M Q = Wp d 26 2 ls st M Q := fun d ls st M Q => w_goto (show ins 26 16 = some (.goto (-14), 3) by decide +kernel) rfl
set_option maxRecDepth 100000 in
theorem r_26_19 : ∀ (d : Nat) (l1 l2 : Option Value) (v : Nat) (st : List Value) (M : Mem) (Q : Outcome → Mem → Prop), Wp d 26 19 [some (.ref v), l1, l2] st M Q = Wp d 26 20 [some (.ref v), l1, l2] (.ref v :: st) M Q := fun d l1 l2 v st M Q => wA (show ins 26 19 = some (.aload_n 0, 1) by decide +kernel) rfl
set_option maxRecDepth 100000 in
theorem r_26_19_1 : ∀ (d : Nat) (l1 l2 : Option Value) (st : List Value) (M : Mem) (Q : Outcome → Mem → Prop), Wp d 26 19 [some .null, l1, l2] st M Q = Wp d 26 20 [some .null, l1, l2] (.null :: st) M Q := fun d l1 l2 st M Q => wA (show ins 26 19 = some (.aload_n 0, 1) by decide +kernel) rfl
set_option maxRecDepth 100000 in
theorem r_26_20 : ∀ (d : Nat) (ls : Lc) (st : List Value) (M : Mem) (Q : Outcome → Mem → Prop), Wp d 26 20 ls st M Q = Wp d 26 23 ls (.int (I 128) :: st) M Q := fun d ls st M Q => w_sipush (show ins 26 20 = some (.sipush 128, 3) by decide +kernel) (by decide)
set_option maxRecDepth 100000 in
theorem r_26_23 : ∀ (d : Nat) (l0 l2 : Option Value) (v : Int32) (st : List Value) (M : Mem) (Q : Outcome → Mem → Prop), Wp d 26 23 [l0, some (.int v), l2] st M Q = Wp d 26 24 [l0, some (.int v), l2] (.int v :: st) M Q := fun d l0 l2 v st M Q => wA (show ins 26 23 = some (.iload_n 1, 1) by decide +kernel) rfl
set_option maxRecDepth 100000 in
theorem r_26_24 : ∀ (d : Nat) (ls : Lc) (a : Int32) (st : List Value) (M : Mem) (Q : Outcome → Mem → Prop), Wp d 26 24 ls (.int a :: st) M Q = Wp d 26 25 ls (.int a.toInt8.toInt32 :: st) M Q := fun d ls a st M Q => wA (show ins 26 24 = some (.i2b, 1) by decide +kernel) rfl
set_option maxRecDepth 100000 in
theorem r_26_25 : ∀ (d : Nat) (ls : Lc) (a : Nat) (j v : Int32) (st : List Value) (M : Mem) (Q : Outcome → Mem → Prop), Wp d 26 25 ls (.int v :: .int j :: .ref a :: st) M Q = ((((kX M a).1 = 1 ∨ (kX M a).1 = 2) ∧ inB j (kX M a).2 = true) ∧ Wp d 26 26 ls st (sA M a j.toNatClampNeg (nrw (kX M a).1 v)) Q) := fun d ls a j v st M Q => w_bastore (show ins 26 25 = some (.bastore, 1) by decide +kernel)
set_option maxRecDepth 100000 in
theorem r_26_26 : ∀ (d : Nat) (ls : Lc) (M : Mem) (Q : Outcome → Mem → Prop), Wp d 26 26 ls [] M Q = Q (.returned none) M := fun d ls M Q => w_return (show ins 26 26 = some (.return_, 1) by decide +kernel) (by decide +kernel)
set_option maxRecDepth 100000 in
theorem w_26_2 : (type_of% r_26_2) := r_26_2
set_option maxRecDepth 100000 in
theorem W_26 : (type_of% r_26_0) ∧ (type_of% r_26_1) ∧ (type_of% r_26_3) ∧ (type_of% r_26_6) ∧ (type_of% r_26_9) ∧ (type_of% r_26_9_1) ∧ (type_of% r_26_10) ∧ (type_of% r_26_11) ∧ (type_of% r_26_12) ∧ (type_of% r_26_13) ∧ (type_of% r_26_16) ∧ (type_of% r_26_19) ∧ (type_of% r_26_19_1) ∧ (type_of% r_26_20) ∧ (type_of% r_26_23) ∧ (type_of% r_26_24) ∧ (type_of% r_26_25) ∧ (type_of% r_26_26) := ⟨r_26_0, r_26_1, r_26_3, r_26_6, r_26_9, r_26_9_1, r_26_10, r_26_11, r_26_12, r_26_13, r_26_16, r_26_19, r_26_19_1, r_26_20, r_26_23, r_26_24, r_26_25, r_26_26⟩
set_option maxRecDepth 100000 in
theorem ca_26 {d y pc : Nat} {ls : Lc} {o0 : Option Nat} {z1 : Int32} {r : List Value} {M : Mem} {Q : Outcome → Mem → Prop} (hd : 0 < d) (hw : Wp (d - 1) 26 0 [some (va_rf o0), some (.int z1), none] [] M (Cq d y pc ls r Q)) : Ca d y pc ls 26 [va_rf o0, .int z1] r M Q := ca_of (mq_get (by decide)) (by cases o0 <;> rfl) hd hw
/-! 27 PackedTree.copy([B[B)V; loop heads [2] -/
set_option maxRecDepth 100000 in
theorem r_27_0 : ∀ (d : Nat) (ls : Lc) (st : List Value) (M : Mem) (Q : Outcome → Mem → Prop), Wp d 27 0 ls st M Q = Wp d 27 1 ls (.int (I 0) :: st) M Q := fun d ls st M Q => w_iconst (show ins 27 0 = some (.iconst 0, 1) by decide +kernel)
set_option maxRecDepth 100000 in
theorem r_27_1 : ∀ (d : Nat) (l0 l1 l2 : Option Value) (v : Int32) (st : List Value) (M : Mem) (Q : Outcome → Mem → Prop), (lo l1 = false) → Wp d 27 1 [l0, l1, l2] (.int v :: st) M Q = Wp d 27 2 [l0, l1, some (.int v)] st M Q := fun d l0 l1 l2 v st M Q hl => w_istore_n (show ins 27 1 = some (.istore_n 2, 1) by decide +kernel) (st1_S rfl rfl hl)
set_option maxRecDepth 100000 in
theorem r_27_2 : ∀ (d : Nat) (l0 l1 : Option Value) (v : Int32) (st : List Value) (M : Mem) (Q : Outcome → Mem → Prop), Wp d 27 2 [l0, l1, some (.int v)] st M Q = Wp d 27 3 [l0, l1, some (.int v)] (.int v :: st) M Q := fun d l0 l1 v st M Q => wA (show ins 27 2 = some (.iload_n 2, 1) by decide +kernel) rfl
set_option maxRecDepth 100000 in
theorem r_27_3 : ∀ (d : Nat) (ls : Lc) (st : List Value) (M : Mem) (Q : Outcome → Mem → Prop), Wp d 27 3 ls st M Q = Wp d 27 6 ls (.int (I 129) :: st) M Q := fun d ls st M Q => w_sipush (show ins 27 3 = some (.sipush 129, 3) by decide +kernel) (by decide)
set_option maxRecDepth 100000 in
theorem r_27_6 : ∀ (d : Nat) (ls : Lc) (a b : Int32) (st : List Value) (M : Mem) (Q : Outcome → Mem → Prop), Wp d 27 6 ls (.int b :: .int a :: st) M Q = Br (b ≤ a) d 27 21 9 ls st M Q := fun d ls a b st M Q => w_icmp (show ins 27 6 = some (.if_icmp .ge 15, 3) by decide +kernel) rfl rfl
set_option maxRecDepth 100000 in
theorem r_27_9 : ∀ (d : Nat) (l0 l2 : Option Value) (v : Nat) (st : List Value) (M : Mem) (Q : Outcome → Mem → Prop), Wp d 27 9 [l0, some (.ref v), l2] st M Q = Wp d 27 10 [l0, some (.ref v), l2] (.ref v :: st) M Q := fun d l0 l2 v st M Q => wA (show ins 27 9 = some (.aload_n 1, 1) by decide +kernel) rfl
set_option maxRecDepth 100000 in
theorem r_27_9_1 : ∀ (d : Nat) (l0 l2 : Option Value) (st : List Value) (M : Mem) (Q : Outcome → Mem → Prop), Wp d 27 9 [l0, some .null, l2] st M Q = Wp d 27 10 [l0, some .null, l2] (.null :: st) M Q := fun d l0 l2 st M Q => wA (show ins 27 9 = some (.aload_n 1, 1) by decide +kernel) rfl
set_option maxRecDepth 100000 in
theorem r_27_10 : ∀ (d : Nat) (l0 l1 : Option Value) (v : Int32) (st : List Value) (M : Mem) (Q : Outcome → Mem → Prop), Wp d 27 10 [l0, l1, some (.int v)] st M Q = Wp d 27 11 [l0, l1, some (.int v)] (.int v :: st) M Q := fun d l0 l1 v st M Q => wA (show ins 27 10 = some (.iload_n 2, 1) by decide +kernel) rfl
set_option maxRecDepth 100000 in
theorem r_27_11 : ∀ (d : Nat) (l1 l2 : Option Value) (v : Nat) (st : List Value) (M : Mem) (Q : Outcome → Mem → Prop), Wp d 27 11 [some (.ref v), l1, l2] st M Q = Wp d 27 12 [some (.ref v), l1, l2] (.ref v :: st) M Q := fun d l1 l2 v st M Q => wA (show ins 27 11 = some (.aload_n 0, 1) by decide +kernel) rfl
set_option maxRecDepth 100000 in
theorem r_27_11_1 : ∀ (d : Nat) (l1 l2 : Option Value) (st : List Value) (M : Mem) (Q : Outcome → Mem → Prop), Wp d 27 11 [some .null, l1, l2] st M Q = Wp d 27 12 [some .null, l1, l2] (.null :: st) M Q := fun d l1 l2 st M Q => wA (show ins 27 11 = some (.aload_n 0, 1) by decide +kernel) rfl
set_option maxRecDepth 100000 in
theorem r_27_12 : ∀ (d : Nat) (l0 l1 : Option Value) (v : Int32) (st : List Value) (M : Mem) (Q : Outcome → Mem → Prop), Wp d 27 12 [l0, l1, some (.int v)] st M Q = Wp d 27 13 [l0, l1, some (.int v)] (.int v :: st) M Q := fun d l0 l1 v st M Q => wA (show ins 27 12 = some (.iload_n 2, 1) by decide +kernel) rfl
set_option maxRecDepth 100000 in
theorem r_27_13 : ∀ (d : Nat) (ls : Lc) (a : Nat) (j : Int32) (st : List Value) (M : Mem) (Q : Outcome → Mem → Prop), Wp d 27 13 ls (.int j :: .ref a :: st) M Q = ((((kX M a).1 = 1 ∨ (kX M a).1 = 2) ∧ inB j (kX M a).2 = true) ∧ Wp d 27 14 ls (.int (mA M a j.toNatClampNeg) :: st) M Q) := fun d ls a j st M Q => w_baload (show ins 27 13 = some (.baload, 1) by decide +kernel)
set_option maxRecDepth 100000 in
theorem r_27_14 : ∀ (d : Nat) (ls : Lc) (a : Nat) (j v : Int32) (st : List Value) (M : Mem) (Q : Outcome → Mem → Prop), Wp d 27 14 ls (.int v :: .int j :: .ref a :: st) M Q = ((((kX M a).1 = 1 ∨ (kX M a).1 = 2) ∧ inB j (kX M a).2 = true) ∧ Wp d 27 15 ls st (sA M a j.toNatClampNeg (nrw (kX M a).1 v)) Q) := fun d ls a j v st M Q => w_bastore (show ins 27 14 = some (.bastore, 1) by decide +kernel)
set_option maxRecDepth 100000 in
theorem r_27_15 : ∀ (d : Nat) (l0 l1 : Option Value) (z : Int) (st : List Value) (M : Mem) (Q : Outcome → Mem → Prop), (lo l1 = false) → Wp d 27 15 [l0, l1, some (.int (I z))] st M Q = Wp d 27 18 [l0, l1, some (.int (I (z + 1)))] st M Q := fun d l0 l1 z st M Q hl => w_iinc (show ins 27 15 = some (.iinc 2 1, 3) by decide +kernel) rfl (st1_S rfl rfl hl)
set_option maxRecDepth 100000 in
theorem r_27_18 : ∀ (d : Nat) (ls : Lc) (st : List Value) (M : Mem) (Q : Outcome → Mem → Prop), Wp d 27 18 ls st M Q = Wp d 27 2 ls st M Q := fun d ls st M Q => w_goto (show ins 27 18 = some (.goto (-16), 3) by decide +kernel) rfl
set_option maxRecDepth 100000 in
theorem r_27_21 : ∀ (d : Nat) (ls : Lc) (M : Mem) (Q : Outcome → Mem → Prop), Wp d 27 21 ls [] M Q = Q (.returned none) M := fun d ls M Q => w_return (show ins 27 21 = some (.return_, 1) by decide +kernel) (by decide +kernel)
set_option maxRecDepth 100000 in
theorem w_27_2 : (type_of% r_27_2) := r_27_2
set_option maxRecDepth 100000 in
theorem W_27 : (type_of% r_27_0) ∧ (type_of% r_27_1) ∧ (type_of% r_27_3) ∧ (type_of% r_27_6) ∧ (type_of% r_27_9) ∧ (type_of% r_27_9_1) ∧ (type_of% r_27_10) ∧ (type_of% r_27_11) ∧ (type_of% r_27_11_1) ∧ (type_of% r_27_12) ∧ (type_of% r_27_13) ∧ (type_of% r_27_14) ∧ (type_of% r_27_15) ∧ (type_of% r_27_18) ∧ (type_of% r_27_21) := ⟨r_27_0, r_27_1, r_27_3, r_27_6, r_27_9, r_27_9_1, r_27_10, r_27_11, r_27_11_1, r_27_12, r_27_13, r_27_14, r_27_15, r_27_18, r_27_21⟩
set_option maxRecDepth 100000 in
theorem ca_27 {d y pc : Nat} {ls : Lc} {o0 : Option Nat} {o1 : Option Nat} {r : List Value} {M : Mem} {Q : Outcome → Mem → Prop} (hd : 0 < d) (hw : Wp (d - 1) 27 0 [some (va_rf o0), some (va_rf o1), none] [] M (Cq d y pc ls r Q)) : Ca d y pc ls 27 [va_rf o0, va_rf o1] r M Q := ca_of (mq_get (by decide)) (by cases o0 <;> cases o1 <;> rfl) hd hw
/-! 28 PackedTree.off()Z; loop heads [] -/
set_option maxRecDepth 100000 in
theorem r_28_0 : ∀ (d : Nat) (v : Nat) (st : List Value) (M : Mem) (Q : Outcome → Mem → Prop), Wp d 28 0 [some (.ref v)] st M Q = Wp d 28 1 [some (.ref v)] (.ref v :: st) M Q := fun d v st M Q => wA (show ins 28 0 = some (.aload_n 0, 1) by decide +kernel) rfl
set_option maxRecDepth 100000 in
theorem r_28_1 : ∀ (d : Nat) (ls : Lc) (a : Nat) (st : List Value) (M : Mem) (Q : Outcome → Mem → Prop), Wp d 28 1 ls (.ref a :: st) M Q = (fk 2 (kO M a) = true ∧ Wp d 28 4 ls (va_rf (mR M 2 a) :: st) M Q) := fun d ls a st M Q => w_getR (show ins 28 1 = some (.getfield 67, 3) by decide +kernel) (show fRes (mC 28) 67 = some (2, 1, false) by decide +kernel) (by decide +kernel)
set_option maxRecDepth 100000 in
theorem r_28_4 : ∀ (d : Nat) (ls : Lc) (a : Nat) (st : List Value) (M : Mem) (Q : Outcome → Mem → Prop), Wp d 28 4 ls (.ref a :: st) M Q = (fk 25 (kO M a) = true ∧ Wp d 28 7 ls (.int (mF M 25 a) :: st) M Q) := fun d ls a st M Q => w_getI (show ins 28 4 = some (.getfield 111, 3) by decide +kernel) (show fRes (mC 28) 111 = some (25, 4, true) by decide +kernel) (by decide +kernel)
set_option maxRecDepth 100000 in
theorem r_28_7 : ∀ (d : Nat) (ls : Lc) (z : Int) (M : Mem) (Q : Outcome → Mem → Prop), (z = 0 ∨ z = 1) → Wp d 28 7 ls [.int (I z)] M Q = Q (.returned (some (.int (I z)))) M := fun d ls z M Q h0 => w_zretI (show ins 28 7 = some (.ireturn, 1) by decide +kernel) (by decide +kernel) h0
set_option maxRecDepth 100000 in
theorem r_28_7_1 : ∀ (d : Nat) (ls : Lc) (b : Bool) (M : Mem) (Q : Outcome → Mem → Prop), Wp d 28 7 ls [.int (I (bI b))] M Q = Q (.returned (some (.int (I (bI b))))) M := fun d ls b M Q => w_zretB (show ins 28 7 = some (.ireturn, 1) by decide +kernel) (by decide +kernel)
set_option maxRecDepth 100000 in
theorem W_28 : (type_of% r_28_0) ∧ (type_of% r_28_1) ∧ (type_of% r_28_4) ∧ (type_of% r_28_7) ∧ (type_of% r_28_7_1) := ⟨r_28_0, r_28_1, r_28_4, r_28_7, r_28_7_1⟩
set_option maxRecDepth 100000 in
theorem ca_28 {d y pc : Nat} {ls : Lc} {a : Nat} {r : List Value} {M : Mem} {Q : Outcome → Mem → Prop} (hd : 0 < d) (hw : Wp (d - 1) 28 0 [some (.ref a)] [] M (Cq d y pc ls r Q)) : Ca d y pc ls 28 [.ref a] r M Q := ca_of (mq_get (by decide)) (by rfl) hd hw
/-! 29 PackedTree.make(IIZ)I; loop heads [] -/
set_option maxRecDepth 100000 in
theorem r_29_0 : ∀ (d : Nat) (l1 l2 l3 l4 l5 : Option Value) (v : Nat) (st : List Value) (M : Mem) (Q : Outcome → Mem → Prop), Wp d 29 0 [some (.ref v), l1, l2, l3, l4, l5] st M Q = Wp d 29 1 [some (.ref v), l1, l2, l3, l4, l5] (.ref v :: st) M Q := fun d l1 l2 l3 l4 l5 v st M Q => wA (show ins 29 0 = some (.aload_n 0, 1) by decide +kernel) rfl
set_option maxRecDepth 100000 in
theorem r_29_1 : ∀ (d : Nat) (ls : Lc) (a : Nat) (st : List Value) (M : Mem) (Q : Outcome → Mem → Prop), (smallR st = true) → Wp d 29 1 ls (.ref a :: st) M Q = (kO M a = 1 ∧ Ca d 29 1 ls 30 (.ref a :: []) st M Q) := fun d ls a st M Q h0 => w_virt1 (as := []) (show ins 29 1 = some (.invokevirtual 204, 3) by decide +kernel) (show mRes (mC 29) 204 = some (3, 1, [(1, 30)]) by decide +kernel) (by decide +kernel) rfl (by decide +kernel) (by decide +kernel) h0
set_option maxRecDepth 100000 in
theorem r_29_4 : ∀ (d : Nat) (l1 l2 l3 l4 l5 : Option Value) (v : Nat) (st : List Value) (M : Mem) (Q : Outcome → Mem → Prop), Wp d 29 4 [some (.ref v), l1, l2, l3, l4, l5] st M Q = Wp d 29 5 [some (.ref v), l1, l2, l3, l4, l5] (.ref v :: st) M Q := fun d l1 l2 l3 l4 l5 v st M Q => wA (show ins 29 4 = some (.aload_n 0, 1) by decide +kernel) rfl
set_option maxRecDepth 100000 in
theorem r_29_5 : ∀ (d : Nat) (l0 l2 l3 l4 l5 : Option Value) (v : Int32) (st : List Value) (M : Mem) (Q : Outcome → Mem → Prop), Wp d 29 5 [l0, some (.int v), l2, l3, l4, l5] st M Q = Wp d 29 6 [l0, some (.int v), l2, l3, l4, l5] (.int v :: st) M Q := fun d l0 l2 l3 l4 l5 v st M Q => wA (show ins 29 5 = some (.iload_n 1, 1) by decide +kernel) rfl
set_option maxRecDepth 100000 in
theorem r_29_6 : ∀ (d : Nat) (ls : Lc) (v0 : Value) (a : Nat) (st : List Value) (M : Mem) (Q : Outcome → Mem → Prop), (smallR st = true) → Wp d 29 6 ls (v0 :: .ref a :: st) M Q = (kO M a = 1 ∧ Ca d 29 6 ls 31 (.ref a :: [v0]) st M Q) := fun d ls v0 a st M Q h0 => w_virt1 (as := [v0]) (show ins 29 6 = some (.invokevirtual 207, 3) by decide +kernel) (show mRes (mC 29) 207 = some (3, 1, [(1, 31)]) by decide +kernel) (by decide +kernel) rfl (by decide +kernel) (by decide +kernel) h0
set_option maxRecDepth 100000 in
theorem r_29_9 : ∀ (d : Nat) (ls : Lc) (v0 : Value)  (st : List Value) (M : Mem) (Q : Outcome → Mem → Prop), (smallR st = true) → Wp d 29 9 ls (v0 :: st) M Q = Ca d 29 9 ls 37 [v0] st M Q := fun d ls v0 st M Q h0 => w_stat (as := [v0]) (show ins 29 9 = some (.invokestatic 210, 3) by decide +kernel) (show mRes (mC 29) 210 = some (0, 1, [(0, 37)]) by decide +kernel) (by decide +kernel) (by decide +kernel) rfl h0
set_option maxRecDepth 100000 in
theorem r_29_12 : ∀ (d : Nat) (l0 l1 l3 l4 l5 : Option Value) (v : Int32) (st : List Value) (M : Mem) (Q : Outcome → Mem → Prop), Wp d 29 12 [l0, l1, some (.int v), l3, l4, l5] st M Q = Wp d 29 13 [l0, l1, some (.int v), l3, l4, l5] (.int v :: st) M Q := fun d l0 l1 l3 l4 l5 v st M Q => wA (show ins 29 12 = some (.iload_n 2, 1) by decide +kernel) rfl
set_option maxRecDepth 100000 in
theorem r_29_13 : ∀ (d : Nat) (ls : Lc) (v0 : Value)  (st : List Value) (M : Mem) (Q : Outcome → Mem → Prop), (smallR st = true) → Wp d 29 13 ls (v0 :: st) M Q = Ca d 29 13 ls 38 [v0] st M Q := fun d ls v0 st M Q h0 => w_stat (as := [v0]) (show ins 29 13 = some (.invokestatic 214, 3) by decide +kernel) (show mRes (mC 29) 214 = some (0, 1, [(0, 38)]) by decide +kernel) (by decide +kernel) (by decide +kernel) rfl h0
set_option maxRecDepth 100000 in
theorem r_29_16 : ∀ (d : Nat) (ls : Lc) (v0 : Value)  (st : List Value) (M : Mem) (Q : Outcome → Mem → Prop), (smallR st = true) → Wp d 29 16 ls (v0 :: st) M Q = Ca d 29 16 ls 39 [v0] st M Q := fun d ls v0 st M Q h0 => w_stat (as := [v0]) (show ins 29 16 = some (.invokestatic 217, 3) by decide +kernel) (show mRes (mC 29) 217 = some (0, 1, [(0, 39)]) by decide +kernel) (by decide +kernel) (by decide +kernel) rfl h0
set_option maxRecDepth 100000 in
theorem r_29_19 : ∀ (d : Nat) (l1 l2 l3 l4 l5 : Option Value) (v : Nat) (st : List Value) (M : Mem) (Q : Outcome → Mem → Prop), Wp d 29 19 [some (.ref v), l1, l2, l3, l4, l5] st M Q = Wp d 29 20 [some (.ref v), l1, l2, l3, l4, l5] (.ref v :: st) M Q := fun d l1 l2 l3 l4 l5 v st M Q => wA (show ins 29 19 = some (.aload_n 0, 1) by decide +kernel) rfl
set_option maxRecDepth 100000 in
theorem r_29_20 : ∀ (d : Nat) (ls : Lc) (a : Nat) (st : List Value) (M : Mem) (Q : Outcome → Mem → Prop), (smallR st = true) → Wp d 29 20 ls (.ref a :: st) M Q = (kO M a = 1 ∧ Ca d 29 20 ls 40 (.ref a :: []) st M Q) := fun d ls a st M Q h0 => w_virt1 (as := []) (show ins 29 20 = some (.invokevirtual 220, 3) by decide +kernel) (show mRes (mC 29) 220 = some (3, 1, [(1, 40)]) by decide +kernel) (by decide +kernel) rfl (by decide +kernel) (by decide +kernel) h0
set_option maxRecDepth 100000 in
theorem r_29_23 : ∀ (d : Nat) (l0 l1 l2 l3 l4 l5 : Option Value) (v : Int32) (st : List Value) (M : Mem) (Q : Outcome → Mem → Prop), (lo l3 = false) → Wp d 29 23 [l0, l1, l2, l3, l4, l5] (.int v :: st) M Q = Wp d 29 25 [l0, l1, l2, l3, some (.int v), l5] st M Q := fun d l0 l1 l2 l3 l4 l5 v st M Q hl => w_istore (show ins 29 23 = some (.istore 4, 2) by decide +kernel) (st1_S rfl rfl hl)
set_option maxRecDepth 100000 in
theorem r_29_25 : ∀ (d : Nat) (l1 l2 l3 l4 l5 : Option Value) (v : Nat) (st : List Value) (M : Mem) (Q : Outcome → Mem → Prop), Wp d 29 25 [some (.ref v), l1, l2, l3, l4, l5] st M Q = Wp d 29 26 [some (.ref v), l1, l2, l3, l4, l5] (.ref v :: st) M Q := fun d l1 l2 l3 l4 l5 v st M Q => wA (show ins 29 25 = some (.aload_n 0, 1) by decide +kernel) rfl
set_option maxRecDepth 100000 in
theorem r_29_26 : ∀ (d : Nat) (l0 l2 l3 l4 l5 : Option Value) (v : Int32) (st : List Value) (M : Mem) (Q : Outcome → Mem → Prop), Wp d 29 26 [l0, some (.int v), l2, l3, l4, l5] st M Q = Wp d 29 27 [l0, some (.int v), l2, l3, l4, l5] (.int v :: st) M Q := fun d l0 l2 l3 l4 l5 v st M Q => wA (show ins 29 26 = some (.iload_n 1, 1) by decide +kernel) rfl
set_option maxRecDepth 100000 in
theorem r_29_27 : ∀ (d : Nat) (l0 l1 l3 l4 l5 : Option Value) (v : Int32) (st : List Value) (M : Mem) (Q : Outcome → Mem → Prop), Wp d 29 27 [l0, l1, some (.int v), l3, l4, l5] st M Q = Wp d 29 28 [l0, l1, some (.int v), l3, l4, l5] (.int v :: st) M Q := fun d l0 l1 l3 l4 l5 v st M Q => wA (show ins 29 27 = some (.iload_n 2, 1) by decide +kernel) rfl
set_option maxRecDepth 100000 in
theorem r_29_28 : ∀ (d : Nat) (ls : Lc) (v0 v1 : Value) (a : Nat) (st : List Value) (M : Mem) (Q : Outcome → Mem → Prop), (smallR st = true) → Wp d 29 28 ls (v1 :: v0 :: .ref a :: st) M Q = (kO M a = 1 ∧ Ca d 29 28 ls 41 (.ref a :: [v0, v1]) st M Q) := fun d ls v0 v1 a st M Q h0 => w_virt1 (as := [v0, v1]) (show ins 29 28 = some (.invokevirtual 223, 3) by decide +kernel) (show mRes (mC 29) 223 = some (3, 1, [(1, 41)]) by decide +kernel) (by decide +kernel) rfl (by decide +kernel) (by decide +kernel) h0
set_option maxRecDepth 100000 in
theorem r_29_31 : ∀ (d : Nat) (ls : Lc) (st : List Value) (M : Mem) (Q : Outcome → Mem → Prop), Wp d 29 31 ls st M Q = Wp d 29 32 ls (.int (I (-1)) :: st) M Q := fun d ls st M Q => w_iconst (show ins 29 31 = some (.iconst (-1), 1) by decide +kernel)
set_option maxRecDepth 100000 in
theorem r_29_32 : ∀ (d : Nat) (ls : Lc) (a b : Int32) (st : List Value) (M : Mem) (Q : Outcome → Mem → Prop), Wp d 29 32 ls (.int b :: .int a :: st) M Q = Br (¬ a = b) d 29 46 35 ls st M Q := fun d ls a b st M Q => w_icmp (show ins 29 32 = some (.if_icmp .ne 14, 3) by decide +kernel) rfl rfl
set_option maxRecDepth 100000 in
theorem r_29_35 : ∀ (d : Nat) (l0 l1 l2 l3 l5 : Option Value) (v : Int32) (st : List Value) (M : Mem) (Q : Outcome → Mem → Prop), Wp d 29 35 [l0, l1, l2, l3, some (.int v), l5] st M Q = Wp d 29 37 [l0, l1, l2, l3, some (.int v), l5] (.int v :: st) M Q := fun d l0 l1 l2 l3 l5 v st M Q => wA (show ins 29 35 = some (.iload 4, 2) by decide +kernel) rfl
set_option maxRecDepth 100000 in
theorem r_29_37 : ∀ (d : Nat) (ls : Lc) (st : List Value) (M : Mem) (Q : Outcome → Mem → Prop), Wp d 29 37 ls st M Q = Wp d 29 39 ls (.int (I 60) :: st) M Q := fun d ls st M Q => w_bipush (show ins 29 37 = some (.bipush 60, 2) by decide +kernel) (by decide)
set_option maxRecDepth 100000 in
theorem r_29_39 : ∀ (d : Nat) (ls : Lc) (a b : Int32) (st : List Value) (M : Mem) (Q : Outcome → Mem → Prop), Wp d 29 39 ls (.int b :: .int a :: st) M Q = Br (b < a) d 29 46 42 ls st M Q := fun d ls a b st M Q => w_icmp (show ins 29 39 = some (.if_icmp .gt 7, 3) by decide +kernel) rfl rfl
set_option maxRecDepth 100000 in
theorem r_29_42 : ∀ (d : Nat) (ls : Lc) (st : List Value) (M : Mem) (Q : Outcome → Mem → Prop), Wp d 29 42 ls st M Q = Wp d 29 43 ls (.int (I 1) :: st) M Q := fun d ls st M Q => w_iconst (show ins 29 42 = some (.iconst 1, 1) by decide +kernel)
set_option maxRecDepth 100000 in
theorem r_29_43 : ∀ (d : Nat) (ls : Lc) (st : List Value) (M : Mem) (Q : Outcome → Mem → Prop), Wp d 29 43 ls st M Q = Wp d 29 47 ls st M Q := fun d ls st M Q => w_goto (show ins 29 43 = some (.goto 4, 3) by decide +kernel) rfl
set_option maxRecDepth 100000 in
theorem r_29_46 : ∀ (d : Nat) (ls : Lc) (st : List Value) (M : Mem) (Q : Outcome → Mem → Prop), Wp d 29 46 ls st M Q = Wp d 29 47 ls (.int (I 0) :: st) M Q := fun d ls st M Q => w_iconst (show ins 29 46 = some (.iconst 0, 1) by decide +kernel)
set_option maxRecDepth 100000 in
theorem r_29_47 : ∀ (d : Nat) (ls : Lc) (v0 : Value)  (st : List Value) (M : Mem) (Q : Outcome → Mem → Prop), (smallR st = true) → Wp d 29 47 ls (v0 :: st) M Q = Ca d 29 47 ls 42 [v0] st M Q := fun d ls v0 st M Q h0 => w_stat (as := [v0]) (show ins 29 47 = some (.invokestatic 227, 3) by decide +kernel) (show mRes (mC 29) 227 = some (0, 1, [(0, 42)]) by decide +kernel) (by decide +kernel) (by decide +kernel) rfl h0
set_option maxRecDepth 100000 in
theorem r_29_50 : ∀ (d : Nat) (l1 l2 l3 l4 l5 : Option Value) (v : Nat) (st : List Value) (M : Mem) (Q : Outcome → Mem → Prop), Wp d 29 50 [some (.ref v), l1, l2, l3, l4, l5] st M Q = Wp d 29 51 [some (.ref v), l1, l2, l3, l4, l5] (.ref v :: st) M Q := fun d l1 l2 l3 l4 l5 v st M Q => wA (show ins 29 50 = some (.aload_n 0, 1) by decide +kernel) rfl
set_option maxRecDepth 100000 in
theorem r_29_51 : ∀ (d : Nat) (ls : Lc) (a : Nat) (st : List Value) (M : Mem) (Q : Outcome → Mem → Prop), (smallR st = true) → Wp d 29 51 ls (.ref a :: st) M Q = (kO M a = 1 ∧ Ca d 29 51 ls 43 (.ref a :: []) st M Q) := fun d ls a st M Q h0 => w_virt1 (as := []) (show ins 29 51 = some (.invokevirtual 230, 3) by decide +kernel) (show mRes (mC 29) 230 = some (3, 1, [(1, 43)]) by decide +kernel) (by decide +kernel) rfl (by decide +kernel) (by decide +kernel) h0
set_option maxRecDepth 100000 in
theorem r_29_54 : ∀ (d : Nat) (l1 l2 l3 l4 l5 : Option Value) (v : Nat) (st : List Value) (M : Mem) (Q : Outcome → Mem → Prop), Wp d 29 54 [some (.ref v), l1, l2, l3, l4, l5] st M Q = Wp d 29 55 [some (.ref v), l1, l2, l3, l4, l5] (.ref v :: st) M Q := fun d l1 l2 l3 l4 l5 v st M Q => wA (show ins 29 54 = some (.aload_n 0, 1) by decide +kernel) rfl
set_option maxRecDepth 100000 in
theorem r_29_55 : ∀ (d : Nat) (l0 l1 l2 l4 l5 : Option Value) (v : Int32) (st : List Value) (M : Mem) (Q : Outcome → Mem → Prop), Wp d 29 55 [l0, l1, l2, some (.int v), l4, l5] st M Q = Wp d 29 56 [l0, l1, l2, some (.int v), l4, l5] (.int v :: st) M Q := fun d l0 l1 l2 l4 l5 v st M Q => wA (show ins 29 55 = some (.iload_n 3, 1) by decide +kernel) rfl
set_option maxRecDepth 100000 in
theorem r_29_56 : ∀ (d : Nat) (ls : Lc) (a : Int32) (st : List Value) (M : Mem) (Q : Outcome → Mem → Prop), Wp d 29 56 ls (.int a :: st) M Q = Br (a = I 0) d 29 63 59 ls st M Q := fun d ls a st M Q => w_if (show ins 29 56 = some (.ifCond .eq 7, 3) by decide +kernel) rfl rfl
set_option maxRecDepth 100000 in
theorem r_29_59 : ∀ (d : Nat) (ls : Lc) (st : List Value) (M : Mem) (Q : Outcome → Mem → Prop), Wp d 29 59 ls st M Q = Wp d 29 60 ls (.int (I 0) :: st) M Q := fun d ls st M Q => w_iconst (show ins 29 59 = some (.iconst 0, 1) by decide +kernel)
set_option maxRecDepth 100000 in
theorem r_29_60 : ∀ (d : Nat) (ls : Lc) (st : List Value) (M : Mem) (Q : Outcome → Mem → Prop), Wp d 29 60 ls st M Q = Wp d 29 64 ls st M Q := fun d ls st M Q => w_goto (show ins 29 60 = some (.goto 4, 3) by decide +kernel) rfl
set_option maxRecDepth 100000 in
theorem r_29_63 : ∀ (d : Nat) (ls : Lc) (st : List Value) (M : Mem) (Q : Outcome → Mem → Prop), Wp d 29 63 ls st M Q = Wp d 29 64 ls (.int (I 1) :: st) M Q := fun d ls st M Q => w_iconst (show ins 29 63 = some (.iconst 1, 1) by decide +kernel)
set_option maxRecDepth 100000 in
theorem r_29_64 : ∀ (d : Nat) (ls : Lc) (st : List Value) (M : Mem) (Q : Outcome → Mem → Prop), Wp d 29 64 ls st M Q = Wp d 29 65 ls (.int (I 1) :: st) M Q := fun d ls st M Q => w_iconst (show ins 29 64 = some (.iconst 1, 1) by decide +kernel)
set_option maxRecDepth 100000 in
theorem r_29_65 : ∀ (d : Nat) (ls : Lc) (st : List Value) (M : Mem) (Q : Outcome → Mem → Prop), Wp d 29 65 ls st M Q = Wp d 29 66 ls (.int (I 0) :: st) M Q := fun d ls st M Q => w_iconst (show ins 29 65 = some (.iconst 0, 1) by decide +kernel)
set_option maxRecDepth 100000 in
theorem r_29_66 : ∀ (d : Nat) (ls : Lc) (v0 v1 v2 : Value) (a : Nat) (st : List Value) (M : Mem) (Q : Outcome → Mem → Prop), (smallR st = true) → Wp d 29 66 ls (v2 :: v1 :: v0 :: .ref a :: st) M Q = (kO M a = 1 ∧ Ca d 29 66 ls 22 (.ref a :: [v0, v1, v2]) st M Q) := fun d ls v0 v1 v2 a st M Q h0 => w_virt1 (as := [v0, v1, v2]) (show ins 29 66 = some (.invokevirtual 78, 3) by decide +kernel) (show mRes (mC 29) 78 = some (3, 1, [(1, 22)]) by decide +kernel) (by decide +kernel) rfl (by decide +kernel) (by decide +kernel) h0
set_option maxRecDepth 100000 in
theorem r_29_69 : ∀ (d : Nat) (l1 l2 l3 l4 l5 : Option Value) (v : Nat) (st : List Value) (M : Mem) (Q : Outcome → Mem → Prop), Wp d 29 69 [some (.ref v), l1, l2, l3, l4, l5] st M Q = Wp d 29 70 [some (.ref v), l1, l2, l3, l4, l5] (.ref v :: st) M Q := fun d l1 l2 l3 l4 l5 v st M Q => wA (show ins 29 69 = some (.aload_n 0, 1) by decide +kernel) rfl
set_option maxRecDepth 100000 in
theorem r_29_70 : ∀ (d : Nat) (ls : Lc) (a : Nat) (st : List Value) (M : Mem) (Q : Outcome → Mem → Prop), Wp d 29 70 ls (.ref a :: st) M Q = (fk 9 (kO M a) = true ∧ Wp d 29 73 ls (va_rf (mR M 9 a) :: st) M Q) := fun d ls a st M Q => w_getR (show ins 29 70 = some (.getfield 58, 3) by decide +kernel) (show fRes (mC 29) 58 = some (9, 1, false) by decide +kernel) (by decide +kernel)
set_option maxRecDepth 100000 in
theorem r_29_73 : ∀ (d : Nat) (l0 l1 l2 l3 l5 : Option Value) (v : Int32) (st : List Value) (M : Mem) (Q : Outcome → Mem → Prop), Wp d 29 73 [l0, l1, l2, l3, some (.int v), l5] st M Q = Wp d 29 75 [l0, l1, l2, l3, some (.int v), l5] (.int v :: st) M Q := fun d l0 l1 l2 l3 l5 v st M Q => wA (show ins 29 73 = some (.iload 4, 2) by decide +kernel) rfl
set_option maxRecDepth 100000 in
theorem r_29_75 : ∀ (d : Nat) (ls : Lc) (st : List Value) (M : Mem) (Q : Outcome → Mem → Prop), Wp d 29 75 ls st M Q = Wp d 29 76 ls (.int (I 0) :: st) M Q := fun d ls st M Q => w_iconst (show ins 29 75 = some (.iconst 0, 1) by decide +kernel)
set_option maxRecDepth 100000 in
theorem r_29_76 : ∀ (d : Nat) (ls : Lc) (st : List Value) (M : Mem) (Q : Outcome → Mem → Prop), Wp d 29 76 ls st M Q = Wp d 29 77 ls (.int (I 0) :: st) M Q := fun d ls st M Q => w_iconst (show ins 29 76 = some (.iconst 0, 1) by decide +kernel)
set_option maxRecDepth 100000 in
theorem r_29_77 : ∀ (d : Nat) (ls : Lc) (v0 v1 v2 : Value)  (st : List Value) (M : Mem) (Q : Outcome → Mem → Prop), (smallR st = true) → Wp d 29 77 ls (v2 :: v1 :: v0 :: st) M Q = Ca d 29 77 ls 24 [v0, v1, v2] st M Q := fun d ls v0 v1 v2 st M Q h0 => w_stat (as := [v0, v1, v2]) (show ins 29 77 = some (.invokestatic 82, 3) by decide +kernel) (show mRes (mC 29) 82 = some (0, 1, [(0, 24)]) by decide +kernel) (by decide +kernel) (by decide +kernel) rfl h0
set_option maxRecDepth 100000 in
theorem r_29_80 : ∀ (d : Nat) (l1 l2 l3 l4 l5 : Option Value) (v : Nat) (st : List Value) (M : Mem) (Q : Outcome → Mem → Prop), Wp d 29 80 [some (.ref v), l1, l2, l3, l4, l5] st M Q = Wp d 29 81 [some (.ref v), l1, l2, l3, l4, l5] (.ref v :: st) M Q := fun d l1 l2 l3 l4 l5 v st M Q => wA (show ins 29 80 = some (.aload_n 0, 1) by decide +kernel) rfl
set_option maxRecDepth 100000 in
theorem r_29_81 : ∀ (d : Nat) (ls : Lc) (a : Nat) (st : List Value) (M : Mem) (Q : Outcome → Mem → Prop), Wp d 29 81 ls (.ref a :: st) M Q = (fk 0 (kO M a) = true ∧ Wp d 29 84 ls (va_rf (mR M 0 a) :: st) M Q) := fun d ls a st M Q => w_getR (show ins 29 81 = some (.getfield 25, 3) by decide +kernel) (show fRes (mC 29) 25 = some (0, 1, false) by decide +kernel) (by decide +kernel)
set_option maxRecDepth 100000 in
theorem r_29_84 : ∀ (d : Nat) (ls : Lc) (st : List Value) (M : Mem) (Q : Outcome → Mem → Prop), Wp d 29 84 ls st M Q = Wp d 29 86 ls (.int (I 6) :: st) M Q := fun d ls st M Q => w_bipush (show ins 29 84 = some (.bipush 6, 2) by decide +kernel) (by decide)
set_option maxRecDepth 100000 in
theorem r_29_86 : ∀ (d : Nat) (ls : Lc) (v0 v1 v2 : Value) (a : Nat) (st : List Value) (M : Mem) (Q : Outcome → Mem → Prop), (smallR st = true) → Wp d 29 86 ls (v2 :: v1 :: v0 :: .ref a :: st) M Q = (kO M a = 3 ∧ Ca d 29 86 ls 97 (.ref a :: [v0, v1, v2]) st M Q) := fun d ls v0 v1 v2 a st M Q h0 => w_virt1 (as := [v0, v1, v2]) (show ins 29 86 = some (.invokevirtual 85, 3) by decide +kernel) (show mRes (mC 29) 85 = some (3, 3, [(3, 97)]) by decide +kernel) (by decide +kernel) rfl (by decide +kernel) (by decide +kernel) h0
set_option maxRecDepth 100000 in
theorem r_29_89 : ∀ (d : Nat) (l1 l2 l3 l4 l5 : Option Value) (v : Nat) (st : List Value) (M : Mem) (Q : Outcome → Mem → Prop), Wp d 29 89 [some (.ref v), l1, l2, l3, l4, l5] st M Q = Wp d 29 90 [some (.ref v), l1, l2, l3, l4, l5] (.ref v :: st) M Q := fun d l1 l2 l3 l4 l5 v st M Q => wA (show ins 29 89 = some (.aload_n 0, 1) by decide +kernel) rfl
set_option maxRecDepth 100000 in
theorem r_29_90 : ∀ (d : Nat) (l0 l2 l3 l4 l5 : Option Value) (v : Int32) (st : List Value) (M : Mem) (Q : Outcome → Mem → Prop), Wp d 29 90 [l0, some (.int v), l2, l3, l4, l5] st M Q = Wp d 29 91 [l0, some (.int v), l2, l3, l4, l5] (.int v :: st) M Q := fun d l0 l2 l3 l4 l5 v st M Q => wA (show ins 29 90 = some (.iload_n 1, 1) by decide +kernel) rfl
set_option maxRecDepth 100000 in
theorem r_29_91 : ∀ (d : Nat) (l0 l1 l3 l4 l5 : Option Value) (v : Int32) (st : List Value) (M : Mem) (Q : Outcome → Mem → Prop), Wp d 29 91 [l0, l1, some (.int v), l3, l4, l5] st M Q = Wp d 29 92 [l0, l1, some (.int v), l3, l4, l5] (.int v :: st) M Q := fun d l0 l1 l3 l4 l5 v st M Q => wA (show ins 29 91 = some (.iload_n 2, 1) by decide +kernel) rfl
set_option maxRecDepth 100000 in
theorem r_29_92 : ∀ (d : Nat) (l0 l1 l2 l3 l5 : Option Value) (v : Int32) (st : List Value) (M : Mem) (Q : Outcome → Mem → Prop), Wp d 29 92 [l0, l1, l2, l3, some (.int v), l5] st M Q = Wp d 29 94 [l0, l1, l2, l3, some (.int v), l5] (.int v :: st) M Q := fun d l0 l1 l2 l3 l5 v st M Q => wA (show ins 29 92 = some (.iload 4, 2) by decide +kernel) rfl
set_option maxRecDepth 100000 in
theorem r_29_94 : ∀ (d : Nat) (ls : Lc) (v0 v1 v2 : Value) (a : Nat) (st : List Value) (M : Mem) (Q : Outcome → Mem → Prop), (smallR st = true) → Wp d 29 94 ls (v2 :: v1 :: v0 :: .ref a :: st) M Q = (kO M a = 1 ∧ Ca d 29 94 ls 44 (.ref a :: [v0, v1, v2]) st M Q) := fun d ls v0 v1 v2 a st M Q h0 => w_virt1 (as := [v0, v1, v2]) (show ins 29 94 = some (.invokevirtual 233, 3) by decide +kernel) (show mRes (mC 29) 233 = some (3, 1, [(1, 44)]) by decide +kernel) (by decide +kernel) rfl (by decide +kernel) (by decide +kernel) h0
set_option maxRecDepth 100000 in
theorem r_29_97 : ∀ (d : Nat) (ls : Lc) (st : List Value) (M : Mem) (Q : Outcome → Mem → Prop), Wp d 29 97 ls st M Q = Wp d 29 109 ls st M Q := fun d ls st M Q => w_goto (show ins 29 97 = some (.goto 12, 3) by decide +kernel) rfl
set_option maxRecDepth 100000 in
theorem r_29_100 : ∀ (d : Nat) (l0 l1 l2 l3 l4 l5 : Option Value) (v : Nat) (st : List Value) (M : Mem) (Q : Outcome → Mem → Prop), (lo l4 = false) → Wp d 29 100 [l0, l1, l2, l3, l4, l5] (.ref v :: st) M Q = Wp d 29 102 [l0, l1, l2, l3, l4, some (.ref v)] st M Q := fun d l0 l1 l2 l3 l4 l5 v st M Q hl => w_astore (show ins 29 100 = some (.astore 5, 2) by decide +kernel) (st1_S rfl rfl hl)
set_option maxRecDepth 100000 in
theorem r_29_100_1 : ∀ (d : Nat) (l0 l1 l2 l3 l4 l5 : Option Value) (st : List Value) (M : Mem) (Q : Outcome → Mem → Prop), (lo l4 = false) → Wp d 29 100 [l0, l1, l2, l3, l4, l5] (.null :: st) M Q = Wp d 29 102 [l0, l1, l2, l3, l4, some (.null)] st M Q := fun d l0 l1 l2 l3 l4 l5 st M Q hl => w_astoreN (show ins 29 100 = some (.astore 5, 2) by decide +kernel) (st1_S rfl rfl hl)
set_option maxRecDepth 100000 in
theorem r_29_102 : ∀ (d : Nat) (l1 l2 l3 l4 l5 : Option Value) (v : Nat) (st : List Value) (M : Mem) (Q : Outcome → Mem → Prop), Wp d 29 102 [some (.ref v), l1, l2, l3, l4, l5] st M Q = Wp d 29 103 [some (.ref v), l1, l2, l3, l4, l5] (.ref v :: st) M Q := fun d l1 l2 l3 l4 l5 v st M Q => wA (show ins 29 102 = some (.aload_n 0, 1) by decide +kernel) rfl
set_option maxRecDepth 100000 in
theorem r_29_103 : ∀ (d : Nat) (ls : Lc) (a : Nat) (st : List Value) (M : Mem) (Q : Outcome → Mem → Prop), (smallR st = true) → Wp d 29 103 ls (.ref a :: st) M Q = (kO M a = 1 ∧ Ca d 29 103 ls 49 (.ref a :: []) st M Q) := fun d ls a st M Q h0 => w_virt1 (as := []) (show ins 29 103 = some (.invokevirtual 236, 3) by decide +kernel) (show mRes (mC 29) 236 = some (3, 1, [(1, 49)]) by decide +kernel) (by decide +kernel) rfl (by decide +kernel) (by decide +kernel) h0
set_option maxRecDepth 100000 in
theorem r_29_106 : ∀ (d : Nat) (l0 l1 l2 l3 l4 : Option Value) (v : Nat) (st : List Value) (M : Mem) (Q : Outcome → Mem → Prop), Wp d 29 106 [l0, l1, l2, l3, l4, some (.ref v)] st M Q = Wp d 29 108 [l0, l1, l2, l3, l4, some (.ref v)] (.ref v :: st) M Q := fun d l0 l1 l2 l3 l4 v st M Q => wA (show ins 29 106 = some (.aload 5, 2) by decide +kernel) rfl
set_option maxRecDepth 100000 in
theorem r_29_106_1 : ∀ (d : Nat) (l0 l1 l2 l3 l4 : Option Value) (st : List Value) (M : Mem) (Q : Outcome → Mem → Prop), Wp d 29 106 [l0, l1, l2, l3, l4, some .null] st M Q = Wp d 29 108 [l0, l1, l2, l3, l4, some .null] (.null :: st) M Q := fun d l0 l1 l2 l3 l4 st M Q => wA (show ins 29 106 = some (.aload 5, 2) by decide +kernel) rfl
set_option maxRecDepth 100000 in
theorem r_29_108 : ∀ (d : Nat) (ls : Lc) (a : Nat) (st : List Value) (M : Mem) (Q : Outcome → Mem → Prop), Wp d 29 108 ls (.ref a :: st) M Q = Th d 29 108 ls a M Q := fun d ls a st M Q => w_athrow (show ins 29 108 = some (.athrow, 1) by decide +kernel)
set_option maxRecDepth 100000 in
theorem r_29_109 : ∀ (d : Nat) (l0 l1 l2 l3 l5 : Option Value) (v : Int32) (st : List Value) (M : Mem) (Q : Outcome → Mem → Prop), Wp d 29 109 [l0, l1, l2, l3, some (.int v), l5] st M Q = Wp d 29 111 [l0, l1, l2, l3, some (.int v), l5] (.int v :: st) M Q := fun d l0 l1 l2 l3 l5 v st M Q => wA (show ins 29 109 = some (.iload 4, 2) by decide +kernel) rfl
set_option maxRecDepth 100000 in
theorem r_29_111 : ∀ (d : Nat) (ls : Lc) (v : Int32) (M : Mem) (Q : Outcome → Mem → Prop), Wp d 29 111 ls [.int v] M Q = Q (.returned (some (.int v))) M := fun d ls v M Q => w_ireturn (show ins 29 111 = some (.ireturn, 1) by decide +kernel) (by decide +kernel)
set_option maxRecDepth 100000 in
theorem W_29 : (type_of% r_29_0) ∧ (type_of% r_29_1) ∧ (type_of% r_29_4) ∧ (type_of% r_29_5) ∧ (type_of% r_29_6) ∧ (type_of% r_29_9) ∧ (type_of% r_29_12) ∧ (type_of% r_29_13) ∧ (type_of% r_29_16) ∧ (type_of% r_29_19) ∧ (type_of% r_29_20) ∧ (type_of% r_29_23) ∧ (type_of% r_29_25) ∧ (type_of% r_29_26) ∧ (type_of% r_29_27) ∧ (type_of% r_29_28) ∧ (type_of% r_29_31) ∧ (type_of% r_29_32) ∧ (type_of% r_29_35) ∧ (type_of% r_29_37) ∧ (type_of% r_29_39) ∧ (type_of% r_29_42) ∧ (type_of% r_29_43) ∧ (type_of% r_29_46) ∧ (type_of% r_29_47) ∧ (type_of% r_29_50) ∧ (type_of% r_29_51) ∧ (type_of% r_29_54) ∧ (type_of% r_29_55) ∧ (type_of% r_29_56) ∧ (type_of% r_29_59) ∧ (type_of% r_29_60) ∧ (type_of% r_29_63) ∧ (type_of% r_29_64) ∧ (type_of% r_29_65) ∧ (type_of% r_29_66) ∧ (type_of% r_29_69) ∧ (type_of% r_29_70) ∧ (type_of% r_29_73) ∧ (type_of% r_29_75) ∧ (type_of% r_29_76) ∧ (type_of% r_29_77) ∧ (type_of% r_29_80) ∧ (type_of% r_29_81) ∧ (type_of% r_29_84) ∧ (type_of% r_29_86) ∧ (type_of% r_29_89) ∧ (type_of% r_29_90) ∧ (type_of% r_29_91) ∧ (type_of% r_29_92) ∧ (type_of% r_29_94) ∧ (type_of% r_29_97) ∧ (type_of% r_29_100) ∧ (type_of% r_29_100_1) ∧ (type_of% r_29_102) ∧ (type_of% r_29_103) ∧ (type_of% r_29_106) ∧ (type_of% r_29_106_1) ∧ (type_of% r_29_108) ∧ (type_of% r_29_109) ∧ (type_of% r_29_111) := ⟨r_29_0, r_29_1, r_29_4, r_29_5, r_29_6, r_29_9, r_29_12, r_29_13, r_29_16, r_29_19, r_29_20, r_29_23, r_29_25, r_29_26, r_29_27, r_29_28, r_29_31, r_29_32, r_29_35, r_29_37, r_29_39, r_29_42, r_29_43, r_29_46, r_29_47, r_29_50, r_29_51, r_29_54, r_29_55, r_29_56, r_29_59, r_29_60, r_29_63, r_29_64, r_29_65, r_29_66, r_29_69, r_29_70, r_29_73, r_29_75, r_29_76, r_29_77, r_29_80, r_29_81, r_29_84, r_29_86, r_29_89, r_29_90, r_29_91, r_29_92, r_29_94, r_29_97, r_29_100, r_29_100_1, r_29_102, r_29_103, r_29_106, r_29_106_1, r_29_108, r_29_109, r_29_111⟩
set_option maxRecDepth 100000 in
theorem ca_29 {d y pc : Nat} {ls : Lc} {a : Nat} {z0 : Int32} {z1 : Int32} {z2 : Int32} {r : List Value} {M : Mem} {Q : Outcome → Mem → Prop} (hd : 0 < d) (hw : Wp (d - 1) 29 0 [some (.ref a), some (.int z0), some (.int z1), some (.int z2), none, none] [] M (Cq d y pc ls r Q)) : Ca d y pc ls 29 [.ref a, .int z0, .int z1, .int z2] r M Q := ca_of (mq_get (by decide)) (by rfl) hd hw
