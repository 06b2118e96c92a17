/-! 112 PackedTree$Device.<init>(II)V; loop heads [] -/
set_option maxRecDepth 100000 in
theorem r_112_0 : ∀ (d : Nat) (l1 l2 : Option Value) (v : Nat) (st : List Value) (M : Mem) (Q : Outcome → Mem → Prop), Wp d 112 0 [some (.ref v), l1, l2] st M Q = Wp d 112 1 [some (.ref v), l1, l2] (.ref v :: st) M Q := fun d l1 l2 v st M Q => wA (show ins 112 0 = some (.aload_n 0, 1) by decide +kernel) rfl
set_option maxRecDepth 100000 in
theorem r_112_1 : ∀ (d : Nat) (ls : Lc) (a : Nat) (st : List Value) (M : Mem) (Q : Outcome → Mem → Prop), (smallR st = true) → Wp d 112 1 ls (.ref a :: st) M Q = Wp d 112 4 ls st M Q := fun d ls a st M Q h0 => w_obj (show ins 112 1 = some (.invokespecial 3, 3) by decide +kernel) (show mRes (mC 112) 3 = some (2, 10, [(0, 232)]) by decide +kernel) h0
set_option maxRecDepth 100000 in
theorem r_112_4 : ∀ (d : Nat) (l1 l2 : Option Value) (v : Nat) (st : List Value) (M : Mem) (Q : Outcome → Mem → Prop), Wp d 112 4 [some (.ref v), l1, l2] st M Q = Wp d 112 5 [some (.ref v), l1, l2] (.ref v :: st) M Q := fun d l1 l2 v st M Q => wA (show ins 112 4 = some (.aload_n 0, 1) by decide +kernel) rfl
set_option maxRecDepth 100000 in
theorem r_112_5 : ∀ (d : Nat) (ls : Lc) (st : List Value) (M : Mem) (Q : Outcome → Mem → Prop), Wp d 112 5 ls st M Q = Wp d 112 7 ls (.int (I 96) :: st) M Q := fun d ls st M Q => w_bipush (show ins 112 5 = some (.bipush 96, 2) by decide +kernel) (by decide)
set_option maxRecDepth 100000 in
theorem r_112_7 : ∀ (d : Nat) (ls : Lc) (st : List Value) (M : Mem) (Q : Outcome → Mem → Prop), Wp d 112 7 ls st M Q = Wp d 112 10 ls (.int (I 129) :: st) M Q := fun d ls st M Q => w_sipush (show ins 112 7 = some (.sipush 129, 3) by decide +kernel) (by decide)
set_option maxRecDepth 100000 in
theorem r_112_10 : ∀ (d : Nat) (ls : Lc) (n k : Int) (st : List Value) (M : Mem) (Q : Outcome → Mem → Prop), (0 ≤ n) → (n ≤ 1000) → (0 ≤ k) → (k ≤ 1000) → Wp d 112 10 ls (.int (I k) :: .int (I n) :: st) M Q = Wp d 112 14 ls (.ref (mN M) :: st) (nw2 M n.toNat k.toNat) Q := fun d ls n k st M Q h0 h1 h2 h3 => w_multi (show ins 112 10 = some (.multianewarray 9 2, 4) by decide +kernel) (by decide +kernel) h0 h1 h2 h3
set_option maxRecDepth 100000 in
theorem r_112_14 : ∀ (d : Nat) (ls : Lc) (a b : Nat) (st : List Value) (M : Mem) (Q : Outcome → Mem → Prop), Wp d 112 14 ls (.ref b :: .ref a :: st) M Q = (fk 21 (kO M a) = true ∧ Wp d 112 17 ls st (sR M 21 a (some b)) Q) := fun d ls a b st M Q => w_putR (v := some b) (show ins 112 14 = some (.putfield 11, 3) by decide +kernel) (show fRes (mC 112) 11 = some (21, 4, false) by decide +kernel) (by decide +kernel) (by decide +kernel)
set_option maxRecDepth 100000 in
theorem r_112_14_1 : ∀ (d : Nat) (ls : Lc) (a : Nat) (st : List Value) (M : Mem) (Q : Outcome → Mem → Prop), Wp d 112 14 ls (.null :: .ref a :: st) M Q = (fk 21 (kO M a) = true ∧ Wp d 112 17 ls st (sR M 21 a none) Q) := fun d ls a st M Q => w_putR (v := none) (show ins 112 14 = some (.putfield 11, 3) by decide +kernel) (show fRes (mC 112) 11 = some (21, 4, false) by decide +kernel) (by decide +kernel) (by decide +kernel)
set_option maxRecDepth 100000 in
theorem r_112_17 : ∀ (d : Nat) (l1 l2 : Option Value) (v : Nat) (st : List Value) (M : Mem) (Q : Outcome → Mem → Prop), Wp d 112 17 [some (.ref v), l1, l2] st M Q = Wp d 112 18 [some (.ref v), l1, l2] (.ref v :: st) M Q := fun d l1 l2 v st M Q => wA (show ins 112 17 = some (.aload_n 0, 1) by decide +kernel) rfl
set_option maxRecDepth 100000 in
theorem r_112_18 : ∀ (d : Nat) (ls : Lc) (st : List Value) (M : Mem) (Q : Outcome → Mem → Prop), Wp d 112 18 ls st M Q = Wp d 112 20 ls (.int (I 96) :: st) M Q := fun d ls st M Q => w_bipush (show ins 112 18 = some (.bipush 96, 2) by decide +kernel) (by decide)
set_option maxRecDepth 100000 in
theorem r_112_20 : ∀ (d : Nat) (ls : Lc) (st : List Value) (M : Mem) (Q : Outcome → Mem → Prop), Wp d 112 20 ls st M Q = Wp d 112 23 ls (.int (I 129) :: st) M Q := fun d ls st M Q => w_sipush (show ins 112 20 = some (.sipush 129, 3) by decide +kernel) (by decide)
set_option maxRecDepth 100000 in
theorem r_112_23 : ∀ (d : Nat) (ls : Lc) (n k : Int) (st : List Value) (M : Mem) (Q : Outcome → Mem → Prop), (0 ≤ n) → (n ≤ 1000) → (0 ≤ k) → (k ≤ 1000) → Wp d 112 23 ls (.int (I k) :: .int (I n) :: st) M Q = Wp d 112 27 ls (.ref (mN M) :: st) (nw2 M n.toNat k.toNat) Q := fun d ls n k st M Q h0 h1 h2 h3 => w_multi (show ins 112 23 = some (.multianewarray 9 2, 4) by decide +kernel) (by decide +kernel) h0 h1 h2 h3
set_option maxRecDepth 100000 in
theorem r_112_27 : ∀ (d : Nat) (ls : Lc) (a b : Nat) (st : List Value) (M : Mem) (Q : Outcome → Mem → Prop), Wp d 112 27 ls (.ref b :: .ref a :: st) M Q = (fk 22 (kO M a) = true ∧ Wp d 112 30 ls st (sR M 22 a (some b)) Q) := fun d ls a b st M Q => w_putR (v := some b) (show ins 112 27 = some (.putfield 16, 3) by decide +kernel) (show fRes (mC 112) 16 = some (22, 4, false) by decide +kernel) (by decide +kernel) (by decide +kernel)
set_option maxRecDepth 100000 in
theorem r_112_27_1 : ∀ (d : Nat) (ls : Lc) (a : Nat) (st : List Value) (M : Mem) (Q : Outcome → Mem → Prop), Wp d 112 27 ls (.null :: .ref a :: st) M Q = (fk 22 (kO M a) = true ∧ Wp d 112 30 ls st (sR M 22 a none) Q) := fun d ls a st M Q => w_putR (v := none) (show ins 112 27 = some (.putfield 16, 3) by decide +kernel) (show fRes (mC 112) 16 = some (22, 4, false) by decide +kernel) (by decide +kernel) (by decide +kernel)
set_option maxRecDepth 100000 in
theorem r_112_30 : ∀ (d : Nat) (l1 l2 : Option Value) (v : Nat) (st : List Value) (M : Mem) (Q : Outcome → Mem → Prop), Wp d 112 30 [some (.ref v), l1, l2] st M Q = Wp d 112 31 [some (.ref v), l1, l2] (.ref v :: st) M Q := fun d l1 l2 v st M Q => wA (show ins 112 30 = some (.aload_n 0, 1) by decide +kernel) rfl
set_option maxRecDepth 100000 in
theorem r_112_31 : ∀ (d : Nat) (ls : Lc) (st : List Value) (M : Mem) (Q : Outcome → Mem → Prop), Wp d 112 31 ls st M Q = Wp d 112 33 ls (.int (I 96) :: st) M Q := fun d ls st M Q => w_bipush (show ins 112 31 = some (.bipush 96, 2) by decide +kernel) (by decide)
set_option maxRecDepth 100000 in
theorem r_112_33 : ∀ (d : Nat) (ls : Lc) (n : Int) (st : List Value) (M : Mem) (Q : Outcome → Mem → Prop), (0 ≤ n) → (n ≤ 60000) → Wp d 112 33 ls (.int (I n) :: st) M Q = Wp d 112 35 ls (.ref (mN M) :: st) (nw M (.inr (2, n.toNat)) n.toNat) Q := fun d ls n st M Q h0 h1 => w_newarray (show ins 112 33 = some (.newarray .boolean, 2) by decide +kernel) rfl h0 h1
set_option maxRecDepth 100000 in
theorem r_112_35 : ∀ (d : Nat) (ls : Lc) (a b : Nat) (st : List Value) (M : Mem) (Q : Outcome → Mem → Prop), Wp d 112 35 ls (.ref b :: .ref a :: st) M Q = (fk 24 (kO M a) = true ∧ Wp d 112 38 ls st (sR M 24 a (some b)) Q) := fun d ls a b st M Q => w_putR (v := some b) (show ins 112 35 = some (.putfield 19, 3) by decide +kernel) (show fRes (mC 112) 19 = some (24, 4, false) by decide +kernel) (by decide +kernel) (by decide +kernel)
set_option maxRecDepth 100000 in
theorem r_112_35_1 : ∀ (d : Nat) (ls : Lc) (a : Nat) (st : List Value) (M : Mem) (Q : Outcome → Mem → Prop), Wp d 112 35 ls (.null :: .ref a :: st) M Q = (fk 24 (kO M a) = true ∧ Wp d 112 38 ls st (sR M 24 a none) Q) := fun d ls a st M Q => w_putR (v := none) (show ins 112 35 = some (.putfield 19, 3) by decide +kernel) (show fRes (mC 112) 19 = some (24, 4, false) by decide +kernel) (by decide +kernel) (by decide +kernel)
set_option maxRecDepth 100000 in
theorem r_112_38 : ∀ (d : Nat) (l1 l2 : Option Value) (v : Nat) (st : List Value) (M : Mem) (Q : Outcome → Mem → Prop), Wp d 112 38 [some (.ref v), l1, l2] st M Q = Wp d 112 39 [some (.ref v), l1, l2] (.ref v :: st) M Q := fun d l1 l2 v st M Q => wA (show ins 112 38 = some (.aload_n 0, 1) by decide +kernel) rfl
set_option maxRecDepth 100000 in
theorem r_112_39 : ∀ (d : Nat) (ls : Lc) (st : List Value) (M : Mem) (Q : Outcome → Mem → Prop), Wp d 112 39 ls st M Q = Wp d 112 40 ls (.int (I (-1)) :: st) M Q := fun d ls st M Q => w_iconst (show ins 112 39 = some (.iconst (-1), 1) by decide +kernel)
set_option maxRecDepth 100000 in
theorem r_112_40 : ∀ (d : Nat) (ls : Lc) (a : Nat) (v : Int32) (st : List Value) (M : Mem) (Q : Outcome → Mem → Prop), Wp d 112 40 ls (.int v :: .ref a :: st) M Q = (fk 23 (kO M a) = true ∧ Wp d 112 43 ls st (sF M 23 a v) Q) := fun d ls a v st M Q => w_putI (show ins 112 40 = some (.putfield 23, 3) by decide +kernel) (show fRes (mC 112) 23 = some (23, 4, false) by decide +kernel) (by decide +kernel) (by decide +kernel)
set_option maxRecDepth 100000 in
theorem r_112_43 : ∀ (d : Nat) (l1 l2 : Option Value) (v : Nat) (st : List Value) (M : Mem) (Q : Outcome → Mem → Prop), Wp d 112 43 [some (.ref v), l1, l2] st M Q = Wp d 112 44 [some (.ref v), l1, l2] (.ref v :: st) M Q := fun d l1 l2 v st M Q => wA (show ins 112 43 = some (.aload_n 0, 1) by decide +kernel) rfl
set_option maxRecDepth 100000 in
theorem r_112_44 : ∀ (d : Nat) (l0 l2 : Option Value) (v : Int32) (st : List Value) (M : Mem) (Q : Outcome → Mem → Prop), Wp d 112 44 [l0, some (.int v), l2] st M Q = Wp d 112 45 [l0, some (.int v), l2] (.int v :: st) M Q := fun d l0 l2 v st M Q => wA (show ins 112 44 = some (.iload_n 1, 1) by decide +kernel) rfl
set_option maxRecDepth 100000 in
theorem r_112_45 : ∀ (d : Nat) (ls : Lc) (a : Nat) (v : Int32) (st : List Value) (M : Mem) (Q : Outcome → Mem → Prop), Wp d 112 45 ls (.int v :: .ref a :: st) M Q = (fk 28 (kO M a) = true ∧ Wp d 112 48 ls st (sF M 28 a v) Q) := fun d ls a v st M Q => w_putI (show ins 112 45 = some (.putfield 27, 3) by decide +kernel) (show fRes (mC 112) 27 = some (28, 4, false) by decide +kernel) (by decide +kernel) (by decide +kernel)
set_option maxRecDepth 100000 in
theorem r_112_48 : ∀ (d : Nat) (l1 l2 : Option Value) (v : Nat) (st : List Value) (M : Mem) (Q : Outcome → Mem → Prop), Wp d 112 48 [some (.ref v), l1, l2] st M Q = Wp d 112 49 [some (.ref v), l1, l2] (.ref v :: st) M Q := fun d l1 l2 v st M Q => wA (show ins 112 48 = some (.aload_n 0, 1) by decide +kernel) rfl
set_option maxRecDepth 100000 in
theorem r_112_49 : ∀ (d : Nat) (l0 l1 : Option Value) (v : Int32) (st : List Value) (M : Mem) (Q : Outcome → Mem → Prop), Wp d 112 49 [l0, l1, some (.int v)] st M Q = Wp d 112 50 [l0, l1, some (.int v)] (.int v :: st) M Q := fun d l0 l1 v st M Q => wA (show ins 112 49 = some (.iload_n 2, 1) by decide +kernel) rfl
set_option maxRecDepth 100000 in
theorem r_112_50 : ∀ (d : Nat) (ls : Lc) (st : List Value) (M : Mem) (Q : Outcome → Mem → Prop), Wp d 112 50 ls st M Q = Wp d 112 53 ls (.int (I 129) :: st) M Q := fun d ls st M Q => w_sipush (show ins 112 50 = some (.sipush 129, 3) by decide +kernel) (by decide)
set_option maxRecDepth 100000 in
theorem r_112_53 : ∀ (d : Nat) (ls : Lc) (n k : Int) (st : List Value) (M : Mem) (Q : Outcome → Mem → Prop), (0 ≤ n) → (n ≤ 1000) → (0 ≤ k) → (k ≤ 1000) → Wp d 112 53 ls (.int (I k) :: .int (I n) :: st) M Q = Wp d 112 57 ls (.ref (mN M) :: st) (nw2 M n.toNat k.toNat) Q := fun d ls n k st M Q h0 h1 h2 h3 => w_multi (show ins 112 53 = some (.multianewarray 9 2, 4) by decide +kernel) (by decide +kernel) h0 h1 h2 h3
set_option maxRecDepth 100000 in
theorem r_112_57 : ∀ (d : Nat) (ls : Lc) (a b : Nat) (st : List Value) (M : Mem) (Q : Outcome → Mem → Prop), Wp d 112 57 ls (.ref b :: .ref a :: st) M Q = (fk 26 (kO M a) = true ∧ Wp d 112 60 ls st (sR M 26 a (some b)) Q) := fun d ls a b st M Q => w_putR (v := some b) (show ins 112 57 = some (.putfield 30, 3) by decide +kernel) (show fRes (mC 112) 30 = some (26, 4, false) by decide +kernel) (by decide +kernel) (by decide +kernel)
set_option maxRecDepth 100000 in
theorem r_112_57_1 : ∀ (d : Nat) (ls : Lc) (a : Nat) (st : List Value) (M : Mem) (Q : Outcome → Mem → Prop), Wp d 112 57 ls (.null :: .ref a :: st) M Q = (fk 26 (kO M a) = true ∧ Wp d 112 60 ls st (sR M 26 a none) Q) := fun d ls a st M Q => w_putR (v := none) (show ins 112 57 = some (.putfield 30, 3) by decide +kernel) (show fRes (mC 112) 30 = some (26, 4, false) by decide +kernel) (by decide +kernel) (by decide +kernel)
set_option maxRecDepth 100000 in
theorem r_112_60 : ∀ (d : Nat) (l1 l2 : Option Value) (v : Nat) (st : List Value) (M : Mem) (Q : Outcome → Mem → Prop), Wp d 112 60 [some (.ref v), l1, l2] st M Q = Wp d 112 61 [some (.ref v), l1, l2] (.ref v :: st) M Q := fun d l1 l2 v st M Q => wA (show ins 112 60 = some (.aload_n 0, 1) by decide +kernel) rfl
set_option maxRecDepth 100000 in
theorem r_112_61 : ∀ (d : Nat) (l0 l1 : Option Value) (v : Int32) (st : List Value) (M : Mem) (Q : Outcome → Mem → Prop), Wp d 112 61 [l0, l1, some (.int v)] st M Q = Wp d 112 62 [l0, l1, some (.int v)] (.int v :: st) M Q := fun d l0 l1 v st M Q => wA (show ins 112 61 = some (.iload_n 2, 1) by decide +kernel) rfl
set_option maxRecDepth 100000 in
theorem r_112_62 : ∀ (d : Nat) (ls : Lc) (n : Int) (st : List Value) (M : Mem) (Q : Outcome → Mem → Prop), (0 ≤ n) → (n ≤ 60000) → Wp d 112 62 ls (.int (I n) :: st) M Q = Wp d 112 64 ls (.ref (mN M) :: st) (nw M (.inr (0, n.toNat)) n.toNat) Q := fun d ls n st M Q h0 h1 => w_newarray (show ins 112 62 = some (.newarray .int, 2) by decide +kernel) rfl h0 h1
set_option maxRecDepth 100000 in
theorem r_112_64 : ∀ (d : Nat) (ls : Lc) (a b : Nat) (st : List Value) (M : Mem) (Q : Outcome → Mem → Prop), Wp d 112 64 ls (.ref b :: .ref a :: st) M Q = (fk 27 (kO M a) = true ∧ Wp d 112 67 ls st (sR M 27 a (some b)) Q) := fun d ls a b st M Q => w_putR (v := some b) (show ins 112 64 = some (.putfield 33, 3) by decide +kernel) (show fRes (mC 112) 33 = some (27, 4, false) by decide +kernel) (by decide +kernel) (by decide +kernel)
set_option maxRecDepth 100000 in
theorem r_112_64_1 : ∀ (d : Nat) (ls : Lc) (a : Nat) (st : List Value) (M : Mem) (Q : Outcome → Mem → Prop), Wp d 112 64 ls (.null :: .ref a :: st) M Q = (fk 27 (kO M a) = true ∧ Wp d 112 67 ls st (sR M 27 a none) Q) := fun d ls a st M Q => w_putR (v := none) (show ins 112 64 = some (.putfield 33, 3) by decide +kernel) (show fRes (mC 112) 33 = some (27, 4, false) by decide +kernel) (by decide +kernel) (by decide +kernel)
set_option maxRecDepth 100000 in
theorem r_112_67 : ∀ (d : Nat) (ls : Lc) (M : Mem) (Q : Outcome → Mem → Prop), Wp d 112 67 ls [] M Q = Q (.returned none) M := fun d ls M Q => w_return (show ins 112 67 = some (.return_, 1) by decide +kernel) (by decide +kernel)
set_option maxRecDepth 100000 in
theorem W_112 : (type_of% r_112_0) ∧ (type_of% r_112_1) ∧ (type_of% r_112_4) ∧ (type_of% r_112_5) ∧ (type_of% r_112_7) ∧ (type_of% r_112_10) ∧ (type_of% r_112_14) ∧ (type_of% r_112_14_1) ∧ (type_of% r_112_17) ∧ (type_of% r_112_18) ∧ (type_of% r_112_20) ∧ (type_of% r_112_23) ∧ (type_of% r_112_27) ∧ (type_of% r_112_27_1) ∧ (type_of% r_112_30) ∧ (type_of% r_112_31) ∧ (type_of% r_112_33) ∧ (type_of% r_112_35) ∧ (type_of% r_112_35_1) ∧ (type_of% r_112_38) ∧ (type_of% r_112_39) ∧ (type_of% r_112_40) ∧ (type_of% r_112_43) ∧ (type_of% r_112_44) ∧ (type_of% r_112_45) ∧ (type_of% r_112_48) ∧ (type_of% r_112_49) ∧ (type_of% r_112_50) ∧ (type_of% r_112_53) ∧ (type_of% r_112_57) ∧ (type_of% r_112_57_1) ∧ (type_of% r_112_60) ∧ (type_of% r_112_61) ∧ (type_of% r_112_62) ∧ (type_of% r_112_64) ∧ (type_of% r_112_64_1) ∧ (type_of% r_112_67) := ⟨r_112_0, r_112_1, r_112_4, r_112_5, r_112_7, r_112_10, r_112_14, r_112_14_1, r_112_17, r_112_18, r_112_20, r_112_23, r_112_27, r_112_27_1, r_112_30, r_112_31, r_112_33, r_112_35, r_112_35_1, r_112_38, r_112_39, r_112_40, r_112_43, r_112_44, r_112_45, r_112_48, r_112_49, r_112_50, r_112_53, r_112_57, r_112_57_1, r_112_60, r_112_61, r_112_62, r_112_64, r_112_64_1, r_112_67⟩
set_option maxRecDepth 100000 in
theorem ca_112 {d y pc : Nat} {ls : Lc} {a : Nat} {z0 : Int32} {z1 : Int32} {r : List Value} {M : Mem} {Q : Outcome → Mem → Prop} (hd : 0 < d) (hw : Wp (d - 1) 112 0 [some (.ref a), some (.int z0), some (.int z1)] [] M (Cq d y pc ls r Q)) : Ca d y pc ls 112 [.ref a, .int z0, .int z1] r M Q := ca_of (mq_get (by decide)) (by rfl) hd hw
/-! 113 PackedTree$Device.room()I; loop heads [] -/
set_option maxRecDepth 100000 in
theorem r_113_0 : ∀ (d : Nat) (v : Nat) (st : List Value) (M : Mem) (Q : Outcome → Mem → Prop), Wp d 113 0 [some (.ref v)] st M Q = Wp d 113 1 [some (.ref v)] (.ref v :: st) M Q := fun d v st M Q => wA (show ins 113 0 = some (.aload_n 0, 1) by decide +kernel) rfl
set_option maxRecDepth 100000 in
theorem r_113_1 : ∀ (d : Nat) (ls : Lc) (a : Nat) (st : List Value) (M : Mem) (Q : Outcome → Mem → Prop), Wp d 113 1 ls (.ref a :: st) M Q = (fk 27 (kO M a) = true ∧ Wp d 113 4 ls (va_rf (mR M 27 a) :: st) M Q) := fun d ls a st M Q => w_getR (show ins 113 1 = some (.getfield 33, 3) by decide +kernel) (show fRes (mC 113) 33 = some (27, 4, false) by decide +kernel) (by decide +kernel)
set_option maxRecDepth 100000 in
theorem r_113_4 : ∀ (d : Nat) (ls : Lc) (a t n : Nat) (st : List Value) (M : Mem) (Q : Outcome → Mem → Prop), (kX M a = (t, n)) → (t ≠ 9) → Wp d 113 4 ls (.ref a :: st) M Q = Wp d 113 5 ls (.int (I (n : Nat)) :: st) M Q := fun d ls a t n st M Q h0 h1 => w_arrlen (show ins 113 4 = some (.arraylength, 1) by decide +kernel) h0 h1
set_option maxRecDepth 100000 in
theorem r_113_5 : ∀ (d : Nat) (ls : Lc) (v : Int32) (M : Mem) (Q : Outcome → Mem → Prop), Wp d 113 5 ls [.int v] M Q = Q (.returned (some (.int v))) M := fun d ls v M Q => w_ireturn (show ins 113 5 = some (.ireturn, 1) by decide +kernel) (by decide +kernel)
set_option maxRecDepth 100000 in
theorem W_113 : (type_of% r_113_0) ∧ (type_of% r_113_1) ∧ (type_of% r_113_4) ∧ (type_of% r_113_5) := ⟨r_113_0, r_113_1, r_113_4, r_113_5⟩
set_option maxRecDepth 100000 in
theorem ca_113 {d y pc : Nat} {ls : Lc} {a : Nat} {r : List Value} {M : Mem} {Q : Outcome → Mem → Prop} (hd : 0 < d) (hw : Wp (d - 1) 113 0 [some (.ref a)] [] M (Cq d y pc ls r Q)) : Ca d y pc ls 113 [.ref a] r M Q := ca_of (mq_get (by decide)) (by rfl) hd hw
/-! 114 PackedTree$Device.checkpoint()V; loop heads [17] -/
set_option maxRecDepth 100000 in
theorem r_114_0 : ∀ (d : Nat) (l1 l2 : Option Value) (v : Nat) (st : List Value) (M : Mem) (Q : Outcome → Mem → Prop), Wp d 114 0 [some (.ref v), l1, l2] st M Q = Wp d 114 1 [some (.ref v), l1, l2] (.ref v :: st) M Q := fun d l1 l2 v st M Q => wA (show ins 114 0 = some (.aload_n 0, 1) by decide +kernel) rfl
set_option maxRecDepth 100000 in
theorem r_114_1 : ∀ (d : Nat) (ls : Lc) (a : Nat) (st : List Value) (M : Mem) (Q : Outcome → Mem → Prop), Wp d 114 1 ls (.ref a :: st) M Q = (fk 20 (kO M a) = true ∧ Wp d 114 4 ls (.int (mF M 20 a) :: st) M Q) := fun d ls a st M Q => w_getI (show ins 114 1 = some (.getfield 48, 3) by decide +kernel) (show fRes (mC 114) 48 = some (20, 4, false) by decide +kernel) (by decide +kernel)
set_option maxRecDepth 100000 in
theorem r_114_4 : ∀ (d : Nat) (ls : Lc) (a : Int32) (st : List Value) (M : Mem) (Q : Outcome → Mem → Prop), Wp d 114 4 ls (.int a :: st) M Q = Br (¬ a = I 0) d 114 8 7 ls st M Q := fun d ls a st M Q => w_if (show ins 114 4 = some (.ifCond .ne 4, 3) by decide +kernel) rfl rfl
set_option maxRecDepth 100000 in
theorem r_114_7 : ∀ (d : Nat) (ls : Lc) (M : Mem) (Q : Outcome → Mem → Prop), Wp d 114 7 ls [] M Q = Q (.returned none) M := fun d ls M Q => w_return (show ins 114 7 = some (.return_, 1) by decide +kernel) (by decide +kernel)
set_option maxRecDepth 100000 in
theorem r_114_8 : ∀ (d : Nat) (l1 l2 : Option Value) (v : Nat) (st : List Value) (M : Mem) (Q : Outcome → Mem → Prop), Wp d 114 8 [some (.ref v), l1, l2] st M Q = Wp d 114 9 [some (.ref v), l1, l2] (.ref v :: st) M Q := fun d l1 l2 v st M Q => wA (show ins 114 8 = some (.aload_n 0, 1) by decide +kernel) rfl
set_option maxRecDepth 100000 in
theorem r_114_9 : ∀ (d : Nat) (ls : Lc) (st : List Value) (M : Mem) (Q : Outcome → Mem → Prop), Wp d 114 9 ls st M Q = Wp d 114 10 ls (.int (I 0) :: st) M Q := fun d ls st M Q => w_iconst (show ins 114 9 = some (.iconst 0, 1) by decide +kernel)
set_option maxRecDepth 100000 in
theorem r_114_10 : ∀ (d : Nat) (ls : Lc) (v0 : Value) (a : Nat) (st : List Value) (M : Mem) (Q : Outcome → Mem → Prop), (smallR st = true) → Wp d 114 10 ls (v0 :: .ref a :: st) M Q = (kO M a = 4 ∧ Ca d 114 10 ls 115 (.ref a :: [v0]) st M Q) := fun d ls v0 a st M Q h0 => w_virt1 (as := [v0]) (show ins 114 10 = some (.invokevirtual 62, 3) by decide +kernel) (show mRes (mC 114) 62 = some (3, 4, [(4, 115)]) by decide +kernel) (by decide +kernel) rfl (by decide +kernel) (by decide +kernel) h0
set_option maxRecDepth 100000 in
theorem r_114_13 : ∀ (d : Nat) (ls : Lc) (st : List Value) (M : Mem) (Q : Outcome → Mem → Prop), Wp d 114 13 ls st M Q = Wp d 114 14 ls (.int (I 1) :: st) M Q := fun d ls st M Q => w_iconst (show ins 114 13 = some (.iconst 1, 1) by decide +kernel)
set_option maxRecDepth 100000 in
theorem r_114_14 : ∀ (d : Nat) (l0 l1 l2 : Option Value) (v : Int32) (st : List Value) (M : Mem) (Q : Outcome → Mem → Prop), (lo l0 = false) → Wp d 114 14 [l0, l1, l2] (.int v :: st) M Q = Wp d 114 15 [l0, some (.int v), l2] st M Q := fun d l0 l1 l2 v st M Q hl => w_istore_n (show ins 114 14 = some (.istore_n 1, 1) by decide +kernel) (st1_S rfl rfl hl)
set_option maxRecDepth 100000 in
theorem r_114_15 : ∀ (d : Nat) (ls : Lc) (st : List Value) (M : Mem) (Q : Outcome → Mem → Prop), Wp d 114 15 ls st M Q = Wp d 114 16 ls (.int (I 0) :: st) M Q := fun d ls st M Q => w_iconst (show ins 114 15 = some (.iconst 0, 1) by decide +kernel)
set_option maxRecDepth 100000 in
theorem r_114_16 : ∀ (d : Nat) (l0 l1 l2 : Option Value) (v : Int32) (st : List Value) (M : Mem) (Q : Outcome → Mem → Prop), (lo l1 = false) → Wp d 114 16 [l0, l1, l2] (.int v :: st) M Q = Wp d 114 17 [l0, l1, some (.int v)] st M Q := fun d l0 l1 l2 v st M Q hl => w_istore_n (show ins 114 16 = some (.istore_n 2, 1) by decide +kernel) (st1_S rfl rfl hl)
set_option maxRecDepth 100000 in
theorem r_114_17 : ∀ (d : Nat) (l0 l1 : Option Value) (v : Int32) (st : List Value) (M : Mem) (Q : Outcome → Mem → Prop), Wp d 114 17 [l0, l1, some (.int v)] st M Q = Wp d 114 18 [l0, l1, some (.int v)] (.int v :: st) M Q := fun d l0 l1 v st M Q => wA (show ins 114 17 = some (.iload_n 2, 1) by decide +kernel) rfl
set_option maxRecDepth 100000 in
theorem r_114_18 : ∀ (d : Nat) (l1 l2 : Option Value) (v : Nat) (st : List Value) (M : Mem) (Q : Outcome → Mem → Prop), Wp d 114 18 [some (.ref v), l1, l2] st M Q = Wp d 114 19 [some (.ref v), l1, l2] (.ref v :: st) M Q := fun d l1 l2 v st M Q => wA (show ins 114 18 = some (.aload_n 0, 1) by decide +kernel) rfl
set_option maxRecDepth 100000 in
theorem r_114_19 : ∀ (d : Nat) (ls : Lc) (a : Nat) (st : List Value) (M : Mem) (Q : Outcome → Mem → Prop), Wp d 114 19 ls (.ref a :: st) M Q = (fk 28 (kO M a) = true ∧ Wp d 114 22 ls (.int (mF M 28 a) :: st) M Q) := fun d ls a st M Q => w_getI (show ins 114 19 = some (.getfield 27, 3) by decide +kernel) (show fRes (mC 114) 27 = some (28, 4, false) by decide +kernel) (by decide +kernel)
set_option maxRecDepth 100000 in
theorem r_114_22 : ∀ (d : Nat) (ls : Lc) (a b : Int32) (st : List Value) (M : Mem) (Q : Outcome → Mem → Prop), Wp d 114 22 ls (.int b :: .int a :: st) M Q = Br (b ≤ a) d 114 68 25 ls st M Q := fun d ls a b st M Q => w_icmp (show ins 114 22 = some (.if_icmp .ge 46, 3) by decide +kernel) rfl rfl
set_option maxRecDepth 100000 in
theorem r_114_25 : ∀ (d : Nat) (l0 l2 : Option Value) (v : Int32) (st : List Value) (M : Mem) (Q : Outcome → Mem → Prop), Wp d 114 25 [l0, some (.int v), l2] st M Q = Wp d 114 26 [l0, some (.int v), l2] (.int v :: st) M Q := fun d l0 l2 v st M Q => wA (show ins 114 25 = some (.iload_n 1, 1) by decide +kernel) rfl
set_option maxRecDepth 100000 in
theorem r_114_26 : ∀ (d : Nat) (ls : Lc) (a : Int32) (st : List Value) (M : Mem) (Q : Outcome → Mem → Prop), Wp d 114 26 ls (.int a :: st) M Q = Br (a = I 0) d 114 68 29 ls st M Q := fun d ls a st M Q => w_if (show ins 114 26 = some (.ifCond .eq 42, 3) by decide +kernel) rfl rfl
set_option maxRecDepth 100000 in
theorem r_114_29 : ∀ (d : Nat) (l1 l2 : Option Value) (v : Nat) (st : List Value) (M : Mem) (Q : Outcome → Mem → Prop), Wp d 114 29 [some (.ref v), l1, l2] st M Q = Wp d 114 30 [some (.ref v), l1, l2] (.ref v :: st) M Q := fun d l1 l2 v st M Q => wA (show ins 114 29 = some (.aload_n 0, 1) by decide +kernel) rfl
set_option maxRecDepth 100000 in
theorem r_114_30 : ∀ (d : Nat) (ls : Lc) (a : Nat) (st : List Value) (M : Mem) (Q : Outcome → Mem → Prop), Wp d 114 30 ls (.ref a :: st) M Q = (fk 24 (kO M a) = true ∧ Wp d 114 33 ls (va_rf (mR M 24 a) :: st) M Q) := fun d ls a st M Q => w_getR (show ins 114 30 = some (.getfield 19, 3) by decide +kernel) (show fRes (mC 114) 19 = some (24, 4, false) by decide +kernel) (by decide +kernel)
set_option maxRecDepth 100000 in
theorem r_114_33 : ∀ (d : Nat) (l0 l1 : Option Value) (v : Int32) (st : List Value) (M : Mem) (Q : Outcome → Mem → Prop), Wp d 114 33 [l0, l1, some (.int v)] st M Q = Wp d 114 34 [l0, l1, some (.int v)] (.int v :: st) M Q := fun d l0 l1 v st M Q => wA (show ins 114 33 = some (.iload_n 2, 1) by decide +kernel) rfl
set_option maxRecDepth 100000 in
theorem r_114_34 : ∀ (d : Nat) (ls : Lc) (a : Nat) (j : Int32) (st : List Value) (M : Mem) (Q : Outcome → Mem → Prop), Wp d 114 34 ls (.int j :: .ref a :: st) M Q = ((((kX M a).1 = 1 ∨ (kX M a).1 = 2) ∧ inB j (kX M a).2 = true) ∧ Wp d 114 35 ls (.int (mA M a j.toNatClampNeg) :: st) M Q) := fun d ls a j st M Q => w_baload (show ins 114 34 = some (.baload, 1) by decide +kernel)
set_option maxRecDepth 100000 in
theorem r_114_35 : ∀ (d : Nat) (ls : Lc) (a : Int32) (st : List Value) (M : Mem) (Q : Outcome → Mem → Prop), Wp d 114 35 ls (.int a :: st) M Q = Br (a = I 0) d 114 62 38 ls st M Q := fun d ls a st M Q => w_if (show ins 114 35 = some (.ifCond .eq 27, 3) by decide +kernel) rfl rfl
set_option maxRecDepth 100000 in
theorem r_114_38 : ∀ (d : Nat) (l1 l2 : Option Value) (v : Nat) (st : List Value) (M : Mem) (Q : Outcome → Mem → Prop), Wp d 114 38 [some (.ref v), l1, l2] st M Q = Wp d 114 39 [some (.ref v), l1, l2] (.ref v :: st) M Q := fun d l1 l2 v st M Q => wA (show ins 114 38 = some (.aload_n 0, 1) by decide +kernel) rfl
set_option maxRecDepth 100000 in
theorem r_114_39 : ∀ (d : Nat) (ls : Lc) (a : Nat) (st : List Value) (M : Mem) (Q : Outcome → Mem → Prop), (smallR st = true) → Wp d 114 39 ls (.ref a :: st) M Q = (kO M a = 4 ∧ Ca d 114 39 ls 116 (.ref a :: []) st M Q) := fun d ls a st M Q h0 => w_virt1 (as := []) (show ins 114 39 = some (.invokevirtual 44, 3) by decide +kernel) (show mRes (mC 114) 44 = some (3, 4, [(4, 116)]) by decide +kernel) (by decide +kernel) rfl (by decide +kernel) (by decide +kernel) h0
set_option maxRecDepth 100000 in
theorem r_114_42 : ∀ (d : Nat) (l0 l1 l2 : Option Value) (v : Int32) (st : List Value) (M : Mem) (Q : Outcome → Mem → Prop), (lo l0 = false) → Wp d 114 42 [l0, l1, l2] (.int v :: st) M Q = Wp d 114 43 [l0, some (.int v), l2] st M Q := fun d l0 l1 l2 v st M Q hl => w_istore_n (show ins 114 42 = some (.istore_n 1, 1) by decide +kernel) (st1_S rfl rfl hl)
set_option maxRecDepth 100000 in
theorem r_114_43 : ∀ (d : Nat) (l0 l2 : Option Value) (v : Int32) (st : List Value) (M : Mem) (Q : Outcome → Mem → Prop), Wp d 114 43 [l0, some (.int v), l2] st M Q = Wp d 114 44 [l0, some (.int v), l2] (.int v :: st) M Q := fun d l0 l2 v st M Q => wA (show ins 114 43 = some (.iload_n 1, 1) by decide +kernel) rfl
set_option maxRecDepth 100000 in
theorem r_114_44 : ∀ (d : Nat) (ls : Lc) (a : Int32) (st : List Value) (M : Mem) (Q : Outcome → Mem → Prop), Wp d 114 44 ls (.int a :: st) M Q = Br (a = I 0) d 114 62 47 ls st M Q := fun d ls a st M Q => w_if (show ins 114 44 = some (.ifCond .eq 18, 3) by decide +kernel) rfl rfl
set_option maxRecDepth 100000 in
theorem r_114_47 : ∀ (d : Nat) (l1 l2 : Option Value) (v : Nat) (st : List Value) (M : Mem) (Q : Outcome → Mem → Prop), Wp d 114 47 [some (.ref v), l1, l2] st M Q = Wp d 114 48 [some (.ref v), l1, l2] (.ref v :: st) M Q := fun d l1 l2 v st M Q => wA (show ins 114 47 = some (.aload_n 0, 1) by decide +kernel) rfl
set_option maxRecDepth 100000 in
theorem r_114_48 : ∀ (d : Nat) (ls : Lc) (a : Nat) (st : List Value) (M : Mem) (Q : Outcome → Mem → Prop), Wp d 114 48 ls (.ref a :: st) M Q = (fk 22 (kO M a) = true ∧ Wp d 114 51 ls (va_rf (mR M 22 a) :: st) M Q) := fun d ls a st M Q => w_getR (show ins 114 48 = some (.getfield 16, 3) by decide +kernel) (show fRes (mC 114) 16 = some (22, 4, false) by decide +kernel) (by decide +kernel)
set_option maxRecDepth 100000 in
theorem r_114_51 : ∀ (d : Nat) (l0 l1 : Option Value) (v : Int32) (st : List Value) (M : Mem) (Q : Outcome → Mem → Prop), Wp d 114 51 [l0, l1, some (.int v)] st M Q = Wp d 114 52 [l0, l1, some (.int v)] (.int v :: st) M Q := fun d l0 l1 v st M Q => wA (show ins 114 51 = some (.iload_n 2, 1) by decide +kernel) rfl
set_option maxRecDepth 100000 in
theorem r_114_52 : ∀ (d : Nat) (ls : Lc) (a : Nat) (j : Int32) (st : List Value) (M : Mem) (Q : Outcome → Mem → Prop), Wp d 114 52 ls (.int j :: .ref a :: st) M Q = ((((kX M a).1 = 4 ∨ (kX M a).1 = 5 ∨ (kX M a).1 = 6 ∨ (kX M a).1 = 7) ∧ inB j (kX M a).2 = true) ∧ Wp d 114 53 ls (va_rf (mQ M a j.toNatClampNeg) :: st) M Q) := fun d ls a j st M Q => w_aaload (show ins 114 52 = some (.aaload, 1) by decide +kernel)
set_option maxRecDepth 100000 in
theorem r_114_53 : ∀ (d : Nat) (l1 l2 : Option Value) (v : Nat) (st : List Value) (M : Mem) (Q : Outcome → Mem → Prop), Wp d 114 53 [some (.ref v), l1, l2] st M Q = Wp d 114 54 [some (.ref v), l1, l2] (.ref v :: st) M Q := fun d l1 l2 v st M Q => wA (show ins 114 53 = some (.aload_n 0, 1) by decide +kernel) rfl
set_option maxRecDepth 100000 in
theorem r_114_54 : ∀ (d : Nat) (ls : Lc) (a : Nat) (st : List Value) (M : Mem) (Q : Outcome → Mem → Prop), Wp d 114 54 ls (.ref a :: st) M Q = (fk 21 (kO M a) = true ∧ Wp d 114 57 ls (va_rf (mR M 21 a) :: st) M Q) := fun d ls a st M Q => w_getR (show ins 114 54 = some (.getfield 11, 3) by decide +kernel) (show fRes (mC 114) 11 = some (21, 4, false) by decide +kernel) (by decide +kernel)
set_option maxRecDepth 100000 in
theorem r_114_57 : ∀ (d : Nat) (l0 l1 : Option Value) (v : Int32) (st : List Value) (M : Mem) (Q : Outcome → Mem → Prop), Wp d 114 57 [l0, l1, some (.int v)] st M Q = Wp d 114 58 [l0, l1, some (.int v)] (.int v :: st) M Q := fun d l0 l1 v st M Q => wA (show ins 114 57 = some (.iload_n 2, 1) by decide +kernel) rfl
set_option maxRecDepth 100000 in
theorem r_114_58 : ∀ (d : Nat) (ls : Lc) (a : Nat) (j : Int32) (st : List Value) (M : Mem) (Q : Outcome → Mem → Prop), Wp d 114 58 ls (.int j :: .ref a :: st) M Q = ((((kX M a).1 = 4 ∨ (kX M a).1 = 5 ∨ (kX M a).1 = 6 ∨ (kX M a).1 = 7) ∧ inB j (kX M a).2 = true) ∧ Wp d 114 59 ls (va_rf (mQ M a j.toNatClampNeg) :: st) M Q) := fun d ls a j st M Q => w_aaload (show ins 114 58 = some (.aaload, 1) by decide +kernel)
set_option maxRecDepth 100000 in
theorem r_114_59 : ∀ (d : Nat) (ls : Lc) (v0 v1 : Value)  (st : List Value) (M : Mem) (Q : Outcome → Mem → Prop), (smallR st = true) → Wp d 114 59 ls (v1 :: v0 :: st) M Q = Ca d 114 59 ls 27 [v0, v1] st M Q := fun d ls v0 v1 st M Q h0 => w_stat (as := [v0, v1]) (show ins 114 59 = some (.invokestatic 51, 3) by decide +kernel) (show mRes (mC 114) 51 = some (1, 1, [(0, 27)]) by decide +kernel) (by decide +kernel) (by decide +kernel) rfl h0
set_option maxRecDepth 100000 in
theorem r_114_62 : ∀ (d : Nat) (l0 l1 : Option Value) (z : Int) (st : List Value) (M : Mem) (Q : Outcome → Mem → Prop), (lo l1 = false) → Wp d 114 62 [l0, l1, some (.int (I z))] st M Q = Wp d 114 65 [l0, l1, some (.int (I (z + 1)))] st M Q := fun d l0 l1 z st M Q hl => w_iinc (show ins 114 62 = some (.iinc 2 1, 3) by decide +kernel) rfl (st1_S rfl rfl hl)
set_option maxRecDepth 100000 in
theorem r_114_65 : ∀ (d : Nat) (ls : Lc) (st : List Value) (M : Mem) (Q : Outcome → Mem → Prop), Wp d 114 65 ls st M Q = Wp d 114 17 ls st M Q := fun d ls st M Q => w_goto (show ins 114 65 = some (.goto (-48), 3) by decide +kernel) rfl
set_option maxRecDepth 100000 in
theorem r_114_68 : ∀ (d : Nat) (l0 l2 : Option Value) (v : Int32) (st : List Value) (M : Mem) (Q : Outcome → Mem → Prop), Wp d 114 68 [l0, some (.int v), l2] st M Q = Wp d 114 69 [l0, some (.int v), l2] (.int v :: st) M Q := fun d l0 l2 v st M Q => wA (show ins 114 68 = some (.iload_n 1, 1) by decide +kernel) rfl
set_option maxRecDepth 100000 in
theorem r_114_69 : ∀ (d : Nat) (ls : Lc) (a : Int32) (st : List Value) (M : Mem) (Q : Outcome → Mem → Prop), Wp d 114 69 ls (.int a :: st) M Q = Br (a = I 0) d 114 84 72 ls st M Q := fun d ls a st M Q => w_if (show ins 114 69 = some (.ifCond .eq 15, 3) by decide +kernel) rfl rfl
set_option maxRecDepth 100000 in
theorem r_114_72 : ∀ (d : Nat) (l1 l2 : Option Value) (v : Nat) (st : List Value) (M : Mem) (Q : Outcome → Mem → Prop), Wp d 114 72 [some (.ref v), l1, l2] st M Q = Wp d 114 73 [some (.ref v), l1, l2] (.ref v :: st) M Q := fun d l1 l2 v st M Q => wA (show ins 114 72 = some (.aload_n 0, 1) by decide +kernel) rfl
set_option maxRecDepth 100000 in
theorem r_114_73 : ∀ (d : Nat) (ls : Lc) (a : Nat) (st : List Value) (M : Mem) (Q : Outcome → Mem → Prop), (smallR st = true) → Wp d 114 73 ls (.ref a :: st) M Q = (kO M a = 4 ∧ Ca d 114 73 ls 116 (.ref a :: []) st M Q) := fun d ls a st M Q h0 => w_virt1 (as := []) (show ins 114 73 = some (.invokevirtual 44, 3) by decide +kernel) (show mRes (mC 114) 44 = some (3, 4, [(4, 116)]) by decide +kernel) (by decide +kernel) rfl (by decide +kernel) (by decide +kernel) h0
set_option maxRecDepth 100000 in
theorem r_114_76 : ∀ (d : Nat) (ls : Lc) (a : Int32) (st : List Value) (M : Mem) (Q : Outcome → Mem → Prop), Wp d 114 76 ls (.int a :: st) M Q = Br (a = I 0) d 114 84 79 ls st M Q := fun d ls a st M Q => w_if (show ins 114 76 = some (.ifCond .eq 8, 3) by decide +kernel) rfl rfl
set_option maxRecDepth 100000 in
theorem r_114_79 : ∀ (d : Nat) (l1 l2 : Option Value) (v : Nat) (st : List Value) (M : Mem) (Q : Outcome → Mem → Prop), Wp d 114 79 [some (.ref v), l1, l2] st M Q = Wp d 114 80 [some (.ref v), l1, l2] (.ref v :: st) M Q := fun d l1 l2 v st M Q => wA (show ins 114 79 = some (.aload_n 0, 1) by decide +kernel) rfl
set_option maxRecDepth 100000 in
theorem r_114_80 : ∀ (d : Nat) (ls : Lc) (st : List Value) (M : Mem) (Q : Outcome → Mem → Prop), Wp d 114 80 ls st M Q = Wp d 114 81 ls (.int (I 0) :: st) M Q := fun d ls st M Q => w_iconst (show ins 114 80 = some (.iconst 0, 1) by decide +kernel)
set_option maxRecDepth 100000 in
theorem r_114_81 : ∀ (d : Nat) (ls : Lc) (a : Nat) (v : Int32) (st : List Value) (M : Mem) (Q : Outcome → Mem → Prop), Wp d 114 81 ls (.int v :: .ref a :: st) M Q = (fk 20 (kO M a) = true ∧ Wp d 114 84 ls st (sF M 20 a v) Q) := fun d ls a v st M Q => w_putI (show ins 114 81 = some (.putfield 48, 3) by decide +kernel) (show fRes (mC 114) 48 = some (20, 4, false) by decide +kernel) (by decide +kernel) (by decide +kernel)
set_option maxRecDepth 100000 in
theorem r_114_84 : ∀ (d : Nat) (ls : Lc) (M : Mem) (Q : Outcome → Mem → Prop), Wp d 114 84 ls [] M Q = Q (.returned none) M := fun d ls M Q => w_return (show ins 114 84 = some (.return_, 1) by decide +kernel) (by decide +kernel)
set_option maxRecDepth 100000 in
theorem w_114_17 : (type_of% r_114_17) := r_114_17
set_option maxRecDepth 100000 in
theorem W_114 : (type_of% r_114_0) ∧ (type_of% r_114_1) ∧ (type_of% r_114_4) ∧ (type_of% r_114_7) ∧ (type_of% r_114_8) ∧ (type_of% r_114_9) ∧ (type_of% r_114_10) ∧ (type_of% r_114_13) ∧ (type_of% r_114_14) ∧ (type_of% r_114_15) ∧ (type_of% r_114_16) ∧ (type_of% r_114_18) ∧ (type_of% r_114_19) ∧ (type_of% r_114_22) ∧ (type_of% r_114_25) ∧ (type_of% r_114_26) ∧ (type_of% r_114_29) ∧ (type_of% r_114_30) ∧ (type_of% r_114_33) ∧ (type_of% r_114_34) ∧ (type_of% r_114_35) ∧ (type_of% r_114_38) ∧ (type_of% r_114_39) ∧ (type_of% r_114_42) ∧ (type_of% r_114_43) ∧ (type_of% r_114_44) ∧ (type_of% r_114_47) ∧ (type_of% r_114_48) ∧ (type_of% r_114_51) ∧ (type_of% r_114_52) ∧ (type_of% r_114_53) ∧ (type_of% r_114_54) ∧ (type_of% r_114_57) ∧ (type_of% r_114_58) ∧ (type_of% r_114_59) ∧ (type_of% r_114_62) ∧ (type_of% r_114_65) ∧ (type_of% r_114_68) ∧ (type_of% r_114_69) ∧ (type_of% r_114_72) ∧ (type_of% r_114_73) ∧ (type_of% r_114_76) ∧ (type_of% r_114_79) ∧ (type_of% r_114_80) ∧ (type_of% r_114_81) ∧ (type_of% r_114_84) := ⟨r_114_0, r_114_1, r_114_4, r_114_7, r_114_8, r_114_9, r_114_10, r_114_13, r_114_14, r_114_15, r_114_16, r_114_18, r_114_19, r_114_22, r_114_25, r_114_26, r_114_29, r_114_30, r_114_33, r_114_34, r_114_35, r_114_38, r_114_39, r_114_42, r_114_43, r_114_44, r_114_47, r_114_48, r_114_51, r_114_52, r_114_53, r_114_54, r_114_57, r_114_58, r_114_59, r_114_62, r_114_65, r_114_68, r_114_69, r_114_72, r_114_73, r_114_76, r_114_79, r_114_80, r_114_81, r_114_84⟩
set_option maxRecDepth 100000 in
theorem ca_114 {d y pc : Nat} {ls : Lc} {a : Nat} {r : List Value} {M : Mem} {Q : Outcome → Mem → Prop} (hd : 0 < d) (hw : Wp (d - 1) 114 0 [some (.ref a), none, none] [] M (Cq d y pc ls r Q)) : Ca d y pc ls 114 [.ref a] r M Q := ca_of (mq_get (by decide)) (by rfl) hd hw
/-! 115 PackedTree$Device.read(Z)V; loop heads [2, 27, 67] -/
set_option maxRecDepth 100000 in
theorem r_115_0 : ∀ (d : Nat) (ls : Lc) (st : List Value) (M : Mem) (Q : Outcome → Mem → Prop), Wp d 115 0 ls st M Q = Wp d 115 1 ls (.int (I 0) :: st) M Q := fun d ls st M Q => w_iconst (show ins 115 0 = some (.iconst 0, 1) by decide +kernel)
set_option maxRecDepth 100000 in
theorem r_115_1 : ∀ (d : Nat) (l0 l1 l2 l3 l4 : Option Value) (v : Int32) (st : List Value) (M : Mem) (Q : Outcome → Mem → Prop), (lo l1 = false) → Wp d 115 1 [l0, l1, l2, l3, l4] (.int v :: st) M Q = Wp d 115 2 [l0, l1, some (.int v), l3, l4] st M Q := fun d l0 l1 l2 l3 l4 v st M Q hl => w_istore_n (show ins 115 1 = some (.istore_n 2, 1) by decide +kernel) (st1_S rfl rfl hl)
set_option maxRecDepth 100000 in
theorem r_115_2 : ∀ (d : Nat) (l0 l1 l3 l4 : Option Value) (v : Int32) (st : List Value) (M : Mem) (Q : Outcome → Mem → Prop), Wp d 115 2 [l0, l1, some (.int v), l3, l4] st M Q = Wp d 115 3 [l0, l1, some (.int v), l3, l4] (.int v :: st) M Q := fun d l0 l1 l3 l4 v st M Q => wA (show ins 115 2 = some (.iload_n 2, 1) by decide +kernel) rfl
set_option maxRecDepth 100000 in
theorem r_115_3 : ∀ (d : Nat) (l1 l2 l3 l4 : Option Value) (v : Nat) (st : List Value) (M : Mem) (Q : Outcome → Mem → Prop), Wp d 115 3 [some (.ref v), l1, l2, l3, l4] st M Q = Wp d 115 4 [some (.ref v), l1, l2, l3, l4] (.ref v :: st) M Q := fun d l1 l2 l3 l4 v st M Q => wA (show ins 115 3 = some (.aload_n 0, 1) by decide +kernel) rfl
set_option maxRecDepth 100000 in
theorem r_115_4 : ∀ (d : Nat) (ls : Lc) (a : Nat) (st : List Value) (M : Mem) (Q : Outcome → Mem → Prop), Wp d 115 4 ls (.ref a :: st) M Q = (fk 28 (kO M a) = true ∧ Wp d 115 7 ls (.int (mF M 28 a) :: st) M Q) := fun d ls a st M Q => w_getI (show ins 115 4 = some (.getfield 27, 3) by decide +kernel) (show fRes (mC 115) 27 = some (28, 4, false) by decide +kernel) (by decide +kernel)
set_option maxRecDepth 100000 in
theorem r_115_7 : ∀ (d : Nat) (ls : Lc) (a b : Int32) (st : List Value) (M : Mem) (Q : Outcome → Mem → Prop), Wp d 115 7 ls (.int b :: .int a :: st) M Q = Br (b ≤ a) d 115 23 10 ls st M Q := fun d ls a b st M Q => w_icmp (show ins 115 7 = some (.if_icmp .ge 16, 3) by decide +kernel) rfl rfl
set_option maxRecDepth 100000 in
theorem r_115_10 : ∀ (d : Nat) (l1 l2 l3 l4 : Option Value) (v : Nat) (st : List Value) (M : Mem) (Q : Outcome → Mem → Prop), Wp d 115 10 [some (.ref v), l1, l2, l3, l4] st M Q = Wp d 115 11 [some (.ref v), l1, l2, l3, l4] (.ref v :: st) M Q := fun d l1 l2 l3 l4 v st M Q => wA (show ins 115 10 = some (.aload_n 0, 1) by decide +kernel) rfl
set_option maxRecDepth 100000 in
theorem r_115_11 : ∀ (d : Nat) (ls : Lc) (a : Nat) (st : List Value) (M : Mem) (Q : Outcome → Mem → Prop), Wp d 115 11 ls (.ref a :: st) M Q = (fk 24 (kO M a) = true ∧ Wp d 115 14 ls (va_rf (mR M 24 a) :: st) M Q) := fun d ls a st M Q => w_getR (show ins 115 11 = some (.getfield 19, 3) by decide +kernel) (show fRes (mC 115) 19 = some (24, 4, false) by decide +kernel) (by decide +kernel)
set_option maxRecDepth 100000 in
theorem r_115_14 : ∀ (d : Nat) (l0 l1 l3 l4 : Option Value) (v : Int32) (st : List Value) (M : Mem) (Q : Outcome → Mem → Prop), Wp d 115 14 [l0, l1, some (.int v), l3, l4] st M Q = Wp d 115 15 [l0, l1, some (.int v), l3, l4] (.int v :: st) M Q := fun d l0 l1 l3 l4 v st M Q => wA (show ins 115 14 = some (.iload_n 2, 1) by decide +kernel) rfl
set_option maxRecDepth 100000 in
theorem r_115_15 : ∀ (d : Nat) (ls : Lc) (st : List Value) (M : Mem) (Q : Outcome → Mem → Prop), Wp d 115 15 ls st M Q = Wp d 115 16 ls (.int (I 0) :: st) M Q := fun d ls st M Q => w_iconst (show ins 115 15 = some (.iconst 0, 1) by decide +kernel)
set_option maxRecDepth 100000 in
theorem r_115_16 : ∀ (d : Nat) (ls : Lc) (a : Nat) (j v : Int32) (st : List Value) (M : Mem) (Q : Outcome → Mem → Prop), Wp d 115 16 ls (.int v :: .int j :: .ref a :: st) M Q = ((((kX M a).1 = 1 ∨ (kX M a).1 = 2) ∧ inB j (kX M a).2 = true) ∧ Wp d 115 17 ls st (sA M a j.toNatClampNeg (nrw (kX M a).1 v)) Q) := fun d ls a j v st M Q => w_bastore (show ins 115 16 = some (.bastore, 1) by decide +kernel)
set_option maxRecDepth 100000 in
theorem r_115_17 : ∀ (d : Nat) (l0 l1 l3 l4 : Option Value) (z : Int) (st : List Value) (M : Mem) (Q : Outcome → Mem → Prop), (lo l1 = false) → Wp d 115 17 [l0, l1, some (.int (I z)), l3, l4] st M Q = Wp d 115 20 [l0, l1, some (.int (I (z + 1))), l3, l4] st M Q := fun d l0 l1 l3 l4 z st M Q hl => w_iinc (show ins 115 17 = some (.iinc 2 1, 3) by decide +kernel) rfl (st1_S rfl rfl hl)
set_option maxRecDepth 100000 in
theorem r_115_20 : ∀ (d : Nat) (ls : Lc) (st : List Value) (M : Mem) (Q : Outcome → Mem → Prop), Wp d 115 20 ls st M Q = Wp d 115 2 ls st M Q := fun d ls st M Q => w_goto (show ins 115 20 = some (.goto (-18), 3) by decide +kernel) rfl
set_option maxRecDepth 100000 in
theorem r_115_23 : ∀ (d : Nat) (ls : Lc) (st : List Value) (M : Mem) (Q : Outcome → Mem → Prop), Wp d 115 23 ls st M Q = Wp d 115 24 ls (.int (I 0) :: st) M Q := fun d ls st M Q => w_iconst (show ins 115 23 = some (.iconst 0, 1) by decide +kernel)
set_option maxRecDepth 100000 in
theorem r_115_24 : ∀ (d : Nat) (l0 l1 l2 l3 l4 : Option Value) (v : Int32) (st : List Value) (M : Mem) (Q : Outcome → Mem → Prop), (lo l1 = false) → Wp d 115 24 [l0, l1, l2, l3, l4] (.int v :: st) M Q = Wp d 115 25 [l0, l1, some (.int v), l3, l4] st M Q := fun d l0 l1 l2 l3 l4 v st M Q hl => w_istore_n (show ins 115 24 = some (.istore_n 2, 1) by decide +kernel) (st1_S rfl rfl hl)
set_option maxRecDepth 100000 in
theorem r_115_25 : ∀ (d : Nat) (ls : Lc) (st : List Value) (M : Mem) (Q : Outcome → Mem → Prop), Wp d 115 25 ls st M Q = Wp d 115 26 ls (.int (I 0) :: st) M Q := fun d ls st M Q => w_iconst (show ins 115 25 = some (.iconst 0, 1) by decide +kernel)
set_option maxRecDepth 100000 in
theorem r_115_26 : ∀ (d : Nat) (l0 l1 l2 l3 l4 : Option Value) (v : Int32) (st : List Value) (M : Mem) (Q : Outcome → Mem → Prop), (lo l2 = false) → Wp d 115 26 [l0, l1, l2, l3, l4] (.int v :: st) M Q = Wp d 115 27 [l0, l1, l2, some (.int v), l4] st M Q := fun d l0 l1 l2 l3 l4 v st M Q hl => w_istore_n (show ins 115 26 = some (.istore_n 3, 1) by decide +kernel) (st1_S rfl rfl hl)
set_option maxRecDepth 100000 in
theorem r_115_27 : ∀ (d : Nat) (l0 l1 l2 l4 : Option Value) (v : Int32) (st : List Value) (M : Mem) (Q : Outcome → Mem → Prop), Wp d 115 27 [l0, l1, l2, some (.int v), l4] st M Q = Wp d 115 28 [l0, l1, l2, some (.int v), l4] (.int v :: st) M Q := fun d l0 l1 l2 l4 v st M Q => wA (show ins 115 27 = some (.iload_n 3, 1) by decide +kernel) rfl
set_option maxRecDepth 100000 in
theorem r_115_28 : ∀ (d : Nat) (l1 l2 l3 l4 : Option Value) (v : Nat) (st : List Value) (M : Mem) (Q : Outcome → Mem → Prop), Wp d 115 28 [some (.ref v), l1, l2, l3, l4] st M Q = Wp d 115 29 [some (.ref v), l1, l2, l3, l4] (.ref v :: st) M Q := fun d l1 l2 l3 l4 v st M Q => wA (show ins 115 28 = some (.aload_n 0, 1) by decide +kernel) rfl
set_option maxRecDepth 100000 in
theorem r_115_29 : ∀ (d : Nat) (ls : Lc) (a : Nat) (st : List Value) (M : Mem) (Q : Outcome → Mem → Prop), Wp d 115 29 ls (.ref a :: st) M Q = (fk 20 (kO M a) = true ∧ Wp d 115 32 ls (.int (mF M 20 a) :: st) M Q) := fun d ls a st M Q => w_getI (show ins 115 29 = some (.getfield 48, 3) by decide +kernel) (show fRes (mC 115) 48 = some (20, 4, false) by decide +kernel) (by decide +kernel)
set_option maxRecDepth 100000 in
theorem r_115_32 : ∀ (d : Nat) (ls : Lc) (a b : Int32) (st : List Value) (M : Mem) (Q : Outcome → Mem → Prop), Wp d 115 32 ls (.int b :: .int a :: st) M Q = Br (b ≤ a) d 115 124 35 ls st M Q := fun d ls a b st M Q => w_icmp (show ins 115 32 = some (.if_icmp .ge 92, 3) by decide +kernel) rfl rfl
set_option maxRecDepth 100000 in
theorem r_115_35 : ∀ (d : Nat) (l1 l2 l3 l4 : Option Value) (v : Nat) (st : List Value) (M : Mem) (Q : Outcome → Mem → Prop), Wp d 115 35 [some (.ref v), l1, l2, l3, l4] st M Q = Wp d 115 36 [some (.ref v), l1, l2, l3, l4] (.ref v :: st) M Q := fun d l1 l2 l3 l4 v st M Q => wA (show ins 115 35 = some (.aload_n 0, 1) by decide +kernel) rfl
set_option maxRecDepth 100000 in
theorem r_115_36 : ∀ (d : Nat) (ls : Lc) (a : Nat) (st : List Value) (M : Mem) (Q : Outcome → Mem → Prop), Wp d 115 36 ls (.ref a :: st) M Q = (fk 27 (kO M a) = true ∧ Wp d 115 39 ls (va_rf (mR M 27 a) :: st) M Q) := fun d ls a st M Q => w_getR (show ins 115 36 = some (.getfield 33, 3) by decide +kernel) (show fRes (mC 115) 33 = some (27, 4, false) by decide +kernel) (by decide +kernel)
set_option maxRecDepth 100000 in
theorem r_115_39 : ∀ (d : Nat) (l0 l1 l2 l4 : Option Value) (v : Int32) (st : List Value) (M : Mem) (Q : Outcome → Mem → Prop), Wp d 115 39 [l0, l1, l2, some (.int v), l4] st M Q = Wp d 115 40 [l0, l1, l2, some (.int v), l4] (.int v :: st) M Q := fun d l0 l1 l2 l4 v st M Q => wA (show ins 115 39 = some (.iload_n 3, 1) by decide +kernel) rfl
set_option maxRecDepth 100000 in
theorem r_115_40 : ∀ (d : Nat) (ls : Lc) (a : Nat) (j : Int32) (st : List Value) (M : Mem) (Q : Outcome → Mem → Prop), Wp d 115 40 ls (.int j :: .ref a :: st) M Q = ((((kX M a).1 = 0 ∨ (kX M a).1 = 8) ∧ inB j (kX M a).2 = true) ∧ Wp d 115 41 ls (.int (mA M a j.toNatClampNeg) :: st) M Q) := fun d ls a j st M Q => w_iaload (show ins 115 40 = some (.iaload, 1) by decide +kernel)
set_option maxRecDepth 100000 in
theorem r_115_41 : ∀ (d : Nat) (ls : Lc) (st : List Value) (M : Mem) (Q : Outcome → Mem → Prop), Wp d 115 41 ls st M Q = Wp d 115 43 ls (.int (I (-2)) :: st) M Q := fun d ls st M Q => w_bipush (show ins 115 41 = some (.bipush (-2), 2) by decide +kernel) (by decide)
set_option maxRecDepth 100000 in
theorem r_115_43 : ∀ (d : Nat) (ls : Lc) (a b : Int32) (st : List Value) (M : Mem) (Q : Outcome → Mem → Prop), Wp d 115 43 ls (.int b :: .int a :: st) M Q = Br (¬ a = b) d 115 51 46 ls st M Q := fun d ls a b st M Q => w_icmp (show ins 115 43 = some (.if_icmp .ne 8, 3) by decide +kernel) rfl rfl
set_option maxRecDepth 100000 in
theorem r_115_46 : ∀ (d : Nat) (l0 l1 l2 l4 : Option Value) (v : Int32) (st : List Value) (M : Mem) (Q : Outcome → Mem → Prop), Wp d 115 46 [l0, l1, l2, some (.int v), l4] st M Q = Wp d 115 47 [l0, l1, l2, some (.int v), l4] (.int v :: st) M Q := fun d l0 l1 l2 l4 v st M Q => wA (show ins 115 46 = some (.iload_n 3, 1) by decide +kernel) rfl
set_option maxRecDepth 100000 in
theorem r_115_47 : ∀ (d : Nat) (l0 l1 l2 l3 l4 : Option Value) (v : Int32) (st : List Value) (M : Mem) (Q : Outcome → Mem → Prop), (lo l1 = false) → Wp d 115 47 [l0, l1, l2, l3, l4] (.int v :: st) M Q = Wp d 115 48 [l0, l1, some (.int v), l3, l4] st M Q := fun d l0 l1 l2 l3 l4 v st M Q hl => w_istore_n (show ins 115 47 = some (.istore_n 2, 1) by decide +kernel) (st1_S rfl rfl hl)
set_option maxRecDepth 100000 in
theorem r_115_48 : ∀ (d : Nat) (ls : Lc) (st : List Value) (M : Mem) (Q : Outcome → Mem → Prop), Wp d 115 48 ls st M Q = Wp d 115 118 ls st M Q := fun d ls st M Q => w_goto (show ins 115 48 = some (.goto 70, 3) by decide +kernel) rfl
set_option maxRecDepth 100000 in
theorem r_115_51 : ∀ (d : Nat) (l1 l2 l3 l4 : Option Value) (v : Nat) (st : List Value) (M : Mem) (Q : Outcome → Mem → Prop), Wp d 115 51 [some (.ref v), l1, l2, l3, l4] st M Q = Wp d 115 52 [some (.ref v), l1, l2, l3, l4] (.ref v :: st) M Q := fun d l1 l2 l3 l4 v st M Q => wA (show ins 115 51 = some (.aload_n 0, 1) by decide +kernel) rfl
set_option maxRecDepth 100000 in
theorem r_115_52 : ∀ (d : Nat) (ls : Lc) (a : Nat) (st : List Value) (M : Mem) (Q : Outcome → Mem → Prop), Wp d 115 52 ls (.ref a :: st) M Q = (fk 27 (kO M a) = true ∧ Wp d 115 55 ls (va_rf (mR M 27 a) :: st) M Q) := fun d ls a st M Q => w_getR (show ins 115 52 = some (.getfield 33, 3) by decide +kernel) (show fRes (mC 115) 33 = some (27, 4, false) by decide +kernel) (by decide +kernel)
set_option maxRecDepth 100000 in
theorem r_115_55 : ∀ (d : Nat) (l0 l1 l2 l4 : Option Value) (v : Int32) (st : List Value) (M : Mem) (Q : Outcome → Mem → Prop), Wp d 115 55 [l0, l1, l2, some (.int v), l4] st M Q = Wp d 115 56 [l0, l1, l2, some (.int v), l4] (.int v :: st) M Q := fun d l0 l1 l2 l4 v st M Q => wA (show ins 115 55 = some (.iload_n 3, 1) by decide +kernel) rfl
set_option maxRecDepth 100000 in
theorem r_115_56 : ∀ (d : Nat) (ls : Lc) (a : Nat) (j : Int32) (st : List Value) (M : Mem) (Q : Outcome → Mem → Prop), Wp d 115 56 ls (.int j :: .ref a :: st) M Q = ((((kX M a).1 = 0 ∨ (kX M a).1 = 8) ∧ inB j (kX M a).2 = true) ∧ Wp d 115 57 ls (.int (mA M a j.toNatClampNeg) :: st) M Q) := fun d ls a j st M Q => w_iaload (show ins 115 56 = some (.iaload, 1) by decide +kernel)
set_option maxRecDepth 100000 in
theorem r_115_57 : ∀ (d : Nat) (ls : Lc) (st : List Value) (M : Mem) (Q : Outcome → Mem → Prop), Wp d 115 57 ls st M Q = Wp d 115 59 ls (.int (I (-3)) :: st) M Q := fun d ls st M Q => w_bipush (show ins 115 57 = some (.bipush (-3), 2) by decide +kernel) (by decide)
set_option maxRecDepth 100000 in
theorem r_115_59 : ∀ (d : Nat) (ls : Lc) (a b : Int32) (st : List Value) (M : Mem) (Q : Outcome → Mem → Prop), Wp d 115 59 ls (.int b :: .int a :: st) M Q = Br (¬ a = b) d 115 118 62 ls st M Q := fun d ls a b st M Q => w_icmp (show ins 115 59 = some (.if_icmp .ne 59, 3) by decide +kernel) rfl rfl
set_option maxRecDepth 100000 in
theorem r_115_62 : ∀ (d : Nat) (l0 l1 l3 l4 : Option Value) (v : Int32) (st : List Value) (M : Mem) (Q : Outcome → Mem → Prop), Wp d 115 62 [l0, l1, some (.int v), l3, l4] st M Q = Wp d 115 63 [l0, l1, some (.int v), l3, l4] (.int v :: st) M Q := fun d l0 l1 l3 l4 v st M Q => wA (show ins 115 62 = some (.iload_n 2, 1) by decide +kernel) rfl
set_option maxRecDepth 100000 in
theorem r_115_63 : ∀ (d : Nat) (ls : Lc) (st : List Value) (M : Mem) (Q : Outcome → Mem → Prop), Wp d 115 63 ls st M Q = Wp d 115 64 ls (.int (I 1) :: st) M Q := fun d ls st M Q => w_iconst (show ins 115 63 = some (.iconst 1, 1) by decide +kernel)
set_option maxRecDepth 100000 in
theorem r_115_64 : ∀ (d : Nat) (ls : Lc) (a b : Int) (st : List Value) (M : Mem) (Q : Outcome → Mem → Prop), Wp d 115 64 ls (.int (I b) :: .int (I a) :: st) M Q = Wp d 115 65 ls (.int (I (a + b)) :: st) M Q := fun d ls a b st M Q => w_iadd (show ins 115 64 = some (.iadd, 1) by decide +kernel)
set_option maxRecDepth 100000 in
theorem r_115_65 : ∀ (d : Nat) (l0 l1 l2 l3 l4 : Option Value) (v : Int32) (st : List Value) (M : Mem) (Q : Outcome → Mem → Prop), (lo l3 = false) → Wp d 115 65 [l0, l1, l2, l3, l4] (.int v :: st) M Q = Wp d 115 67 [l0, l1, l2, l3, some (.int v)] st M Q := fun d l0 l1 l2 l3 l4 v st M Q hl => w_istore (show ins 115 65 = some (.istore 4, 2) by decide +kernel) (st1_S rfl rfl hl)
set_option maxRecDepth 100000 in
theorem r_115_67 : ∀ (d : Nat) (l0 l1 l2 l3 : Option Value) (v : Int32) (st : List Value) (M : Mem) (Q : Outcome → Mem → Prop), Wp d 115 67 [l0, l1, l2, l3, some (.int v)] st M Q = Wp d 115 69 [l0, l1, l2, l3, some (.int v)] (.int v :: st) M Q := fun d l0 l1 l2 l3 v st M Q => wA (show ins 115 67 = some (.iload 4, 2) by decide +kernel) rfl
set_option maxRecDepth 100000 in
theorem r_115_69 : ∀ (d : Nat) (l0 l1 l2 l4 : Option Value) (v : Int32) (st : List Value) (M : Mem) (Q : Outcome → Mem → Prop), Wp d 115 69 [l0, l1, l2, some (.int v), l4] st M Q = Wp d 115 70 [l0, l1, l2, some (.int v), l4] (.int v :: st) M Q := fun d l0 l1 l2 l4 v st M Q => wA (show ins 115 69 = some (.iload_n 3, 1) by decide +kernel) rfl
set_option maxRecDepth 100000 in
theorem r_115_70 : ∀ (d : Nat) (ls : Lc) (a b : Int32) (st : List Value) (M : Mem) (Q : Outcome → Mem → Prop), Wp d 115 70 ls (.int b :: .int a :: st) M Q = Br (b ≤ a) d 115 118 73 ls st M Q := fun d ls a b st M Q => w_icmp (show ins 115 70 = some (.if_icmp .ge 48, 3) by decide +kernel) rfl rfl
set_option maxRecDepth 100000 in
theorem r_115_73 : ∀ (d : Nat) (l1 l2 l3 l4 : Option Value) (v : Nat) (st : List Value) (M : Mem) (Q : Outcome → Mem → Prop), Wp d 115 73 [some (.ref v), l1, l2, l3, l4] st M Q = Wp d 115 74 [some (.ref v), l1, l2, l3, l4] (.ref v :: st) M Q := fun d l1 l2 l3 l4 v st M Q => wA (show ins 115 73 = some (.aload_n 0, 1) by decide +kernel) rfl
set_option maxRecDepth 100000 in
theorem r_115_74 : ∀ (d : Nat) (ls : Lc) (a : Nat) (st : List Value) (M : Mem) (Q : Outcome → Mem → Prop), Wp d 115 74 ls (.ref a :: st) M Q = (fk 24 (kO M a) = true ∧ Wp d 115 77 ls (va_rf (mR M 24 a) :: st) M Q) := fun d ls a st M Q => w_getR (show ins 115 74 = some (.getfield 19, 3) by decide +kernel) (show fRes (mC 115) 19 = some (24, 4, false) by decide +kernel) (by decide +kernel)
set_option maxRecDepth 100000 in
theorem r_115_77 : ∀ (d : Nat) (l1 l2 l3 l4 : Option Value) (v : Nat) (st : List Value) (M : Mem) (Q : Outcome → Mem → Prop), Wp d 115 77 [some (.ref v), l1, l2, l3, l4] st M Q = Wp d 115 78 [some (.ref v), l1, l2, l3, l4] (.ref v :: st) M Q := fun d l1 l2 l3 l4 v st M Q => wA (show ins 115 77 = some (.aload_n 0, 1) by decide +kernel) rfl
set_option maxRecDepth 100000 in
theorem r_115_78 : ∀ (d : Nat) (ls : Lc) (a : Nat) (st : List Value) (M : Mem) (Q : Outcome → Mem → Prop), Wp d 115 78 ls (.ref a :: st) M Q = (fk 27 (kO M a) = true ∧ Wp d 115 81 ls (va_rf (mR M 27 a) :: st) M Q) := fun d ls a st M Q => w_getR (show ins 115 78 = some (.getfield 33, 3) by decide +kernel) (show fRes (mC 115) 33 = some (27, 4, false) by decide +kernel) (by decide +kernel)
set_option maxRecDepth 100000 in
theorem r_115_81 : ∀ (d : Nat) (l0 l1 l2 l3 : Option Value) (v : Int32) (st : List Value) (M : Mem) (Q : Outcome → Mem → Prop), Wp d 115 81 [l0, l1, l2, l3, some (.int v)] st M Q = Wp d 115 83 [l0, l1, l2, l3, some (.int v)] (.int v :: st) M Q := fun d l0 l1 l2 l3 v st M Q => wA (show ins 115 81 = some (.iload 4, 2) by decide +kernel) rfl
set_option maxRecDepth 100000 in
theorem r_115_83 : ∀ (d : Nat) (ls : Lc) (a : Nat) (j : Int32) (st : List Value) (M : Mem) (Q : Outcome → Mem → Prop), Wp d 115 83 ls (.int j :: .ref a :: st) M Q = ((((kX M a).1 = 0 ∨ (kX M a).1 = 8) ∧ inB j (kX M a).2 = true) ∧ Wp d 115 84 ls (.int (mA M a j.toNatClampNeg) :: st) M Q) := fun d ls a j st M Q => w_iaload (show ins 115 83 = some (.iaload, 1) by decide +kernel)
set_option maxRecDepth 100000 in
theorem r_115_84 : ∀ (d : Nat) (ls : Lc) (st : List Value) (M : Mem) (Q : Outcome → Mem → Prop), Wp d 115 84 ls st M Q = Wp d 115 85 ls (.int (I 1) :: st) M Q := fun d ls st M Q => w_iconst (show ins 115 84 = some (.iconst 1, 1) by decide +kernel)
set_option maxRecDepth 100000 in
theorem r_115_85 : ∀ (d : Nat) (ls : Lc) (a : Nat) (j v : Int32) (st : List Value) (M : Mem) (Q : Outcome → Mem → Prop), Wp d 115 85 ls (.int v :: .int j :: .ref a :: st) M Q = ((((kX M a).1 = 1 ∨ (kX M a).1 = 2) ∧ inB j (kX M a).2 = true) ∧ Wp d 115 86 ls st (sA M a j.toNatClampNeg (nrw (kX M a).1 v)) Q) := fun d ls a j v st M Q => w_bastore (show ins 115 85 = some (.bastore, 1) by decide +kernel)
set_option maxRecDepth 100000 in
theorem r_115_86 : ∀ (d : Nat) (l0 l2 l3 l4 : Option Value) (v : Int32) (st : List Value) (M : Mem) (Q : Outcome → Mem → Prop), Wp d 115 86 [l0, some (.int v), l2, l3, l4] st M Q = Wp d 115 87 [l0, some (.int v), l2, l3, l4] (.int v :: st) M Q := fun d l0 l2 l3 l4 v st M Q => wA (show ins 115 86 = some (.iload_n 1, 1) by decide +kernel) rfl
set_option maxRecDepth 100000 in
theorem r_115_87 : ∀ (d : Nat) (ls : Lc) (a : Int32) (st : List Value) (M : Mem) (Q : Outcome → Mem → Prop), Wp d 115 87 ls (.int a :: st) M Q = Br (a = I 0) d 115 112 90 ls st M Q := fun d ls a st M Q => w_if (show ins 115 87 = some (.ifCond .eq 25, 3) by decide +kernel) rfl rfl
set_option maxRecDepth 100000 in
theorem r_115_90 : ∀ (d : Nat) (l1 l2 l3 l4 : Option Value) (v : Nat) (st : List Value) (M : Mem) (Q : Outcome → Mem → Prop), Wp d 115 90 [some (.ref v), l1, l2, l3, l4] st M Q = Wp d 115 91 [some (.ref v), l1, l2, l3, l4] (.ref v :: st) M Q := fun d l1 l2 l3 l4 v st M Q => wA (show ins 115 90 = some (.aload_n 0, 1) by decide +kernel) rfl
set_option maxRecDepth 100000 in
theorem r_115_91 : ∀ (d : Nat) (ls : Lc) (a : Nat) (st : List Value) (M : Mem) (Q : Outcome → Mem → Prop), Wp d 115 91 ls (.ref a :: st) M Q = (fk 26 (kO M a) = true ∧ Wp d 115 94 ls (va_rf (mR M 26 a) :: st) M Q) := fun d ls a st M Q => w_getR (show ins 115 91 = some (.getfield 30, 3) by decide +kernel) (show fRes (mC 115) 30 = some (26, 4, false) by decide +kernel) (by decide +kernel)
set_option maxRecDepth 100000 in
theorem r_115_94 : ∀ (d : Nat) (l0 l1 l2 l3 : Option Value) (v : Int32) (st : List Value) (M : Mem) (Q : Outcome → Mem → Prop), Wp d 115 94 [l0, l1, l2, l3, some (.int v)] st M Q = Wp d 115 96 [l0, l1, l2, l3, some (.int v)] (.int v :: st) M Q := fun d l0 l1 l2 l3 v st M Q => wA (show ins 115 94 = some (.iload 4, 2) by decide +kernel) rfl
set_option maxRecDepth 100000 in
theorem r_115_96 : ∀ (d : Nat) (ls : Lc) (a : Nat) (j : Int32) (st : List Value) (M : Mem) (Q : Outcome → Mem → Prop), Wp d 115 96 ls (.int j :: .ref a :: st) M Q = ((((kX M a).1 = 4 ∨ (kX M a).1 = 5 ∨ (kX M a).1 = 6 ∨ (kX M a).1 = 7) ∧ inB j (kX M a).2 = true) ∧ Wp d 115 97 ls (va_rf (mQ M a j.toNatClampNeg) :: st) M Q) := fun d ls a j st M Q => w_aaload (show ins 115 96 = some (.aaload, 1) by decide +kernel)
set_option maxRecDepth 100000 in
theorem r_115_97 : ∀ (d : Nat) (l1 l2 l3 l4 : Option Value) (v : Nat) (st : List Value) (M : Mem) (Q : Outcome → Mem → Prop), Wp d 115 97 [some (.ref v), l1, l2, l3, l4] st M Q = Wp d 115 98 [some (.ref v), l1, l2, l3, l4] (.ref v :: st) M Q := fun d l1 l2 l3 l4 v st M Q => wA (show ins 115 97 = some (.aload_n 0, 1) by decide +kernel) rfl
set_option maxRecDepth 100000 in
theorem r_115_98 : ∀ (d : Nat) (ls : Lc) (a : Nat) (st : List Value) (M : Mem) (Q : Outcome → Mem → Prop), Wp d 115 98 ls (.ref a :: st) M Q = (fk 22 (kO M a) = true ∧ Wp d 115 101 ls (va_rf (mR M 22 a) :: st) M Q) := fun d ls a st M Q => w_getR (show ins 115 98 = some (.getfield 16, 3) by decide +kernel) (show fRes (mC 115) 16 = some (22, 4, false) by decide +kernel) (by decide +kernel)
set_option maxRecDepth 100000 in
theorem r_115_101 : ∀ (d : Nat) (l1 l2 l3 l4 : Option Value) (v : Nat) (st : List Value) (M : Mem) (Q : Outcome → Mem → Prop), Wp d 115 101 [some (.ref v), l1, l2, l3, l4] st M Q = Wp d 115 102 [some (.ref v), l1, l2, l3, l4] (.ref v :: st) M Q := fun d l1 l2 l3 l4 v st M Q => wA (show ins 115 101 = some (.aload_n 0, 1) by decide +kernel) rfl
set_option maxRecDepth 100000 in
theorem r_115_102 : ∀ (d : Nat) (ls : Lc) (a : Nat) (st : List Value) (M : Mem) (Q : Outcome → Mem → Prop), Wp d 115 102 ls (.ref a :: st) M Q = (fk 27 (kO M a) = true ∧ Wp d 115 105 ls (va_rf (mR M 27 a) :: st) M Q) := fun d ls a st M Q => w_getR (show ins 115 102 = some (.getfield 33, 3) by decide +kernel) (show fRes (mC 115) 33 = some (27, 4, false) by decide +kernel) (by decide +kernel)
set_option maxRecDepth 100000 in
theorem r_115_105 : ∀ (d : Nat) (l0 l1 l2 l3 : Option Value) (v : Int32) (st : List Value) (M : Mem) (Q : Outcome → Mem → Prop), Wp d 115 105 [l0, l1, l2, l3, some (.int v)] st M Q = Wp d 115 107 [l0, l1, l2, l3, some (.int v)] (.int v :: st) M Q := fun d l0 l1 l2 l3 v st M Q => wA (show ins 115 105 = some (.iload 4, 2) by decide +kernel) rfl
set_option maxRecDepth 100000 in
theorem r_115_107 : ∀ (d : Nat) (ls : Lc) (a : Nat) (j : Int32) (st : List Value) (M : Mem) (Q : Outcome → Mem → Prop), Wp d 115 107 ls (.int j :: .ref a :: st) M Q = ((((kX M a).1 = 0 ∨ (kX M a).1 = 8) ∧ inB j (kX M a).2 = true) ∧ Wp d 115 108 ls (.int (mA M a j.toNatClampNeg) :: st) M Q) := fun d ls a j st M Q => w_iaload (show ins 115 107 = some (.iaload, 1) by decide +kernel)
set_option maxRecDepth 100000 in
theorem r_115_108 : ∀ (d : Nat) (ls : Lc) (a : Nat) (j : Int32) (st : List Value) (M : Mem) (Q : Outcome → Mem → Prop), Wp d 115 108 ls (.int j :: .ref a :: st) M Q = ((((kX M a).1 = 4 ∨ (kX M a).1 = 5 ∨ (kX M a).1 = 6 ∨ (kX M a).1 = 7) ∧ inB j (kX M a).2 = true) ∧ Wp d 115 109 ls (va_rf (mQ M a j.toNatClampNeg) :: st) M Q) := fun d ls a j st M Q => w_aaload (show ins 115 108 = some (.aaload, 1) by decide +kernel)
set_option maxRecDepth 100000 in
theorem r_115_109 : ∀ (d : Nat) (ls : Lc) (v0 v1 : Value)  (st : List Value) (M : Mem) (Q : Outcome → Mem → Prop), (smallR st = true) → Wp d 115 109 ls (v1 :: v0 :: st) M Q = Ca d 115 109 ls 27 [v0, v1] st M Q := fun d ls v0 v1 st M Q h0 => w_stat (as := [v0, v1]) (show ins 115 109 = some (.invokestatic 51, 3) by decide +kernel) (show mRes (mC 115) 51 = some (1, 1, [(0, 27)]) by decide +kernel) (by decide +kernel) (by decide +kernel) rfl h0
set_option maxRecDepth 100000 in
theorem r_115_112 : ∀ (d : Nat) (l0 l1 l2 l3 : Option Value) (z : Int) (st : List Value) (M : Mem) (Q : Outcome → Mem → Prop), (lo l3 = false) → Wp d 115 112 [l0, l1, l2, l3, some (.int (I z))] st M Q = Wp d 115 115 [l0, l1, l2, l3, some (.int (I (z + 1)))] st M Q := fun d l0 l1 l2 l3 z st M Q hl => w_iinc (show ins 115 112 = some (.iinc 4 1, 3) by decide +kernel) rfl (st1_S rfl rfl hl)
set_option maxRecDepth 100000 in
theorem r_115_115 : ∀ (d : Nat) (ls : Lc) (st : List Value) (M : Mem) (Q : Outcome → Mem → Prop), Wp d 115 115 ls st M Q = Wp d 115 67 ls st M Q := fun d ls st M Q => w_goto (show ins 115 115 = some (.goto (-48), 3) by decide +kernel) rfl
set_option maxRecDepth 100000 in
theorem r_115_118 : ∀ (d : Nat) (l0 l1 l2 l4 : Option Value) (z : Int) (st : List Value) (M : Mem) (Q : Outcome → Mem → Prop), (lo l2 = false) → Wp d 115 118 [l0, l1, l2, some (.int (I z)), l4] st M Q = Wp d 115 121 [l0, l1, l2, some (.int (I (z + 1))), l4] st M Q := fun d l0 l1 l2 l4 z st M Q hl => w_iinc (show ins 115 118 = some (.iinc 3 1, 3) by decide +kernel) rfl (st1_S rfl rfl hl)
set_option maxRecDepth 100000 in
theorem r_115_121 : ∀ (d : Nat) (ls : Lc) (st : List Value) (M : Mem) (Q : Outcome → Mem → Prop), Wp d 115 121 ls st M Q = Wp d 115 27 ls st M Q := fun d ls st M Q => w_goto (show ins 115 121 = some (.goto (-94), 3) by decide +kernel) rfl
set_option maxRecDepth 100000 in
theorem r_115_124 : ∀ (d : Nat) (ls : Lc) (M : Mem) (Q : Outcome → Mem → Prop), Wp d 115 124 ls [] M Q = Q (.returned none) M := fun d ls M Q => w_return (show ins 115 124 = some (.return_, 1) by decide +kernel) (by decide +kernel)
set_option maxRecDepth 100000 in
theorem w_115_2 : (type_of% r_115_2) := r_115_2
set_option maxRecDepth 100000 in
theorem w_115_27 : (type_of% r_115_27) := r_115_27
set_option maxRecDepth 100000 in
theorem w_115_67 : (type_of% r_115_67) := r_115_67
set_option maxRecDepth 100000 in
theorem W_115 : (type_of% r_115_0) ∧ (type_of% r_115_1) ∧ (type_of% r_115_3) ∧ (type_of% r_115_4) ∧ (type_of% r_115_7) ∧ (type_of% r_115_10) ∧ (type_of% r_115_11) ∧ (type_of% r_115_14) ∧ (type_of% r_115_15) ∧ (type_of% r_115_16) ∧ (type_of% r_115_17) ∧ (type_of% r_115_20) ∧ (type_of% r_115_23) ∧ (type_of% r_115_24) ∧ (type_of% r_115_25) ∧ (type_of% r_115_26) ∧ (type_of% r_115_28) ∧ (type_of% r_115_29) ∧ (type_of% r_115_32) ∧ (type_of% r_115_35) ∧ (type_of% r_115_36) ∧ (type_of% r_115_39) ∧ (type_of% r_115_40) ∧ (type_of% r_115_41) ∧ (type_of% r_115_43) ∧ (type_of% r_115_46) ∧ (type_of% r_115_47) ∧ (type_of% r_115_48) ∧ (type_of% r_115_51) ∧ (type_of% r_115_52) ∧ (type_of% r_115_55) ∧ (type_of% r_115_56) ∧ (type_of% r_115_57) ∧ (type_of% r_115_59) ∧ (type_of% r_115_62) ∧ (type_of% r_115_63) ∧ (type_of% r_115_64) ∧ (type_of% r_115_65) ∧ (type_of% r_115_69) ∧ (type_of% r_115_70) ∧ (type_of% r_115_73) ∧ (type_of% r_115_74) ∧ (type_of% r_115_77) ∧ (type_of% r_115_78) ∧ (type_of% r_115_81) ∧ (type_of% r_115_83) ∧ (type_of% r_115_84) ∧ (type_of% r_115_85) ∧ (type_of% r_115_86) ∧ (type_of% r_115_87) ∧ (type_of% r_115_90) ∧ (type_of% r_115_91) ∧ (type_of% r_115_94) ∧ (type_of% r_115_96) ∧ (type_of% r_115_97) ∧ (type_of% r_115_98) ∧ (type_of% r_115_101) ∧ (type_of% r_115_102) ∧ (type_of% r_115_105) ∧ (type_of% r_115_107) ∧ (type_of% r_115_108) ∧ (type_of% r_115_109) ∧ (type_of% r_115_112) ∧ (type_of% r_115_115) ∧ (type_of% r_115_118) ∧ (type_of% r_115_121) ∧ (type_of% r_115_124) := ⟨r_115_0, r_115_1, r_115_3, r_115_4, r_115_7, r_115_10, r_115_11, r_115_14, r_115_15, r_115_16, r_115_17, r_115_20, r_115_23, r_115_24, r_115_25, r_115_26, r_115_28, r_115_29, r_115_32, r_115_35, r_115_36, r_115_39, r_115_40, r_115_41, r_115_43, r_115_46, r_115_47, r_115_48, r_115_51, r_115_52, r_115_55, r_115_56, r_115_57, r_115_59, r_115_62, r_115_63, r_115_64, r_115_65, r_115_69, r_115_70, r_115_73, r_115_74, r_115_77, r_115_78, r_115_81, r_115_83, r_115_84, r_115_85, r_115_86, r_115_87, r_115_90, r_115_91, r_115_94, r_115_96, r_115_97, r_115_98, r_115_101, r_115_102, r_115_105, r_115_107, r_115_108, r_115_109, r_115_112, r_115_115, r_115_118, r_115_121, r_115_124⟩
set_option maxRecDepth 100000 in
theorem ca_115 {d y pc : Nat} {ls : Lc} {a : Nat} {z0 : Int32} {r : List Value} {M : Mem} {Q : Outcome → Mem → Prop} (hd : 0 < d) (hw : Wp (d - 1) 115 0 [some (.ref a), some (.int z0), none, none, none] [] M (Cq d y pc ls r Q)) : Ca d y pc ls 115 [.ref a, .int z0] r M Q := ca_of (mq_get (by decide)) (by rfl) hd hw
/-! 116 PackedTree$Device.isDone()Z; loop heads [] -/
set_option maxRecDepth 100000 in
theorem r_116_0 : ∀ (d : Nat) (v : Nat) (st : List Value) (M : Mem) (Q : Outcome → Mem → Prop), Wp d 116 0 [some (.ref v)] st M Q = Wp d 116 1 [some (.ref v)] (.ref v :: st) M Q := fun d v st M Q => wA (show ins 116 0 = some (.aload_n 0, 1) by decide +kernel) rfl
set_option maxRecDepth 100000 in
theorem r_116_1 : ∀ (d : Nat) (ls : Lc) (a : Nat) (st : List Value) (M : Mem) (Q : Outcome → Mem → Prop), Wp d 116 1 ls (.ref a :: st) M Q = (fk 23 (kO M a) = true ∧ Wp d 116 4 ls (.int (mF M 23 a) :: st) M Q) := fun d ls a st M Q => w_getI (show ins 116 1 = some (.getfield 23, 3) by decide +kernel) (show fRes (mC 116) 23 = some (23, 4, false) by decide +kernel) (by decide +kernel)
set_option maxRecDepth 100000 in
theorem r_116_4 : ∀ (d : Nat) (ls : Lc) (a : Int32) (st : List Value) (M : Mem) (Q : Outcome → Mem → Prop), Wp d 116 4 ls (.int a :: st) M Q = Br (¬ a = I 0) d 116 19 7 ls st M Q := fun d ls a st M Q => w_if (show ins 116 4 = some (.ifCond .ne 15, 3) by decide +kernel) rfl rfl
set_option maxRecDepth 100000 in
theorem r_116_7 : ∀ (d : Nat) (v : Nat) (st : List Value) (M : Mem) (Q : Outcome → Mem → Prop), Wp d 116 7 [some (.ref v)] st M Q = Wp d 116 8 [some (.ref v)] (.ref v :: st) M Q := fun d v st M Q => wA (show ins 116 7 = some (.aload_n 0, 1) by decide +kernel) rfl
set_option maxRecDepth 100000 in
theorem r_116_8 : ∀ (d : Nat) (ls : Lc) (st : List Value) (M : Mem) (Q : Outcome → Mem → Prop), Wp d 116 8 ls st M Q = Wp d 116 9 ls (.int (I 1) :: st) M Q := fun d ls st M Q => w_iconst (show ins 116 8 = some (.iconst 1, 1) by decide +kernel)
set_option maxRecDepth 100000 in
theorem r_116_9 : ∀ (d : Nat) (ls : Lc) (a : Nat) (v : Int) (st : List Value) (M : Mem) (Q : Outcome → Mem → Prop), (v = 0 ∨ v = 1) → Wp d 116 9 ls (.int (I v) :: .ref a :: st) M Q = (fk 25 (kO M a) = true ∧ Wp d 116 12 ls st (sF M 25 a (I v)) Q) := fun d ls a v st M Q h0 => w_putZ (show ins 116 9 = some (.putfield 37, 3) by decide +kernel) (show fRes (mC 116) 37 = some (25, 4, false) by decide +kernel) (by decide +kernel) (by decide +kernel) h0
set_option maxRecDepth 100000 in
theorem r_116_12 : ∀ (d : Nat) (v : Nat) (st : List Value) (M : Mem) (Q : Outcome → Mem → Prop), Wp d 116 12 [some (.ref v)] st M Q = Wp d 116 13 [some (.ref v)] (.ref v :: st) M Q := fun d v st M Q => wA (show ins 116 12 = some (.aload_n 0, 1) by decide +kernel) rfl
set_option maxRecDepth 100000 in
theorem r_116_13 : ∀ (d : Nat) (ls : Lc) (st : List Value) (M : Mem) (Q : Outcome → Mem → Prop), Wp d 116 13 ls st M Q = Wp d 116 14 ls (.int (I (-1)) :: st) M Q := fun d ls st M Q => w_iconst (show ins 116 13 = some (.iconst (-1), 1) by decide +kernel)
set_option maxRecDepth 100000 in
theorem r_116_14 : ∀ (d : Nat) (ls : Lc) (a : Nat) (v : Int32) (st : List Value) (M : Mem) (Q : Outcome → Mem → Prop), Wp d 116 14 ls (.int v :: .ref a :: st) M Q = (fk 23 (kO M a) = true ∧ Wp d 116 17 ls st (sF M 23 a v) Q) := fun d ls a v st M Q => w_putI (show ins 116 14 = some (.putfield 23, 3) by decide +kernel) (show fRes (mC 116) 23 = some (23, 4, false) by decide +kernel) (by decide +kernel) (by decide +kernel)
set_option maxRecDepth 100000 in
theorem r_116_17 : ∀ (d : Nat) (ls : Lc) (st : List Value) (M : Mem) (Q : Outcome → Mem → Prop), Wp d 116 17 ls st M Q = Wp d 116 18 ls (.int (I 0) :: st) M Q := fun d ls st M Q => w_iconst (show ins 116 17 = some (.iconst 0, 1) by decide +kernel)
set_option maxRecDepth 100000 in
theorem r_116_18 : ∀ (d : Nat) (ls : Lc) (z : Int) (M : Mem) (Q : Outcome → Mem → Prop), (z = 0 ∨ z = 1) → Wp d 116 18 ls [.int (I z)] M Q = Q (.returned (some (.int (I z)))) M := fun d ls z M Q h0 => w_zretI (show ins 116 18 = some (.ireturn, 1) by decide +kernel) (by decide +kernel) h0
set_option maxRecDepth 100000 in
theorem r_116_18_1 : ∀ (d : Nat) (ls : Lc) (b : Bool) (M : Mem) (Q : Outcome → Mem → Prop), Wp d 116 18 ls [.int (I (bI b))] M Q = Q (.returned (some (.int (I (bI b))))) M := fun d ls b M Q => w_zretB (show ins 116 18 = some (.ireturn, 1) by decide +kernel) (by decide +kernel)
set_option maxRecDepth 100000 in
theorem r_116_19 : ∀ (d : Nat) (v : Nat) (st : List Value) (M : Mem) (Q : Outcome → Mem → Prop), Wp d 116 19 [some (.ref v)] st M Q = Wp d 116 20 [some (.ref v)] (.ref v :: st) M Q := fun d v st M Q => wA (show ins 116 19 = some (.aload_n 0, 1) by decide +kernel) rfl
set_option maxRecDepth 100000 in
theorem r_116_20 : ∀ (d : Nat) (ls : Lc) (v : Nat) (st : List Value) (M : Mem) (Q : Outcome → Mem → Prop), Wp d 116 20 ls (.ref v :: st) M Q = Wp d 116 21 ls (.ref v :: .ref v :: st) M Q := fun d ls v st M Q => wA (show ins 116 20 = some (.dup, 1) by decide +kernel) rfl
set_option maxRecDepth 100000 in
theorem r_116_20_1 : ∀ (d : Nat) (ls : Lc) (v : Int32) (st : List Value) (M : Mem) (Q : Outcome → Mem → Prop), Wp d 116 20 ls (.int v :: st) M Q = Wp d 116 21 ls (.int v :: .int v :: st) M Q := fun d ls v st M Q => wA (show ins 116 20 = some (.dup, 1) by decide +kernel) rfl
set_option maxRecDepth 100000 in
theorem r_116_21 : ∀ (d : Nat) (ls : Lc) (a : Nat) (st : List Value) (M : Mem) (Q : Outcome → Mem → Prop), Wp d 116 21 ls (.ref a :: st) M Q = (fk 23 (kO M a) = true ∧ Wp d 116 24 ls (.int (mF M 23 a) :: st) M Q) := fun d ls a st M Q => w_getI (show ins 116 21 = some (.getfield 23, 3) by decide +kernel) (show fRes (mC 116) 23 = some (23, 4, false) by decide +kernel) (by decide +kernel)
set_option maxRecDepth 100000 in
theorem r_116_24 : ∀ (d : Nat) (v : Nat) (st : List Value) (M : Mem) (Q : Outcome → Mem → Prop), Wp d 116 24 [some (.ref v)] st M Q = Wp d 116 25 [some (.ref v)] (.ref v :: st) M Q := fun d v st M Q => wA (show ins 116 24 = some (.aload_n 0, 1) by decide +kernel) rfl
set_option maxRecDepth 100000 in
theorem r_116_25 : ∀ (d : Nat) (ls : Lc) (a : Nat) (st : List Value) (M : Mem) (Q : Outcome → Mem → Prop), Wp d 116 25 ls (.ref a :: st) M Q = (fk 23 (kO M a) = true ∧ Wp d 116 28 ls (.int (mF M 23 a) :: st) M Q) := fun d ls a st M Q => w_getI (show ins 116 25 = some (.getfield 23, 3) by decide +kernel) (show fRes (mC 116) 23 = some (23, 4, false) by decide +kernel) (by decide +kernel)
set_option maxRecDepth 100000 in
theorem r_116_28 : ∀ (d : Nat) (ls : Lc) (a : Int32) (st : List Value) (M : Mem) (Q : Outcome → Mem → Prop), Wp d 116 28 ls (.int a :: st) M Q = Br (a ≤ I 0) d 116 35 31 ls st M Q := fun d ls a st M Q => w_if (show ins 116 28 = some (.ifCond .le 7, 3) by decide +kernel) rfl rfl
set_option maxRecDepth 100000 in
theorem r_116_31 : ∀ (d : Nat) (ls : Lc) (st : List Value) (M : Mem) (Q : Outcome → Mem → Prop), Wp d 116 31 ls st M Q = Wp d 116 32 ls (.int (I 1) :: st) M Q := fun d ls st M Q => w_iconst (show ins 116 31 = some (.iconst 1, 1) by decide +kernel)
set_option maxRecDepth 100000 in
theorem r_116_32 : ∀ (d : Nat) (ls : Lc) (st : List Value) (M : Mem) (Q : Outcome → Mem → Prop), Wp d 116 32 ls st M Q = Wp d 116 36 ls st M Q := fun d ls st M Q => w_goto (show ins 116 32 = some (.goto 4, 3) by decide +kernel) rfl
set_option maxRecDepth 100000 in
theorem r_116_35 : ∀ (d : Nat) (ls : Lc) (st : List Value) (M : Mem) (Q : Outcome → Mem → Prop), Wp d 116 35 ls st M Q = Wp d 116 36 ls (.int (I 0) :: st) M Q := fun d ls st M Q => w_iconst (show ins 116 35 = some (.iconst 0, 1) by decide +kernel)
set_option maxRecDepth 100000 in
theorem r_116_36 : ∀ (d : Nat) (ls : Lc) (a b : Int) (st : List Value) (M : Mem) (Q : Outcome → Mem → Prop), Wp d 116 36 ls (.int (I b) :: .int (I a) :: st) M Q = Wp d 116 37 ls (.int (I (a - b)) :: st) M Q := fun d ls a b st M Q => w_isub (show ins 116 36 = some (.isub, 1) by decide +kernel)
set_option maxRecDepth 100000 in
theorem r_116_37 : ∀ (d : Nat) (ls : Lc) (a : Nat) (v : Int32) (st : List Value) (M : Mem) (Q : Outcome → Mem → Prop), Wp d 116 37 ls (.int v :: .ref a :: st) M Q = (fk 23 (kO M a) = true ∧ Wp d 116 40 ls st (sF M 23 a v) Q) := fun d ls a v st M Q => w_putI (show ins 116 37 = some (.putfield 23, 3) by decide +kernel) (show fRes (mC 116) 23 = some (23, 4, false) by decide +kernel) (by decide +kernel) (by decide +kernel)
set_option maxRecDepth 100000 in
theorem r_116_40 : ∀ (d : Nat) (v : Nat) (st : List Value) (M : Mem) (Q : Outcome → Mem → Prop), Wp d 116 40 [some (.ref v)] st M Q = Wp d 116 41 [some (.ref v)] (.ref v :: st) M Q := fun d v st M Q => wA (show ins 116 40 = some (.aload_n 0, 1) by decide +kernel) rfl
set_option maxRecDepth 100000 in
theorem r_116_41 : ∀ (d : Nat) (ls : Lc) (v : Nat) (st : List Value) (M : Mem) (Q : Outcome → Mem → Prop), Wp d 116 41 ls (.ref v :: st) M Q = Wp d 116 42 ls (.ref v :: .ref v :: st) M Q := fun d ls v st M Q => wA (show ins 116 41 = some (.dup, 1) by decide +kernel) rfl
set_option maxRecDepth 100000 in
theorem r_116_41_1 : ∀ (d : Nat) (ls : Lc) (v : Int32) (st : List Value) (M : Mem) (Q : Outcome → Mem → Prop), Wp d 116 41 ls (.int v :: st) M Q = Wp d 116 42 ls (.int v :: .int v :: st) M Q := fun d ls v st M Q => wA (show ins 116 41 = some (.dup, 1) by decide +kernel) rfl
set_option maxRecDepth 100000 in
theorem r_116_42 : ∀ (d : Nat) (ls : Lc) (a : Nat) (st : List Value) (M : Mem) (Q : Outcome → Mem → Prop), Wp d 116 42 ls (.ref a :: st) M Q = (fk 29 (kO M a) = true ∧ Wp d 116 45 ls (.int (mF M 29 a) :: st) M Q) := fun d ls a st M Q => w_getI (show ins 116 42 = some (.getfield 41, 3) by decide +kernel) (show fRes (mC 116) 41 = some (29, 4, false) by decide +kernel) (by decide +kernel)
set_option maxRecDepth 100000 in
theorem r_116_45 : ∀ (d : Nat) (ls : Lc) (st : List Value) (M : Mem) (Q : Outcome → Mem → Prop), Wp d 116 45 ls st M Q = Wp d 116 46 ls (.int (I 1) :: st) M Q := fun d ls st M Q => w_iconst (show ins 116 45 = some (.iconst 1, 1) by decide +kernel)
set_option maxRecDepth 100000 in
theorem r_116_46 : ∀ (d : Nat) (ls : Lc) (a b : Int) (st : List Value) (M : Mem) (Q : Outcome → Mem → Prop), Wp d 116 46 ls (.int (I b) :: .int (I a) :: st) M Q = Wp d 116 47 ls (.int (I (a + b)) :: st) M Q := fun d ls a b st M Q => w_iadd (show ins 116 46 = some (.iadd, 1) by decide +kernel)
set_option maxRecDepth 100000 in
theorem r_116_47 : ∀ (d : Nat) (ls : Lc) (a : Nat) (v : Int32) (st : List Value) (M : Mem) (Q : Outcome → Mem → Prop), Wp d 116 47 ls (.int v :: .ref a :: st) M Q = (fk 29 (kO M a) = true ∧ Wp d 116 50 ls st (sF M 29 a v) Q) := fun d ls a v st M Q => w_putI (show ins 116 47 = some (.putfield 41, 3) by decide +kernel) (show fRes (mC 116) 41 = some (29, 4, false) by decide +kernel) (by decide +kernel) (by decide +kernel)
set_option maxRecDepth 100000 in
theorem r_116_50 : ∀ (d : Nat) (ls : Lc) (st : List Value) (M : Mem) (Q : Outcome → Mem → Prop), Wp d 116 50 ls st M Q = Wp d 116 51 ls (.int (I 1) :: st) M Q := fun d ls st M Q => w_iconst (show ins 116 50 = some (.iconst 1, 1) by decide +kernel)
set_option maxRecDepth 100000 in
theorem r_116_51 : ∀ (d : Nat) (ls : Lc) (z : Int) (M : Mem) (Q : Outcome → Mem → Prop), (z = 0 ∨ z = 1) → Wp d 116 51 ls [.int (I z)] M Q = Q (.returned (some (.int (I z)))) M := fun d ls z M Q h0 => w_zretI (show ins 116 51 = some (.ireturn, 1) by decide +kernel) (by decide +kernel) h0
set_option maxRecDepth 100000 in
theorem r_116_51_1 : ∀ (d : Nat) (ls : Lc) (b : Bool) (M : Mem) (Q : Outcome → Mem → Prop), Wp d 116 51 ls [.int (I (bI b))] M Q = Q (.returned (some (.int (I (bI b))))) M := fun d ls b M Q => w_zretB (show ins 116 51 = some (.ireturn, 1) by decide +kernel) (by decide +kernel)
set_option maxRecDepth 100000 in
theorem W_116 : (type_of% r_116_0) ∧ (type_of% r_116_1) ∧ (type_of% r_116_4) ∧ (type_of% r_116_7) ∧ (type_of% r_116_8) ∧ (type_of% r_116_9) ∧ (type_of% r_116_12) ∧ (type_of% r_116_13) ∧ (type_of% r_116_14) ∧ (type_of% r_116_17) ∧ (type_of% r_116_18) ∧ (type_of% r_116_18_1) ∧ (type_of% r_116_19) ∧ (type_of% r_116_20) ∧ (type_of% r_116_20_1) ∧ (type_of% r_116_21) ∧ (type_of% r_116_24) ∧ (type_of% r_116_25) ∧ (type_of% r_116_28) ∧ (type_of% r_116_31) ∧ (type_of% r_116_32) ∧ (type_of% r_116_35) ∧ (type_of% r_116_36) ∧ (type_of% r_116_37) ∧ (type_of% r_116_40) ∧ (type_of% r_116_41) ∧ (type_of% r_116_41_1) ∧ (type_of% r_116_42) ∧ (type_of% r_116_45) ∧ (type_of% r_116_46) ∧ (type_of% r_116_47) ∧ (type_of% r_116_50) ∧ (type_of% r_116_51) ∧ (type_of% r_116_51_1) := ⟨r_116_0, r_116_1, r_116_4, r_116_7, r_116_8, r_116_9, r_116_12, r_116_13, r_116_14, r_116_17, r_116_18, r_116_18_1, r_116_19, r_116_20, r_116_20_1, r_116_21, r_116_24, r_116_25, r_116_28, r_116_31, r_116_32, r_116_35, r_116_36, r_116_37, r_116_40, r_116_41, r_116_41_1, r_116_42, r_116_45, r_116_46, r_116_47, r_116_50, r_116_51, r_116_51_1⟩
set_option maxRecDepth 100000 in
theorem ca_116 {d y pc : Nat} {ls : Lc} {a : Nat} {r : List Value} {M : Mem} {Q : Outcome → Mem → Prop} (hd : 0 < d) (hw : Wp (d - 1) 116 0 [some (.ref a)] [] M (Cq d y pc ls r Q)) : Ca d y pc ls 116 [.ref a] r M Q := ca_of (mq_get (by decide)) (by rfl) hd hw
/-! 117 PackedTree$Device.commit([[B[Z)V; loop heads [11, 83] -/
set_option maxRecDepth 100000 in
theorem r_117_0 : ∀ (d : Nat) (l1 l2 l3 l4 : Option Value) (v : Nat) (st : List Value) (M : Mem) (Q : Outcome → Mem → Prop), Wp d 117 0 [some (.ref v), l1, l2, l3, l4] st M Q = Wp d 117 1 [some (.ref v), l1, l2, l3, l4] (.ref v :: st) M Q := fun d l1 l2 l3 l4 v st M Q => wA (show ins 117 0 = some (.aload_n 0, 1) by decide +kernel) rfl
set_option maxRecDepth 100000 in
theorem r_117_1 : ∀ (d : Nat) (ls : Lc) (st : List Value) (M : Mem) (Q : Outcome → Mem → Prop), Wp d 117 1 ls st M Q = Wp d 117 3 ls (.int (I (-2)) :: st) M Q := fun d ls st M Q => w_bipush (show ins 117 1 = some (.bipush (-2), 2) by decide +kernel) (by decide)
set_option maxRecDepth 100000 in
theorem r_117_3 : ∀ (d : Nat) (ls : Lc) (st : List Value) (M : Mem) (Q : Outcome → Mem → Prop), Wp d 117 3 ls st M Q = Wp d 117 4 ls (.null :: st) M Q := fun d ls st M Q => wA (show ins 117 3 = some (.aconst_null, 1) by decide +kernel) rfl
set_option maxRecDepth 100000 in
theorem r_117_4 : ∀ (d : Nat) (ls : Lc) (v0 v1 : Value) (a : Nat) (st : List Value) (M : Mem) (Q : Outcome → Mem → Prop), (smallR st = true) → Wp d 117 4 ls (v1 :: v0 :: .ref a :: st) M Q = (kO M a = 4 ∧ Ca d 117 4 ls 118 (.ref a :: [v0, v1]) st M Q) := fun d ls v0 v1 a st M Q h0 => w_virt1 (as := [v0, v1]) (show ins 117 4 = some (.invokevirtual 55, 3) by decide +kernel) (show mRes (mC 117) 55 = some (3, 4, [(4, 118)]) by decide +kernel) (by decide +kernel) rfl (by decide +kernel) (by decide +kernel) h0
set_option maxRecDepth 100000 in
theorem r_117_7 : ∀ (d : Nat) (l0 l1 l2 l3 l4 : Option Value) (v : Int32) (st : List Value) (M : Mem) (Q : Outcome → Mem → Prop), (lo l2 = false) → Wp d 117 7 [l0, l1, l2, l3, l4] (.int v :: st) M Q = Wp d 117 8 [l0, l1, l2, some (.int v), l4] st M Q := fun d l0 l1 l2 l3 l4 v st M Q hl => w_istore_n (show ins 117 7 = some (.istore_n 3, 1) by decide +kernel) (st1_S rfl rfl hl)
set_option maxRecDepth 100000 in
theorem r_117_8 : ∀ (d : Nat) (ls : Lc) (st : List Value) (M : Mem) (Q : Outcome → Mem → Prop), Wp d 117 8 ls st M Q = Wp d 117 9 ls (.int (I 0) :: st) M Q := fun d ls st M Q => w_iconst (show ins 117 8 = some (.iconst 0, 1) by decide +kernel)
set_option maxRecDepth 100000 in
theorem r_117_9 : ∀ (d : Nat) (l0 l1 l2 l3 l4 : Option Value) (v : Int32) (st : List Value) (M : Mem) (Q : Outcome → Mem → Prop), (lo l3 = false) → Wp d 117 9 [l0, l1, l2, l3, l4] (.int v :: st) M Q = Wp d 117 11 [l0, l1, l2, l3, some (.int v)] st M Q := fun d l0 l1 l2 l3 l4 v st M Q hl => w_istore (show ins 117 9 = some (.istore 4, 2) by decide +kernel) (st1_S rfl rfl hl)
set_option maxRecDepth 100000 in
theorem r_117_11 : ∀ (d : Nat) (l0 l1 l2 l3 : Option Value) (v : Int32) (st : List Value) (M : Mem) (Q : Outcome → Mem → Prop), Wp d 117 11 [l0, l1, l2, l3, some (.int v)] st M Q = Wp d 117 13 [l0, l1, l2, l3, some (.int v)] (.int v :: st) M Q := fun d l0 l1 l2 l3 v st M Q => wA (show ins 117 11 = some (.iload 4, 2) by decide +kernel) rfl
set_option maxRecDepth 100000 in
theorem r_117_13 : ∀ (d : Nat) (l1 l2 l3 l4 : Option Value) (v : Nat) (st : List Value) (M : Mem) (Q : Outcome → Mem → Prop), Wp d 117 13 [some (.ref v), l1, l2, l3, l4] st M Q = Wp d 117 14 [some (.ref v), l1, l2, l3, l4] (.ref v :: st) M Q := fun d l1 l2 l3 l4 v st M Q => wA (show ins 117 13 = some (.aload_n 0, 1) by decide +kernel) rfl
set_option maxRecDepth 100000 in
theorem r_117_14 : ∀ (d : Nat) (ls : Lc) (a : Nat) (st : List Value) (M : Mem) (Q : Outcome → Mem → Prop), Wp d 117 14 ls (.ref a :: st) M Q = (fk 28 (kO M a) = true ∧ Wp d 117 17 ls (.int (mF M 28 a) :: st) M Q) := fun d ls a st M Q => w_getI (show ins 117 14 = some (.getfield 27, 3) by decide +kernel) (show fRes (mC 117) 27 = some (28, 4, false) by decide +kernel) (by decide +kernel)
set_option maxRecDepth 100000 in
theorem r_117_17 : ∀ (d : Nat) (ls : Lc) (a b : Int32) (st : List Value) (M : Mem) (Q : Outcome → Mem → Prop), Wp d 117 17 ls (.int b :: .int a :: st) M Q = Br (b ≤ a) d 117 56 20 ls st M Q := fun d ls a b st M Q => w_icmp (show ins 117 17 = some (.if_icmp .ge 39, 3) by decide +kernel) rfl rfl
set_option maxRecDepth 100000 in
theorem r_117_20 : ∀ (d : Nat) (l0 l1 l2 l4 : Option Value) (v : Int32) (st : List Value) (M : Mem) (Q : Outcome → Mem → Prop), Wp d 117 20 [l0, l1, l2, some (.int v), l4] st M Q = Wp d 117 21 [l0, l1, l2, some (.int v), l4] (.int v :: st) M Q := fun d l0 l1 l2 l4 v st M Q => wA (show ins 117 20 = some (.iload_n 3, 1) by decide +kernel) rfl
set_option maxRecDepth 100000 in
theorem r_117_21 : ∀ (d : Nat) (ls : Lc) (a : Int32) (st : List Value) (M : Mem) (Q : Outcome → Mem → Prop), Wp d 117 21 ls (.int a :: st) M Q = Br (a = I 0) d 117 56 24 ls st M Q := fun d ls a st M Q => w_if (show ins 117 21 = some (.ifCond .eq 35, 3) by decide +kernel) rfl rfl
set_option maxRecDepth 100000 in
theorem r_117_24 : ∀ (d : Nat) (l0 l1 l3 l4 : Option Value) (v : Nat) (st : List Value) (M : Mem) (Q : Outcome → Mem → Prop), Wp d 117 24 [l0, l1, some (.ref v), l3, l4] st M Q = Wp d 117 25 [l0, l1, some (.ref v), l3, l4] (.ref v :: st) M Q := fun d l0 l1 l3 l4 v st M Q => wA (show ins 117 24 = some (.aload_n 2, 1) by decide +kernel) rfl
set_option maxRecDepth 100000 in
theorem r_117_24_1 : ∀ (d : Nat) (l0 l1 l3 l4 : Option Value) (st : List Value) (M : Mem) (Q : Outcome → Mem → Prop), Wp d 117 24 [l0, l1, some .null, l3, l4] st M Q = Wp d 117 25 [l0, l1, some .null, l3, l4] (.null :: st) M Q := fun d l0 l1 l3 l4 st M Q => wA (show ins 117 24 = some (.aload_n 2, 1) by decide +kernel) rfl
set_option maxRecDepth 100000 in
theorem r_117_25 : ∀ (d : Nat) (l0 l1 l2 l3 : Option Value) (v : Int32) (st : List Value) (M : Mem) (Q : Outcome → Mem → Prop), Wp d 117 25 [l0, l1, l2, l3, some (.int v)] st M Q = Wp d 117 27 [l0, l1, l2, l3, some (.int v)] (.int v :: st) M Q := fun d l0 l1 l2 l3 v st M Q => wA (show ins 117 25 = some (.iload 4, 2) by decide +kernel) rfl
set_option maxRecDepth 100000 in
theorem r_117_27 : ∀ (d : Nat) (ls : Lc) (a : Nat) (j : Int32) (st : List Value) (M : Mem) (Q : Outcome → Mem → Prop), Wp d 117 27 ls (.int j :: .ref a :: st) M Q = ((((kX M a).1 = 1 ∨ (kX M a).1 = 2) ∧ inB j (kX M a).2 = true) ∧ Wp d 117 28 ls (.int (mA M a j.toNatClampNeg) :: st) M Q) := fun d ls a j st M Q => w_baload (show ins 117 27 = some (.baload, 1) by decide +kernel)
set_option maxRecDepth 100000 in
theorem r_117_28 : ∀ (d : Nat) (ls : Lc) (a : Int32) (st : List Value) (M : Mem) (Q : Outcome → Mem → Prop), Wp d 117 28 ls (.int a :: st) M Q = Br (a = I 0) d 117 44 31 ls st M Q := fun d ls a st M Q => w_if (show ins 117 28 = some (.ifCond .eq 16, 3) by decide +kernel) rfl rfl
set_option maxRecDepth 100000 in
theorem r_117_31 : ∀ (d : Nat) (l1 l2 l3 l4 : Option Value) (v : Nat) (st : List Value) (M : Mem) (Q : Outcome → Mem → Prop), Wp d 117 31 [some (.ref v), l1, l2, l3, l4] st M Q = Wp d 117 32 [some (.ref v), l1, l2, l3, l4] (.ref v :: st) M Q := fun d l1 l2 l3 l4 v st M Q => wA (show ins 117 31 = some (.aload_n 0, 1) by decide +kernel) rfl
set_option maxRecDepth 100000 in
theorem r_117_32 : ∀ (d : Nat) (l0 l1 l2 l3 : Option Value) (v : Int32) (st : List Value) (M : Mem) (Q : Outcome → Mem → Prop), Wp d 117 32 [l0, l1, l2, l3, some (.int v)] st M Q = Wp d 117 34 [l0, l1, l2, l3, some (.int v)] (.int v :: st) M Q := fun d l0 l1 l2 l3 v st M Q => wA (show ins 117 32 = some (.iload 4, 2) by decide +kernel) rfl
set_option maxRecDepth 100000 in
theorem r_117_34 : ∀ (d : Nat) (l0 l2 l3 l4 : Option Value) (v : Nat) (st : List Value) (M : Mem) (Q : Outcome → Mem → Prop), Wp d 117 34 [l0, some (.ref v), l2, l3, l4] st M Q = Wp d 117 35 [l0, some (.ref v), l2, l3, l4] (.ref v :: st) M Q := fun d l0 l2 l3 l4 v st M Q => wA (show ins 117 34 = some (.aload_n 1, 1) by decide +kernel) rfl
set_option maxRecDepth 100000 in
theorem r_117_34_1 : ∀ (d : Nat) (l0 l2 l3 l4 : Option Value) (st : List Value) (M : Mem) (Q : Outcome → Mem → Prop), Wp d 117 34 [l0, some .null, l2, l3, l4] st M Q = Wp d 117 35 [l0, some .null, l2, l3, l4] (.null :: st) M Q := fun d l0 l2 l3 l4 st M Q => wA (show ins 117 34 = some (.aload_n 1, 1) by decide +kernel) rfl
set_option maxRecDepth 100000 in
theorem r_117_35 : ∀ (d : Nat) (l0 l1 l2 l3 : Option Value) (v : Int32) (st : List Value) (M : Mem) (Q : Outcome → Mem → Prop), Wp d 117 35 [l0, l1, l2, l3, some (.int v)] st M Q = Wp d 117 37 [l0, l1, l2, l3, some (.int v)] (.int v :: st) M Q := fun d l0 l1 l2 l3 v st M Q => wA (show ins 117 35 = some (.iload 4, 2) by decide +kernel) rfl
set_option maxRecDepth 100000 in
theorem r_117_37 : ∀ (d : Nat) (ls : Lc) (a : Nat) (j : Int32) (st : List Value) (M : Mem) (Q : Outcome → Mem → Prop), Wp d 117 37 ls (.int j :: .ref a :: st) M Q = ((((kX M a).1 = 4 ∨ (kX M a).1 = 5 ∨ (kX M a).1 = 6 ∨ (kX M a).1 = 7) ∧ inB j (kX M a).2 = true) ∧ Wp d 117 38 ls (va_rf (mQ M a j.toNatClampNeg) :: st) M Q) := fun d ls a j st M Q => w_aaload (show ins 117 37 = some (.aaload, 1) by decide +kernel)
set_option maxRecDepth 100000 in
theorem r_117_38 : ∀ (d : Nat) (ls : Lc) (v0 v1 : Value) (a : Nat) (st : List Value) (M : Mem) (Q : Outcome → Mem → Prop), (smallR st = true) → Wp d 117 38 ls (v1 :: v0 :: .ref a :: st) M Q = (kO M a = 4 ∧ Ca d 117 38 ls 118 (.ref a :: [v0, v1]) st M Q) := fun d ls v0 v1 a st M Q h0 => w_virt1 (as := [v0, v1]) (show ins 117 38 = some (.invokevirtual 55, 3) by decide +kernel) (show mRes (mC 117) 55 = some (3, 4, [(4, 118)]) by decide +kernel) (by decide +kernel) rfl (by decide +kernel) (by decide +kernel) h0
set_option maxRecDepth 100000 in
theorem r_117_41 : ∀ (d : Nat) (ls : Lc) (a : Int32) (st : List Value) (M : Mem) (Q : Outcome → Mem → Prop), Wp d 117 41 ls (.int a :: st) M Q = Br (a = I 0) d 117 48 44 ls st M Q := fun d ls a st M Q => w_if (show ins 117 41 = some (.ifCond .eq 7, 3) by decide +kernel) rfl rfl
set_option maxRecDepth 100000 in
theorem r_117_44 : ∀ (d : Nat) (ls : Lc) (st : List Value) (M : Mem) (Q : Outcome → Mem → Prop), Wp d 117 44 ls st M Q = Wp d 117 45 ls (.int (I 1) :: st) M Q := fun d ls st M Q => w_iconst (show ins 117 44 = some (.iconst 1, 1) by decide +kernel)
set_option maxRecDepth 100000 in
theorem r_117_45 : ∀ (d : Nat) (ls : Lc) (st : List Value) (M : Mem) (Q : Outcome → Mem → Prop), Wp d 117 45 ls st M Q = Wp d 117 49 ls st M Q := fun d ls st M Q => w_goto (show ins 117 45 = some (.goto 4, 3) by decide +kernel) rfl
set_option maxRecDepth 100000 in
theorem r_117_48 : ∀ (d : Nat) (ls : Lc) (st : List Value) (M : Mem) (Q : Outcome → Mem → Prop), Wp d 117 48 ls st M Q = Wp d 117 49 ls (.int (I 0) :: st) M Q := fun d ls st M Q => w_iconst (show ins 117 48 = some (.iconst 0, 1) by decide +kernel)
set_option maxRecDepth 100000 in
theorem r_117_49 : ∀ (d : Nat) (l0 l1 l2 l3 l4 : Option Value) (v : Int32) (st : List Value) (M : Mem) (Q : Outcome → Mem → Prop), (lo l2 = false) → Wp d 117 49 [l0, l1, l2, l3, l4] (.int v :: st) M Q = Wp d 117 50 [l0, l1, l2, some (.int v), l4] st M Q := fun d l0 l1 l2 l3 l4 v st M Q hl => w_istore_n (show ins 117 49 = some (.istore_n 3, 1) by decide +kernel) (st1_S rfl rfl hl)
set_option maxRecDepth 100000 in
theorem r_117_50 : ∀ (d : Nat) (l0 l1 l2 l3 : Option Value) (z : Int) (st : List Value) (M : Mem) (Q : Outcome → Mem → Prop), (lo l3 = false) → Wp d 117 50 [l0, l1, l2, l3, some (.int (I z))] st M Q = Wp d 117 53 [l0, l1, l2, l3, some (.int (I (z + 1)))] st M Q := fun d l0 l1 l2 l3 z st M Q hl => w_iinc (show ins 117 50 = some (.iinc 4 1, 3) by decide +kernel) rfl (st1_S rfl rfl hl)
set_option maxRecDepth 100000 in
theorem r_117_53 : ∀ (d : Nat) (ls : Lc) (st : List Value) (M : Mem) (Q : Outcome → Mem → Prop), Wp d 117 53 ls st M Q = Wp d 117 11 ls st M Q := fun d ls st M Q => w_goto (show ins 117 53 = some (.goto (-42), 3) by decide +kernel) rfl
set_option maxRecDepth 100000 in
theorem r_117_56 : ∀ (d : Nat) (l0 l1 l2 l4 : Option Value) (v : Int32) (st : List Value) (M : Mem) (Q : Outcome → Mem → Prop), Wp d 117 56 [l0, l1, l2, some (.int v), l4] st M Q = Wp d 117 57 [l0, l1, l2, some (.int v), l4] (.int v :: st) M Q := fun d l0 l1 l2 l4 v st M Q => wA (show ins 117 56 = some (.iload_n 3, 1) by decide +kernel) rfl
set_option maxRecDepth 100000 in
theorem r_117_57 : ∀ (d : Nat) (ls : Lc) (a : Int32) (st : List Value) (M : Mem) (Q : Outcome → Mem → Prop), Wp d 117 57 ls (.int a :: st) M Q = Br (a = I 0) d 117 119 60 ls st M Q := fun d ls a st M Q => w_if (show ins 117 57 = some (.ifCond .eq 62, 3) by decide +kernel) rfl rfl
set_option maxRecDepth 100000 in
theorem r_117_60 : ∀ (d : Nat) (l1 l2 l3 l4 : Option Value) (v : Nat) (st : List Value) (M : Mem) (Q : Outcome → Mem → Prop), Wp d 117 60 [some (.ref v), l1, l2, l3, l4] st M Q = Wp d 117 61 [some (.ref v), l1, l2, l3, l4] (.ref v :: st) M Q := fun d l1 l2 l3 l4 v st M Q => wA (show ins 117 60 = some (.aload_n 0, 1) by decide +kernel) rfl
set_option maxRecDepth 100000 in
theorem r_117_61 : ∀ (d : Nat) (ls : Lc) (st : List Value) (M : Mem) (Q : Outcome → Mem → Prop), Wp d 117 61 ls st M Q = Wp d 117 63 ls (.int (I (-3)) :: st) M Q := fun d ls st M Q => w_bipush (show ins 117 61 = some (.bipush (-3), 2) by decide +kernel) (by decide)
set_option maxRecDepth 100000 in
theorem r_117_63 : ∀ (d : Nat) (ls : Lc) (st : List Value) (M : Mem) (Q : Outcome → Mem → Prop), Wp d 117 63 ls st M Q = Wp d 117 64 ls (.null :: st) M Q := fun d ls st M Q => wA (show ins 117 63 = some (.aconst_null, 1) by decide +kernel) rfl
set_option maxRecDepth 100000 in
theorem r_117_64 : ∀ (d : Nat) (ls : Lc) (v0 v1 : Value) (a : Nat) (st : List Value) (M : Mem) (Q : Outcome → Mem → Prop), (smallR st = true) → Wp d 117 64 ls (v1 :: v0 :: .ref a :: st) M Q = (kO M a = 4 ∧ Ca d 117 64 ls 118 (.ref a :: [v0, v1]) st M Q) := fun d ls v0 v1 a st M Q h0 => w_virt1 (as := [v0, v1]) (show ins 117 64 = some (.invokevirtual 55, 3) by decide +kernel) (show mRes (mC 117) 55 = some (3, 4, [(4, 118)]) by decide +kernel) (by decide +kernel) rfl (by decide +kernel) (by decide +kernel) h0
set_option maxRecDepth 100000 in
theorem r_117_67 : ∀ (d : Nat) (ls : Lc) (a : Int32) (st : List Value) (M : Mem) (Q : Outcome → Mem → Prop), Wp d 117 67 ls (.int a :: st) M Q = Br (a = I 0) d 117 119 70 ls st M Q := fun d ls a st M Q => w_if (show ins 117 67 = some (.ifCond .eq 52, 3) by decide +kernel) rfl rfl
set_option maxRecDepth 100000 in
theorem r_117_70 : ∀ (d : Nat) (l1 l2 l3 l4 : Option Value) (v : Nat) (st : List Value) (M : Mem) (Q : Outcome → Mem → Prop), Wp d 117 70 [some (.ref v), l1, l2, l3, l4] st M Q = Wp d 117 71 [some (.ref v), l1, l2, l3, l4] (.ref v :: st) M Q := fun d l1 l2 l3 l4 v st M Q => wA (show ins 117 70 = some (.aload_n 0, 1) by decide +kernel) rfl
set_option maxRecDepth 100000 in
theorem r_117_71 : ∀ (d : Nat) (ls : Lc) (v : Nat) (st : List Value) (M : Mem) (Q : Outcome → Mem → Prop), Wp d 117 71 ls (.ref v :: st) M Q = Wp d 117 72 ls (.ref v :: .ref v :: st) M Q := fun d ls v st M Q => wA (show ins 117 71 = some (.dup, 1) by decide +kernel) rfl
set_option maxRecDepth 100000 in
theorem r_117_71_1 : ∀ (d : Nat) (ls : Lc) (v : Int32) (st : List Value) (M : Mem) (Q : Outcome → Mem → Prop), Wp d 117 71 ls (.int v :: st) M Q = Wp d 117 72 ls (.int v :: .int v :: st) M Q := fun d ls v st M Q => wA (show ins 117 71 = some (.dup, 1) by decide +kernel) rfl
set_option maxRecDepth 100000 in
theorem r_117_72 : ∀ (d : Nat) (ls : Lc) (a : Nat) (st : List Value) (M : Mem) (Q : Outcome → Mem → Prop), Wp d 117 72 ls (.ref a :: st) M Q = (fk 19 (kO M a) = true ∧ Wp d 117 75 ls (.int (mF M 19 a) :: st) M Q) := fun d ls a st M Q => w_getI (show ins 117 72 = some (.getfield 59, 3) by decide +kernel) (show fRes (mC 117) 59 = some (19, 4, false) by decide +kernel) (by decide +kernel)
set_option maxRecDepth 100000 in
theorem r_117_75 : ∀ (d : Nat) (ls : Lc) (st : List Value) (M : Mem) (Q : Outcome → Mem → Prop), Wp d 117 75 ls st M Q = Wp d 117 76 ls (.int (I 1) :: st) M Q := fun d ls st M Q => w_iconst (show ins 117 75 = some (.iconst 1, 1) by decide +kernel)
set_option maxRecDepth 100000 in
theorem r_117_76 : ∀ (d : Nat) (ls : Lc) (a b : Int) (st : List Value) (M : Mem) (Q : Outcome → Mem → Prop), Wp d 117 76 ls (.int (I b) :: .int (I a) :: st) M Q = Wp d 117 77 ls (.int (I (a + b)) :: st) M Q := fun d ls a b st M Q => w_iadd (show ins 117 76 = some (.iadd, 1) by decide +kernel)
set_option maxRecDepth 100000 in
theorem r_117_77 : ∀ (d : Nat) (ls : Lc) (a : Nat) (v : Int32) (st : List Value) (M : Mem) (Q : Outcome → Mem → Prop), Wp d 117 77 ls (.int v :: .ref a :: st) M Q = (fk 19 (kO M a) = true ∧ Wp d 117 80 ls st (sF M 19 a v) Q) := fun d ls a v st M Q => w_putI (show ins 117 77 = some (.putfield 59, 3) by decide +kernel) (show fRes (mC 117) 59 = some (19, 4, false) by decide +kernel) (by decide +kernel) (by decide +kernel)
set_option maxRecDepth 100000 in
theorem r_117_80 : ∀ (d : Nat) (ls : Lc) (st : List Value) (M : Mem) (Q : Outcome → Mem → Prop), Wp d 117 80 ls st M Q = Wp d 117 81 ls (.int (I 0) :: st) M Q := fun d ls st M Q => w_iconst (show ins 117 80 = some (.iconst 0, 1) by decide +kernel)
set_option maxRecDepth 100000 in
theorem r_117_81 : ∀ (d : Nat) (l0 l1 l2 l3 l4 : Option Value) (v : Int32) (st : List Value) (M : Mem) (Q : Outcome → Mem → Prop), (lo l3 = false) → Wp d 117 81 [l0, l1, l2, l3, l4] (.int v :: st) M Q = Wp d 117 83 [l0, l1, l2, l3, some (.int v)] st M Q := fun d l0 l1 l2 l3 l4 v st M Q hl => w_istore (show ins 117 81 = some (.istore 4, 2) by decide +kernel) (st1_S rfl rfl hl)
set_option maxRecDepth 100000 in
theorem r_117_83 : ∀ (d : Nat) (l0 l1 l2 l3 : Option Value) (v : Int32) (st : List Value) (M : Mem) (Q : Outcome → Mem → Prop), Wp d 117 83 [l0, l1, l2, l3, some (.int v)] st M Q = Wp d 117 85 [l0, l1, l2, l3, some (.int v)] (.int v :: st) M Q := fun d l0 l1 l2 l3 v st M Q => wA (show ins 117 83 = some (.iload 4, 2) by decide +kernel) rfl
set_option maxRecDepth 100000 in
theorem r_117_85 : ∀ (d : Nat) (l1 l2 l3 l4 : Option Value) (v : Nat) (st : List Value) (M : Mem) (Q : Outcome → Mem → Prop), Wp d 117 85 [some (.ref v), l1, l2, l3, l4] st M Q = Wp d 117 86 [some (.ref v), l1, l2, l3, l4] (.ref v :: st) M Q := fun d l1 l2 l3 l4 v st M Q => wA (show ins 117 85 = some (.aload_n 0, 1) by decide +kernel) rfl
set_option maxRecDepth 100000 in
theorem r_117_86 : ∀ (d : Nat) (ls : Lc) (a : Nat) (st : List Value) (M : Mem) (Q : Outcome → Mem → Prop), Wp d 117 86 ls (.ref a :: st) M Q = (fk 28 (kO M a) = true ∧ Wp d 117 89 ls (.int (mF M 28 a) :: st) M Q) := fun d ls a st M Q => w_getI (show ins 117 86 = some (.getfield 27, 3) by decide +kernel) (show fRes (mC 117) 27 = some (28, 4, false) by decide +kernel) (by decide +kernel)
set_option maxRecDepth 100000 in
theorem r_117_89 : ∀ (d : Nat) (ls : Lc) (a b : Int32) (st : List Value) (M : Mem) (Q : Outcome → Mem → Prop), Wp d 117 89 ls (.int b :: .int a :: st) M Q = Br (b ≤ a) d 117 119 92 ls st M Q := fun d ls a b st M Q => w_icmp (show ins 117 89 = some (.if_icmp .ge 30, 3) by decide +kernel) rfl rfl
set_option maxRecDepth 100000 in
theorem r_117_92 : ∀ (d : Nat) (l0 l1 l3 l4 : Option Value) (v : Nat) (st : List Value) (M : Mem) (Q : Outcome → Mem → Prop), Wp d 117 92 [l0, l1, some (.ref v), l3, l4] st M Q = Wp d 117 93 [l0, l1, some (.ref v), l3, l4] (.ref v :: st) M Q := fun d l0 l1 l3 l4 v st M Q => wA (show ins 117 92 = some (.aload_n 2, 1) by decide +kernel) rfl
set_option maxRecDepth 100000 in
theorem r_117_92_1 : ∀ (d : Nat) (l0 l1 l3 l4 : Option Value) (st : List Value) (M : Mem) (Q : Outcome → Mem → Prop), Wp d 117 92 [l0, l1, some .null, l3, l4] st M Q = Wp d 117 93 [l0, l1, some .null, l3, l4] (.null :: st) M Q := fun d l0 l1 l3 l4 st M Q => wA (show ins 117 92 = some (.aload_n 2, 1) by decide +kernel) rfl
set_option maxRecDepth 100000 in
theorem r_117_93 : ∀ (d : Nat) (l0 l1 l2 l3 : Option Value) (v : Int32) (st : List Value) (M : Mem) (Q : Outcome → Mem → Prop), Wp d 117 93 [l0, l1, l2, l3, some (.int v)] st M Q = Wp d 117 95 [l0, l1, l2, l3, some (.int v)] (.int v :: st) M Q := fun d l0 l1 l2 l3 v st M Q => wA (show ins 117 93 = some (.iload 4, 2) by decide +kernel) rfl
set_option maxRecDepth 100000 in
theorem r_117_95 : ∀ (d : Nat) (ls : Lc) (a : Nat) (j : Int32) (st : List Value) (M : Mem) (Q : Outcome → Mem → Prop), Wp d 117 95 ls (.int j :: .ref a :: st) M Q = ((((kX M a).1 = 1 ∨ (kX M a).1 = 2) ∧ inB j (kX M a).2 = true) ∧ Wp d 117 96 ls (.int (mA M a j.toNatClampNeg) :: st) M Q) := fun d ls a j st M Q => w_baload (show ins 117 95 = some (.baload, 1) by decide +kernel)
set_option maxRecDepth 100000 in
theorem r_117_96 : ∀ (d : Nat) (ls : Lc) (a : Int32) (st : List Value) (M : Mem) (Q : Outcome → Mem → Prop), Wp d 117 96 ls (.int a :: st) M Q = Br (a = I 0) d 117 113 99 ls st M Q := fun d ls a st M Q => w_if (show ins 117 96 = some (.ifCond .eq 17, 3) by decide +kernel) rfl rfl
set_option maxRecDepth 100000 in
theorem r_117_99 : ∀ (d : Nat) (l0 l2 l3 l4 : Option Value) (v : Nat) (st : List Value) (M : Mem) (Q : Outcome → Mem → Prop), Wp d 117 99 [l0, some (.ref v), l2, l3, l4] st M Q = Wp d 117 100 [l0, some (.ref v), l2, l3, l4] (.ref v :: st) M Q := fun d l0 l2 l3 l4 v st M Q => wA (show ins 117 99 = some (.aload_n 1, 1) by decide +kernel) rfl
set_option maxRecDepth 100000 in
theorem r_117_99_1 : ∀ (d : Nat) (l0 l2 l3 l4 : Option Value) (st : List Value) (M : Mem) (Q : Outcome → Mem → Prop), Wp d 117 99 [l0, some .null, l2, l3, l4] st M Q = Wp d 117 100 [l0, some .null, l2, l3, l4] (.null :: st) M Q := fun d l0 l2 l3 l4 st M Q => wA (show ins 117 99 = some (.aload_n 1, 1) by decide +kernel) rfl
set_option maxRecDepth 100000 in
theorem r_117_100 : ∀ (d : Nat) (l0 l1 l2 l3 : Option Value) (v : Int32) (st : List Value) (M : Mem) (Q : Outcome → Mem → Prop), Wp d 117 100 [l0, l1, l2, l3, some (.int v)] st M Q = Wp d 117 102 [l0, l1, l2, l3, some (.int v)] (.int v :: st) M Q := fun d l0 l1 l2 l3 v st M Q => wA (show ins 117 100 = some (.iload 4, 2) by decide +kernel) rfl
set_option maxRecDepth 100000 in
theorem r_117_102 : ∀ (d : Nat) (ls : Lc) (a : Nat) (j : Int32) (st : List Value) (M : Mem) (Q : Outcome → Mem → Prop), Wp d 117 102 ls (.int j :: .ref a :: st) M Q = ((((kX M a).1 = 4 ∨ (kX M a).1 = 5 ∨ (kX M a).1 = 6 ∨ (kX M a).1 = 7) ∧ inB j (kX M a).2 = true) ∧ Wp d 117 103 ls (va_rf (mQ M a j.toNatClampNeg) :: st) M Q) := fun d ls a j st M Q => w_aaload (show ins 117 102 = some (.aaload, 1) by decide +kernel)
set_option maxRecDepth 100000 in
theorem r_117_103 : ∀ (d : Nat) (l1 l2 l3 l4 : Option Value) (v : Nat) (st : List Value) (M : Mem) (Q : Outcome → Mem → Prop), Wp d 117 103 [some (.ref v), l1, l2, l3, l4] st M Q = Wp d 117 104 [some (.ref v), l1, l2, l3, l4] (.ref v :: st) M Q := fun d l1 l2 l3 l4 v st M Q => wA (show ins 117 103 = some (.aload_n 0, 1) by decide +kernel) rfl
set_option maxRecDepth 100000 in
theorem r_117_104 : ∀ (d : Nat) (ls : Lc) (a : Nat) (st : List Value) (M : Mem) (Q : Outcome → Mem → Prop), Wp d 117 104 ls (.ref a :: st) M Q = (fk 22 (kO M a) = true ∧ Wp d 117 107 ls (va_rf (mR M 22 a) :: st) M Q) := fun d ls a st M Q => w_getR (show ins 117 104 = some (.getfield 16, 3) by decide +kernel) (show fRes (mC 117) 16 = some (22, 4, false) by decide +kernel) (by decide +kernel)
set_option maxRecDepth 100000 in
theorem r_117_107 : ∀ (d : Nat) (l0 l1 l2 l3 : Option Value) (v : Int32) (st : List Value) (M : Mem) (Q : Outcome → Mem → Prop), Wp d 117 107 [l0, l1, l2, l3, some (.int v)] st M Q = Wp d 117 109 [l0, l1, l2, l3, some (.int v)] (.int v :: st) M Q := fun d l0 l1 l2 l3 v st M Q => wA (show ins 117 107 = some (.iload 4, 2) by decide +kernel) rfl
set_option maxRecDepth 100000 in
theorem r_117_109 : ∀ (d : Nat) (ls : Lc) (a : Nat) (j : Int32) (st : List Value) (M : Mem) (Q : Outcome → Mem → Prop), Wp d 117 109 ls (.int j :: .ref a :: st) M Q = ((((kX M a).1 = 4 ∨ (kX M a).1 = 5 ∨ (kX M a).1 = 6 ∨ (kX M a).1 = 7) ∧ inB j (kX M a).2 = true) ∧ Wp d 117 110 ls (va_rf (mQ M a j.toNatClampNeg) :: st) M Q) := fun d ls a j st M Q => w_aaload (show ins 117 109 = some (.aaload, 1) by decide +kernel)
set_option maxRecDepth 100000 in
theorem r_117_110 : ∀ (d : Nat) (ls : Lc) (v0 v1 : Value)  (st : List Value) (M : Mem) (Q : Outcome → Mem → Prop), (smallR st = true) → Wp d 117 110 ls (v1 :: v0 :: st) M Q = Ca d 117 110 ls 27 [v0, v1] st M Q := fun d ls v0 v1 st M Q h0 => w_stat (as := [v0, v1]) (show ins 117 110 = some (.invokestatic 51, 3) by decide +kernel) (show mRes (mC 117) 51 = some (1, 1, [(0, 27)]) by decide +kernel) (by decide +kernel) (by decide +kernel) rfl h0
set_option maxRecDepth 100000 in
theorem r_117_113 : ∀ (d : Nat) (l0 l1 l2 l3 : Option Value) (z : Int) (st : List Value) (M : Mem) (Q : Outcome → Mem → Prop), (lo l3 = false) → Wp d 117 113 [l0, l1, l2, l3, some (.int (I z))] st M Q = Wp d 117 116 [l0, l1, l2, l3, some (.int (I (z + 1)))] st M Q := fun d l0 l1 l2 l3 z st M Q hl => w_iinc (show ins 117 113 = some (.iinc 4 1, 3) by decide +kernel) rfl (st1_S rfl rfl hl)
set_option maxRecDepth 100000 in
theorem r_117_116 : ∀ (d : Nat) (ls : Lc) (st : List Value) (M : Mem) (Q : Outcome → Mem → Prop), Wp d 117 116 ls st M Q = Wp d 117 83 ls st M Q := fun d ls st M Q => w_goto (show ins 117 116 = some (.goto (-33), 3) by decide +kernel) rfl
set_option maxRecDepth 100000 in
theorem r_117_119 : ∀ (d : Nat) (ls : Lc) (M : Mem) (Q : Outcome → Mem → Prop), Wp d 117 119 ls [] M Q = Q (.returned none) M := fun d ls M Q => w_return (show ins 117 119 = some (.return_, 1) by decide +kernel) (by decide +kernel)
set_option maxRecDepth 100000 in
theorem w_117_11 : (type_of% r_117_11) := r_117_11
set_option maxRecDepth 100000 in
theorem w_117_83 : (type_of% r_117_83) := r_117_83
set_option maxRecDepth 100000 in
theorem W_117 : (type_of% r_117_0) ∧ (type_of% r_117_1) ∧ (type_of% r_117_3) ∧ (type_of% r_117_4) ∧ (type_of% r_117_7) ∧ (type_of% r_117_8) ∧ (type_of% r_117_9) ∧ (type_of% r_117_13) ∧ (type_of% r_117_14) ∧ (type_of% r_117_17) ∧ (type_of% r_117_20) ∧ (type_of% r_117_21) ∧ (type_of% r_117_24) ∧ (type_of% r_117_24_1) ∧ (type_of% r_117_25) ∧ (type_of% r_117_27) ∧ (type_of% r_117_28) ∧ (type_of% r_117_31) ∧ (type_of% r_117_32) ∧ (type_of% r_117_34) ∧ (type_of% r_117_34_1) ∧ (type_of% r_117_35) ∧ (type_of% r_117_37) ∧ (type_of% r_117_38) ∧ (type_of% r_117_41) ∧ (type_of% r_117_44) ∧ (type_of% r_117_45) ∧ (type_of% r_117_48) ∧ (type_of% r_117_49) ∧ (type_of% r_117_50) ∧ (type_of% r_117_53) ∧ (type_of% r_117_56) ∧ (type_of% r_117_57) ∧ (type_of% r_117_60) ∧ (type_of% r_117_61) ∧ (type_of% r_117_63) ∧ (type_of% r_117_64) ∧ (type_of% r_117_67) ∧ (type_of% r_117_70) ∧ (type_of% r_117_71) ∧ (type_of% r_117_71_1) ∧ (type_of% r_117_72) ∧ (type_of% r_117_75) ∧ (type_of% r_117_76) ∧ (type_of% r_117_77) ∧ (type_of% r_117_80) ∧ (type_of% r_117_81) ∧ (type_of% r_117_85) ∧ (type_of% r_117_86) ∧ (type_of% r_117_89) ∧ (type_of% r_117_92) ∧ (type_of% r_117_92_1) ∧ (type_of% r_117_93) ∧ (type_of% r_117_95) ∧ (type_of% r_117_96) ∧ (type_of% r_117_99) ∧ (type_of% r_117_99_1) ∧ (type_of% r_117_100) ∧ (type_of% r_117_102) ∧ (type_of% r_117_103) ∧ (type_of% r_117_104) ∧ (type_of% r_117_107) ∧ (type_of% r_117_109) ∧ (type_of% r_117_110) ∧ (type_of% r_117_113) ∧ (type_of% r_117_116) ∧ (type_of% r_117_119) := ⟨r_117_0, r_117_1, r_117_3, r_117_4, r_117_7, r_117_8, r_117_9, r_117_13, r_117_14, r_117_17, r_117_20, r_117_21, r_117_24, r_117_24_1, r_117_25, r_117_27, r_117_28, r_117_31, r_117_32, r_117_34, r_117_34_1, r_117_35, r_117_37, r_117_38, r_117_41, r_117_44, r_117_45, r_117_48, r_117_49, r_117_50, r_117_53, r_117_56, r_117_57, r_117_60, r_117_61, r_117_63, r_117_64, r_117_67, r_117_70, r_117_71, r_117_71_1, r_117_72, r_117_75, r_117_76, r_117_77, r_117_80, r_117_81, r_117_85, r_117_86, r_117_89, r_117_92, r_117_92_1, r_117_93, r_117_95, r_117_96, r_117_99, r_117_99_1, r_117_100, r_117_102, r_117_103, r_117_104, r_117_107, r_117_109, r_117_110, r_117_113, r_117_116, r_117_119⟩
set_option maxRecDepth 100000 in
theorem ca_117 {d y pc : Nat} {ls : Lc} {a : Nat} {o0 : Option Nat} {o1 : Option Nat} {r : List Value} {M : Mem} {Q : Outcome → Mem → Prop} (hd : 0 < d) (hw : Wp (d - 1) 117 0 [some (.ref a), some (va_rf o0), some (va_rf o1), none, none] [] M (Cq d y pc ls r Q)) : Ca d y pc ls 117 [.ref a, va_rf o0, va_rf o1] r M Q := ca_of (mq_get (by decide)) (by cases o0 <;> cases o1 <;> rfl) hd hw
/-! 118 PackedTree$Device.log(I[B)Z; loop heads [] -/
set_option maxRecDepth 100000 in
theorem r_118_0 : ∀ (d : Nat) (l1 l2 : Option Value) (v : Nat) (st : List Value) (M : Mem) (Q : Outcome → Mem → Prop), Wp d 118 0 [some (.ref v), l1, l2] st M Q = Wp d 118 1 [some (.ref v), l1, l2] (.ref v :: st) M Q := fun d l1 l2 v st M Q => wA (show ins 118 0 = some (.aload_n 0, 1) by decide +kernel) rfl
set_option maxRecDepth 100000 in
theorem r_118_1 : ∀ (d : Nat) (ls : Lc) (a : Nat) (st : List Value) (M : Mem) (Q : Outcome → Mem → Prop), (smallR st = true) → Wp d 118 1 ls (.ref a :: st) M Q = (kO M a = 4 ∧ Ca d 118 1 ls 116 (.ref a :: []) st M Q) := fun d ls a st M Q h0 => w_virt1 (as := []) (show ins 118 1 = some (.invokevirtual 44, 3) by decide +kernel) (show mRes (mC 118) 44 = some (3, 4, [(4, 116)]) by decide +kernel) (by decide +kernel) rfl (by decide +kernel) (by decide +kernel) h0
set_option maxRecDepth 100000 in
theorem r_118_4 : ∀ (d : Nat) (ls : Lc) (a : Int32) (st : List Value) (M : Mem) (Q : Outcome → Mem → Prop), Wp d 118 4 ls (.int a :: st) M Q = Br (¬ a = I 0) d 118 9 7 ls st M Q := fun d ls a st M Q => w_if (show ins 118 4 = some (.ifCond .ne 5, 3) by decide +kernel) rfl rfl
set_option maxRecDepth 100000 in
theorem r_118_7 : ∀ (d : Nat) (ls : Lc) (st : List Value) (M : Mem) (Q : Outcome → Mem → Prop), Wp d 118 7 ls st M Q = Wp d 118 8 ls (.int (I 0) :: st) M Q := fun d ls st M Q => w_iconst (show ins 118 7 = some (.iconst 0, 1) by decide +kernel)
set_option maxRecDepth 100000 in
theorem r_118_8 : ∀ (d : Nat) (ls : Lc) (z : Int) (M : Mem) (Q : Outcome → Mem → Prop), (z = 0 ∨ z = 1) → Wp d 118 8 ls [.int (I z)] M Q = Q (.returned (some (.int (I z)))) M := fun d ls z M Q h0 => w_zretI (show ins 118 8 = some (.ireturn, 1) by decide +kernel) (by decide +kernel) h0
set_option maxRecDepth 100000 in
theorem r_118_8_1 : ∀ (d : Nat) (ls : Lc) (b : Bool) (M : Mem) (Q : Outcome → Mem → Prop), Wp d 118 8 ls [.int (I (bI b))] M Q = Q (.returned (some (.int (I (bI b))))) M := fun d ls b M Q => w_zretB (show ins 118 8 = some (.ireturn, 1) by decide +kernel) (by decide +kernel)
set_option maxRecDepth 100000 in
theorem r_118_9 : ∀ (d : Nat) (l1 l2 : Option Value) (v : Nat) (st : List Value) (M : Mem) (Q : Outcome → Mem → Prop), Wp d 118 9 [some (.ref v), l1, l2] st M Q = Wp d 118 10 [some (.ref v), l1, l2] (.ref v :: st) M Q := fun d l1 l2 v st M Q => wA (show ins 118 9 = some (.aload_n 0, 1) by decide +kernel) rfl
set_option maxRecDepth 100000 in
theorem r_118_10 : ∀ (d : Nat) (ls : Lc) (a : Nat) (st : List Value) (M : Mem) (Q : Outcome → Mem → Prop), Wp d 118 10 ls (.ref a :: st) M Q = (fk 27 (kO M a) = true ∧ Wp d 118 13 ls (va_rf (mR M 27 a) :: st) M Q) := fun d ls a st M Q => w_getR (show ins 118 10 = some (.getfield 33, 3) by decide +kernel) (show fRes (mC 118) 33 = some (27, 4, false) by decide +kernel) (by decide +kernel)
set_option maxRecDepth 100000 in
theorem r_118_13 : ∀ (d : Nat) (l1 l2 : Option Value) (v : Nat) (st : List Value) (M : Mem) (Q : Outcome → Mem → Prop), Wp d 118 13 [some (.ref v), l1, l2] st M Q = Wp d 118 14 [some (.ref v), l1, l2] (.ref v :: st) M Q := fun d l1 l2 v st M Q => wA (show ins 118 13 = some (.aload_n 0, 1) by decide +kernel) rfl
set_option maxRecDepth 100000 in
theorem r_118_14 : ∀ (d : Nat) (ls : Lc) (a : Nat) (st : List Value) (M : Mem) (Q : Outcome → Mem → Prop), Wp d 118 14 ls (.ref a :: st) M Q = (fk 20 (kO M a) = true ∧ Wp d 118 17 ls (.int (mF M 20 a) :: st) M Q) := fun d ls a st M Q => w_getI (show ins 118 14 = some (.getfield 48, 3) by decide +kernel) (show fRes (mC 118) 48 = some (20, 4, false) by decide +kernel) (by decide +kernel)
set_option maxRecDepth 100000 in
theorem r_118_17 : ∀ (d : Nat) (l0 l2 : Option Value) (v : Int32) (st : List Value) (M : Mem) (Q : Outcome → Mem → Prop), Wp d 118 17 [l0, some (.int v), l2] st M Q = Wp d 118 18 [l0, some (.int v), l2] (.int v :: st) M Q := fun d l0 l2 v st M Q => wA (show ins 118 17 = some (.iload_n 1, 1) by decide +kernel) rfl
set_option maxRecDepth 100000 in
theorem r_118_18 : ∀ (d : Nat) (ls : Lc) (a : Nat) (j v : Int32) (st : List Value) (M : Mem) (Q : Outcome → Mem → Prop), Wp d 118 18 ls (.int v :: .int j :: .ref a :: st) M Q = (((kX M a).1 = 0 ∧ inB j (kX M a).2 = true) ∧ Wp d 118 19 ls st (sA M a j.toNatClampNeg v) Q) := fun d ls a j v st M Q => w_iastore (show ins 118 18 = some (.iastore, 1) by decide +kernel)
set_option maxRecDepth 100000 in
theorem r_118_19 : ∀ (d : Nat) (l0 l1 : Option Value) (v : Nat) (st : List Value) (M : Mem) (Q : Outcome → Mem → Prop), Wp d 118 19 [l0, l1, some (.ref v)] st M Q = Wp d 118 20 [l0, l1, some (.ref v)] (.ref v :: st) M Q := fun d l0 l1 v st M Q => wA (show ins 118 19 = some (.aload_n 2, 1) by decide +kernel) rfl
set_option maxRecDepth 100000 in
theorem r_118_19_1 : ∀ (d : Nat) (l0 l1 : Option Value) (st : List Value) (M : Mem) (Q : Outcome → Mem → Prop), Wp d 118 19 [l0, l1, some .null] st M Q = Wp d 118 20 [l0, l1, some .null] (.null :: st) M Q := fun d l0 l1 st M Q => wA (show ins 118 19 = some (.aload_n 2, 1) by decide +kernel) rfl
set_option maxRecDepth 100000 in
theorem r_118_20 : ∀ (d : Nat) (ls : Lc) (st : List Value) (M : Mem) (Q : Outcome → Mem → Prop), Wp d 118 20 ls (.null :: st) M Q = Wp d 118 36 ls st M Q := fun d ls st M Q => w_ifnullN (show ins 118 20 = some (.ifnull 16, 3) by decide +kernel) rfl
set_option maxRecDepth 100000 in
theorem r_118_20_1 : ∀ (d : Nat) (ls : Lc) (v : Nat) (st : List Value) (M : Mem) (Q : Outcome → Mem → Prop), Wp d 118 20 ls (.ref v :: st) M Q = Wp d 118 23 ls st M Q := fun d ls v st M Q => w_ifnullR (show ins 118 20 = some (.ifnull 16, 3) by decide +kernel) (t := 36) rfl
set_option maxRecDepth 100000 in
theorem r_118_23 : ∀ (d : Nat) (l0 l1 : Option Value) (v : Nat) (st : List Value) (M : Mem) (Q : Outcome → Mem → Prop), Wp d 118 23 [l0, l1, some (.ref v)] st M Q = Wp d 118 24 [l0, l1, some (.ref v)] (.ref v :: st) M Q := fun d l0 l1 v st M Q => wA (show ins 118 23 = some (.aload_n 2, 1) by decide +kernel) rfl
set_option maxRecDepth 100000 in
theorem r_118_23_1 : ∀ (d : Nat) (l0 l1 : Option Value) (st : List Value) (M : Mem) (Q : Outcome → Mem → Prop), Wp d 118 23 [l0, l1, some .null] st M Q = Wp d 118 24 [l0, l1, some .null] (.null :: st) M Q := fun d l0 l1 st M Q => wA (show ins 118 23 = some (.aload_n 2, 1) by decide +kernel) rfl
set_option maxRecDepth 100000 in
theorem r_118_24 : ∀ (d : Nat) (l1 l2 : Option Value) (v : Nat) (st : List Value) (M : Mem) (Q : Outcome → Mem → Prop), Wp d 118 24 [some (.ref v), l1, l2] st M Q = Wp d 118 25 [some (.ref v), l1, l2] (.ref v :: st) M Q := fun d l1 l2 v st M Q => wA (show ins 118 24 = some (.aload_n 0, 1) by decide +kernel) rfl
set_option maxRecDepth 100000 in
theorem r_118_25 : ∀ (d : Nat) (ls : Lc) (a : Nat) (st : List Value) (M : Mem) (Q : Outcome → Mem → Prop), Wp d 118 25 ls (.ref a :: st) M Q = (fk 26 (kO M a) = true ∧ Wp d 118 28 ls (va_rf (mR M 26 a) :: st) M Q) := fun d ls a st M Q => w_getR (show ins 118 25 = some (.getfield 30, 3) by decide +kernel) (show fRes (mC 118) 30 = some (26, 4, false) by decide +kernel) (by decide +kernel)
set_option maxRecDepth 100000 in
theorem r_118_28 : ∀ (d : Nat) (l1 l2 : Option Value) (v : Nat) (st : List Value) (M : Mem) (Q : Outcome → Mem → Prop), Wp d 118 28 [some (.ref v), l1, l2] st M Q = Wp d 118 29 [some (.ref v), l1, l2] (.ref v :: st) M Q := fun d l1 l2 v st M Q => wA (show ins 118 28 = some (.aload_n 0, 1) by decide +kernel) rfl
set_option maxRecDepth 100000 in
theorem r_118_29 : ∀ (d : Nat) (ls : Lc) (a : Nat) (st : List Value) (M : Mem) (Q : Outcome → Mem → Prop), Wp d 118 29 ls (.ref a :: st) M Q = (fk 20 (kO M a) = true ∧ Wp d 118 32 ls (.int (mF M 20 a) :: st) M Q) := fun d ls a st M Q => w_getI (show ins 118 29 = some (.getfield 48, 3) by decide +kernel) (show fRes (mC 118) 48 = some (20, 4, false) by decide +kernel) (by decide +kernel)
set_option maxRecDepth 100000 in
theorem r_118_32 : ∀ (d : Nat) (ls : Lc) (a : Nat) (j : Int32) (st : List Value) (M : Mem) (Q : Outcome → Mem → Prop), Wp d 118 32 ls (.int j :: .ref a :: st) M Q = ((((kX M a).1 = 4 ∨ (kX M a).1 = 5 ∨ (kX M a).1 = 6 ∨ (kX M a).1 = 7) ∧ inB j (kX M a).2 = true) ∧ Wp d 118 33 ls (va_rf (mQ M a j.toNatClampNeg) :: st) M Q) := fun d ls a j st M Q => w_aaload (show ins 118 32 = some (.aaload, 1) by decide +kernel)
set_option maxRecDepth 100000 in
theorem r_118_33 : ∀ (d : Nat) (ls : Lc) (v0 v1 : Value)  (st : List Value) (M : Mem) (Q : Outcome → Mem → Prop), (smallR st = true) → Wp d 118 33 ls (v1 :: v0 :: st) M Q = Ca d 118 33 ls 27 [v0, v1] st M Q := fun d ls v0 v1 st M Q h0 => w_stat (as := [v0, v1]) (show ins 118 33 = some (.invokestatic 51, 3) by decide +kernel) (show mRes (mC 118) 51 = some (1, 1, [(0, 27)]) by decide +kernel) (by decide +kernel) (by decide +kernel) rfl h0
set_option maxRecDepth 100000 in
theorem r_118_36 : ∀ (d : Nat) (l1 l2 : Option Value) (v : Nat) (st : List Value) (M : Mem) (Q : Outcome → Mem → Prop), Wp d 118 36 [some (.ref v), l1, l2] st M Q = Wp d 118 37 [some (.ref v), l1, l2] (.ref v :: st) M Q := fun d l1 l2 v st M Q => wA (show ins 118 36 = some (.aload_n 0, 1) by decide +kernel) rfl
set_option maxRecDepth 100000 in
theorem r_118_37 : ∀ (d : Nat) (ls : Lc) (v : Nat) (st : List Value) (M : Mem) (Q : Outcome → Mem → Prop), Wp d 118 37 ls (.ref v :: st) M Q = Wp d 118 38 ls (.ref v :: .ref v :: st) M Q := fun d ls v st M Q => wA (show ins 118 37 = some (.dup, 1) by decide +kernel) rfl
set_option maxRecDepth 100000 in
theorem r_118_37_1 : ∀ (d : Nat) (ls : Lc) (v : Int32) (st : List Value) (M : Mem) (Q : Outcome → Mem → Prop), Wp d 118 37 ls (.int v :: st) M Q = Wp d 118 38 ls (.int v :: .int v :: st) M Q := fun d ls v st M Q => wA (show ins 118 37 = some (.dup, 1) by decide +kernel) rfl
set_option maxRecDepth 100000 in
theorem r_118_38 : ∀ (d : Nat) (ls : Lc) (a : Nat) (st : List Value) (M : Mem) (Q : Outcome → Mem → Prop), Wp d 118 38 ls (.ref a :: st) M Q = (fk 20 (kO M a) = true ∧ Wp d 118 41 ls (.int (mF M 20 a) :: st) M Q) := fun d ls a st M Q => w_getI (show ins 118 38 = some (.getfield 48, 3) by decide +kernel) (show fRes (mC 118) 48 = some (20, 4, false) by decide +kernel) (by decide +kernel)
set_option maxRecDepth 100000 in
theorem r_118_41 : ∀ (d : Nat) (ls : Lc) (st : List Value) (M : Mem) (Q : Outcome → Mem → Prop), Wp d 118 41 ls st M Q = Wp d 118 42 ls (.int (I 1) :: st) M Q := fun d ls st M Q => w_iconst (show ins 118 41 = some (.iconst 1, 1) by decide +kernel)
set_option maxRecDepth 100000 in
theorem r_118_42 : ∀ (d : Nat) (ls : Lc) (a b : Int) (st : List Value) (M : Mem) (Q : Outcome → Mem → Prop), Wp d 118 42 ls (.int (I b) :: .int (I a) :: st) M Q = Wp d 118 43 ls (.int (I (a + b)) :: st) M Q := fun d ls a b st M Q => w_iadd (show ins 118 42 = some (.iadd, 1) by decide +kernel)
set_option maxRecDepth 100000 in
theorem r_118_43 : ∀ (d : Nat) (ls : Lc) (a : Nat) (v : Int32) (st : List Value) (M : Mem) (Q : Outcome → Mem → Prop), Wp d 118 43 ls (.int v :: .ref a :: st) M Q = (fk 20 (kO M a) = true ∧ Wp d 118 46 ls st (sF M 20 a v) Q) := fun d ls a v st M Q => w_putI (show ins 118 43 = some (.putfield 48, 3) by decide +kernel) (show fRes (mC 118) 48 = some (20, 4, false) by decide +kernel) (by decide +kernel) (by decide +kernel)
set_option maxRecDepth 100000 in
theorem r_118_46 : ∀ (d : Nat) (ls : Lc) (st : List Value) (M : Mem) (Q : Outcome → Mem → Prop), Wp d 118 46 ls st M Q = Wp d 118 47 ls (.int (I 1) :: st) M Q := fun d ls st M Q => w_iconst (show ins 118 46 = some (.iconst 1, 1) by decide +kernel)
set_option maxRecDepth 100000 in
theorem r_118_47 : ∀ (d : Nat) (ls : Lc) (z : Int) (M : Mem) (Q : Outcome → Mem → Prop), (z = 0 ∨ z = 1) → Wp d 118 47 ls [.int (I z)] M Q = Q (.returned (some (.int (I z)))) M := fun d ls z M Q h0 => w_zretI (show ins 118 47 = some (.ireturn, 1) by decide +kernel) (by decide +kernel) h0
set_option maxRecDepth 100000 in
theorem r_118_47_1 : ∀ (d : Nat) (ls : Lc) (b : Bool) (M : Mem) (Q : Outcome → Mem → Prop), Wp d 118 47 ls [.int (I (bI b))] M Q = Q (.returned (some (.int (I (bI b))))) M := fun d ls b M Q => w_zretB (show ins 118 47 = some (.ireturn, 1) by decide +kernel) (by decide +kernel)
set_option maxRecDepth 100000 in
theorem W_118 : (type_of% r_118_0) ∧ (type_of% r_118_1) ∧ (type_of% r_118_4) ∧ (type_of% r_118_7) ∧ (type_of% r_118_8) ∧ (type_of% r_118_8_1) ∧ (type_of% r_118_9) ∧ (type_of% r_118_10) ∧ (type_of% r_118_13) ∧ (type_of% r_118_14) ∧ (type_of% r_118_17) ∧ (type_of% r_118_18) ∧ (type_of% r_118_19) ∧ (type_of% r_118_19_1) ∧ (type_of% r_118_20) ∧ (type_of% r_118_20_1) ∧ (type_of% r_118_23) ∧ (type_of% r_118_23_1) ∧ (type_of% r_118_24) ∧ (type_of% r_118_25) ∧ (type_of% r_118_28) ∧ (type_of% r_118_29) ∧ (type_of% r_118_32) ∧ (type_of% r_118_33) ∧ (type_of% r_118_36) ∧ (type_of% r_118_37) ∧ (type_of% r_118_37_1) ∧ (type_of% r_118_38) ∧ (type_of% r_118_41) ∧ (type_of% r_118_42) ∧ (type_of% r_118_43) ∧ (type_of% r_118_46) ∧ (type_of% r_118_47) ∧ (type_of% r_118_47_1) := ⟨r_118_0, r_118_1, r_118_4, r_118_7, r_118_8, r_118_8_1, r_118_9, r_118_10, r_118_13, r_118_14, r_118_17, r_118_18, r_118_19, r_118_19_1, r_118_20, r_118_20_1, r_118_23, r_118_23_1, r_118_24, r_118_25, r_118_28, r_118_29, r_118_32, r_118_33, r_118_36, r_118_37, r_118_37_1, r_118_38, r_118_41, r_118_42, r_118_43, r_118_46, r_118_47, r_118_47_1⟩
set_option maxRecDepth 100000 in
theorem ca_118 {d y pc : Nat} {ls : Lc} {a : Nat} {z0 : Int32} {o1 : Option Nat} {r : List Value} {M : Mem} {Q : Outcome → Mem → Prop} (hd : 0 < d) (hw : Wp (d - 1) 118 0 [some (.ref a), some (.int z0), some (va_rf o1)] [] M (Cq d y pc ls r Q)) : Ca d y pc ls 118 [.ref a, .int z0, va_rf o1] r M Q := ca_of (mq_get (by decide)) (by cases o1 <;> rfl) hd hw
/-! 119 PackedTree$Device.recover()V; loop heads [7, 41] -/
set_option maxRecDepth 100000 in
theorem r_119_0 : ∀ (d : Nat) (l1 : Option Value) (v : Nat) (st : List Value) (M : Mem) (Q : Outcome → Mem → Prop), Wp d 119 0 [some (.ref v), l1] st M Q = Wp d 119 1 [some (.ref v), l1] (.ref v :: st) M Q := fun d l1 v st M Q => wA (show ins 119 0 = some (.aload_n 0, 1) by decide +kernel) rfl
set_option maxRecDepth 100000 in
theorem r_119_1 : ∀ (d : Nat) (ls : Lc) (st : List Value) (M : Mem) (Q : Outcome → Mem → Prop), Wp d 119 1 ls st M Q = Wp d 119 2 ls (.int (I 0) :: st) M Q := fun d ls st M Q => w_iconst (show ins 119 1 = some (.iconst 0, 1) by decide +kernel)
set_option maxRecDepth 100000 in
theorem r_119_2 : ∀ (d : Nat) (ls : Lc) (a : Nat) (v : Int) (st : List Value) (M : Mem) (Q : Outcome → Mem → Prop), (v = 0 ∨ v = 1) → Wp d 119 2 ls (.int (I v) :: .ref a :: st) M Q = (fk 25 (kO M a) = true ∧ Wp d 119 5 ls st (sF M 25 a (I v)) Q) := fun d ls a v st M Q h0 => w_putZ (show ins 119 2 = some (.putfield 37, 3) by decide +kernel) (show fRes (mC 119) 37 = some (25, 4, false) by decide +kernel) (by decide +kernel) (by decide +kernel) h0
set_option maxRecDepth 100000 in
theorem r_119_5 : ∀ (d : Nat) (ls : Lc) (st : List Value) (M : Mem) (Q : Outcome → Mem → Prop), Wp d 119 5 ls st M Q = Wp d 119 6 ls (.int (I 0) :: st) M Q := fun d ls st M Q => w_iconst (show ins 119 5 = some (.iconst 0, 1) by decide +kernel)
set_option maxRecDepth 100000 in
theorem r_119_6 : ∀ (d : Nat) (l0 l1 : Option Value) (v : Int32) (st : List Value) (M : Mem) (Q : Outcome → Mem → Prop), (lo l0 = false) → Wp d 119 6 [l0, l1] (.int v :: st) M Q = Wp d 119 7 [l0, some (.int v)] st M Q := fun d l0 l1 v st M Q hl => w_istore_n (show ins 119 6 = some (.istore_n 1, 1) by decide +kernel) (st1_S rfl rfl hl)
set_option maxRecDepth 100000 in
theorem r_119_7 : ∀ (d : Nat) (l0 : Option Value) (v : Int32) (st : List Value) (M : Mem) (Q : Outcome → Mem → Prop), Wp d 119 7 [l0, some (.int v)] st M Q = Wp d 119 8 [l0, some (.int v)] (.int v :: st) M Q := fun d l0 v st M Q => wA (show ins 119 7 = some (.iload_n 1, 1) by decide +kernel) rfl
set_option maxRecDepth 100000 in
theorem r_119_8 : ∀ (d : Nat) (l1 : Option Value) (v : Nat) (st : List Value) (M : Mem) (Q : Outcome → Mem → Prop), Wp d 119 8 [some (.ref v), l1] st M Q = Wp d 119 9 [some (.ref v), l1] (.ref v :: st) M Q := fun d l1 v st M Q => wA (show ins 119 8 = some (.aload_n 0, 1) by decide +kernel) rfl
set_option maxRecDepth 100000 in
theorem r_119_9 : ∀ (d : Nat) (ls : Lc) (a : Nat) (st : List Value) (M : Mem) (Q : Outcome → Mem → Prop), Wp d 119 9 ls (.ref a :: st) M Q = (fk 28 (kO M a) = true ∧ Wp d 119 12 ls (.int (mF M 28 a) :: st) M Q) := fun d ls a st M Q => w_getI (show ins 119 9 = some (.getfield 27, 3) by decide +kernel) (show fRes (mC 119) 27 = some (28, 4, false) by decide +kernel) (by decide +kernel)
set_option maxRecDepth 100000 in
theorem r_119_12 : ∀ (d : Nat) (ls : Lc) (a b : Int32) (st : List Value) (M : Mem) (Q : Outcome → Mem → Prop), Wp d 119 12 ls (.int b :: .int a :: st) M Q = Br (b ≤ a) d 119 36 15 ls st M Q := fun d ls a b st M Q => w_icmp (show ins 119 12 = some (.if_icmp .ge 24, 3) by decide +kernel) rfl rfl
set_option maxRecDepth 100000 in
theorem r_119_15 : ∀ (d : Nat) (l1 : Option Value) (v : Nat) (st : List Value) (M : Mem) (Q : Outcome → Mem → Prop), Wp d 119 15 [some (.ref v), l1] st M Q = Wp d 119 16 [some (.ref v), l1] (.ref v :: st) M Q := fun d l1 v st M Q => wA (show ins 119 15 = some (.aload_n 0, 1) by decide +kernel) rfl
set_option maxRecDepth 100000 in
theorem r_119_16 : ∀ (d : Nat) (ls : Lc) (a : Nat) (st : List Value) (M : Mem) (Q : Outcome → Mem → Prop), Wp d 119 16 ls (.ref a :: st) M Q = (fk 21 (kO M a) = true ∧ Wp d 119 19 ls (va_rf (mR M 21 a) :: st) M Q) := fun d ls a st M Q => w_getR (show ins 119 16 = some (.getfield 11, 3) by decide +kernel) (show fRes (mC 119) 11 = some (21, 4, false) by decide +kernel) (by decide +kernel)
set_option maxRecDepth 100000 in
theorem r_119_19 : ∀ (d : Nat) (l0 : Option Value) (v : Int32) (st : List Value) (M : Mem) (Q : Outcome → Mem → Prop), Wp d 119 19 [l0, some (.int v)] st M Q = Wp d 119 20 [l0, some (.int v)] (.int v :: st) M Q := fun d l0 v st M Q => wA (show ins 119 19 = some (.iload_n 1, 1) by decide +kernel) rfl
set_option maxRecDepth 100000 in
theorem r_119_20 : ∀ (d : Nat) (ls : Lc) (a : Nat) (j : Int32) (st : List Value) (M : Mem) (Q : Outcome → Mem → Prop), Wp d 119 20 ls (.int j :: .ref a :: st) M Q = ((((kX M a).1 = 4 ∨ (kX M a).1 = 5 ∨ (kX M a).1 = 6 ∨ (kX M a).1 = 7) ∧ inB j (kX M a).2 = true) ∧ Wp d 119 21 ls (va_rf (mQ M a j.toNatClampNeg) :: st) M Q) := fun d ls a j st M Q => w_aaload (show ins 119 20 = some (.aaload, 1) by decide +kernel)
set_option maxRecDepth 100000 in
theorem r_119_21 : ∀ (d : Nat) (l1 : Option Value) (v : Nat) (st : List Value) (M : Mem) (Q : Outcome → Mem → Prop), Wp d 119 21 [some (.ref v), l1] st M Q = Wp d 119 22 [some (.ref v), l1] (.ref v :: st) M Q := fun d l1 v st M Q => wA (show ins 119 21 = some (.aload_n 0, 1) by decide +kernel) rfl
set_option maxRecDepth 100000 in
theorem r_119_22 : ∀ (d : Nat) (ls : Lc) (a : Nat) (st : List Value) (M : Mem) (Q : Outcome → Mem → Prop), Wp d 119 22 ls (.ref a :: st) M Q = (fk 22 (kO M a) = true ∧ Wp d 119 25 ls (va_rf (mR M 22 a) :: st) M Q) := fun d ls a st M Q => w_getR (show ins 119 22 = some (.getfield 16, 3) by decide +kernel) (show fRes (mC 119) 16 = some (22, 4, false) by decide +kernel) (by decide +kernel)
set_option maxRecDepth 100000 in
theorem r_119_25 : ∀ (d : Nat) (l0 : Option Value) (v : Int32) (st : List Value) (M : Mem) (Q : Outcome → Mem → Prop), Wp d 119 25 [l0, some (.int v)] st M Q = Wp d 119 26 [l0, some (.int v)] (.int v :: st) M Q := fun d l0 v st M Q => wA (show ins 119 25 = some (.iload_n 1, 1) by decide +kernel) rfl
set_option maxRecDepth 100000 in
theorem r_119_26 : ∀ (d : Nat) (ls : Lc) (a : Nat) (j : Int32) (st : List Value) (M : Mem) (Q : Outcome → Mem → Prop), Wp d 119 26 ls (.int j :: .ref a :: st) M Q = ((((kX M a).1 = 4 ∨ (kX M a).1 = 5 ∨ (kX M a).1 = 6 ∨ (kX M a).1 = 7) ∧ inB j (kX M a).2 = true) ∧ Wp d 119 27 ls (va_rf (mQ M a j.toNatClampNeg) :: st) M Q) := fun d ls a j st M Q => w_aaload (show ins 119 26 = some (.aaload, 1) by decide +kernel)
set_option maxRecDepth 100000 in
theorem r_119_27 : ∀ (d : Nat) (ls : Lc) (v0 v1 : Value)  (st : List Value) (M : Mem) (Q : Outcome → Mem → Prop), (smallR st = true) → Wp d 119 27 ls (v1 :: v0 :: st) M Q = Ca d 119 27 ls 27 [v0, v1] st M Q := fun d ls v0 v1 st M Q h0 => w_stat (as := [v0, v1]) (show ins 119 27 = some (.invokestatic 51, 3) by decide +kernel) (show mRes (mC 119) 51 = some (1, 1, [(0, 27)]) by decide +kernel) (by decide +kernel) (by decide +kernel) rfl h0
set_option maxRecDepth 100000 in
theorem r_119_30 : ∀ (d : Nat) (l0 : Option Value) (z : Int) (st : List Value) (M : Mem) (Q : Outcome → Mem → Prop), (lo l0 = false) → Wp d 119 30 [l0, some (.int (I z))] st M Q = Wp d 119 33 [l0, some (.int (I (z + 1)))] st M Q := fun d l0 z st M Q hl => w_iinc (show ins 119 30 = some (.iinc 1 1, 3) by decide +kernel) rfl (st1_S rfl rfl hl)
set_option maxRecDepth 100000 in
theorem r_119_33 : ∀ (d : Nat) (ls : Lc) (st : List Value) (M : Mem) (Q : Outcome → Mem → Prop), Wp d 119 33 ls st M Q = Wp d 119 7 ls st M Q := fun d ls st M Q => w_goto (show ins 119 33 = some (.goto (-26), 3) by decide +kernel) rfl
set_option maxRecDepth 100000 in
theorem r_119_36 : ∀ (d : Nat) (l1 : Option Value) (v : Nat) (st : List Value) (M : Mem) (Q : Outcome → Mem → Prop), Wp d 119 36 [some (.ref v), l1] st M Q = Wp d 119 37 [some (.ref v), l1] (.ref v :: st) M Q := fun d l1 v st M Q => wA (show ins 119 36 = some (.aload_n 0, 1) by decide +kernel) rfl
set_option maxRecDepth 100000 in
theorem r_119_37 : ∀ (d : Nat) (ls : Lc) (st : List Value) (M : Mem) (Q : Outcome → Mem → Prop), Wp d 119 37 ls st M Q = Wp d 119 38 ls (.int (I 1) :: st) M Q := fun d ls st M Q => w_iconst (show ins 119 37 = some (.iconst 1, 1) by decide +kernel)
set_option maxRecDepth 100000 in
theorem r_119_38 : ∀ (d : Nat) (ls : Lc) (v0 : Value) (a : Nat) (st : List Value) (M : Mem) (Q : Outcome → Mem → Prop), (smallR st = true) → Wp d 119 38 ls (v0 :: .ref a :: st) M Q = (kO M a = 4 ∧ Ca d 119 38 ls 115 (.ref a :: [v0]) st M Q) := fun d ls v0 a st M Q h0 => w_virt1 (as := [v0]) (show ins 119 38 = some (.invokevirtual 62, 3) by decide +kernel) (show mRes (mC 119) 62 = some (3, 4, [(4, 115)]) by decide +kernel) (by decide +kernel) rfl (by decide +kernel) (by decide +kernel) h0
set_option maxRecDepth 100000 in
theorem r_119_41 : ∀ (d : Nat) (l1 : Option Value) (v : Nat) (st : List Value) (M : Mem) (Q : Outcome → Mem → Prop), Wp d 119 41 [some (.ref v), l1] st M Q = Wp d 119 42 [some (.ref v), l1] (.ref v :: st) M Q := fun d l1 v st M Q => wA (show ins 119 41 = some (.aload_n 0, 1) by decide +kernel) rfl
set_option maxRecDepth 100000 in
theorem r_119_42 : ∀ (d : Nat) (ls : Lc) (a : Nat) (st : List Value) (M : Mem) (Q : Outcome → Mem → Prop), Wp d 119 42 ls (.ref a :: st) M Q = (fk 20 (kO M a) = true ∧ Wp d 119 45 ls (.int (mF M 20 a) :: st) M Q) := fun d ls a st M Q => w_getI (show ins 119 42 = some (.getfield 48, 3) by decide +kernel) (show fRes (mC 119) 48 = some (20, 4, false) by decide +kernel) (by decide +kernel)
set_option maxRecDepth 100000 in
theorem r_119_45 : ∀ (d : Nat) (ls : Lc) (a : Int32) (st : List Value) (M : Mem) (Q : Outcome → Mem → Prop), Wp d 119 45 ls (.int a :: st) M Q = Br (a ≤ I 0) d 119 77 48 ls st M Q := fun d ls a st M Q => w_if (show ins 119 45 = some (.ifCond .le 32, 3) by decide +kernel) rfl rfl
set_option maxRecDepth 100000 in
theorem r_119_48 : ∀ (d : Nat) (l1 : Option Value) (v : Nat) (st : List Value) (M : Mem) (Q : Outcome → Mem → Prop), Wp d 119 48 [some (.ref v), l1] st M Q = Wp d 119 49 [some (.ref v), l1] (.ref v :: st) M Q := fun d l1 v st M Q => wA (show ins 119 48 = some (.aload_n 0, 1) by decide +kernel) rfl
set_option maxRecDepth 100000 in
theorem r_119_49 : ∀ (d : Nat) (ls : Lc) (a : Nat) (st : List Value) (M : Mem) (Q : Outcome → Mem → Prop), Wp d 119 49 ls (.ref a :: st) M Q = (fk 27 (kO M a) = true ∧ Wp d 119 52 ls (va_rf (mR M 27 a) :: st) M Q) := fun d ls a st M Q => w_getR (show ins 119 49 = some (.getfield 33, 3) by decide +kernel) (show fRes (mC 119) 33 = some (27, 4, false) by decide +kernel) (by decide +kernel)
set_option maxRecDepth 100000 in
theorem r_119_52 : ∀ (d : Nat) (l1 : Option Value) (v : Nat) (st : List Value) (M : Mem) (Q : Outcome → Mem → Prop), Wp d 119 52 [some (.ref v), l1] st M Q = Wp d 119 53 [some (.ref v), l1] (.ref v :: st) M Q := fun d l1 v st M Q => wA (show ins 119 52 = some (.aload_n 0, 1) by decide +kernel) rfl
set_option maxRecDepth 100000 in
theorem r_119_53 : ∀ (d : Nat) (ls : Lc) (a : Nat) (st : List Value) (M : Mem) (Q : Outcome → Mem → Prop), Wp d 119 53 ls (.ref a :: st) M Q = (fk 20 (kO M a) = true ∧ Wp d 119 56 ls (.int (mF M 20 a) :: st) M Q) := fun d ls a st M Q => w_getI (show ins 119 53 = some (.getfield 48, 3) by decide +kernel) (show fRes (mC 119) 48 = some (20, 4, false) by decide +kernel) (by decide +kernel)
set_option maxRecDepth 100000 in
theorem r_119_56 : ∀ (d : Nat) (ls : Lc) (st : List Value) (M : Mem) (Q : Outcome → Mem → Prop), Wp d 119 56 ls st M Q = Wp d 119 57 ls (.int (I 1) :: st) M Q := fun d ls st M Q => w_iconst (show ins 119 56 = some (.iconst 1, 1) by decide +kernel)
set_option maxRecDepth 100000 in
theorem r_119_57 : ∀ (d : Nat) (ls : Lc) (a b : Int) (st : List Value) (M : Mem) (Q : Outcome → Mem → Prop), Wp d 119 57 ls (.int (I b) :: .int (I a) :: st) M Q = Wp d 119 58 ls (.int (I (a - b)) :: st) M Q := fun d ls a b st M Q => w_isub (show ins 119 57 = some (.isub, 1) by decide +kernel)
set_option maxRecDepth 100000 in
theorem r_119_58 : ∀ (d : Nat) (ls : Lc) (a : Nat) (j : Int32) (st : List Value) (M : Mem) (Q : Outcome → Mem → Prop), Wp d 119 58 ls (.int j :: .ref a :: st) M Q = ((((kX M a).1 = 0 ∨ (kX M a).1 = 8) ∧ inB j (kX M a).2 = true) ∧ Wp d 119 59 ls (.int (mA M a j.toNatClampNeg) :: st) M Q) := fun d ls a j st M Q => w_iaload (show ins 119 58 = some (.iaload, 1) by decide +kernel)
set_option maxRecDepth 100000 in
theorem r_119_59 : ∀ (d : Nat) (ls : Lc) (st : List Value) (M : Mem) (Q : Outcome → Mem → Prop), Wp d 119 59 ls st M Q = Wp d 119 61 ls (.int (I (-3)) :: st) M Q := fun d ls st M Q => w_bipush (show ins 119 59 = some (.bipush (-3), 2) by decide +kernel) (by decide)
set_option maxRecDepth 100000 in
theorem r_119_61 : ∀ (d : Nat) (ls : Lc) (a b : Int32) (st : List Value) (M : Mem) (Q : Outcome → Mem → Prop), Wp d 119 61 ls (.int b :: .int a :: st) M Q = Br (a = b) d 119 77 64 ls st M Q := fun d ls a b st M Q => w_icmp (show ins 119 61 = some (.if_icmp .eq 16, 3) by decide +kernel) rfl rfl
set_option maxRecDepth 100000 in
theorem r_119_64 : ∀ (d : Nat) (l1 : Option Value) (v : Nat) (st : List Value) (M : Mem) (Q : Outcome → Mem → Prop), Wp d 119 64 [some (.ref v), l1] st M Q = Wp d 119 65 [some (.ref v), l1] (.ref v :: st) M Q := fun d l1 v st M Q => wA (show ins 119 64 = some (.aload_n 0, 1) by decide +kernel) rfl
set_option maxRecDepth 100000 in
theorem r_119_65 : ∀ (d : Nat) (ls : Lc) (v : Nat) (st : List Value) (M : Mem) (Q : Outcome → Mem → Prop), Wp d 119 65 ls (.ref v :: st) M Q = Wp d 119 66 ls (.ref v :: .ref v :: st) M Q := fun d ls v st M Q => wA (show ins 119 65 = some (.dup, 1) by decide +kernel) rfl
set_option maxRecDepth 100000 in
theorem r_119_65_1 : ∀ (d : Nat) (ls : Lc) (v : Int32) (st : List Value) (M : Mem) (Q : Outcome → Mem → Prop), Wp d 119 65 ls (.int v :: st) M Q = Wp d 119 66 ls (.int v :: .int v :: st) M Q := fun d ls v st M Q => wA (show ins 119 65 = some (.dup, 1) by decide +kernel) rfl
set_option maxRecDepth 100000 in
theorem r_119_66 : ∀ (d : Nat) (ls : Lc) (a : Nat) (st : List Value) (M : Mem) (Q : Outcome → Mem → Prop), Wp d 119 66 ls (.ref a :: st) M Q = (fk 20 (kO M a) = true ∧ Wp d 119 69 ls (.int (mF M 20 a) :: st) M Q) := fun d ls a st M Q => w_getI (show ins 119 66 = some (.getfield 48, 3) by decide +kernel) (show fRes (mC 119) 48 = some (20, 4, false) by decide +kernel) (by decide +kernel)
set_option maxRecDepth 100000 in
theorem r_119_69 : ∀ (d : Nat) (ls : Lc) (st : List Value) (M : Mem) (Q : Outcome → Mem → Prop), Wp d 119 69 ls st M Q = Wp d 119 70 ls (.int (I 1) :: st) M Q := fun d ls st M Q => w_iconst (show ins 119 69 = some (.iconst 1, 1) by decide +kernel)
set_option maxRecDepth 100000 in
theorem r_119_70 : ∀ (d : Nat) (ls : Lc) (a b : Int) (st : List Value) (M : Mem) (Q : Outcome → Mem → Prop), Wp d 119 70 ls (.int (I b) :: .int (I a) :: st) M Q = Wp d 119 71 ls (.int (I (a - b)) :: st) M Q := fun d ls a b st M Q => w_isub (show ins 119 70 = some (.isub, 1) by decide +kernel)
set_option maxRecDepth 100000 in
theorem r_119_71 : ∀ (d : Nat) (ls : Lc) (a : Nat) (v : Int32) (st : List Value) (M : Mem) (Q : Outcome → Mem → Prop), Wp d 119 71 ls (.int v :: .ref a :: st) M Q = (fk 20 (kO M a) = true ∧ Wp d 119 74 ls st (sF M 20 a v) Q) := fun d ls a v st M Q => w_putI (show ins 119 71 = some (.putfield 48, 3) by decide +kernel) (show fRes (mC 119) 48 = some (20, 4, false) by decide +kernel) (by decide +kernel) (by decide +kernel)
set_option maxRecDepth 100000 in
theorem r_119_74 : ∀ (d : Nat) (ls : Lc) (st : List Value) (M : Mem) (Q : Outcome → Mem → Prop), Wp d 119 74 ls st M Q = Wp d 119 41 ls st M Q := fun d ls st M Q => w_goto (show ins 119 74 = some (.goto (-33), 3) by decide +kernel) rfl
set_option maxRecDepth 100000 in
theorem r_119_77 : ∀ (d : Nat) (ls : Lc) (M : Mem) (Q : Outcome → Mem → Prop), Wp d 119 77 ls [] M Q = Q (.returned none) M := fun d ls M Q => w_return (show ins 119 77 = some (.return_, 1) by decide +kernel) (by decide +kernel)
set_option maxRecDepth 100000 in
theorem w_119_7 : (type_of% r_119_7) := r_119_7
set_option maxRecDepth 100000 in
theorem w_119_41 : (type_of% r_119_41) := r_119_41
set_option maxRecDepth 100000 in
theorem W_119 : (type_of% r_119_0) ∧ (type_of% r_119_1) ∧ (type_of% r_119_2) ∧ (type_of% r_119_5) ∧ (type_of% r_119_6) ∧ (type_of% r_119_8) ∧ (type_of% r_119_9) ∧ (type_of% r_119_12) ∧ (type_of% r_119_15) ∧ (type_of% r_119_16) ∧ (type_of% r_119_19) ∧ (type_of% r_119_20) ∧ (type_of% r_119_21) ∧ (type_of% r_119_22) ∧ (type_of% r_119_25) ∧ (type_of% r_119_26) ∧ (type_of% r_119_27) ∧ (type_of% r_119_30) ∧ (type_of% r_119_33) ∧ (type_of% r_119_36) ∧ (type_of% r_119_37) ∧ (type_of% r_119_38) ∧ (type_of% r_119_42) ∧ (type_of% r_119_45) ∧ (type_of% r_119_48) ∧ (type_of% r_119_49) ∧ (type_of% r_119_52) ∧ (type_of% r_119_53) ∧ (type_of% r_119_56) ∧ (type_of% r_119_57) ∧ (type_of% r_119_58) ∧ (type_of% r_119_59) ∧ (type_of% r_119_61) ∧ (type_of% r_119_64) ∧ (type_of% r_119_65) ∧ (type_of% r_119_65_1) ∧ (type_of% r_119_66) ∧ (type_of% r_119_69) ∧ (type_of% r_119_70) ∧ (type_of% r_119_71) ∧ (type_of% r_119_74) ∧ (type_of% r_119_77) := ⟨r_119_0, r_119_1, r_119_2, r_119_5, r_119_6, r_119_8, r_119_9, r_119_12, r_119_15, r_119_16, r_119_19, r_119_20, r_119_21, r_119_22, r_119_25, r_119_26, r_119_27, r_119_30, r_119_33, r_119_36, r_119_37, r_119_38, r_119_42, r_119_45, r_119_48, r_119_49, r_119_52, r_119_53, r_119_56, r_119_57, r_119_58, r_119_59, r_119_61, r_119_64, r_119_65, r_119_65_1, r_119_66, r_119_69, r_119_70, r_119_71, r_119_74, r_119_77⟩
set_option maxRecDepth 100000 in
theorem ca_119 {d y pc : Nat} {ls : Lc} {a : Nat} {r : List Value} {M : Mem} {Q : Outcome → Mem → Prop} (hd : 0 < d) (hw : Wp (d - 1) 119 0 [some (.ref a), none] [] M (Cq d y pc ls r Q)) : Ca d y pc ls 119 [.ref a] r M Q := ca_of (mq_get (by decide)) (by rfl) hd hw
/-! 120 PackedTree$Leaf.<init>(I)V; loop heads [] -/
set_option maxRecDepth 100000 in
theorem r_120_0 : ∀ (d : Nat) (l1 : Option Value) (v : Nat) (st : List Value) (M : Mem) (Q : Outcome → Mem → Prop), Wp d 120 0 [some (.ref v), l1] st M Q = Wp d 120 1 [some (.ref v), l1] (.ref v :: st) M Q := fun d l1 v st M Q => wA (show ins 120 0 = some (.aload_n 0, 1) by decide +kernel) rfl
set_option maxRecDepth 100000 in
theorem r_120_1 : ∀ (d : Nat) (l0 : Option Value) (v : Int32) (st : List Value) (M : Mem) (Q : Outcome → Mem → Prop), Wp d 120 1 [l0, some (.int v)] st M Q = Wp d 120 2 [l0, some (.int v)] (.int v :: st) M Q := fun d l0 v st M Q => wA (show ins 120 1 = some (.iload_n 1, 1) by decide +kernel) rfl
set_option maxRecDepth 100000 in
theorem r_120_2 : ∀ (d : Nat) (ls : Lc) (v0 : Value) (a : Nat) (st : List Value) (M : Mem) (Q : Outcome → Mem → Prop), (smallR st = true) → Wp d 120 2 ls (v0 :: .ref a :: st) M Q = Ca d 120 2 ls 149 (.ref a :: [v0]) st M Q := fun d ls v0 a st M Q h0 => w_spec (as := [v0]) (show ins 120 2 = some (.invokespecial 3, 3) by decide +kernel) (show mRes (mC 120) 3 = some (2, 7, [(0, 149)]) by decide +kernel) (by decide +kernel) rfl h0
set_option maxRecDepth 100000 in
theorem r_120_5 : ∀ (d : Nat) (l1 : Option Value) (v : Nat) (st : List Value) (M : Mem) (Q : Outcome → Mem → Prop), Wp d 120 5 [some (.ref v), l1] st M Q = Wp d 120 6 [some (.ref v), l1] (.ref v :: st) M Q := fun d l1 v st M Q => wA (show ins 120 5 = some (.aload_n 0, 1) by decide +kernel) rfl
set_option maxRecDepth 100000 in
theorem r_120_6 : ∀ (d : Nat) (ls : Lc) (st : List Value) (M : Mem) (Q : Outcome → Mem → Prop), Wp d 120 6 ls st M Q = Wp d 120 8 ls (.int (I 24) :: st) M Q := fun d ls st M Q => w_bipush (show ins 120 6 = some (.bipush 24, 2) by decide +kernel) (by decide)
set_option maxRecDepth 100000 in
theorem r_120_8 : ∀ (d : Nat) (ls : Lc) (n : Int) (st : List Value) (M : Mem) (Q : Outcome → Mem → Prop), (0 ≤ n) → (n ≤ 60000) → Wp d 120 8 ls (.int (I n) :: st) M Q = Wp d 120 10 ls (.ref (mN M) :: st) (nw M (.inr (0, n.toNat)) n.toNat) Q := fun d ls n st M Q h0 h1 => w_newarray (show ins 120 8 = some (.newarray .int, 2) by decide +kernel) rfl h0 h1
set_option maxRecDepth 100000 in
theorem r_120_10 : ∀ (d : Nat) (ls : Lc) (a b : Nat) (st : List Value) (M : Mem) (Q : Outcome → Mem → Prop), Wp d 120 10 ls (.ref b :: .ref a :: st) M Q = (fk 36 (kO M a) = true ∧ Wp d 120 13 ls st (sR M 36 a (some b)) Q) := fun d ls a b st M Q => w_putR (v := some b) (show ins 120 10 = some (.putfield 9, 3) by decide +kernel) (show fRes (mC 120) 9 = some (36, 5, false) by decide +kernel) (by decide +kernel) (by decide +kernel)
set_option maxRecDepth 100000 in
theorem r_120_10_1 : ∀ (d : Nat) (ls : Lc) (a : Nat) (st : List Value) (M : Mem) (Q : Outcome → Mem → Prop), Wp d 120 10 ls (.null :: .ref a :: st) M Q = (fk 36 (kO M a) = true ∧ Wp d 120 13 ls st (sR M 36 a none) Q) := fun d ls a st M Q => w_putR (v := none) (show ins 120 10 = some (.putfield 9, 3) by decide +kernel) (show fRes (mC 120) 9 = some (36, 5, false) by decide +kernel) (by decide +kernel) (by decide +kernel)
set_option maxRecDepth 100000 in
theorem r_120_13 : ∀ (d : Nat) (l1 : Option Value) (v : Nat) (st : List Value) (M : Mem) (Q : Outcome → Mem → Prop), Wp d 120 13 [some (.ref v), l1] st M Q = Wp d 120 14 [some (.ref v), l1] (.ref v :: st) M Q := fun d l1 v st M Q => wA (show ins 120 13 = some (.aload_n 0, 1) by decide +kernel) rfl
set_option maxRecDepth 100000 in
theorem r_120_14 : ∀ (d : Nat) (ls : Lc) (st : List Value) (M : Mem) (Q : Outcome → Mem → Prop), Wp d 120 14 ls st M Q = Wp d 120 16 ls (.int (I 24) :: st) M Q := fun d ls st M Q => w_bipush (show ins 120 14 = some (.bipush 24, 2) by decide +kernel) (by decide)
set_option maxRecDepth 100000 in
theorem r_120_16 : ∀ (d : Nat) (ls : Lc) (n : Int) (st : List Value) (M : Mem) (Q : Outcome → Mem → Prop), (0 ≤ n) → (n ≤ 60000) → Wp d 120 16 ls (.int (I n) :: st) M Q = Wp d 120 18 ls (.ref (mN M) :: st) (nw M (.inr (0, n.toNat)) n.toNat) Q := fun d ls n st M Q h0 h1 => w_newarray (show ins 120 16 = some (.newarray .int, 2) by decide +kernel) rfl h0 h1
set_option maxRecDepth 100000 in
theorem r_120_18 : ∀ (d : Nat) (ls : Lc) (a b : Nat) (st : List Value) (M : Mem) (Q : Outcome → Mem → Prop), Wp d 120 18 ls (.ref b :: .ref a :: st) M Q = (fk 38 (kO M a) = true ∧ Wp d 120 21 ls st (sR M 38 a (some b)) Q) := fun d ls a b st M Q => w_putR (v := some b) (show ins 120 18 = some (.putfield 15, 3) by decide +kernel) (show fRes (mC 120) 15 = some (38, 5, false) by decide +kernel) (by decide +kernel) (by decide +kernel)
set_option maxRecDepth 100000 in
theorem r_120_18_1 : ∀ (d : Nat) (ls : Lc) (a : Nat) (st : List Value) (M : Mem) (Q : Outcome → Mem → Prop), Wp d 120 18 ls (.null :: .ref a :: st) M Q = (fk 38 (kO M a) = true ∧ Wp d 120 21 ls st (sR M 38 a none) Q) := fun d ls a st M Q => w_putR (v := none) (show ins 120 18 = some (.putfield 15, 3) by decide +kernel) (show fRes (mC 120) 15 = some (38, 5, false) by decide +kernel) (by decide +kernel) (by decide +kernel)
set_option maxRecDepth 100000 in
theorem r_120_21 : ∀ (d : Nat) (l1 : Option Value) (v : Nat) (st : List Value) (M : Mem) (Q : Outcome → Mem → Prop), Wp d 120 21 [some (.ref v), l1] st M Q = Wp d 120 22 [some (.ref v), l1] (.ref v :: st) M Q := fun d l1 v st M Q => wA (show ins 120 21 = some (.aload_n 0, 1) by decide +kernel) rfl
set_option maxRecDepth 100000 in
theorem r_120_22 : ∀ (d : Nat) (ls : Lc) (st : List Value) (M : Mem) (Q : Outcome → Mem → Prop), Wp d 120 22 ls st M Q = Wp d 120 25 ls (.int (I 240) :: st) M Q := fun d ls st M Q => w_sipush (show ins 120 22 = some (.sipush 240, 3) by decide +kernel) (by decide)
set_option maxRecDepth 100000 in
theorem r_120_25 : ∀ (d : Nat) (ls : Lc) (n : Int) (st : List Value) (M : Mem) (Q : Outcome → Mem → Prop), (0 ≤ n) → (n ≤ 60000) → Wp d 120 25 ls (.int (I n) :: st) M Q = Wp d 120 27 ls (.ref (mN M) :: st) (nw M (.inr (1, n.toNat)) n.toNat) Q := fun d ls n st M Q h0 h1 => w_newarray (show ins 120 25 = some (.newarray .byte, 2) by decide +kernel) rfl h0 h1
set_option maxRecDepth 100000 in
theorem r_120_27 : ∀ (d : Nat) (ls : Lc) (a b : Nat) (st : List Value) (M : Mem) (Q : Outcome → Mem → Prop), Wp d 120 27 ls (.ref b :: .ref a :: st) M Q = (fk 35 (kO M a) = true ∧ Wp d 120 30 ls st (sR M 35 a (some b)) Q) := fun d ls a b st M Q => w_putR (v := some b) (show ins 120 27 = some (.putfield 18, 3) by decide +kernel) (show fRes (mC 120) 18 = some (35, 5, false) by decide +kernel) (by decide +kernel) (by decide +kernel)
set_option maxRecDepth 100000 in
theorem r_120_27_1 : ∀ (d : Nat) (ls : Lc) (a : Nat) (st : List Value) (M : Mem) (Q : Outcome → Mem → Prop), Wp d 120 27 ls (.null :: .ref a :: st) M Q = (fk 35 (kO M a) = true ∧ Wp d 120 30 ls st (sR M 35 a none) Q) := fun d ls a st M Q => w_putR (v := none) (show ins 120 27 = some (.putfield 18, 3) by decide +kernel) (show fRes (mC 120) 18 = some (35, 5, false) by decide +kernel) (by decide +kernel) (by decide +kernel)
set_option maxRecDepth 100000 in
theorem r_120_30 : ∀ (d : Nat) (ls : Lc) (M : Mem) (Q : Outcome → Mem → Prop), Wp d 120 30 ls [] M Q = Q (.returned none) M := fun d ls M Q => w_return (show ins 120 30 = some (.return_, 1) by decide +kernel) (by decide +kernel)
set_option maxRecDepth 100000 in
theorem W_120 : (type_of% r_120_0) ∧ (type_of% r_120_1) ∧ (type_of% r_120_2) ∧ (type_of% r_120_5) ∧ (type_of% r_120_6) ∧ (type_of% r_120_8) ∧ (type_of% r_120_10) ∧ (type_of% r_120_10_1) ∧ (type_of% r_120_13) ∧ (type_of% r_120_14) ∧ (type_of% r_120_16) ∧ (type_of% r_120_18) ∧ (type_of% r_120_18_1) ∧ (type_of% r_120_21) ∧ (type_of% r_120_22) ∧ (type_of% r_120_25) ∧ (type_of% r_120_27) ∧ (type_of% r_120_27_1) ∧ (type_of% r_120_30) := ⟨r_120_0, r_120_1, r_120_2, r_120_5, r_120_6, r_120_8, r_120_10, r_120_10_1, r_120_13, r_120_14, r_120_16, r_120_18, r_120_18_1, r_120_21, r_120_22, r_120_25, r_120_27, r_120_27_1, r_120_30⟩
set_option maxRecDepth 100000 in
theorem ca_120 {d y pc : Nat} {ls : Lc} {a : Nat} {z0 : Int32} {r : List Value} {M : Mem} {Q : Outcome → Mem → Prop} (hd : 0 < d) (hw : Wp (d - 1) 120 0 [some (.ref a), some (.int z0)] [] M (Cq d y pc ls r Q)) : Ca d y pc ls 120 [.ref a, .int z0] r M Q := ca_of (mq_get (by decide)) (by rfl) hd hw
/-! 121 PackedTree$Leaf.begin()V; loop heads [] -/
set_option maxRecDepth 100000 in
theorem r_121_0 : ∀ (d : Nat) (v : Nat) (st : List Value) (M : Mem) (Q : Outcome → Mem → Prop), Wp d 121 0 [some (.ref v)] st M Q = Wp d 121 1 [some (.ref v)] (.ref v :: st) M Q := fun d v st M Q => wA (show ins 121 0 = some (.aload_n 0, 1) by decide +kernel) rfl
set_option maxRecDepth 100000 in
theorem r_121_1 : ∀ (d : Nat) (ls : Lc) (a : Nat) (st : List Value) (M : Mem) (Q : Outcome → Mem → Prop), (smallR st = true) → Wp d 121 1 ls (.ref a :: st) M Q = (kO M a = 5 ∧ Ca d 121 1 ls 150 (.ref a :: []) st M Q) := fun d ls a st M Q h0 => w_virt1 (as := []) (show ins 121 1 = some (.invokevirtual 29, 3) by decide +kernel) (show mRes (mC 121) 29 = some (4, 5, [(5, 150)]) by decide +kernel) (by decide +kernel) rfl (by decide +kernel) (by decide +kernel) h0
set_option maxRecDepth 100000 in
theorem r_121_4 : ∀ (d : Nat) (v : Nat) (st : List Value) (M : Mem) (Q : Outcome → Mem → Prop), Wp d 121 4 [some (.ref v)] st M Q = Wp d 121 5 [some (.ref v)] (.ref v :: st) M Q := fun d v st M Q => wA (show ins 121 4 = some (.aload_n 0, 1) by decide +kernel) rfl
set_option maxRecDepth 100000 in
theorem r_121_5 : ∀ (d : Nat) (ls : Lc) (st : List Value) (M : Mem) (Q : Outcome → Mem → Prop), Wp d 121 5 ls st M Q = Wp d 121 6 ls (.int (I 0) :: st) M Q := fun d ls st M Q => w_iconst (show ins 121 5 = some (.iconst 0, 1) by decide +kernel)
set_option maxRecDepth 100000 in
theorem r_121_6 : ∀ (d : Nat) (ls : Lc) (a : Nat) (v : Int32) (st : List Value) (M : Mem) (Q : Outcome → Mem → Prop), Wp d 121 6 ls (.int v :: .ref a :: st) M Q = (fk 37 (kO M a) = true ∧ Wp d 121 9 ls st (sF M 37 a v) Q) := fun d ls a v st M Q => w_putI (show ins 121 6 = some (.putfield 22, 3) by decide +kernel) (show fRes (mC 121) 22 = some (37, 5, false) by decide +kernel) (by decide +kernel) (by decide +kernel)
set_option maxRecDepth 100000 in
theorem r_121_9 : ∀ (d : Nat) (v : Nat) (st : List Value) (M : Mem) (Q : Outcome → Mem → Prop), Wp d 121 9 [some (.ref v)] st M Q = Wp d 121 10 [some (.ref v)] (.ref v :: st) M Q := fun d v st M Q => wA (show ins 121 9 = some (.aload_n 0, 1) by decide +kernel) rfl
set_option maxRecDepth 100000 in
theorem r_121_10 : ∀ (d : Nat) (ls : Lc) (st : List Value) (M : Mem) (Q : Outcome → Mem → Prop), Wp d 121 10 ls st M Q = Wp d 121 11 ls (.int (I 0) :: st) M Q := fun d ls st M Q => w_iconst (show ins 121 10 = some (.iconst 0, 1) by decide +kernel)
set_option maxRecDepth 100000 in
theorem r_121_11 : ∀ (d : Nat) (ls : Lc) (a : Nat) (v : Int32) (st : List Value) (M : Mem) (Q : Outcome → Mem → Prop), Wp d 121 11 ls (.int v :: .ref a :: st) M Q = (fk 34 (kO M a) = true ∧ Wp d 121 14 ls st (sF M 34 a v) Q) := fun d ls a v st M Q => w_putI (show ins 121 11 = some (.putfield 26, 3) by decide +kernel) (show fRes (mC 121) 26 = some (34, 5, false) by decide +kernel) (by decide +kernel) (by decide +kernel)
set_option maxRecDepth 100000 in
theorem r_121_14 : ∀ (d : Nat) (ls : Lc) (M : Mem) (Q : Outcome → Mem → Prop), Wp d 121 14 ls [] M Q = Q (.returned none) M := fun d ls M Q => w_return (show ins 121 14 = some (.return_, 1) by decide +kernel) (by decide +kernel)
set_option maxRecDepth 100000 in
theorem W_121 : (type_of% r_121_0) ∧ (type_of% r_121_1) ∧ (type_of% r_121_4) ∧ (type_of% r_121_5) ∧ (type_of% r_121_6) ∧ (type_of% r_121_9) ∧ (type_of% r_121_10) ∧ (type_of% r_121_11) ∧ (type_of% r_121_14) := ⟨r_121_0, r_121_1, r_121_4, r_121_5, r_121_6, r_121_9, r_121_10, r_121_11, r_121_14⟩
set_option maxRecDepth 100000 in
theorem ca_121 {d y pc : Nat} {ls : Lc} {a : Nat} {r : List Value} {M : Mem} {Q : Outcome → Mem → Prop} (hd : 0 < d) (hw : Wp (d - 1) 121 0 [some (.ref a)] [] M (Cq d y pc ls r Q)) : Ca d y pc ls 121 [.ref a] r M Q := ca_of (mq_get (by decide)) (by rfl) hd hw
/-! 122 PackedTree$Leaf.first()I; loop heads [] -/
set_option maxRecDepth 100000 in
theorem r_122_0 : ∀ (d : Nat) (v : Nat) (st : List Value) (M : Mem) (Q : Outcome → Mem → Prop), Wp d 122 0 [some (.ref v)] st M Q = Wp d 122 1 [some (.ref v)] (.ref v :: st) M Q := fun d v st M Q => wA (show ins 122 0 = some (.aload_n 0, 1) by decide +kernel) rfl
set_option maxRecDepth 100000 in
theorem r_122_1 : ∀ (d : Nat) (ls : Lc) (a : Nat) (st : List Value) (M : Mem) (Q : Outcome → Mem → Prop), Wp d 122 1 ls (.ref a :: st) M Q = (fk 36 (kO M a) = true ∧ Wp d 122 4 ls (va_rf (mR M 36 a) :: st) M Q) := fun d ls a st M Q => w_getR (show ins 122 1 = some (.getfield 9, 3) by decide +kernel) (show fRes (mC 122) 9 = some (36, 5, false) by decide +kernel) (by decide +kernel)
set_option maxRecDepth 100000 in
theorem r_122_4 : ∀ (d : Nat) (ls : Lc) (st : List Value) (M : Mem) (Q : Outcome → Mem → Prop), Wp d 122 4 ls st M Q = Wp d 122 5 ls (.int (I 0) :: st) M Q := fun d ls st M Q => w_iconst (show ins 122 4 = some (.iconst 0, 1) by decide +kernel)
set_option maxRecDepth 100000 in
theorem r_122_5 : ∀ (d : Nat) (ls : Lc) (a : Nat) (j : Int32) (st : List Value) (M : Mem) (Q : Outcome → Mem → Prop), Wp d 122 5 ls (.int j :: .ref a :: st) M Q = ((((kX M a).1 = 0 ∨ (kX M a).1 = 8) ∧ inB j (kX M a).2 = true) ∧ Wp d 122 6 ls (.int (mA M a j.toNatClampNeg) :: st) M Q) := fun d ls a j st M Q => w_iaload (show ins 122 5 = some (.iaload, 1) by decide +kernel)
set_option maxRecDepth 100000 in
theorem r_122_6 : ∀ (d : Nat) (ls : Lc) (v : Int32) (M : Mem) (Q : Outcome → Mem → Prop), Wp d 122 6 ls [.int v] M Q = Q (.returned (some (.int v))) M := fun d ls v M Q => w_ireturn (show ins 122 6 = some (.ireturn, 1) by decide +kernel) (by decide +kernel)
set_option maxRecDepth 100000 in
theorem W_122 : (type_of% r_122_0) ∧ (type_of% r_122_1) ∧ (type_of% r_122_4) ∧ (type_of% r_122_5) ∧ (type_of% r_122_6) := ⟨r_122_0, r_122_1, r_122_4, r_122_5, r_122_6⟩
set_option maxRecDepth 100000 in
theorem ca_122 {d y pc : Nat} {ls : Lc} {a : Nat} {r : List Value} {M : Mem} {Q : Outcome → Mem → Prop} (hd : 0 < d) (hw : Wp (d - 1) 122 0 [some (.ref a)] [] M (Cq d y pc ls r Q)) : Ca d y pc ls 122 [.ref a] r M Q := ca_of (mq_get (by decide)) (by rfl) hd hw
/-! 123 PackedTree$Leaf.place(I)I; loop heads [2] -/
set_option maxRecDepth 100000 in
theorem r_123_0 : ∀ (d : Nat) (ls : Lc) (st : List Value) (M : Mem) (Q : Outcome → Mem → Prop), Wp d 123 0 ls st M Q = Wp d 123 1 ls (.int (I 0) :: st) M Q := fun d ls st M Q => w_iconst (show ins 123 0 = some (.iconst 0, 1) by decide +kernel)
set_option maxRecDepth 100000 in
theorem r_123_1 : ∀ (d : Nat) (l0 l1 l2 : Option Value) (v : Int32) (st : List Value) (M : Mem) (Q : Outcome → Mem → Prop), (lo l1 = false) → Wp d 123 1 [l0, l1, l2] (.int v :: st) M Q = Wp d 123 2 [l0, l1, some (.int v)] st M Q := fun d l0 l1 l2 v st M Q hl => w_istore_n (show ins 123 1 = some (.istore_n 2, 1) by decide +kernel) (st1_S rfl rfl hl)
set_option maxRecDepth 100000 in
theorem r_123_2 : ∀ (d : Nat) (l0 l1 : Option Value) (v : Int32) (st : List Value) (M : Mem) (Q : Outcome → Mem → Prop), Wp d 123 2 [l0, l1, some (.int v)] st M Q = Wp d 123 3 [l0, l1, some (.int v)] (.int v :: st) M Q := fun d l0 l1 v st M Q => wA (show ins 123 2 = some (.iload_n 2, 1) by decide +kernel) rfl
set_option maxRecDepth 100000 in
theorem r_123_3 : ∀ (d : Nat) (l1 l2 : Option Value) (v : Nat) (st : List Value) (M : Mem) (Q : Outcome → Mem → Prop), Wp d 123 3 [some (.ref v), l1, l2] st M Q = Wp d 123 4 [some (.ref v), l1, l2] (.ref v :: st) M Q := fun d l1 l2 v st M Q => wA (show ins 123 3 = some (.aload_n 0, 1) by decide +kernel) rfl
set_option maxRecDepth 100000 in
theorem r_123_4 : ∀ (d : Nat) (ls : Lc) (a : Nat) (st : List Value) (M : Mem) (Q : Outcome → Mem → Prop), Wp d 123 4 ls (.ref a :: st) M Q = (fk 37 (kO M a) = true ∧ Wp d 123 7 ls (.int (mF M 37 a) :: st) M Q) := fun d ls a st M Q => w_getI (show ins 123 4 = some (.getfield 22, 3) by decide +kernel) (show fRes (mC 123) 22 = some (37, 5, false) by decide +kernel) (by decide +kernel)
set_option maxRecDepth 100000 in
theorem r_123_7 : ∀ (d : Nat) (ls : Lc) (a b : Int32) (st : List Value) (M : Mem) (Q : Outcome → Mem → Prop), Wp d 123 7 ls (.int b :: .int a :: st) M Q = Br (b ≤ a) d 123 26 10 ls st M Q := fun d ls a b st M Q => w_icmp (show ins 123 7 = some (.if_icmp .ge 19, 3) by decide +kernel) rfl rfl
set_option maxRecDepth 100000 in
theorem r_123_10 : ∀ (d : Nat) (l1 l2 : Option Value) (v : Nat) (st : List Value) (M : Mem) (Q : Outcome → Mem → Prop), Wp d 123 10 [some (.ref v), l1, l2] st M Q = Wp d 123 11 [some (.ref v), l1, l2] (.ref v :: st) M Q := fun d l1 l2 v st M Q => wA (show ins 123 10 = some (.aload_n 0, 1) by decide +kernel) rfl
set_option maxRecDepth 100000 in
theorem r_123_11 : ∀ (d : Nat) (ls : Lc) (a : Nat) (st : List Value) (M : Mem) (Q : Outcome → Mem → Prop), Wp d 123 11 ls (.ref a :: st) M Q = (fk 36 (kO M a) = true ∧ Wp d 123 14 ls (va_rf (mR M 36 a) :: st) M Q) := fun d ls a st M Q => w_getR (show ins 123 11 = some (.getfield 9, 3) by decide +kernel) (show fRes (mC 123) 9 = some (36, 5, false) by decide +kernel) (by decide +kernel)
set_option maxRecDepth 100000 in
theorem r_123_14 : ∀ (d : Nat) (l0 l1 : Option Value) (v : Int32) (st : List Value) (M : Mem) (Q : Outcome → Mem → Prop), Wp d 123 14 [l0, l1, some (.int v)] st M Q = Wp d 123 15 [l0, l1, some (.int v)] (.int v :: st) M Q := fun d l0 l1 v st M Q => wA (show ins 123 14 = some (.iload_n 2, 1) by decide +kernel) rfl
set_option maxRecDepth 100000 in
theorem r_123_15 : ∀ (d : Nat) (ls : Lc) (a : Nat) (j : Int32) (st : List Value) (M : Mem) (Q : Outcome → Mem → Prop), Wp d 123 15 ls (.int j :: .ref a :: st) M Q = ((((kX M a).1 = 0 ∨ (kX M a).1 = 8) ∧ inB j (kX M a).2 = true) ∧ Wp d 123 16 ls (.int (mA M a j.toNatClampNeg) :: st) M Q) := fun d ls a j st M Q => w_iaload (show ins 123 15 = some (.iaload, 1) by decide +kernel)
set_option maxRecDepth 100000 in
theorem r_123_16 : ∀ (d : Nat) (l0 l2 : Option Value) (v : Int32) (st : List Value) (M : Mem) (Q : Outcome → Mem → Prop), Wp d 123 16 [l0, some (.int v), l2] st M Q = Wp d 123 17 [l0, some (.int v), l2] (.int v :: st) M Q := fun d l0 l2 v st M Q => wA (show ins 123 16 = some (.iload_n 1, 1) by decide +kernel) rfl
set_option maxRecDepth 100000 in
theorem r_123_17 : ∀ (d : Nat) (ls : Lc) (a b : Int32) (st : List Value) (M : Mem) (Q : Outcome → Mem → Prop), Wp d 123 17 ls (.int b :: .int a :: st) M Q = Br (b ≤ a) d 123 26 20 ls st M Q := fun d ls a b st M Q => w_icmp (show ins 123 17 = some (.if_icmp .ge 9, 3) by decide +kernel) rfl rfl
set_option maxRecDepth 100000 in
theorem r_123_20 : ∀ (d : Nat) (l0 l1 : Option Value) (z : Int) (st : List Value) (M : Mem) (Q : Outcome → Mem → Prop), (lo l1 = false) → Wp d 123 20 [l0, l1, some (.int (I z))] st M Q = Wp d 123 23 [l0, l1, some (.int (I (z + 1)))] st M Q := fun d l0 l1 z st M Q hl => w_iinc (show ins 123 20 = some (.iinc 2 1, 3) by decide +kernel) rfl (st1_S rfl rfl hl)
set_option maxRecDepth 100000 in
theorem r_123_23 : ∀ (d : Nat) (ls : Lc) (st : List Value) (M : Mem) (Q : Outcome → Mem → Prop), Wp d 123 23 ls st M Q = Wp d 123 2 ls st M Q := fun d ls st M Q => w_goto (show ins 123 23 = some (.goto (-21), 3) by decide +kernel) rfl
set_option maxRecDepth 100000 in
theorem r_123_26 : ∀ (d : Nat) (l0 l1 : Option Value) (v : Int32) (st : List Value) (M : Mem) (Q : Outcome → Mem → Prop), Wp d 123 26 [l0, l1, some (.int v)] st M Q = Wp d 123 27 [l0, l1, some (.int v)] (.int v :: st) M Q := fun d l0 l1 v st M Q => wA (show ins 123 26 = some (.iload_n 2, 1) by decide +kernel) rfl
set_option maxRecDepth 100000 in
theorem r_123_27 : ∀ (d : Nat) (ls : Lc) (v : Int32) (M : Mem) (Q : Outcome → Mem → Prop), Wp d 123 27 ls [.int v] M Q = Q (.returned (some (.int v))) M := fun d ls v M Q => w_ireturn (show ins 123 27 = some (.ireturn, 1) by decide +kernel) (by decide +kernel)
set_option maxRecDepth 100000 in
theorem w_123_2 : (type_of% r_123_2) := r_123_2
set_option maxRecDepth 100000 in
theorem W_123 : (type_of% r_123_0) ∧ (type_of% r_123_1) ∧ (type_of% r_123_3) ∧ (type_of% r_123_4) ∧ (type_of% r_123_7) ∧ (type_of% r_123_10) ∧ (type_of% r_123_11) ∧ (type_of% r_123_14) ∧ (type_of% r_123_15) ∧ (type_of% r_123_16) ∧ (type_of% r_123_17) ∧ (type_of% r_123_20) ∧ (type_of% r_123_23) ∧ (type_of% r_123_26) ∧ (type_of% r_123_27) := ⟨r_123_0, r_123_1, r_123_3, r_123_4, r_123_7, r_123_10, r_123_11, r_123_14, r_123_15, r_123_16, r_123_17, r_123_20, r_123_23, r_123_26, r_123_27⟩
set_option maxRecDepth 100000 in
theorem ca_123 {d y pc : Nat} {ls : Lc} {a : Nat} {z0 : Int32} {r : List Value} {M : Mem} {Q : Outcome → Mem → Prop} (hd : 0 < d) (hw : Wp (d - 1) 123 0 [some (.ref a), some (.int z0), none] [] M (Cq d y pc ls r Q)) : Ca d y pc ls 123 [.ref a, .int z0] r M Q := ca_of (mq_get (by decide)) (by rfl) hd hw
/-! 124 PackedTree$Leaf.has(II)Z; loop heads [] -/
set_option maxRecDepth 100000 in
theorem r_124_0 : ∀ (d : Nat) (l0 l2 : Option Value) (v : Int32) (st : List Value) (M : Mem) (Q : Outcome → Mem → Prop), Wp d 124 0 [l0, some (.int v), l2] st M Q = Wp d 124 1 [l0, some (.int v), l2] (.int v :: st) M Q := fun d l0 l2 v st M Q => wA (show ins 124 0 = some (.iload_n 1, 1) by decide +kernel) rfl
set_option maxRecDepth 100000 in
theorem r_124_1 : ∀ (d : Nat) (l1 l2 : Option Value) (v : Nat) (st : List Value) (M : Mem) (Q : Outcome → Mem → Prop), Wp d 124 1 [some (.ref v), l1, l2] st M Q = Wp d 124 2 [some (.ref v), l1, l2] (.ref v :: st) M Q := fun d l1 l2 v st M Q => wA (show ins 124 1 = some (.aload_n 0, 1) by decide +kernel) rfl
set_option maxRecDepth 100000 in
theorem r_124_2 : ∀ (d : Nat) (ls : Lc) (a : Nat) (st : List Value) (M : Mem) (Q : Outcome → Mem → Prop), Wp d 124 2 ls (.ref a :: st) M Q = (fk 37 (kO M a) = true ∧ Wp d 124 5 ls (.int (mF M 37 a) :: st) M Q) := fun d ls a st M Q => w_getI (show ins 124 2 = some (.getfield 22, 3) by decide +kernel) (show fRes (mC 124) 22 = some (37, 5, false) by decide +kernel) (by decide +kernel)
set_option maxRecDepth 100000 in
theorem r_124_5 : ∀ (d : Nat) (ls : Lc) (a b : Int32) (st : List Value) (M : Mem) (Q : Outcome → Mem → Prop), Wp d 124 5 ls (.int b :: .int a :: st) M Q = Br (b ≤ a) d 124 22 8 ls st M Q := fun d ls a b st M Q => w_icmp (show ins 124 5 = some (.if_icmp .ge 17, 3) by decide +kernel) rfl rfl
set_option maxRecDepth 100000 in
theorem r_124_8 : ∀ (d : Nat) (l1 l2 : Option Value) (v : Nat) (st : List Value) (M : Mem) (Q : Outcome → Mem → Prop), Wp d 124 8 [some (.ref v), l1, l2] st M Q = Wp d 124 9 [some (.ref v), l1, l2] (.ref v :: st) M Q := fun d l1 l2 v st M Q => wA (show ins 124 8 = some (.aload_n 0, 1) by decide +kernel) rfl
set_option maxRecDepth 100000 in
theorem r_124_9 : ∀ (d : Nat) (ls : Lc) (a : Nat) (st : List Value) (M : Mem) (Q : Outcome → Mem → Prop), Wp d 124 9 ls (.ref a :: st) M Q = (fk 36 (kO M a) = true ∧ Wp d 124 12 ls (va_rf (mR M 36 a) :: st) M Q) := fun d ls a st M Q => w_getR (show ins 124 9 = some (.getfield 9, 3) by decide +kernel) (show fRes (mC 124) 9 = some (36, 5, false) by decide +kernel) (by decide +kernel)
set_option maxRecDepth 100000 in
theorem r_124_12 : ∀ (d : Nat) (l0 l2 : Option Value) (v : Int32) (st : List Value) (M : Mem) (Q : Outcome → Mem → Prop), Wp d 124 12 [l0, some (.int v), l2] st M Q = Wp d 124 13 [l0, some (.int v), l2] (.int v :: st) M Q := fun d l0 l2 v st M Q => wA (show ins 124 12 = some (.iload_n 1, 1) by decide +kernel) rfl
set_option maxRecDepth 100000 in
theorem r_124_13 : ∀ (d : Nat) (ls : Lc) (a : Nat) (j : Int32) (st : List Value) (M : Mem) (Q : Outcome → Mem → Prop), Wp d 124 13 ls (.int j :: .ref a :: st) M Q = ((((kX M a).1 = 0 ∨ (kX M a).1 = 8) ∧ inB j (kX M a).2 = true) ∧ Wp d 124 14 ls (.int (mA M a j.toNatClampNeg) :: st) M Q) := fun d ls a j st M Q => w_iaload (show ins 124 13 = some (.iaload, 1) by decide +kernel)
set_option maxRecDepth 100000 in
theorem r_124_14 : ∀ (d : Nat) (l0 l1 : Option Value) (v : Int32) (st : List Value) (M : Mem) (Q : Outcome → Mem → Prop), Wp d 124 14 [l0, l1, some (.int v)] st M Q = Wp d 124 15 [l0, l1, some (.int v)] (.int v :: st) M Q := fun d l0 l1 v st M Q => wA (show ins 124 14 = some (.iload_n 2, 1) by decide +kernel) rfl
set_option maxRecDepth 100000 in
theorem r_124_15 : ∀ (d : Nat) (ls : Lc) (a b : Int32) (st : List Value) (M : Mem) (Q : Outcome → Mem → Prop), Wp d 124 15 ls (.int b :: .int a :: st) M Q = Br (¬ a = b) d 124 22 18 ls st M Q := fun d ls a b st M Q => w_icmp (show ins 124 15 = some (.if_icmp .ne 7, 3) by decide +kernel) rfl rfl
set_option maxRecDepth 100000 in
theorem r_124_18 : ∀ (d : Nat) (ls : Lc) (st : List Value) (M : Mem) (Q : Outcome → Mem → Prop), Wp d 124 18 ls st M Q = Wp d 124 19 ls (.int (I 1) :: st) M Q := fun d ls st M Q => w_iconst (show ins 124 18 = some (.iconst 1, 1) by decide +kernel)
set_option maxRecDepth 100000 in
theorem r_124_19 : ∀ (d : Nat) (ls : Lc) (st : List Value) (M : Mem) (Q : Outcome → Mem → Prop), Wp d 124 19 ls st M Q = Wp d 124 23 ls st M Q := fun d ls st M Q => w_goto (show ins 124 19 = some (.goto 4, 3) by decide +kernel) rfl
set_option maxRecDepth 100000 in
theorem r_124_22 : ∀ (d : Nat) (ls : Lc) (st : List Value) (M : Mem) (Q : Outcome → Mem → Prop), Wp d 124 22 ls st M Q = Wp d 124 23 ls (.int (I 0) :: st) M Q := fun d ls st M Q => w_iconst (show ins 124 22 = some (.iconst 0, 1) by decide +kernel)
set_option maxRecDepth 100000 in
theorem r_124_23 : ∀ (d : Nat) (ls : Lc) (z : Int) (M : Mem) (Q : Outcome → Mem → Prop), (z = 0 ∨ z = 1) → Wp d 124 23 ls [.int (I z)] M Q = Q (.returned (some (.int (I z)))) M := fun d ls z M Q h0 => w_zretI (show ins 124 23 = some (.ireturn, 1) by decide +kernel) (by decide +kernel) h0
set_option maxRecDepth 100000 in
theorem r_124_23_1 : ∀ (d : Nat) (ls : Lc) (b : Bool) (M : Mem) (Q : Outcome → Mem → Prop), Wp d 124 23 ls [.int (I (bI b))] M Q = Q (.returned (some (.int (I (bI b))))) M := fun d ls b M Q => w_zretB (show ins 124 23 = some (.ireturn, 1) by decide +kernel) (by decide +kernel)
set_option maxRecDepth 100000 in
theorem W_124 : (type_of% r_124_0) ∧ (type_of% r_124_1) ∧ (type_of% r_124_2) ∧ (type_of% r_124_5) ∧ (type_of% r_124_8) ∧ (type_of% r_124_9) ∧ (type_of% r_124_12) ∧ (type_of% r_124_13) ∧ (type_of% r_124_14) ∧ (type_of% r_124_15) ∧ (type_of% r_124_18) ∧ (type_of% r_124_19) ∧ (type_of% r_124_22) ∧ (type_of% r_124_23) ∧ (type_of% r_124_23_1) := ⟨r_124_0, r_124_1, r_124_2, r_124_5, r_124_8, r_124_9, r_124_12, r_124_13, r_124_14, r_124_15, r_124_18, r_124_19, r_124_22, r_124_23, r_124_23_1⟩
set_option maxRecDepth 100000 in
theorem ca_124 {d y pc : Nat} {ls : Lc} {a : Nat} {z0 : Int32} {z1 : Int32} {r : List Value} {M : Mem} {Q : Outcome → Mem → Prop} (hd : 0 < d) (hw : Wp (d - 1) 124 0 [some (.ref a), some (.int z0), some (.int z1)] [] M (Cq d y pc ls r Q)) : Ca d y pc ls 124 [.ref a, .int z0, .int z1] r M Q := ca_of (mq_get (by decide)) (by rfl) hd hw
/-! 125 PackedTree$Leaf.drop(I)V; loop heads [18, 72] -/
set_option maxRecDepth 100000 in
theorem r_125_0 : ∀ (d : Nat) (l1 l2 l3 l4 : Option Value) (v : Nat) (st : List Value) (M : Mem) (Q : Outcome → Mem → Prop), Wp d 125 0 [some (.ref v), l1, l2, l3, l4] st M Q = Wp d 125 1 [some (.ref v), l1, l2, l3, l4] (.ref v :: st) M Q := fun d l1 l2 l3 l4 v st M Q => wA (show ins 125 0 = some (.aload_n 0, 1) by decide +kernel) rfl
set_option maxRecDepth 100000 in
theorem r_125_1 : ∀ (d : Nat) (l0 l2 l3 l4 : Option Value) (v : Int32) (st : List Value) (M : Mem) (Q : Outcome → Mem → Prop), Wp d 125 1 [l0, some (.int v), l2, l3, l4] st M Q = Wp d 125 2 [l0, some (.int v), l2, l3, l4] (.int v :: st) M Q := fun d l0 l2 l3 l4 v st M Q => wA (show ins 125 1 = some (.iload_n 1, 1) by decide +kernel) rfl
set_option maxRecDepth 100000 in
theorem r_125_2 : ∀ (d : Nat) (ls : Lc) (v0 : Value) (a : Nat) (st : List Value) (M : Mem) (Q : Outcome → Mem → Prop), (smallR st = true) → Wp d 125 2 ls (v0 :: .ref a :: st) M Q = (kO M a = 5 ∧ Ca d 125 2 ls 126 (.ref a :: [v0]) st M Q) := fun d ls v0 a st M Q h0 => w_virt1 (as := [v0]) (show ins 125 2 = some (.invokevirtual 37, 3) by decide +kernel) (show mRes (mC 125) 37 = some (3, 5, [(5, 126)]) by decide +kernel) (by decide +kernel) rfl (by decide +kernel) (by decide +kernel) h0
set_option maxRecDepth 100000 in
theorem r_125_5 : ∀ (d : Nat) (l0 l1 l2 l3 l4 : Option Value) (v : Int32) (st : List Value) (M : Mem) (Q : Outcome → Mem → Prop), (lo l1 = false) → Wp d 125 5 [l0, l1, l2, l3, l4] (.int v :: st) M Q = Wp d 125 6 [l0, l1, some (.int v), l3, l4] st M Q := fun d l0 l1 l2 l3 l4 v st M Q hl => w_istore_n (show ins 125 5 = some (.istore_n 2, 1) by decide +kernel) (st1_S rfl rfl hl)
set_option maxRecDepth 100000 in
theorem r_125_6 : ∀ (d : Nat) (l1 l2 l3 l4 : Option Value) (v : Nat) (st : List Value) (M : Mem) (Q : Outcome → Mem → Prop), Wp d 125 6 [some (.ref v), l1, l2, l3, l4] st M Q = Wp d 125 7 [some (.ref v), l1, l2, l3, l4] (.ref v :: st) M Q := fun d l1 l2 l3 l4 v st M Q => wA (show ins 125 6 = some (.aload_n 0, 1) by decide +kernel) rfl
set_option maxRecDepth 100000 in
theorem r_125_7 : ∀ (d : Nat) (ls : Lc) (a : Nat) (st : List Value) (M : Mem) (Q : Outcome → Mem → Prop), Wp d 125 7 ls (.ref a :: st) M Q = (fk 38 (kO M a) = true ∧ Wp d 125 10 ls (va_rf (mR M 38 a) :: st) M Q) := fun d ls a st M Q => w_getR (show ins 125 7 = some (.getfield 15, 3) by decide +kernel) (show fRes (mC 125) 15 = some (38, 5, false) by decide +kernel) (by decide +kernel)
set_option maxRecDepth 100000 in
theorem r_125_10 : ∀ (d : Nat) (l0 l2 l3 l4 : Option Value) (v : Int32) (st : List Value) (M : Mem) (Q : Outcome → Mem → Prop), Wp d 125 10 [l0, some (.int v), l2, l3, l4] st M Q = Wp d 125 11 [l0, some (.int v), l2, l3, l4] (.int v :: st) M Q := fun d l0 l2 l3 l4 v st M Q => wA (show ins 125 10 = some (.iload_n 1, 1) by decide +kernel) rfl
set_option maxRecDepth 100000 in
theorem r_125_11 : ∀ (d : Nat) (ls : Lc) (a : Nat) (j : Int32) (st : List Value) (M : Mem) (Q : Outcome → Mem → Prop), Wp d 125 11 ls (.int j :: .ref a :: st) M Q = ((((kX M a).1 = 0 ∨ (kX M a).1 = 8) ∧ inB j (kX M a).2 = true) ∧ Wp d 125 12 ls (.int (mA M a j.toNatClampNeg) :: st) M Q) := fun d ls a j st M Q => w_iaload (show ins 125 11 = some (.iaload, 1) by decide +kernel)
set_option maxRecDepth 100000 in
theorem r_125_12 : ∀ (d : Nat) (l0 l1 l2 l3 l4 : Option Value) (v : Int32) (st : List Value) (M : Mem) (Q : Outcome → Mem → Prop), (lo l2 = false) → Wp d 125 12 [l0, l1, l2, l3, l4] (.int v :: st) M Q = Wp d 125 13 [l0, l1, l2, some (.int v), l4] st M Q := fun d l0 l1 l2 l3 l4 v st M Q hl => w_istore_n (show ins 125 12 = some (.istore_n 3, 1) by decide +kernel) (st1_S rfl rfl hl)
set_option maxRecDepth 100000 in
theorem r_125_13 : ∀ (d : Nat) (l0 l1 l3 l4 : Option Value) (v : Int32) (st : List Value) (M : Mem) (Q : Outcome → Mem → Prop), Wp d 125 13 [l0, l1, some (.int v), l3, l4] st M Q = Wp d 125 14 [l0, l1, some (.int v), l3, l4] (.int v :: st) M Q := fun d l0 l1 l3 l4 v st M Q => wA (show ins 125 13 = some (.iload_n 2, 1) by decide +kernel) rfl
set_option maxRecDepth 100000 in
theorem r_125_14 : ∀ (d : Nat) (l0 l1 l2 l4 : Option Value) (v : Int32) (st : List Value) (M : Mem) (Q : Outcome → Mem → Prop), Wp d 125 14 [l0, l1, l2, some (.int v), l4] st M Q = Wp d 125 15 [l0, l1, l2, some (.int v), l4] (.int v :: st) M Q := fun d l0 l1 l2 l4 v st M Q => wA (show ins 125 14 = some (.iload_n 3, 1) by decide +kernel) rfl
set_option maxRecDepth 100000 in
theorem r_125_15 : ∀ (d : Nat) (ls : Lc) (a b : Int) (st : List Value) (M : Mem) (Q : Outcome → Mem → Prop), Wp d 125 15 ls (.int (I b) :: .int (I a) :: st) M Q = Wp d 125 16 ls (.int (I (a + b)) :: st) M Q := fun d ls a b st M Q => w_iadd (show ins 125 15 = some (.iadd, 1) by decide +kernel)
set_option maxRecDepth 100000 in
theorem r_125_16 : ∀ (d : Nat) (l0 l1 l2 l3 l4 : Option Value) (v : Int32) (st : List Value) (M : Mem) (Q : Outcome → Mem → Prop), (lo l3 = false) → Wp d 125 16 [l0, l1, l2, l3, l4] (.int v :: st) M Q = Wp d 125 18 [l0, l1, l2, l3, some (.int v)] st M Q := fun d l0 l1 l2 l3 l4 v st M Q hl => w_istore (show ins 125 16 = some (.istore 4, 2) by decide +kernel) (st1_S rfl rfl hl)
set_option maxRecDepth 100000 in
theorem r_125_18 : ∀ (d : Nat) (l0 l1 l2 l3 : Option Value) (v : Int32) (st : List Value) (M : Mem) (Q : Outcome → Mem → Prop), Wp d 125 18 [l0, l1, l2, l3, some (.int v)] st M Q = Wp d 125 20 [l0, l1, l2, l3, some (.int v)] (.int v :: st) M Q := fun d l0 l1 l2 l3 v st M Q => wA (show ins 125 18 = some (.iload 4, 2) by decide +kernel) rfl
set_option maxRecDepth 100000 in
theorem r_125_20 : ∀ (d : Nat) (l1 l2 l3 l4 : Option Value) (v : Nat) (st : List Value) (M : Mem) (Q : Outcome → Mem → Prop), Wp d 125 20 [some (.ref v), l1, l2, l3, l4] st M Q = Wp d 125 21 [some (.ref v), l1, l2, l3, l4] (.ref v :: st) M Q := fun d l1 l2 l3 l4 v st M Q => wA (show ins 125 20 = some (.aload_n 0, 1) by decide +kernel) rfl
set_option maxRecDepth 100000 in
theorem r_125_21 : ∀ (d : Nat) (ls : Lc) (a : Nat) (st : List Value) (M : Mem) (Q : Outcome → Mem → Prop), Wp d 125 21 ls (.ref a :: st) M Q = (fk 34 (kO M a) = true ∧ Wp d 125 24 ls (.int (mF M 34 a) :: st) M Q) := fun d ls a st M Q => w_getI (show ins 125 21 = some (.getfield 26, 3) by decide +kernel) (show fRes (mC 125) 26 = some (34, 5, false) by decide +kernel) (by decide +kernel)
set_option maxRecDepth 100000 in
theorem r_125_24 : ∀ (d : Nat) (ls : Lc) (a b : Int32) (st : List Value) (M : Mem) (Q : Outcome → Mem → Prop), Wp d 125 24 ls (.int b :: .int a :: st) M Q = Br (b ≤ a) d 125 49 27 ls st M Q := fun d ls a b st M Q => w_icmp (show ins 125 24 = some (.if_icmp .ge 25, 3) by decide +kernel) rfl rfl
set_option maxRecDepth 100000 in
theorem r_125_27 : ∀ (d : Nat) (l1 l2 l3 l4 : Option Value) (v : Nat) (st : List Value) (M : Mem) (Q : Outcome → Mem → Prop), Wp d 125 27 [some (.ref v), l1, l2, l3, l4] st M Q = Wp d 125 28 [some (.ref v), l1, l2, l3, l4] (.ref v :: st) M Q := fun d l1 l2 l3 l4 v st M Q => wA (show ins 125 27 = some (.aload_n 0, 1) by decide +kernel) rfl
set_option maxRecDepth 100000 in
theorem r_125_28 : ∀ (d : Nat) (ls : Lc) (a : Nat) (st : List Value) (M : Mem) (Q : Outcome → Mem → Prop), Wp d 125 28 ls (.ref a :: st) M Q = (fk 35 (kO M a) = true ∧ Wp d 125 31 ls (va_rf (mR M 35 a) :: st) M Q) := fun d ls a st M Q => w_getR (show ins 125 28 = some (.getfield 18, 3) by decide +kernel) (show fRes (mC 125) 18 = some (35, 5, false) by decide +kernel) (by decide +kernel)
set_option maxRecDepth 100000 in
theorem r_125_31 : ∀ (d : Nat) (l0 l1 l2 l3 : Option Value) (v : Int32) (st : List Value) (M : Mem) (Q : Outcome → Mem → Prop), Wp d 125 31 [l0, l1, l2, l3, some (.int v)] st M Q = Wp d 125 33 [l0, l1, l2, l3, some (.int v)] (.int v :: st) M Q := fun d l0 l1 l2 l3 v st M Q => wA (show ins 125 31 = some (.iload 4, 2) by decide +kernel) rfl
set_option maxRecDepth 100000 in
theorem r_125_33 : ∀ (d : Nat) (l0 l1 l2 l4 : Option Value) (v : Int32) (st : List Value) (M : Mem) (Q : Outcome → Mem → Prop), Wp d 125 33 [l0, l1, l2, some (.int v), l4] st M Q = Wp d 125 34 [l0, l1, l2, some (.int v), l4] (.int v :: st) M Q := fun d l0 l1 l2 l4 v st M Q => wA (show ins 125 33 = some (.iload_n 3, 1) by decide +kernel) rfl
set_option maxRecDepth 100000 in
theorem r_125_34 : ∀ (d : Nat) (ls : Lc) (a b : Int) (st : List Value) (M : Mem) (Q : Outcome → Mem → Prop), Wp d 125 34 ls (.int (I b) :: .int (I a) :: st) M Q = Wp d 125 35 ls (.int (I (a - b)) :: st) M Q := fun d ls a b st M Q => w_isub (show ins 125 34 = some (.isub, 1) by decide +kernel)
set_option maxRecDepth 100000 in
theorem r_125_35 : ∀ (d : Nat) (l1 l2 l3 l4 : Option Value) (v : Nat) (st : List Value) (M : Mem) (Q : Outcome → Mem → Prop), Wp d 125 35 [some (.ref v), l1, l2, l3, l4] st M Q = Wp d 125 36 [some (.ref v), l1, l2, l3, l4] (.ref v :: st) M Q := fun d l1 l2 l3 l4 v st M Q => wA (show ins 125 35 = some (.aload_n 0, 1) by decide +kernel) rfl
set_option maxRecDepth 100000 in
theorem r_125_36 : ∀ (d : Nat) (ls : Lc) (a : Nat) (st : List Value) (M : Mem) (Q : Outcome → Mem → Prop), Wp d 125 36 ls (.ref a :: st) M Q = (fk 35 (kO M a) = true ∧ Wp d 125 39 ls (va_rf (mR M 35 a) :: st) M Q) := fun d ls a st M Q => w_getR (show ins 125 36 = some (.getfield 18, 3) by decide +kernel) (show fRes (mC 125) 18 = some (35, 5, false) by decide +kernel) (by decide +kernel)
set_option maxRecDepth 100000 in
theorem r_125_39 : ∀ (d : Nat) (l0 l1 l2 l3 : Option Value) (v : Int32) (st : List Value) (M : Mem) (Q : Outcome → Mem → Prop), Wp d 125 39 [l0, l1, l2, l3, some (.int v)] st M Q = Wp d 125 41 [l0, l1, l2, l3, some (.int v)] (.int v :: st) M Q := fun d l0 l1 l2 l3 v st M Q => wA (show ins 125 39 = some (.iload 4, 2) by decide +kernel) rfl
set_option maxRecDepth 100000 in
theorem r_125_41 : ∀ (d : Nat) (ls : Lc) (a : Nat) (j : Int32) (st : List Value) (M : Mem) (Q : Outcome → Mem → Prop), Wp d 125 41 ls (.int j :: .ref a :: st) M Q = ((((kX M a).1 = 1 ∨ (kX M a).1 = 2) ∧ inB j (kX M a).2 = true) ∧ Wp d 125 42 ls (.int (mA M a j.toNatClampNeg) :: st) M Q) := fun d ls a j st M Q => w_baload (show ins 125 41 = some (.baload, 1) by decide +kernel)
set_option maxRecDepth 100000 in
theorem r_125_42 : ∀ (d : Nat) (ls : Lc) (a : Nat) (j v : Int32) (st : List Value) (M : Mem) (Q : Outcome → Mem → Prop), Wp d 125 42 ls (.int v :: .int j :: .ref a :: st) M Q = ((((kX M a).1 = 1 ∨ (kX M a).1 = 2) ∧ inB j (kX M a).2 = true) ∧ Wp d 125 43 ls st (sA M a j.toNatClampNeg (nrw (kX M a).1 v)) Q) := fun d ls a j v st M Q => w_bastore (show ins 125 42 = some (.bastore, 1) by decide +kernel)
set_option maxRecDepth 100000 in
theorem r_125_43 : ∀ (d : Nat) (l0 l1 l2 l3 : Option Value) (z : Int) (st : List Value) (M : Mem) (Q : Outcome → Mem → Prop), (lo l3 = false) → Wp d 125 43 [l0, l1, l2, l3, some (.int (I z))] st M Q = Wp d 125 46 [l0, l1, l2, l3, some (.int (I (z + 1)))] st M Q := fun d l0 l1 l2 l3 z st M Q hl => w_iinc (show ins 125 43 = some (.iinc 4 1, 3) by decide +kernel) rfl (st1_S rfl rfl hl)
set_option maxRecDepth 100000 in
theorem r_125_46 : ∀ (d : Nat) (ls : Lc) (st : List Value) (M : Mem) (Q : Outcome → Mem → Prop), Wp d 125 46 ls st M Q = Wp d 125 18 ls st M Q := fun d ls st M Q => w_goto (show ins 125 46 = some (.goto (-28), 3) by decide +kernel) rfl
set_option maxRecDepth 100000 in
theorem r_125_49 : ∀ (d : Nat) (l1 l2 l3 l4 : Option Value) (v : Nat) (st : List Value) (M : Mem) (Q : Outcome → Mem → Prop), Wp d 125 49 [some (.ref v), l1, l2, l3, l4] st M Q = Wp d 125 50 [some (.ref v), l1, l2, l3, l4] (.ref v :: st) M Q := fun d l1 l2 l3 l4 v st M Q => wA (show ins 125 49 = some (.aload_n 0, 1) by decide +kernel) rfl
set_option maxRecDepth 100000 in
theorem r_125_50 : ∀ (d : Nat) (ls : Lc) (v : Nat) (st : List Value) (M : Mem) (Q : Outcome → Mem → Prop), Wp d 125 50 ls (.ref v :: st) M Q = Wp d 125 51 ls (.ref v :: .ref v :: st) M Q := fun d ls v st M Q => wA (show ins 125 50 = some (.dup, 1) by decide +kernel) rfl
set_option maxRecDepth 100000 in
theorem r_125_50_1 : ∀ (d : Nat) (ls : Lc) (v : Int32) (st : List Value) (M : Mem) (Q : Outcome → Mem → Prop), Wp d 125 50 ls (.int v :: st) M Q = Wp d 125 51 ls (.int v :: .int v :: st) M Q := fun d ls v st M Q => wA (show ins 125 50 = some (.dup, 1) by decide +kernel) rfl
set_option maxRecDepth 100000 in
theorem r_125_51 : ∀ (d : Nat) (ls : Lc) (a : Nat) (st : List Value) (M : Mem) (Q : Outcome → Mem → Prop), Wp d 125 51 ls (.ref a :: st) M Q = (fk 37 (kO M a) = true ∧ Wp d 125 54 ls (.int (mF M 37 a) :: st) M Q) := fun d ls a st M Q => w_getI (show ins 125 51 = some (.getfield 22, 3) by decide +kernel) (show fRes (mC 125) 22 = some (37, 5, false) by decide +kernel) (by decide +kernel)
set_option maxRecDepth 100000 in
theorem r_125_54 : ∀ (d : Nat) (ls : Lc) (st : List Value) (M : Mem) (Q : Outcome → Mem → Prop), Wp d 125 54 ls st M Q = Wp d 125 55 ls (.int (I 1) :: st) M Q := fun d ls st M Q => w_iconst (show ins 125 54 = some (.iconst 1, 1) by decide +kernel)
set_option maxRecDepth 100000 in
theorem r_125_55 : ∀ (d : Nat) (ls : Lc) (a b : Int) (st : List Value) (M : Mem) (Q : Outcome → Mem → Prop), Wp d 125 55 ls (.int (I b) :: .int (I a) :: st) M Q = Wp d 125 56 ls (.int (I (a - b)) :: st) M Q := fun d ls a b st M Q => w_isub (show ins 125 55 = some (.isub, 1) by decide +kernel)
set_option maxRecDepth 100000 in
theorem r_125_56 : ∀ (d : Nat) (ls : Lc) (a : Nat) (v : Int32) (st : List Value) (M : Mem) (Q : Outcome → Mem → Prop), Wp d 125 56 ls (.int v :: .ref a :: st) M Q = (fk 37 (kO M a) = true ∧ Wp d 125 59 ls st (sF M 37 a v) Q) := fun d ls a v st M Q => w_putI (show ins 125 56 = some (.putfield 22, 3) by decide +kernel) (show fRes (mC 125) 22 = some (37, 5, false) by decide +kernel) (by decide +kernel) (by decide +kernel)
set_option maxRecDepth 100000 in
theorem r_125_59 : ∀ (d : Nat) (l1 l2 l3 l4 : Option Value) (v : Nat) (st : List Value) (M : Mem) (Q : Outcome → Mem → Prop), Wp d 125 59 [some (.ref v), l1, l2, l3, l4] st M Q = Wp d 125 60 [some (.ref v), l1, l2, l3, l4] (.ref v :: st) M Q := fun d l1 l2 l3 l4 v st M Q => wA (show ins 125 59 = some (.aload_n 0, 1) by decide +kernel) rfl
set_option maxRecDepth 100000 in
theorem r_125_60 : ∀ (d : Nat) (ls : Lc) (v : Nat) (st : List Value) (M : Mem) (Q : Outcome → Mem → Prop), Wp d 125 60 ls (.ref v :: st) M Q = Wp d 125 61 ls (.ref v :: .ref v :: st) M Q := fun d ls v st M Q => wA (show ins 125 60 = some (.dup, 1) by decide +kernel) rfl
set_option maxRecDepth 100000 in
theorem r_125_60_1 : ∀ (d : Nat) (ls : Lc) (v : Int32) (st : List Value) (M : Mem) (Q : Outcome → Mem → Prop), Wp d 125 60 ls (.int v :: st) M Q = Wp d 125 61 ls (.int v :: .int v :: st) M Q := fun d ls v st M Q => wA (show ins 125 60 = some (.dup, 1) by decide +kernel) rfl
set_option maxRecDepth 100000 in
theorem r_125_61 : ∀ (d : Nat) (ls : Lc) (a : Nat) (st : List Value) (M : Mem) (Q : Outcome → Mem → Prop), Wp d 125 61 ls (.ref a :: st) M Q = (fk 34 (kO M a) = true ∧ Wp d 125 64 ls (.int (mF M 34 a) :: st) M Q) := fun d ls a st M Q => w_getI (show ins 125 61 = some (.getfield 26, 3) by decide +kernel) (show fRes (mC 125) 26 = some (34, 5, false) by decide +kernel) (by decide +kernel)
set_option maxRecDepth 100000 in
theorem r_125_64 : ∀ (d : Nat) (l0 l1 l2 l4 : Option Value) (v : Int32) (st : List Value) (M : Mem) (Q : Outcome → Mem → Prop), Wp d 125 64 [l0, l1, l2, some (.int v), l4] st M Q = Wp d 125 65 [l0, l1, l2, some (.int v), l4] (.int v :: st) M Q := fun d l0 l1 l2 l4 v st M Q => wA (show ins 125 64 = some (.iload_n 3, 1) by decide +kernel) rfl
set_option maxRecDepth 100000 in
theorem r_125_65 : ∀ (d : Nat) (ls : Lc) (a b : Int) (st : List Value) (M : Mem) (Q : Outcome → Mem → Prop), Wp d 125 65 ls (.int (I b) :: .int (I a) :: st) M Q = Wp d 125 66 ls (.int (I (a - b)) :: st) M Q := fun d ls a b st M Q => w_isub (show ins 125 65 = some (.isub, 1) by decide +kernel)
set_option maxRecDepth 100000 in
theorem r_125_66 : ∀ (d : Nat) (ls : Lc) (a : Nat) (v : Int32) (st : List Value) (M : Mem) (Q : Outcome → Mem → Prop), Wp d 125 66 ls (.int v :: .ref a :: st) M Q = (fk 34 (kO M a) = true ∧ Wp d 125 69 ls st (sF M 34 a v) Q) := fun d ls a v st M Q => w_putI (show ins 125 66 = some (.putfield 26, 3) by decide +kernel) (show fRes (mC 125) 26 = some (34, 5, false) by decide +kernel) (by decide +kernel) (by decide +kernel)
set_option maxRecDepth 100000 in
theorem r_125_69 : ∀ (d : Nat) (l0 l2 l3 l4 : Option Value) (v : Int32) (st : List Value) (M : Mem) (Q : Outcome → Mem → Prop), Wp d 125 69 [l0, some (.int v), l2, l3, l4] st M Q = Wp d 125 70 [l0, some (.int v), l2, l3, l4] (.int v :: st) M Q := fun d l0 l2 l3 l4 v st M Q => wA (show ins 125 69 = some (.iload_n 1, 1) by decide +kernel) rfl
set_option maxRecDepth 100000 in
theorem r_125_70 : ∀ (d : Nat) (l0 l1 l2 l3 l4 : Option Value) (v : Int32) (st : List Value) (M : Mem) (Q : Outcome → Mem → Prop), (lo l3 = false) → Wp d 125 70 [l0, l1, l2, l3, l4] (.int v :: st) M Q = Wp d 125 72 [l0, l1, l2, l3, some (.int v)] st M Q := fun d l0 l1 l2 l3 l4 v st M Q hl => w_istore (show ins 125 70 = some (.istore 4, 2) by decide +kernel) (st1_S rfl rfl hl)
set_option maxRecDepth 100000 in
theorem r_125_72 : ∀ (d : Nat) (l0 l1 l2 l3 : Option Value) (v : Int32) (st : List Value) (M : Mem) (Q : Outcome → Mem → Prop), Wp d 125 72 [l0, l1, l2, l3, some (.int v)] st M Q = Wp d 125 74 [l0, l1, l2, l3, some (.int v)] (.int v :: st) M Q := fun d l0 l1 l2 l3 v st M Q => wA (show ins 125 72 = some (.iload 4, 2) by decide +kernel) rfl
set_option maxRecDepth 100000 in
theorem r_125_74 : ∀ (d : Nat) (l1 l2 l3 l4 : Option Value) (v : Nat) (st : List Value) (M : Mem) (Q : Outcome → Mem → Prop), Wp d 125 74 [some (.ref v), l1, l2, l3, l4] st M Q = Wp d 125 75 [some (.ref v), l1, l2, l3, l4] (.ref v :: st) M Q := fun d l1 l2 l3 l4 v st M Q => wA (show ins 125 74 = some (.aload_n 0, 1) by decide +kernel) rfl
set_option maxRecDepth 100000 in
theorem r_125_75 : ∀ (d : Nat) (ls : Lc) (a : Nat) (st : List Value) (M : Mem) (Q : Outcome → Mem → Prop), Wp d 125 75 ls (.ref a :: st) M Q = (fk 37 (kO M a) = true ∧ Wp d 125 78 ls (.int (mF M 37 a) :: st) M Q) := fun d ls a st M Q => w_getI (show ins 125 75 = some (.getfield 22, 3) by decide +kernel) (show fRes (mC 125) 22 = some (37, 5, false) by decide +kernel) (by decide +kernel)
set_option maxRecDepth 100000 in
theorem r_125_78 : ∀ (d : Nat) (ls : Lc) (a b : Int32) (st : List Value) (M : Mem) (Q : Outcome → Mem → Prop), Wp d 125 78 ls (.int b :: .int a :: st) M Q = Br (b ≤ a) d 125 119 81 ls st M Q := fun d ls a b st M Q => w_icmp (show ins 125 78 = some (.if_icmp .ge 41, 3) by decide +kernel) rfl rfl
set_option maxRecDepth 100000 in
theorem r_125_81 : ∀ (d : Nat) (l1 l2 l3 l4 : Option Value) (v : Nat) (st : List Value) (M : Mem) (Q : Outcome → Mem → Prop), Wp d 125 81 [some (.ref v), l1, l2, l3, l4] st M Q = Wp d 125 82 [some (.ref v), l1, l2, l3, l4] (.ref v :: st) M Q := fun d l1 l2 l3 l4 v st M Q => wA (show ins 125 81 = some (.aload_n 0, 1) by decide +kernel) rfl
set_option maxRecDepth 100000 in
theorem r_125_82 : ∀ (d : Nat) (ls : Lc) (a : Nat) (st : List Value) (M : Mem) (Q : Outcome → Mem → Prop), Wp d 125 82 ls (.ref a :: st) M Q = (fk 36 (kO M a) = true ∧ Wp d 125 85 ls (va_rf (mR M 36 a) :: st) M Q) := fun d ls a st M Q => w_getR (show ins 125 82 = some (.getfield 9, 3) by decide +kernel) (show fRes (mC 125) 9 = some (36, 5, false) by decide +kernel) (by decide +kernel)
set_option maxRecDepth 100000 in
theorem r_125_85 : ∀ (d : Nat) (l0 l1 l2 l3 : Option Value) (v : Int32) (st : List Value) (M : Mem) (Q : Outcome → Mem → Prop), Wp d 125 85 [l0, l1, l2, l3, some (.int v)] st M Q = Wp d 125 87 [l0, l1, l2, l3, some (.int v)] (.int v :: st) M Q := fun d l0 l1 l2 l3 v st M Q => wA (show ins 125 85 = some (.iload 4, 2) by decide +kernel) rfl
set_option maxRecDepth 100000 in
theorem r_125_87 : ∀ (d : Nat) (l1 l2 l3 l4 : Option Value) (v : Nat) (st : List Value) (M : Mem) (Q : Outcome → Mem → Prop), Wp d 125 87 [some (.ref v), l1, l2, l3, l4] st M Q = Wp d 125 88 [some (.ref v), l1, l2, l3, l4] (.ref v :: st) M Q := fun d l1 l2 l3 l4 v st M Q => wA (show ins 125 87 = some (.aload_n 0, 1) by decide +kernel) rfl
set_option maxRecDepth 100000 in
theorem r_125_88 : ∀ (d : Nat) (ls : Lc) (a : Nat) (st : List Value) (M : Mem) (Q : Outcome → Mem → Prop), Wp d 125 88 ls (.ref a :: st) M Q = (fk 36 (kO M a) = true ∧ Wp d 125 91 ls (va_rf (mR M 36 a) :: st) M Q) := fun d ls a st M Q => w_getR (show ins 125 88 = some (.getfield 9, 3) by decide +kernel) (show fRes (mC 125) 9 = some (36, 5, false) by decide +kernel) (by decide +kernel)
set_option maxRecDepth 100000 in
theorem r_125_91 : ∀ (d : Nat) (l0 l1 l2 l3 : Option Value) (v : Int32) (st : List Value) (M : Mem) (Q : Outcome → Mem → Prop), Wp d 125 91 [l0, l1, l2, l3, some (.int v)] st M Q = Wp d 125 93 [l0, l1, l2, l3, some (.int v)] (.int v :: st) M Q := fun d l0 l1 l2 l3 v st M Q => wA (show ins 125 91 = some (.iload 4, 2) by decide +kernel) rfl
set_option maxRecDepth 100000 in
theorem r_125_93 : ∀ (d : Nat) (ls : Lc) (st : List Value) (M : Mem) (Q : Outcome → Mem → Prop), Wp d 125 93 ls st M Q = Wp d 125 94 ls (.int (I 1) :: st) M Q := fun d ls st M Q => w_iconst (show ins 125 93 = some (.iconst 1, 1) by decide +kernel)
set_option maxRecDepth 100000 in
theorem r_125_94 : ∀ (d : Nat) (ls : Lc) (a b : Int) (st : List Value) (M : Mem) (Q : Outcome → Mem → Prop), Wp d 125 94 ls (.int (I b) :: .int (I a) :: st) M Q = Wp d 125 95 ls (.int (I (a + b)) :: st) M Q := fun d ls a b st M Q => w_iadd (show ins 125 94 = some (.iadd, 1) by decide +kernel)
set_option maxRecDepth 100000 in
theorem r_125_95 : ∀ (d : Nat) (ls : Lc) (a : Nat) (j : Int32) (st : List Value) (M : Mem) (Q : Outcome → Mem → Prop), Wp d 125 95 ls (.int j :: .ref a :: st) M Q = ((((kX M a).1 = 0 ∨ (kX M a).1 = 8) ∧ inB j (kX M a).2 = true) ∧ Wp d 125 96 ls (.int (mA M a j.toNatClampNeg) :: st) M Q) := fun d ls a j st M Q => w_iaload (show ins 125 95 = some (.iaload, 1) by decide +kernel)
set_option maxRecDepth 100000 in
theorem r_125_96 : ∀ (d : Nat) (ls : Lc) (a : Nat) (j v : Int32) (st : List Value) (M : Mem) (Q : Outcome → Mem → Prop), Wp d 125 96 ls (.int v :: .int j :: .ref a :: st) M Q = (((kX M a).1 = 0 ∧ inB j (kX M a).2 = true) ∧ Wp d 125 97 ls st (sA M a j.toNatClampNeg v) Q) := fun d ls a j v st M Q => w_iastore (show ins 125 96 = some (.iastore, 1) by decide +kernel)
set_option maxRecDepth 100000 in
theorem r_125_97 : ∀ (d : Nat) (l1 l2 l3 l4 : Option Value) (v : Nat) (st : List Value) (M : Mem) (Q : Outcome → Mem → Prop), Wp d 125 97 [some (.ref v), l1, l2, l3, l4] st M Q = Wp d 125 98 [some (.ref v), l1, l2, l3, l4] (.ref v :: st) M Q := fun d l1 l2 l3 l4 v st M Q => wA (show ins 125 97 = some (.aload_n 0, 1) by decide +kernel) rfl
set_option maxRecDepth 100000 in
theorem r_125_98 : ∀ (d : Nat) (ls : Lc) (a : Nat) (st : List Value) (M : Mem) (Q : Outcome → Mem → Prop), Wp d 125 98 ls (.ref a :: st) M Q = (fk 38 (kO M a) = true ∧ Wp d 125 101 ls (va_rf (mR M 38 a) :: st) M Q) := fun d ls a st M Q => w_getR (show ins 125 98 = some (.getfield 15, 3) by decide +kernel) (show fRes (mC 125) 15 = some (38, 5, false) by decide +kernel) (by decide +kernel)
set_option maxRecDepth 100000 in
theorem r_125_101 : ∀ (d : Nat) (l0 l1 l2 l3 : Option Value) (v : Int32) (st : List Value) (M : Mem) (Q : Outcome → Mem → Prop), Wp d 125 101 [l0, l1, l2, l3, some (.int v)] st M Q = Wp d 125 103 [l0, l1, l2, l3, some (.int v)] (.int v :: st) M Q := fun d l0 l1 l2 l3 v st M Q => wA (show ins 125 101 = some (.iload 4, 2) by decide +kernel) rfl
set_option maxRecDepth 100000 in
theorem r_125_103 : ∀ (d : Nat) (l1 l2 l3 l4 : Option Value) (v : Nat) (st : List Value) (M : Mem) (Q : Outcome → Mem → Prop), Wp d 125 103 [some (.ref v), l1, l2, l3, l4] st M Q = Wp d 125 104 [some (.ref v), l1, l2, l3, l4] (.ref v :: st) M Q := fun d l1 l2 l3 l4 v st M Q => wA (show ins 125 103 = some (.aload_n 0, 1) by decide +kernel) rfl
set_option maxRecDepth 100000 in
theorem r_125_104 : ∀ (d : Nat) (ls : Lc) (a : Nat) (st : List Value) (M : Mem) (Q : Outcome → Mem → Prop), Wp d 125 104 ls (.ref a :: st) M Q = (fk 38 (kO M a) = true ∧ Wp d 125 107 ls (va_rf (mR M 38 a) :: st) M Q) := fun d ls a st M Q => w_getR (show ins 125 104 = some (.getfield 15, 3) by decide +kernel) (show fRes (mC 125) 15 = some (38, 5, false) by decide +kernel) (by decide +kernel)
set_option maxRecDepth 100000 in
theorem r_125_107 : ∀ (d : Nat) (l0 l1 l2 l3 : Option Value) (v : Int32) (st : List Value) (M : Mem) (Q : Outcome → Mem → Prop), Wp d 125 107 [l0, l1, l2, l3, some (.int v)] st M Q = Wp d 125 109 [l0, l1, l2, l3, some (.int v)] (.int v :: st) M Q := fun d l0 l1 l2 l3 v st M Q => wA (show ins 125 107 = some (.iload 4, 2) by decide +kernel) rfl
set_option maxRecDepth 100000 in
theorem r_125_109 : ∀ (d : Nat) (ls : Lc) (st : List Value) (M : Mem) (Q : Outcome → Mem → Prop), Wp d 125 109 ls st M Q = Wp d 125 110 ls (.int (I 1) :: st) M Q := fun d ls st M Q => w_iconst (show ins 125 109 = some (.iconst 1, 1) by decide +kernel)
set_option maxRecDepth 100000 in
theorem r_125_110 : ∀ (d : Nat) (ls : Lc) (a b : Int) (st : List Value) (M : Mem) (Q : Outcome → Mem → Prop), Wp d 125 110 ls (.int (I b) :: .int (I a) :: st) M Q = Wp d 125 111 ls (.int (I (a + b)) :: st) M Q := fun d ls a b st M Q => w_iadd (show ins 125 110 = some (.iadd, 1) by decide +kernel)
set_option maxRecDepth 100000 in
theorem r_125_111 : ∀ (d : Nat) (ls : Lc) (a : Nat) (j : Int32) (st : List Value) (M : Mem) (Q : Outcome → Mem → Prop), Wp d 125 111 ls (.int j :: .ref a :: st) M Q = ((((kX M a).1 = 0 ∨ (kX M a).1 = 8) ∧ inB j (kX M a).2 = true) ∧ Wp d 125 112 ls (.int (mA M a j.toNatClampNeg) :: st) M Q) := fun d ls a j st M Q => w_iaload (show ins 125 111 = some (.iaload, 1) by decide +kernel)
set_option maxRecDepth 100000 in
theorem r_125_112 : ∀ (d : Nat) (ls : Lc) (a : Nat) (j v : Int32) (st : List Value) (M : Mem) (Q : Outcome → Mem → Prop), Wp d 125 112 ls (.int v :: .int j :: .ref a :: st) M Q = (((kX M a).1 = 0 ∧ inB j (kX M a).2 = true) ∧ Wp d 125 113 ls st (sA M a j.toNatClampNeg v) Q) := fun d ls a j v st M Q => w_iastore (show ins 125 112 = some (.iastore, 1) by decide +kernel)
set_option maxRecDepth 100000 in
theorem r_125_113 : ∀ (d : Nat) (l0 l1 l2 l3 : Option Value) (z : Int) (st : List Value) (M : Mem) (Q : Outcome → Mem → Prop), (lo l3 = false) → Wp d 125 113 [l0, l1, l2, l3, some (.int (I z))] st M Q = Wp d 125 116 [l0, l1, l2, l3, some (.int (I (z + 1)))] st M Q := fun d l0 l1 l2 l3 z st M Q hl => w_iinc (show ins 125 113 = some (.iinc 4 1, 3) by decide +kernel) rfl (st1_S rfl rfl hl)
set_option maxRecDepth 100000 in
theorem r_125_116 : ∀ (d : Nat) (ls : Lc) (st : List Value) (M : Mem) (Q : Outcome → Mem → Prop), Wp d 125 116 ls st M Q = Wp d 125 72 ls st M Q := fun d ls st M Q => w_goto (show ins 125 116 = some (.goto (-44), 3) by decide +kernel) rfl
set_option maxRecDepth 100000 in
theorem r_125_119 : ∀ (d : Nat) (ls : Lc) (M : Mem) (Q : Outcome → Mem → Prop), Wp d 125 119 ls [] M Q = Q (.returned none) M := fun d ls M Q => w_return (show ins 125 119 = some (.return_, 1) by decide +kernel) (by decide +kernel)
set_option maxRecDepth 100000 in
theorem w_125_18 : (type_of% r_125_18) := r_125_18
set_option maxRecDepth 100000 in
theorem w_125_72 : (type_of% r_125_72) := r_125_72
set_option maxRecDepth 100000 in
theorem W_125 : (type_of% r_125_0) ∧ (type_of% r_125_1) ∧ (type_of% r_125_2) ∧ (type_of% r_125_5) ∧ (type_of% r_125_6) ∧ (type_of% r_125_7) ∧ (type_of% r_125_10) ∧ (type_of% r_125_11) ∧ (type_of% r_125_12) ∧ (type_of% r_125_13) ∧ (type_of% r_125_14) ∧ (type_of% r_125_15) ∧ (type_of% r_125_16) ∧ (type_of% r_125_20) ∧ (type_of% r_125_21) ∧ (type_of% r_125_24) ∧ (type_of% r_125_27) ∧ (type_of% r_125_28) ∧ (type_of% r_125_31) ∧ (type_of% r_125_33) ∧ (type_of% r_125_34) ∧ (type_of% r_125_35) ∧ (type_of% r_125_36) ∧ (type_of% r_125_39) ∧ (type_of% r_125_41) ∧ (type_of% r_125_42) ∧ (type_of% r_125_43) ∧ (type_of% r_125_46) ∧ (type_of% r_125_49) ∧ (type_of% r_125_50) ∧ (type_of% r_125_50_1) ∧ (type_of% r_125_51) ∧ (type_of% r_125_54) ∧ (type_of% r_125_55) ∧ (type_of% r_125_56) ∧ (type_of% r_125_59) ∧ (type_of% r_125_60) ∧ (type_of% r_125_60_1) ∧ (type_of% r_125_61) ∧ (type_of% r_125_64) ∧ (type_of% r_125_65) ∧ (type_of% r_125_66) ∧ (type_of% r_125_69) ∧ (type_of% r_125_70) ∧ (type_of% r_125_74) ∧ (type_of% r_125_75) ∧ (type_of% r_125_78) ∧ (type_of% r_125_81) ∧ (type_of% r_125_82) ∧ (type_of% r_125_85) ∧ (type_of% r_125_87) ∧ (type_of% r_125_88) ∧ (type_of% r_125_91) ∧ (type_of% r_125_93) ∧ (type_of% r_125_94) ∧ (type_of% r_125_95) ∧ (type_of% r_125_96) ∧ (type_of% r_125_97) ∧ (type_of% r_125_98) ∧ (type_of% r_125_101) ∧ (type_of% r_125_103) ∧ (type_of% r_125_104) ∧ (type_of% r_125_107) ∧ (type_of% r_125_109) ∧ (type_of% r_125_110) ∧ (type_of% r_125_111) ∧ (type_of% r_125_112) ∧ (type_of% r_125_113) ∧ (type_of% r_125_116) ∧ (type_of% r_125_119) := ⟨r_125_0, r_125_1, r_125_2, r_125_5, r_125_6, r_125_7, r_125_10, r_125_11, r_125_12, r_125_13, r_125_14, r_125_15, r_125_16, r_125_20, r_125_21, r_125_24, r_125_27, r_125_28, r_125_31, r_125_33, r_125_34, r_125_35, r_125_36, r_125_39, r_125_41, r_125_42, r_125_43, r_125_46, r_125_49, r_125_50, r_125_50_1, r_125_51, r_125_54, r_125_55, r_125_56, r_125_59, r_125_60, r_125_60_1, r_125_61, r_125_64, r_125_65, r_125_66, r_125_69, r_125_70, r_125_74, r_125_75, r_125_78, r_125_81, r_125_82, r_125_85, r_125_87, r_125_88, r_125_91, r_125_93, r_125_94, r_125_95, r_125_96, r_125_97, r_125_98, r_125_101, r_125_103, r_125_104, r_125_107, r_125_109, r_125_110, r_125_111, r_125_112, r_125_113, r_125_116, r_125_119⟩
set_option maxRecDepth 100000 in
theorem ca_125 {d y pc : Nat} {ls : Lc} {a : Nat} {z0 : Int32} {r : List Value} {M : Mem} {Q : Outcome → Mem → Prop} (hd : 0 < d) (hw : Wp (d - 1) 125 0 [some (.ref a), some (.int z0), none, none, none] [] M (Cq d y pc ls r Q)) : Ca d y pc ls 125 [.ref a, .int z0] r M Q := ca_of (mq_get (by decide)) (by rfl) hd hw
/-! 126 PackedTree$Leaf.from(I)I; loop heads [4] -/
set_option maxRecDepth 100000 in
theorem r_126_0 : ∀ (d : Nat) (ls : Lc) (st : List Value) (M : Mem) (Q : Outcome → Mem → Prop), Wp d 126 0 ls st M Q = Wp d 126 1 ls (.int (I 0) :: st) M Q := fun d ls st M Q => w_iconst (show ins 126 0 = some (.iconst 0, 1) by decide +kernel)
set_option maxRecDepth 100000 in
theorem r_126_1 : ∀ (d : Nat) (l0 l1 l2 l3 : Option Value) (v : Int32) (st : List Value) (M : Mem) (Q : Outcome → Mem → Prop), (lo l1 = false) → Wp d 126 1 [l0, l1, l2, l3] (.int v :: st) M Q = Wp d 126 2 [l0, l1, some (.int v), l3] st M Q := fun d l0 l1 l2 l3 v st M Q hl => w_istore_n (show ins 126 1 = some (.istore_n 2, 1) by decide +kernel) (st1_S rfl rfl hl)
set_option maxRecDepth 100000 in
theorem r_126_2 : ∀ (d : Nat) (ls : Lc) (st : List Value) (M : Mem) (Q : Outcome → Mem → Prop), Wp d 126 2 ls st M Q = Wp d 126 3 ls (.int (I 0) :: st) M Q := fun d ls st M Q => w_iconst (show ins 126 2 = some (.iconst 0, 1) by decide +kernel)
set_option maxRecDepth 100000 in
theorem r_126_3 : ∀ (d : Nat) (l0 l1 l2 l3 : Option Value) (v : Int32) (st : List Value) (M : Mem) (Q : Outcome → Mem → Prop), (lo l2 = false) → Wp d 126 3 [l0, l1, l2, l3] (.int v :: st) M Q = Wp d 126 4 [l0, l1, l2, some (.int v)] st M Q := fun d l0 l1 l2 l3 v st M Q hl => w_istore_n (show ins 126 3 = some (.istore_n 3, 1) by decide +kernel) (st1_S rfl rfl hl)
set_option maxRecDepth 100000 in
theorem r_126_4 : ∀ (d : Nat) (l0 l1 l2 : Option Value) (v : Int32) (st : List Value) (M : Mem) (Q : Outcome → Mem → Prop), Wp d 126 4 [l0, l1, l2, some (.int v)] st M Q = Wp d 126 5 [l0, l1, l2, some (.int v)] (.int v :: st) M Q := fun d l0 l1 l2 v st M Q => wA (show ins 126 4 = some (.iload_n 3, 1) by decide +kernel) rfl
set_option maxRecDepth 100000 in
theorem r_126_5 : ∀ (d : Nat) (l0 l2 l3 : Option Value) (v : Int32) (st : List Value) (M : Mem) (Q : Outcome → Mem → Prop), Wp d 126 5 [l0, some (.int v), l2, l3] st M Q = Wp d 126 6 [l0, some (.int v), l2, l3] (.int v :: st) M Q := fun d l0 l2 l3 v st M Q => wA (show ins 126 5 = some (.iload_n 1, 1) by decide +kernel) rfl
set_option maxRecDepth 100000 in
theorem r_126_6 : ∀ (d : Nat) (ls : Lc) (a b : Int32) (st : List Value) (M : Mem) (Q : Outcome → Mem → Prop), Wp d 126 6 ls (.int b :: .int a :: st) M Q = Br (b ≤ a) d 126 24 9 ls st M Q := fun d ls a b st M Q => w_icmp (show ins 126 6 = some (.if_icmp .ge 18, 3) by decide +kernel) rfl rfl
set_option maxRecDepth 100000 in
theorem r_126_9 : ∀ (d : Nat) (l0 l1 l3 : Option Value) (v : Int32) (st : List Value) (M : Mem) (Q : Outcome → Mem → Prop), Wp d 126 9 [l0, l1, some (.int v), l3] st M Q = Wp d 126 10 [l0, l1, some (.int v), l3] (.int v :: st) M Q := fun d l0 l1 l3 v st M Q => wA (show ins 126 9 = some (.iload_n 2, 1) by decide +kernel) rfl
set_option maxRecDepth 100000 in
theorem r_126_10 : ∀ (d : Nat) (l1 l2 l3 : Option Value) (v : Nat) (st : List Value) (M : Mem) (Q : Outcome → Mem → Prop), Wp d 126 10 [some (.ref v), l1, l2, l3] st M Q = Wp d 126 11 [some (.ref v), l1, l2, l3] (.ref v :: st) M Q := fun d l1 l2 l3 v st M Q => wA (show ins 126 10 = some (.aload_n 0, 1) by decide +kernel) rfl
set_option maxRecDepth 100000 in
theorem r_126_11 : ∀ (d : Nat) (ls : Lc) (a : Nat) (st : List Value) (M : Mem) (Q : Outcome → Mem → Prop), Wp d 126 11 ls (.ref a :: st) M Q = (fk 38 (kO M a) = true ∧ Wp d 126 14 ls (va_rf (mR M 38 a) :: st) M Q) := fun d ls a st M Q => w_getR (show ins 126 11 = some (.getfield 15, 3) by decide +kernel) (show fRes (mC 126) 15 = some (38, 5, false) by decide +kernel) (by decide +kernel)
set_option maxRecDepth 100000 in
theorem r_126_14 : ∀ (d : Nat) (l0 l1 l2 : Option Value) (v : Int32) (st : List Value) (M : Mem) (Q : Outcome → Mem → Prop), Wp d 126 14 [l0, l1, l2, some (.int v)] st M Q = Wp d 126 15 [l0, l1, l2, some (.int v)] (.int v :: st) M Q := fun d l0 l1 l2 v st M Q => wA (show ins 126 14 = some (.iload_n 3, 1) by decide +kernel) rfl
set_option maxRecDepth 100000 in
theorem r_126_15 : ∀ (d : Nat) (ls : Lc) (a : Nat) (j : Int32) (st : List Value) (M : Mem) (Q : Outcome → Mem → Prop), Wp d 126 15 ls (.int j :: .ref a :: st) M Q = ((((kX M a).1 = 0 ∨ (kX M a).1 = 8) ∧ inB j (kX M a).2 = true) ∧ Wp d 126 16 ls (.int (mA M a j.toNatClampNeg) :: st) M Q) := fun d ls a j st M Q => w_iaload (show ins 126 15 = some (.iaload, 1) by decide +kernel)
set_option maxRecDepth 100000 in
theorem r_126_16 : ∀ (d : Nat) (ls : Lc) (a b : Int) (st : List Value) (M : Mem) (Q : Outcome → Mem → Prop), Wp d 126 16 ls (.int (I b) :: .int (I a) :: st) M Q = Wp d 126 17 ls (.int (I (a + b)) :: st) M Q := fun d ls a b st M Q => w_iadd (show ins 126 16 = some (.iadd, 1) by decide +kernel)
set_option maxRecDepth 100000 in
theorem r_126_17 : ∀ (d : Nat) (l0 l1 l2 l3 : Option Value) (v : Int32) (st : List Value) (M : Mem) (Q : Outcome → Mem → Prop), (lo l1 = false) → Wp d 126 17 [l0, l1, l2, l3] (.int v :: st) M Q = Wp d 126 18 [l0, l1, some (.int v), l3] st M Q := fun d l0 l1 l2 l3 v st M Q hl => w_istore_n (show ins 126 17 = some (.istore_n 2, 1) by decide +kernel) (st1_S rfl rfl hl)
set_option maxRecDepth 100000 in
theorem r_126_18 : ∀ (d : Nat) (l0 l1 l2 : Option Value) (z : Int) (st : List Value) (M : Mem) (Q : Outcome → Mem → Prop), (lo l2 = false) → Wp d 126 18 [l0, l1, l2, some (.int (I z))] st M Q = Wp d 126 21 [l0, l1, l2, some (.int (I (z + 1)))] st M Q := fun d l0 l1 l2 z st M Q hl => w_iinc (show ins 126 18 = some (.iinc 3 1, 3) by decide +kernel) rfl (st1_S rfl rfl hl)
set_option maxRecDepth 100000 in
theorem r_126_21 : ∀ (d : Nat) (ls : Lc) (st : List Value) (M : Mem) (Q : Outcome → Mem → Prop), Wp d 126 21 ls st M Q = Wp d 126 4 ls st M Q := fun d ls st M Q => w_goto (show ins 126 21 = some (.goto (-17), 3) by decide +kernel) rfl
set_option maxRecDepth 100000 in
theorem r_126_24 : ∀ (d : Nat) (l0 l1 l3 : Option Value) (v : Int32) (st : List Value) (M : Mem) (Q : Outcome → Mem → Prop), Wp d 126 24 [l0, l1, some (.int v), l3] st M Q = Wp d 126 25 [l0, l1, some (.int v), l3] (.int v :: st) M Q := fun d l0 l1 l3 v st M Q => wA (show ins 126 24 = some (.iload_n 2, 1) by decide +kernel) rfl
set_option maxRecDepth 100000 in
theorem r_126_25 : ∀ (d : Nat) (ls : Lc) (v : Int32) (M : Mem) (Q : Outcome → Mem → Prop), Wp d 126 25 ls [.int v] M Q = Q (.returned (some (.int v))) M := fun d ls v M Q => w_ireturn (show ins 126 25 = some (.ireturn, 1) by decide +kernel) (by decide +kernel)
set_option maxRecDepth 100000 in
theorem w_126_4 : (type_of% r_126_4) := r_126_4
set_option maxRecDepth 100000 in
theorem W_126 : (type_of% r_126_0) ∧ (type_of% r_126_1) ∧ (type_of% r_126_2) ∧ (type_of% r_126_3) ∧ (type_of% r_126_5) ∧ (type_of% r_126_6) ∧ (type_of% r_126_9) ∧ (type_of% r_126_10) ∧ (type_of% r_126_11) ∧ (type_of% r_126_14) ∧ (type_of% r_126_15) ∧ (type_of% r_126_16) ∧ (type_of% r_126_17) ∧ (type_of% r_126_18) ∧ (type_of% r_126_21) ∧ (type_of% r_126_24) ∧ (type_of% r_126_25) := ⟨r_126_0, r_126_1, r_126_2, r_126_3, r_126_5, r_126_6, r_126_9, r_126_10, r_126_11, r_126_14, r_126_15, r_126_16, r_126_17, r_126_18, r_126_21, r_126_24, r_126_25⟩
set_option maxRecDepth 100000 in
theorem ca_126 {d y pc : Nat} {ls : Lc} {a : Nat} {z0 : Int32} {r : List Value} {M : Mem} {Q : Outcome → Mem → Prop} (hd : 0 < d) (hw : Wp (d - 1) 126 0 [some (.ref a), some (.int z0), none, none] [] M (Cq d y pc ls r Q)) : Ca d y pc ls 126 [.ref a, .int z0] r M Q := ca_of (mq_get (by decide)) (by rfl) hd hw
/-! 127 PackedTree$Leaf.put(II[BII)V; loop heads [15, 48, 84] -/
set_option maxRecDepth 100000 in
theorem r_127_0 : ∀ (d : Nat) (l1 l2 l3 l4 l5 l6 l7 : Option Value) (v : Nat) (st : List Value) (M : Mem) (Q : Outcome → Mem → Prop), Wp d 127 0 [some (.ref v), l1, l2, l3, l4, l5, l6, l7] st M Q = Wp d 127 1 [some (.ref v), l1, l2, l3, l4, l5, l6, l7] (.ref v :: st) M Q := fun d l1 l2 l3 l4 l5 l6 l7 v st M Q => wA (show ins 127 0 = some (.aload_n 0, 1) by decide +kernel) rfl
set_option maxRecDepth 100000 in
theorem r_127_1 : ∀ (d : Nat) (l0 l2 l3 l4 l5 l6 l7 : Option Value) (v : Int32) (st : List Value) (M : Mem) (Q : Outcome → Mem → Prop), Wp d 127 1 [l0, some (.int v), l2, l3, l4, l5, l6, l7] st M Q = Wp d 127 2 [l0, some (.int v), l2, l3, l4, l5, l6, l7] (.int v :: st) M Q := fun d l0 l2 l3 l4 l5 l6 l7 v st M Q => wA (show ins 127 1 = some (.iload_n 1, 1) by decide +kernel) rfl
set_option maxRecDepth 100000 in
theorem r_127_2 : ∀ (d : Nat) (ls : Lc) (v0 : Value) (a : Nat) (st : List Value) (M : Mem) (Q : Outcome → Mem → Prop), (smallR st = true) → Wp d 127 2 ls (v0 :: .ref a :: st) M Q = (kO M a = 5 ∧ Ca d 127 2 ls 126 (.ref a :: [v0]) st M Q) := fun d ls v0 a st M Q h0 => w_virt1 (as := [v0]) (show ins 127 2 = some (.invokevirtual 37, 3) by decide +kernel) (show mRes (mC 127) 37 = some (3, 5, [(5, 126)]) by decide +kernel) (by decide +kernel) rfl (by decide +kernel) (by decide +kernel) h0
set_option maxRecDepth 100000 in
theorem r_127_5 : ∀ (d : Nat) (l0 l1 l2 l3 l4 l5 l6 l7 : Option Value) (v : Int32) (st : List Value) (M : Mem) (Q : Outcome → Mem → Prop), (lo l5 = false) → Wp d 127 5 [l0, l1, l2, l3, l4, l5, l6, l7] (.int v :: st) M Q = Wp d 127 7 [l0, l1, l2, l3, l4, l5, some (.int v), l7] st M Q := fun d l0 l1 l2 l3 l4 l5 l6 l7 v st M Q hl => w_istore (show ins 127 5 = some (.istore 6, 2) by decide +kernel) (st1_S rfl rfl hl)
set_option maxRecDepth 100000 in
theorem r_127_7 : ∀ (d : Nat) (l1 l2 l3 l4 l5 l6 l7 : Option Value) (v : Nat) (st : List Value) (M : Mem) (Q : Outcome → Mem → Prop), Wp d 127 7 [some (.ref v), l1, l2, l3, l4, l5, l6, l7] st M Q = Wp d 127 8 [some (.ref v), l1, l2, l3, l4, l5, l6, l7] (.ref v :: st) M Q := fun d l1 l2 l3 l4 l5 l6 l7 v st M Q => wA (show ins 127 7 = some (.aload_n 0, 1) by decide +kernel) rfl
set_option maxRecDepth 100000 in
theorem r_127_8 : ∀ (d : Nat) (ls : Lc) (a : Nat) (st : List Value) (M : Mem) (Q : Outcome → Mem → Prop), Wp d 127 8 ls (.ref a :: st) M Q = (fk 34 (kO M a) = true ∧ Wp d 127 11 ls (.int (mF M 34 a) :: st) M Q) := fun d ls a st M Q => w_getI (show ins 127 8 = some (.getfield 26, 3) by decide +kernel) (show fRes (mC 127) 26 = some (34, 5, false) by decide +kernel) (by decide +kernel)
set_option maxRecDepth 100000 in
theorem r_127_11 : ∀ (d : Nat) (ls : Lc) (st : List Value) (M : Mem) (Q : Outcome → Mem → Prop), Wp d 127 11 ls st M Q = Wp d 127 12 ls (.int (I 1) :: st) M Q := fun d ls st M Q => w_iconst (show ins 127 11 = some (.iconst 1, 1) by decide +kernel)
set_option maxRecDepth 100000 in
theorem r_127_12 : ∀ (d : Nat) (ls : Lc) (a b : Int) (st : List Value) (M : Mem) (Q : Outcome → Mem → Prop), Wp d 127 12 ls (.int (I b) :: .int (I a) :: st) M Q = Wp d 127 13 ls (.int (I (a - b)) :: st) M Q := fun d ls a b st M Q => w_isub (show ins 127 12 = some (.isub, 1) by decide +kernel)
set_option maxRecDepth 100000 in
theorem r_127_13 : ∀ (d : Nat) (l0 l1 l2 l3 l4 l5 l6 l7 : Option Value) (v : Int32) (st : List Value) (M : Mem) (Q : Outcome → Mem → Prop), (lo l6 = false) → Wp d 127 13 [l0, l1, l2, l3, l4, l5, l6, l7] (.int v :: st) M Q = Wp d 127 15 [l0, l1, l2, l3, l4, l5, l6, some (.int v)] st M Q := fun d l0 l1 l2 l3 l4 l5 l6 l7 v st M Q hl => w_istore (show ins 127 13 = some (.istore 7, 2) by decide +kernel) (st1_S rfl rfl hl)
set_option maxRecDepth 100000 in
theorem r_127_15 : ∀ (d : Nat) (l0 l1 l2 l3 l4 l5 l6 : Option Value) (v : Int32) (st : List Value) (M : Mem) (Q : Outcome → Mem → Prop), Wp d 127 15 [l0, l1, l2, l3, l4, l5, l6, some (.int v)] st M Q = Wp d 127 17 [l0, l1, l2, l3, l4, l5, l6, some (.int v)] (.int v :: st) M Q := fun d l0 l1 l2 l3 l4 l5 l6 v st M Q => wA (show ins 127 15 = some (.iload 7, 2) by decide +kernel) rfl
set_option maxRecDepth 100000 in
theorem r_127_17 : ∀ (d : Nat) (l0 l1 l2 l3 l4 l5 l7 : Option Value) (v : Int32) (st : List Value) (M : Mem) (Q : Outcome → Mem → Prop), Wp d 127 17 [l0, l1, l2, l3, l4, l5, some (.int v), l7] st M Q = Wp d 127 19 [l0, l1, l2, l3, l4, l5, some (.int v), l7] (.int v :: st) M Q := fun d l0 l1 l2 l3 l4 l5 l7 v st M Q => wA (show ins 127 17 = some (.iload 6, 2) by decide +kernel) rfl
set_option maxRecDepth 100000 in
theorem r_127_19 : ∀ (d : Nat) (ls : Lc) (a b : Int32) (st : List Value) (M : Mem) (Q : Outcome → Mem → Prop), Wp d 127 19 ls (.int b :: .int a :: st) M Q = Br (a < b) d 127 45 22 ls st M Q := fun d ls a b st M Q => w_icmp (show ins 127 19 = some (.if_icmp .lt 26, 3) by decide +kernel) rfl rfl
set_option maxRecDepth 100000 in
theorem r_127_22 : ∀ (d : Nat) (l1 l2 l3 l4 l5 l6 l7 : Option Value) (v : Nat) (st : List Value) (M : Mem) (Q : Outcome → Mem → Prop), Wp d 127 22 [some (.ref v), l1, l2, l3, l4, l5, l6, l7] st M Q = Wp d 127 23 [some (.ref v), l1, l2, l3, l4, l5, l6, l7] (.ref v :: st) M Q := fun d l1 l2 l3 l4 l5 l6 l7 v st M Q => wA (show ins 127 22 = some (.aload_n 0, 1) by decide +kernel) rfl
set_option maxRecDepth 100000 in
theorem r_127_23 : ∀ (d : Nat) (ls : Lc) (a : Nat) (st : List Value) (M : Mem) (Q : Outcome → Mem → Prop), Wp d 127 23 ls (.ref a :: st) M Q = (fk 35 (kO M a) = true ∧ Wp d 127 26 ls (va_rf (mR M 35 a) :: st) M Q) := fun d ls a st M Q => w_getR (show ins 127 23 = some (.getfield 18, 3) by decide +kernel) (show fRes (mC 127) 18 = some (35, 5, false) by decide +kernel) (by decide +kernel)
set_option maxRecDepth 100000 in
theorem r_127_26 : ∀ (d : Nat) (l0 l1 l2 l3 l4 l5 l6 : Option Value) (v : Int32) (st : List Value) (M : Mem) (Q : Outcome → Mem → Prop), Wp d 127 26 [l0, l1, l2, l3, l4, l5, l6, some (.int v)] st M Q = Wp d 127 28 [l0, l1, l2, l3, l4, l5, l6, some (.int v)] (.int v :: st) M Q := fun d l0 l1 l2 l3 l4 l5 l6 v st M Q => wA (show ins 127 26 = some (.iload 7, 2) by decide +kernel) rfl
set_option maxRecDepth 100000 in
theorem r_127_28 : ∀ (d : Nat) (l0 l1 l2 l3 l4 l6 l7 : Option Value) (v : Int32) (st : List Value) (M : Mem) (Q : Outcome → Mem → Prop), Wp d 127 28 [l0, l1, l2, l3, l4, some (.int v), l6, l7] st M Q = Wp d 127 30 [l0, l1, l2, l3, l4, some (.int v), l6, l7] (.int v :: st) M Q := fun d l0 l1 l2 l3 l4 l6 l7 v st M Q => wA (show ins 127 28 = some (.iload 5, 2) by decide +kernel) rfl
set_option maxRecDepth 100000 in
theorem r_127_30 : ∀ (d : Nat) (ls : Lc) (a b : Int) (st : List Value) (M : Mem) (Q : Outcome → Mem → Prop), Wp d 127 30 ls (.int (I b) :: .int (I a) :: st) M Q = Wp d 127 31 ls (.int (I (a + b)) :: st) M Q := fun d ls a b st M Q => w_iadd (show ins 127 30 = some (.iadd, 1) by decide +kernel)
set_option maxRecDepth 100000 in
theorem r_127_31 : ∀ (d : Nat) (l1 l2 l3 l4 l5 l6 l7 : Option Value) (v : Nat) (st : List Value) (M : Mem) (Q : Outcome → Mem → Prop), Wp d 127 31 [some (.ref v), l1, l2, l3, l4, l5, l6, l7] st M Q = Wp d 127 32 [some (.ref v), l1, l2, l3, l4, l5, l6, l7] (.ref v :: st) M Q := fun d l1 l2 l3 l4 l5 l6 l7 v st M Q => wA (show ins 127 31 = some (.aload_n 0, 1) by decide +kernel) rfl
set_option maxRecDepth 100000 in
theorem r_127_32 : ∀ (d : Nat) (ls : Lc) (a : Nat) (st : List Value) (M : Mem) (Q : Outcome → Mem → Prop), Wp d 127 32 ls (.ref a :: st) M Q = (fk 35 (kO M a) = true ∧ Wp d 127 35 ls (va_rf (mR M 35 a) :: st) M Q) := fun d ls a st M Q => w_getR (show ins 127 32 = some (.getfield 18, 3) by decide +kernel) (show fRes (mC 127) 18 = some (35, 5, false) by decide +kernel) (by decide +kernel)
set_option maxRecDepth 100000 in
theorem r_127_35 : ∀ (d : Nat) (l0 l1 l2 l3 l4 l5 l6 : Option Value) (v : Int32) (st : List Value) (M : Mem) (Q : Outcome → Mem → Prop), Wp d 127 35 [l0, l1, l2, l3, l4, l5, l6, some (.int v)] st M Q = Wp d 127 37 [l0, l1, l2, l3, l4, l5, l6, some (.int v)] (.int v :: st) M Q := fun d l0 l1 l2 l3 l4 l5 l6 v st M Q => wA (show ins 127 35 = some (.iload 7, 2) by decide +kernel) rfl
set_option maxRecDepth 100000 in
theorem r_127_37 : ∀ (d : Nat) (ls : Lc) (a : Nat) (j : Int32) (st : List Value) (M : Mem) (Q : Outcome → Mem → Prop), Wp d 127 37 ls (.int j :: .ref a :: st) M Q = ((((kX M a).1 = 1 ∨ (kX M a).1 = 2) ∧ inB j (kX M a).2 = true) ∧ Wp d 127 38 ls (.int (mA M a j.toNatClampNeg) :: st) M Q) := fun d ls a j st M Q => w_baload (show ins 127 37 = some (.baload, 1) by decide +kernel)
set_option maxRecDepth 100000 in
theorem r_127_38 : ∀ (d : Nat) (ls : Lc) (a : Nat) (j v : Int32) (st : List Value) (M : Mem) (Q : Outcome → Mem → Prop), Wp d 127 38 ls (.int v :: .int j :: .ref a :: st) M Q = ((((kX M a).1 = 1 ∨ (kX M a).1 = 2) ∧ inB j (kX M a).2 = true) ∧ Wp d 127 39 ls st (sA M a j.toNatClampNeg (nrw (kX M a).1 v)) Q) := fun d ls a j v st M Q => w_bastore (show ins 127 38 = some (.bastore, 1) by decide +kernel)
set_option maxRecDepth 100000 in
theorem r_127_39 : ∀ (d : Nat) (l0 l1 l2 l3 l4 l5 l6 : Option Value) (z : Int) (st : List Value) (M : Mem) (Q : Outcome → Mem → Prop), (lo l6 = false) → Wp d 127 39 [l0, l1, l2, l3, l4, l5, l6, some (.int (I z))] st M Q = Wp d 127 42 [l0, l1, l2, l3, l4, l5, l6, some (.int (I (z + (-1))))] st M Q := fun d l0 l1 l2 l3 l4 l5 l6 z st M Q hl => w_iinc (show ins 127 39 = some (.iinc 7 (-1), 3) by decide +kernel) rfl (st1_S rfl rfl hl)
set_option maxRecDepth 100000 in
theorem r_127_42 : ∀ (d : Nat) (ls : Lc) (st : List Value) (M : Mem) (Q : Outcome → Mem → Prop), Wp d 127 42 ls st M Q = Wp d 127 15 ls st M Q := fun d ls st M Q => w_goto (show ins 127 42 = some (.goto (-27), 3) by decide +kernel) rfl
set_option maxRecDepth 100000 in
theorem r_127_45 : ∀ (d : Nat) (ls : Lc) (st : List Value) (M : Mem) (Q : Outcome → Mem → Prop), Wp d 127 45 ls st M Q = Wp d 127 46 ls (.int (I 0) :: st) M Q := fun d ls st M Q => w_iconst (show ins 127 45 = some (.iconst 0, 1) by decide +kernel)
set_option maxRecDepth 100000 in
theorem r_127_46 : ∀ (d : Nat) (l0 l1 l2 l3 l4 l5 l6 l7 : Option Value) (v : Int32) (st : List Value) (M : Mem) (Q : Outcome → Mem → Prop), (lo l6 = false) → Wp d 127 46 [l0, l1, l2, l3, l4, l5, l6, l7] (.int v :: st) M Q = Wp d 127 48 [l0, l1, l2, l3, l4, l5, l6, some (.int v)] st M Q := fun d l0 l1 l2 l3 l4 l5 l6 l7 v st M Q hl => w_istore (show ins 127 46 = some (.istore 7, 2) by decide +kernel) (st1_S rfl rfl hl)
set_option maxRecDepth 100000 in
theorem r_127_48 : ∀ (d : Nat) (l0 l1 l2 l3 l4 l5 l6 : Option Value) (v : Int32) (st : List Value) (M : Mem) (Q : Outcome → Mem → Prop), Wp d 127 48 [l0, l1, l2, l3, l4, l5, l6, some (.int v)] st M Q = Wp d 127 50 [l0, l1, l2, l3, l4, l5, l6, some (.int v)] (.int v :: st) M Q := fun d l0 l1 l2 l3 l4 l5 l6 v st M Q => wA (show ins 127 48 = some (.iload 7, 2) by decide +kernel) rfl
set_option maxRecDepth 100000 in
theorem r_127_50 : ∀ (d : Nat) (l0 l1 l2 l3 l4 l6 l7 : Option Value) (v : Int32) (st : List Value) (M : Mem) (Q : Outcome → Mem → Prop), Wp d 127 50 [l0, l1, l2, l3, l4, some (.int v), l6, l7] st M Q = Wp d 127 52 [l0, l1, l2, l3, l4, some (.int v), l6, l7] (.int v :: st) M Q := fun d l0 l1 l2 l3 l4 l6 l7 v st M Q => wA (show ins 127 50 = some (.iload 5, 2) by decide +kernel) rfl
set_option maxRecDepth 100000 in
theorem r_127_52 : ∀ (d : Nat) (ls : Lc) (a b : Int32) (st : List Value) (M : Mem) (Q : Outcome → Mem → Prop), Wp d 127 52 ls (.int b :: .int a :: st) M Q = Br (b ≤ a) d 127 78 55 ls st M Q := fun d ls a b st M Q => w_icmp (show ins 127 52 = some (.if_icmp .ge 26, 3) by decide +kernel) rfl rfl
set_option maxRecDepth 100000 in
theorem r_127_55 : ∀ (d : Nat) (l1 l2 l3 l4 l5 l6 l7 : Option Value) (v : Nat) (st : List Value) (M : Mem) (Q : Outcome → Mem → Prop), Wp d 127 55 [some (.ref v), l1, l2, l3, l4, l5, l6, l7] st M Q = Wp d 127 56 [some (.ref v), l1, l2, l3, l4, l5, l6, l7] (.ref v :: st) M Q := fun d l1 l2 l3 l4 l5 l6 l7 v st M Q => wA (show ins 127 55 = some (.aload_n 0, 1) by decide +kernel) rfl
set_option maxRecDepth 100000 in
theorem r_127_56 : ∀ (d : Nat) (ls : Lc) (a : Nat) (st : List Value) (M : Mem) (Q : Outcome → Mem → Prop), Wp d 127 56 ls (.ref a :: st) M Q = (fk 35 (kO M a) = true ∧ Wp d 127 59 ls (va_rf (mR M 35 a) :: st) M Q) := fun d ls a st M Q => w_getR (show ins 127 56 = some (.getfield 18, 3) by decide +kernel) (show fRes (mC 127) 18 = some (35, 5, false) by decide +kernel) (by decide +kernel)
set_option maxRecDepth 100000 in
theorem r_127_59 : ∀ (d : Nat) (l0 l1 l2 l3 l4 l5 l7 : Option Value) (v : Int32) (st : List Value) (M : Mem) (Q : Outcome → Mem → Prop), Wp d 127 59 [l0, l1, l2, l3, l4, l5, some (.int v), l7] st M Q = Wp d 127 61 [l0, l1, l2, l3, l4, l5, some (.int v), l7] (.int v :: st) M Q := fun d l0 l1 l2 l3 l4 l5 l7 v st M Q => wA (show ins 127 59 = some (.iload 6, 2) by decide +kernel) rfl
set_option maxRecDepth 100000 in
theorem r_127_61 : ∀ (d : Nat) (l0 l1 l2 l3 l4 l5 l6 : Option Value) (v : Int32) (st : List Value) (M : Mem) (Q : Outcome → Mem → Prop), Wp d 127 61 [l0, l1, l2, l3, l4, l5, l6, some (.int v)] st M Q = Wp d 127 63 [l0, l1, l2, l3, l4, l5, l6, some (.int v)] (.int v :: st) M Q := fun d l0 l1 l2 l3 l4 l5 l6 v st M Q => wA (show ins 127 61 = some (.iload 7, 2) by decide +kernel) rfl
set_option maxRecDepth 100000 in
theorem r_127_63 : ∀ (d : Nat) (ls : Lc) (a b : Int) (st : List Value) (M : Mem) (Q : Outcome → Mem → Prop), Wp d 127 63 ls (.int (I b) :: .int (I a) :: st) M Q = Wp d 127 64 ls (.int (I (a + b)) :: st) M Q := fun d ls a b st M Q => w_iadd (show ins 127 63 = some (.iadd, 1) by decide +kernel)
set_option maxRecDepth 100000 in
theorem r_127_64 : ∀ (d : Nat) (l0 l1 l2 l4 l5 l6 l7 : Option Value) (v : Nat) (st : List Value) (M : Mem) (Q : Outcome → Mem → Prop), Wp d 127 64 [l0, l1, l2, some (.ref v), l4, l5, l6, l7] st M Q = Wp d 127 65 [l0, l1, l2, some (.ref v), l4, l5, l6, l7] (.ref v :: st) M Q := fun d l0 l1 l2 l4 l5 l6 l7 v st M Q => wA (show ins 127 64 = some (.aload_n 3, 1) by decide +kernel) rfl
set_option maxRecDepth 100000 in
theorem r_127_64_1 : ∀ (d : Nat) (l0 l1 l2 l4 l5 l6 l7 : Option Value) (st : List Value) (M : Mem) (Q : Outcome → Mem → Prop), Wp d 127 64 [l0, l1, l2, some .null, l4, l5, l6, l7] st M Q = Wp d 127 65 [l0, l1, l2, some .null, l4, l5, l6, l7] (.null :: st) M Q := fun d l0 l1 l2 l4 l5 l6 l7 st M Q => wA (show ins 127 64 = some (.aload_n 3, 1) by decide +kernel) rfl
set_option maxRecDepth 100000 in
theorem r_127_65 : ∀ (d : Nat) (l0 l1 l2 l3 l5 l6 l7 : Option Value) (v : Int32) (st : List Value) (M : Mem) (Q : Outcome → Mem → Prop), Wp d 127 65 [l0, l1, l2, l3, some (.int v), l5, l6, l7] st M Q = Wp d 127 67 [l0, l1, l2, l3, some (.int v), l5, l6, l7] (.int v :: st) M Q := fun d l0 l1 l2 l3 l5 l6 l7 v st M Q => wA (show ins 127 65 = some (.iload 4, 2) by decide +kernel) rfl
set_option maxRecDepth 100000 in
theorem r_127_67 : ∀ (d : Nat) (l0 l1 l2 l3 l4 l5 l6 : Option Value) (v : Int32) (st : List Value) (M : Mem) (Q : Outcome → Mem → Prop), Wp d 127 67 [l0, l1, l2, l3, l4, l5, l6, some (.int v)] st M Q = Wp d 127 69 [l0, l1, l2, l3, l4, l5, l6, some (.int v)] (.int v :: st) M Q := fun d l0 l1 l2 l3 l4 l5 l6 v st M Q => wA (show ins 127 67 = some (.iload 7, 2) by decide +kernel) rfl
set_option maxRecDepth 100000 in
theorem r_127_69 : ∀ (d : Nat) (ls : Lc) (a b : Int) (st : List Value) (M : Mem) (Q : Outcome → Mem → Prop), Wp d 127 69 ls (.int (I b) :: .int (I a) :: st) M Q = Wp d 127 70 ls (.int (I (a + b)) :: st) M Q := fun d ls a b st M Q => w_iadd (show ins 127 69 = some (.iadd, 1) by decide +kernel)
set_option maxRecDepth 100000 in
theorem r_127_70 : ∀ (d : Nat) (ls : Lc) (a : Nat) (j : Int32) (st : List Value) (M : Mem) (Q : Outcome → Mem → Prop), Wp d 127 70 ls (.int j :: .ref a :: st) M Q = ((((kX M a).1 = 1 ∨ (kX M a).1 = 2) ∧ inB j (kX M a).2 = true) ∧ Wp d 127 71 ls (.int (mA M a j.toNatClampNeg) :: st) M Q) := fun d ls a j st M Q => w_baload (show ins 127 70 = some (.baload, 1) by decide +kernel)
set_option maxRecDepth 100000 in
theorem r_127_71 : ∀ (d : Nat) (ls : Lc) (a : Nat) (j v : Int32) (st : List Value) (M : Mem) (Q : Outcome → Mem → Prop), Wp d 127 71 ls (.int v :: .int j :: .ref a :: st) M Q = ((((kX M a).1 = 1 ∨ (kX M a).1 = 2) ∧ inB j (kX M a).2 = true) ∧ Wp d 127 72 ls st (sA M a j.toNatClampNeg (nrw (kX M a).1 v)) Q) := fun d ls a j v st M Q => w_bastore (show ins 127 71 = some (.bastore, 1) by decide +kernel)
set_option maxRecDepth 100000 in
theorem r_127_72 : ∀ (d : Nat) (l0 l1 l2 l3 l4 l5 l6 : Option Value) (z : Int) (st : List Value) (M : Mem) (Q : Outcome → Mem → Prop), (lo l6 = false) → Wp d 127 72 [l0, l1, l2, l3, l4, l5, l6, some (.int (I z))] st M Q = Wp d 127 75 [l0, l1, l2, l3, l4, l5, l6, some (.int (I (z + 1)))] st M Q := fun d l0 l1 l2 l3 l4 l5 l6 z st M Q hl => w_iinc (show ins 127 72 = some (.iinc 7 1, 3) by decide +kernel) rfl (st1_S rfl rfl hl)
set_option maxRecDepth 100000 in
theorem r_127_75 : ∀ (d : Nat) (ls : Lc) (st : List Value) (M : Mem) (Q : Outcome → Mem → Prop), Wp d 127 75 ls st M Q = Wp d 127 48 ls st M Q := fun d ls st M Q => w_goto (show ins 127 75 = some (.goto (-27), 3) by decide +kernel) rfl
set_option maxRecDepth 100000 in
theorem r_127_78 : ∀ (d : Nat) (l1 l2 l3 l4 l5 l6 l7 : Option Value) (v : Nat) (st : List Value) (M : Mem) (Q : Outcome → Mem → Prop), Wp d 127 78 [some (.ref v), l1, l2, l3, l4, l5, l6, l7] st M Q = Wp d 127 79 [some (.ref v), l1, l2, l3, l4, l5, l6, l7] (.ref v :: st) M Q := fun d l1 l2 l3 l4 l5 l6 l7 v st M Q => wA (show ins 127 78 = some (.aload_n 0, 1) by decide +kernel) rfl
set_option maxRecDepth 100000 in
theorem r_127_79 : ∀ (d : Nat) (ls : Lc) (a : Nat) (st : List Value) (M : Mem) (Q : Outcome → Mem → Prop), Wp d 127 79 ls (.ref a :: st) M Q = (fk 37 (kO M a) = true ∧ Wp d 127 82 ls (.int (mF M 37 a) :: st) M Q) := fun d ls a st M Q => w_getI (show ins 127 79 = some (.getfield 22, 3) by decide +kernel) (show fRes (mC 127) 22 = some (37, 5, false) by decide +kernel) (by decide +kernel)
set_option maxRecDepth 100000 in
theorem r_127_82 : ∀ (d : Nat) (l0 l1 l2 l3 l4 l5 l6 l7 : Option Value) (v : Int32) (st : List Value) (M : Mem) (Q : Outcome → Mem → Prop), (lo l6 = false) → Wp d 127 82 [l0, l1, l2, l3, l4, l5, l6, l7] (.int v :: st) M Q = Wp d 127 84 [l0, l1, l2, l3, l4, l5, l6, some (.int v)] st M Q := fun d l0 l1 l2 l3 l4 l5 l6 l7 v st M Q hl => w_istore (show ins 127 82 = some (.istore 7, 2) by decide +kernel) (st1_S rfl rfl hl)
set_option maxRecDepth 100000 in
theorem r_127_84 : ∀ (d : Nat) (l0 l1 l2 l3 l4 l5 l6 : Option Value) (v : Int32) (st : List Value) (M : Mem) (Q : Outcome → Mem → Prop), Wp d 127 84 [l0, l1, l2, l3, l4, l5, l6, some (.int v)] st M Q = Wp d 127 86 [l0, l1, l2, l3, l4, l5, l6, some (.int v)] (.int v :: st) M Q := fun d l0 l1 l2 l3 l4 l5 l6 v st M Q => wA (show ins 127 84 = some (.iload 7, 2) by decide +kernel) rfl
set_option maxRecDepth 100000 in
theorem r_127_86 : ∀ (d : Nat) (l0 l2 l3 l4 l5 l6 l7 : Option Value) (v : Int32) (st : List Value) (M : Mem) (Q : Outcome → Mem → Prop), Wp d 127 86 [l0, some (.int v), l2, l3, l4, l5, l6, l7] st M Q = Wp d 127 87 [l0, some (.int v), l2, l3, l4, l5, l6, l7] (.int v :: st) M Q := fun d l0 l2 l3 l4 l5 l6 l7 v st M Q => wA (show ins 127 86 = some (.iload_n 1, 1) by decide +kernel) rfl
set_option maxRecDepth 100000 in
theorem r_127_87 : ∀ (d : Nat) (ls : Lc) (a b : Int32) (st : List Value) (M : Mem) (Q : Outcome → Mem → Prop), Wp d 127 87 ls (.int b :: .int a :: st) M Q = Br (a ≤ b) d 127 128 90 ls st M Q := fun d ls a b st M Q => w_icmp (show ins 127 87 = some (.if_icmp .le 41, 3) by decide +kernel) rfl rfl
set_option maxRecDepth 100000 in
theorem r_127_90 : ∀ (d : Nat) (l1 l2 l3 l4 l5 l6 l7 : Option Value) (v : Nat) (st : List Value) (M : Mem) (Q : Outcome → Mem → Prop), Wp d 127 90 [some (.ref v), l1, l2, l3, l4, l5, l6, l7] st M Q = Wp d 127 91 [some (.ref v), l1, l2, l3, l4, l5, l6, l7] (.ref v :: st) M Q := fun d l1 l2 l3 l4 l5 l6 l7 v st M Q => wA (show ins 127 90 = some (.aload_n 0, 1) by decide +kernel) rfl
set_option maxRecDepth 100000 in
theorem r_127_91 : ∀ (d : Nat) (ls : Lc) (a : Nat) (st : List Value) (M : Mem) (Q : Outcome → Mem → Prop), Wp d 127 91 ls (.ref a :: st) M Q = (fk 36 (kO M a) = true ∧ Wp d 127 94 ls (va_rf (mR M 36 a) :: st) M Q) := fun d ls a st M Q => w_getR (show ins 127 91 = some (.getfield 9, 3) by decide +kernel) (show fRes (mC 127) 9 = some (36, 5, false) by decide +kernel) (by decide +kernel)
set_option maxRecDepth 100000 in
theorem r_127_94 : ∀ (d : Nat) (l0 l1 l2 l3 l4 l5 l6 : Option Value) (v : Int32) (st : List Value) (M : Mem) (Q : Outcome → Mem → Prop), Wp d 127 94 [l0, l1, l2, l3, l4, l5, l6, some (.int v)] st M Q = Wp d 127 96 [l0, l1, l2, l3, l4, l5, l6, some (.int v)] (.int v :: st) M Q := fun d l0 l1 l2 l3 l4 l5 l6 v st M Q => wA (show ins 127 94 = some (.iload 7, 2) by decide +kernel) rfl
set_option maxRecDepth 100000 in
theorem r_127_96 : ∀ (d : Nat) (l1 l2 l3 l4 l5 l6 l7 : Option Value) (v : Nat) (st : List Value) (M : Mem) (Q : Outcome → Mem → Prop), Wp d 127 96 [some (.ref v), l1, l2, l3, l4, l5, l6, l7] st M Q = Wp d 127 97 [some (.ref v), l1, l2, l3, l4, l5, l6, l7] (.ref v :: st) M Q := fun d l1 l2 l3 l4 l5 l6 l7 v st M Q => wA (show ins 127 96 = some (.aload_n 0, 1) by decide +kernel) rfl
set_option maxRecDepth 100000 in
theorem r_127_97 : ∀ (d : Nat) (ls : Lc) (a : Nat) (st : List Value) (M : Mem) (Q : Outcome → Mem → Prop), Wp d 127 97 ls (.ref a :: st) M Q = (fk 36 (kO M a) = true ∧ Wp d 127 100 ls (va_rf (mR M 36 a) :: st) M Q) := fun d ls a st M Q => w_getR (show ins 127 97 = some (.getfield 9, 3) by decide +kernel) (show fRes (mC 127) 9 = some (36, 5, false) by decide +kernel) (by decide +kernel)
set_option maxRecDepth 100000 in
theorem r_127_100 : ∀ (d : Nat) (l0 l1 l2 l3 l4 l5 l6 : Option Value) (v : Int32) (st : List Value) (M : Mem) (Q : Outcome → Mem → Prop), Wp d 127 100 [l0, l1, l2, l3, l4, l5, l6, some (.int v)] st M Q = Wp d 127 102 [l0, l1, l2, l3, l4, l5, l6, some (.int v)] (.int v :: st) M Q := fun d l0 l1 l2 l3 l4 l5 l6 v st M Q => wA (show ins 127 100 = some (.iload 7, 2) by decide +kernel) rfl
set_option maxRecDepth 100000 in
theorem r_127_102 : ∀ (d : Nat) (ls : Lc) (st : List Value) (M : Mem) (Q : Outcome → Mem → Prop), Wp d 127 102 ls st M Q = Wp d 127 103 ls (.int (I 1) :: st) M Q := fun d ls st M Q => w_iconst (show ins 127 102 = some (.iconst 1, 1) by decide +kernel)
set_option maxRecDepth 100000 in
theorem r_127_103 : ∀ (d : Nat) (ls : Lc) (a b : Int) (st : List Value) (M : Mem) (Q : Outcome → Mem → Prop), Wp d 127 103 ls (.int (I b) :: .int (I a) :: st) M Q = Wp d 127 104 ls (.int (I (a - b)) :: st) M Q := fun d ls a b st M Q => w_isub (show ins 127 103 = some (.isub, 1) by decide +kernel)
set_option maxRecDepth 100000 in
theorem r_127_104 : ∀ (d : Nat) (ls : Lc) (a : Nat) (j : Int32) (st : List Value) (M : Mem) (Q : Outcome → Mem → Prop), Wp d 127 104 ls (.int j :: .ref a :: st) M Q = ((((kX M a).1 = 0 ∨ (kX M a).1 = 8) ∧ inB j (kX M a).2 = true) ∧ Wp d 127 105 ls (.int (mA M a j.toNatClampNeg) :: st) M Q) := fun d ls a j st M Q => w_iaload (show ins 127 104 = some (.iaload, 1) by decide +kernel)
set_option maxRecDepth 100000 in
theorem r_127_105 : ∀ (d : Nat) (ls : Lc) (a : Nat) (j v : Int32) (st : List Value) (M : Mem) (Q : Outcome → Mem → Prop), Wp d 127 105 ls (.int v :: .int j :: .ref a :: st) M Q = (((kX M a).1 = 0 ∧ inB j (kX M a).2 = true) ∧ Wp d 127 106 ls st (sA M a j.toNatClampNeg v) Q) := fun d ls a j v st M Q => w_iastore (show ins 127 105 = some (.iastore, 1) by decide +kernel)
set_option maxRecDepth 100000 in
theorem r_127_106 : ∀ (d : Nat) (l1 l2 l3 l4 l5 l6 l7 : Option Value) (v : Nat) (st : List Value) (M : Mem) (Q : Outcome → Mem → Prop), Wp d 127 106 [some (.ref v), l1, l2, l3, l4, l5, l6, l7] st M Q = Wp d 127 107 [some (.ref v), l1, l2, l3, l4, l5, l6, l7] (.ref v :: st) M Q := fun d l1 l2 l3 l4 l5 l6 l7 v st M Q => wA (show ins 127 106 = some (.aload_n 0, 1) by decide +kernel) rfl
set_option maxRecDepth 100000 in
theorem r_127_107 : ∀ (d : Nat) (ls : Lc) (a : Nat) (st : List Value) (M : Mem) (Q : Outcome → Mem → Prop), Wp d 127 107 ls (.ref a :: st) M Q = (fk 38 (kO M a) = true ∧ Wp d 127 110 ls (va_rf (mR M 38 a) :: st) M Q) := fun d ls a st M Q => w_getR (show ins 127 107 = some (.getfield 15, 3) by decide +kernel) (show fRes (mC 127) 15 = some (38, 5, false) by decide +kernel) (by decide +kernel)
set_option maxRecDepth 100000 in
theorem r_127_110 : ∀ (d : Nat) (l0 l1 l2 l3 l4 l5 l6 : Option Value) (v : Int32) (st : List Value) (M : Mem) (Q : Outcome → Mem → Prop), Wp d 127 110 [l0, l1, l2, l3, l4, l5, l6, some (.int v)] st M Q = Wp d 127 112 [l0, l1, l2, l3, l4, l5, l6, some (.int v)] (.int v :: st) M Q := fun d l0 l1 l2 l3 l4 l5 l6 v st M Q => wA (show ins 127 110 = some (.iload 7, 2) by decide +kernel) rfl
set_option maxRecDepth 100000 in
theorem r_127_112 : ∀ (d : Nat) (l1 l2 l3 l4 l5 l6 l7 : Option Value) (v : Nat) (st : List Value) (M : Mem) (Q : Outcome → Mem → Prop), Wp d 127 112 [some (.ref v), l1, l2, l3, l4, l5, l6, l7] st M Q = Wp d 127 113 [some (.ref v), l1, l2, l3, l4, l5, l6, l7] (.ref v :: st) M Q := fun d l1 l2 l3 l4 l5 l6 l7 v st M Q => wA (show ins 127 112 = some (.aload_n 0, 1) by decide +kernel) rfl
set_option maxRecDepth 100000 in
theorem r_127_113 : ∀ (d : Nat) (ls : Lc) (a : Nat) (st : List Value) (M : Mem) (Q : Outcome → Mem → Prop), Wp d 127 113 ls (.ref a :: st) M Q = (fk 38 (kO M a) = true ∧ Wp d 127 116 ls (va_rf (mR M 38 a) :: st) M Q) := fun d ls a st M Q => w_getR (show ins 127 113 = some (.getfield 15, 3) by decide +kernel) (show fRes (mC 127) 15 = some (38, 5, false) by decide +kernel) (by decide +kernel)
set_option maxRecDepth 100000 in
theorem r_127_116 : ∀ (d : Nat) (l0 l1 l2 l3 l4 l5 l6 : Option Value) (v : Int32) (st : List Value) (M : Mem) (Q : Outcome → Mem → Prop), Wp d 127 116 [l0, l1, l2, l3, l4, l5, l6, some (.int v)] st M Q = Wp d 127 118 [l0, l1, l2, l3, l4, l5, l6, some (.int v)] (.int v :: st) M Q := fun d l0 l1 l2 l3 l4 l5 l6 v st M Q => wA (show ins 127 116 = some (.iload 7, 2) by decide +kernel) rfl
set_option maxRecDepth 100000 in
theorem r_127_118 : ∀ (d : Nat) (ls : Lc) (st : List Value) (M : Mem) (Q : Outcome → Mem → Prop), Wp d 127 118 ls st M Q = Wp d 127 119 ls (.int (I 1) :: st) M Q := fun d ls st M Q => w_iconst (show ins 127 118 = some (.iconst 1, 1) by decide +kernel)
set_option maxRecDepth 100000 in
theorem r_127_119 : ∀ (d : Nat) (ls : Lc) (a b : Int) (st : List Value) (M : Mem) (Q : Outcome → Mem → Prop), Wp d 127 119 ls (.int (I b) :: .int (I a) :: st) M Q = Wp d 127 120 ls (.int (I (a - b)) :: st) M Q := fun d ls a b st M Q => w_isub (show ins 127 119 = some (.isub, 1) by decide +kernel)
set_option maxRecDepth 100000 in
theorem r_127_120 : ∀ (d : Nat) (ls : Lc) (a : Nat) (j : Int32) (st : List Value) (M : Mem) (Q : Outcome → Mem → Prop), Wp d 127 120 ls (.int j :: .ref a :: st) M Q = ((((kX M a).1 = 0 ∨ (kX M a).1 = 8) ∧ inB j (kX M a).2 = true) ∧ Wp d 127 121 ls (.int (mA M a j.toNatClampNeg) :: st) M Q) := fun d ls a j st M Q => w_iaload (show ins 127 120 = some (.iaload, 1) by decide +kernel)
set_option maxRecDepth 100000 in
theorem r_127_121 : ∀ (d : Nat) (ls : Lc) (a : Nat) (j v : Int32) (st : List Value) (M : Mem) (Q : Outcome → Mem → Prop), Wp d 127 121 ls (.int v :: .int j :: .ref a :: st) M Q = (((kX M a).1 = 0 ∧ inB j (kX M a).2 = true) ∧ Wp d 127 122 ls st (sA M a j.toNatClampNeg v) Q) := fun d ls a j v st M Q => w_iastore (show ins 127 121 = some (.iastore, 1) by decide +kernel)
set_option maxRecDepth 100000 in
theorem r_127_122 : ∀ (d : Nat) (l0 l1 l2 l3 l4 l5 l6 : Option Value) (z : Int) (st : List Value) (M : Mem) (Q : Outcome → Mem → Prop), (lo l6 = false) → Wp d 127 122 [l0, l1, l2, l3, l4, l5, l6, some (.int (I z))] st M Q = Wp d 127 125 [l0, l1, l2, l3, l4, l5, l6, some (.int (I (z + (-1))))] st M Q := fun d l0 l1 l2 l3 l4 l5 l6 z st M Q hl => w_iinc (show ins 127 122 = some (.iinc 7 (-1), 3) by decide +kernel) rfl (st1_S rfl rfl hl)
set_option maxRecDepth 100000 in
theorem r_127_125 : ∀ (d : Nat) (ls : Lc) (st : List Value) (M : Mem) (Q : Outcome → Mem → Prop), Wp d 127 125 ls st M Q = Wp d 127 84 ls st M Q := fun d ls st M Q => w_goto (show ins 127 125 = some (.goto (-41), 3) by decide +kernel) rfl
set_option maxRecDepth 100000 in
theorem r_127_128 : ∀ (d : Nat) (l1 l2 l3 l4 l5 l6 l7 : Option Value) (v : Nat) (st : List Value) (M : Mem) (Q : Outcome → Mem → Prop), Wp d 127 128 [some (.ref v), l1, l2, l3, l4, l5, l6, l7] st M Q = Wp d 127 129 [some (.ref v), l1, l2, l3, l4, l5, l6, l7] (.ref v :: st) M Q := fun d l1 l2 l3 l4 l5 l6 l7 v st M Q => wA (show ins 127 128 = some (.aload_n 0, 1) by decide +kernel) rfl
set_option maxRecDepth 100000 in
theorem r_127_129 : ∀ (d : Nat) (ls : Lc) (a : Nat) (st : List Value) (M : Mem) (Q : Outcome → Mem → Prop), Wp d 127 129 ls (.ref a :: st) M Q = (fk 36 (kO M a) = true ∧ Wp d 127 132 ls (va_rf (mR M 36 a) :: st) M Q) := fun d ls a st M Q => w_getR (show ins 127 129 = some (.getfield 9, 3) by decide +kernel) (show fRes (mC 127) 9 = some (36, 5, false) by decide +kernel) (by decide +kernel)
set_option maxRecDepth 100000 in
theorem r_127_132 : ∀ (d : Nat) (l0 l2 l3 l4 l5 l6 l7 : Option Value) (v : Int32) (st : List Value) (M : Mem) (Q : Outcome → Mem → Prop), Wp d 127 132 [l0, some (.int v), l2, l3, l4, l5, l6, l7] st M Q = Wp d 127 133 [l0, some (.int v), l2, l3, l4, l5, l6, l7] (.int v :: st) M Q := fun d l0 l2 l3 l4 l5 l6 l7 v st M Q => wA (show ins 127 132 = some (.iload_n 1, 1) by decide +kernel) rfl
set_option maxRecDepth 100000 in
theorem r_127_133 : ∀ (d : Nat) (l0 l1 l3 l4 l5 l6 l7 : Option Value) (v : Int32) (st : List Value) (M : Mem) (Q : Outcome → Mem → Prop), Wp d 127 133 [l0, l1, some (.int v), l3, l4, l5, l6, l7] st M Q = Wp d 127 134 [l0, l1, some (.int v), l3, l4, l5, l6, l7] (.int v :: st) M Q := fun d l0 l1 l3 l4 l5 l6 l7 v st M Q => wA (show ins 127 133 = some (.iload_n 2, 1) by decide +kernel) rfl
set_option maxRecDepth 100000 in
theorem r_127_134 : ∀ (d : Nat) (ls : Lc) (a : Nat) (j v : Int32) (st : List Value) (M : Mem) (Q : Outcome → Mem → Prop), Wp d 127 134 ls (.int v :: .int j :: .ref a :: st) M Q = (((kX M a).1 = 0 ∧ inB j (kX M a).2 = true) ∧ Wp d 127 135 ls st (sA M a j.toNatClampNeg v) Q) := fun d ls a j v st M Q => w_iastore (show ins 127 134 = some (.iastore, 1) by decide +kernel)
set_option maxRecDepth 100000 in
theorem r_127_135 : ∀ (d : Nat) (l1 l2 l3 l4 l5 l6 l7 : Option Value) (v : Nat) (st : List Value) (M : Mem) (Q : Outcome → Mem → Prop), Wp d 127 135 [some (.ref v), l1, l2, l3, l4, l5, l6, l7] st M Q = Wp d 127 136 [some (.ref v), l1, l2, l3, l4, l5, l6, l7] (.ref v :: st) M Q := fun d l1 l2 l3 l4 l5 l6 l7 v st M Q => wA (show ins 127 135 = some (.aload_n 0, 1) by decide +kernel) rfl
set_option maxRecDepth 100000 in
theorem r_127_136 : ∀ (d : Nat) (ls : Lc) (a : Nat) (st : List Value) (M : Mem) (Q : Outcome → Mem → Prop), Wp d 127 136 ls (.ref a :: st) M Q = (fk 38 (kO M a) = true ∧ Wp d 127 139 ls (va_rf (mR M 38 a) :: st) M Q) := fun d ls a st M Q => w_getR (show ins 127 136 = some (.getfield 15, 3) by decide +kernel) (show fRes (mC 127) 15 = some (38, 5, false) by decide +kernel) (by decide +kernel)
set_option maxRecDepth 100000 in
theorem r_127_139 : ∀ (d : Nat) (l0 l2 l3 l4 l5 l6 l7 : Option Value) (v : Int32) (st : List Value) (M : Mem) (Q : Outcome → Mem → Prop), Wp d 127 139 [l0, some (.int v), l2, l3, l4, l5, l6, l7] st M Q = Wp d 127 140 [l0, some (.int v), l2, l3, l4, l5, l6, l7] (.int v :: st) M Q := fun d l0 l2 l3 l4 l5 l6 l7 v st M Q => wA (show ins 127 139 = some (.iload_n 1, 1) by decide +kernel) rfl
set_option maxRecDepth 100000 in
theorem r_127_140 : ∀ (d : Nat) (l0 l1 l2 l3 l4 l6 l7 : Option Value) (v : Int32) (st : List Value) (M : Mem) (Q : Outcome → Mem → Prop), Wp d 127 140 [l0, l1, l2, l3, l4, some (.int v), l6, l7] st M Q = Wp d 127 142 [l0, l1, l2, l3, l4, some (.int v), l6, l7] (.int v :: st) M Q := fun d l0 l1 l2 l3 l4 l6 l7 v st M Q => wA (show ins 127 140 = some (.iload 5, 2) by decide +kernel) rfl
set_option maxRecDepth 100000 in
theorem r_127_142 : ∀ (d : Nat) (ls : Lc) (a : Nat) (j v : Int32) (st : List Value) (M : Mem) (Q : Outcome → Mem → Prop), Wp d 127 142 ls (.int v :: .int j :: .ref a :: st) M Q = (((kX M a).1 = 0 ∧ inB j (kX M a).2 = true) ∧ Wp d 127 143 ls st (sA M a j.toNatClampNeg v) Q) := fun d ls a j v st M Q => w_iastore (show ins 127 142 = some (.iastore, 1) by decide +kernel)
set_option maxRecDepth 100000 in
theorem r_127_143 : ∀ (d : Nat) (l1 l2 l3 l4 l5 l6 l7 : Option Value) (v : Nat) (st : List Value) (M : Mem) (Q : Outcome → Mem → Prop), Wp d 127 143 [some (.ref v), l1, l2, l3, l4, l5, l6, l7] st M Q = Wp d 127 144 [some (.ref v), l1, l2, l3, l4, l5, l6, l7] (.ref v :: st) M Q := fun d l1 l2 l3 l4 l5 l6 l7 v st M Q => wA (show ins 127 143 = some (.aload_n 0, 1) by decide +kernel) rfl
set_option maxRecDepth 100000 in
theorem r_127_144 : ∀ (d : Nat) (ls : Lc) (v : Nat) (st : List Value) (M : Mem) (Q : Outcome → Mem → Prop), Wp d 127 144 ls (.ref v :: st) M Q = Wp d 127 145 ls (.ref v :: .ref v :: st) M Q := fun d ls v st M Q => wA (show ins 127 144 = some (.dup, 1) by decide +kernel) rfl
set_option maxRecDepth 100000 in
theorem r_127_144_1 : ∀ (d : Nat) (ls : Lc) (v : Int32) (st : List Value) (M : Mem) (Q : Outcome → Mem → Prop), Wp d 127 144 ls (.int v :: st) M Q = Wp d 127 145 ls (.int v :: .int v :: st) M Q := fun d ls v st M Q => wA (show ins 127 144 = some (.dup, 1) by decide +kernel) rfl
set_option maxRecDepth 100000 in
theorem r_127_145 : ∀ (d : Nat) (ls : Lc) (a : Nat) (st : List Value) (M : Mem) (Q : Outcome → Mem → Prop), Wp d 127 145 ls (.ref a :: st) M Q = (fk 37 (kO M a) = true ∧ Wp d 127 148 ls (.int (mF M 37 a) :: st) M Q) := fun d ls a st M Q => w_getI (show ins 127 145 = some (.getfield 22, 3) by decide +kernel) (show fRes (mC 127) 22 = some (37, 5, false) by decide +kernel) (by decide +kernel)
set_option maxRecDepth 100000 in
theorem r_127_148 : ∀ (d : Nat) (ls : Lc) (st : List Value) (M : Mem) (Q : Outcome → Mem → Prop), Wp d 127 148 ls st M Q = Wp d 127 149 ls (.int (I 1) :: st) M Q := fun d ls st M Q => w_iconst (show ins 127 148 = some (.iconst 1, 1) by decide +kernel)
set_option maxRecDepth 100000 in
theorem r_127_149 : ∀ (d : Nat) (ls : Lc) (a b : Int) (st : List Value) (M : Mem) (Q : Outcome → Mem → Prop), Wp d 127 149 ls (.int (I b) :: .int (I a) :: st) M Q = Wp d 127 150 ls (.int (I (a + b)) :: st) M Q := fun d ls a b st M Q => w_iadd (show ins 127 149 = some (.iadd, 1) by decide +kernel)
set_option maxRecDepth 100000 in
theorem r_127_150 : ∀ (d : Nat) (ls : Lc) (a : Nat) (v : Int32) (st : List Value) (M : Mem) (Q : Outcome → Mem → Prop), Wp d 127 150 ls (.int v :: .ref a :: st) M Q = (fk 37 (kO M a) = true ∧ Wp d 127 153 ls st (sF M 37 a v) Q) := fun d ls a v st M Q => w_putI (show ins 127 150 = some (.putfield 22, 3) by decide +kernel) (show fRes (mC 127) 22 = some (37, 5, false) by decide +kernel) (by decide +kernel) (by decide +kernel)
set_option maxRecDepth 100000 in
theorem r_127_153 : ∀ (d : Nat) (l1 l2 l3 l4 l5 l6 l7 : Option Value) (v : Nat) (st : List Value) (M : Mem) (Q : Outcome → Mem → Prop), Wp d 127 153 [some (.ref v), l1, l2, l3, l4, l5, l6, l7] st M Q = Wp d 127 154 [some (.ref v), l1, l2, l3, l4, l5, l6, l7] (.ref v :: st) M Q := fun d l1 l2 l3 l4 l5 l6 l7 v st M Q => wA (show ins 127 153 = some (.aload_n 0, 1) by decide +kernel) rfl
set_option maxRecDepth 100000 in
theorem r_127_154 : ∀ (d : Nat) (ls : Lc) (v : Nat) (st : List Value) (M : Mem) (Q : Outcome → Mem → Prop), Wp d 127 154 ls (.ref v :: st) M Q = Wp d 127 155 ls (.ref v :: .ref v :: st) M Q := fun d ls v st M Q => wA (show ins 127 154 = some (.dup, 1) by decide +kernel) rfl
set_option maxRecDepth 100000 in
theorem r_127_154_1 : ∀ (d : Nat) (ls : Lc) (v : Int32) (st : List Value) (M : Mem) (Q : Outcome → Mem → Prop), Wp d 127 154 ls (.int v :: st) M Q = Wp d 127 155 ls (.int v :: .int v :: st) M Q := fun d ls v st M Q => wA (show ins 127 154 = some (.dup, 1) by decide +kernel) rfl
set_option maxRecDepth 100000 in
theorem r_127_155 : ∀ (d : Nat) (ls : Lc) (a : Nat) (st : List Value) (M : Mem) (Q : Outcome → Mem → Prop), Wp d 127 155 ls (.ref a :: st) M Q = (fk 34 (kO M a) = true ∧ Wp d 127 158 ls (.int (mF M 34 a) :: st) M Q) := fun d ls a st M Q => w_getI (show ins 127 155 = some (.getfield 26, 3) by decide +kernel) (show fRes (mC 127) 26 = some (34, 5, false) by decide +kernel) (by decide +kernel)
set_option maxRecDepth 100000 in
theorem r_127_158 : ∀ (d : Nat) (l0 l1 l2 l3 l4 l6 l7 : Option Value) (v : Int32) (st : List Value) (M : Mem) (Q : Outcome → Mem → Prop), Wp d 127 158 [l0, l1, l2, l3, l4, some (.int v), l6, l7] st M Q = Wp d 127 160 [l0, l1, l2, l3, l4, some (.int v), l6, l7] (.int v :: st) M Q := fun d l0 l1 l2 l3 l4 l6 l7 v st M Q => wA (show ins 127 158 = some (.iload 5, 2) by decide +kernel) rfl
set_option maxRecDepth 100000 in
theorem r_127_160 : ∀ (d : Nat) (ls : Lc) (a b : Int) (st : List Value) (M : Mem) (Q : Outcome → Mem → Prop), Wp d 127 160 ls (.int (I b) :: .int (I a) :: st) M Q = Wp d 127 161 ls (.int (I (a + b)) :: st) M Q := fun d ls a b st M Q => w_iadd (show ins 127 160 = some (.iadd, 1) by decide +kernel)
set_option maxRecDepth 100000 in
theorem r_127_161 : ∀ (d : Nat) (ls : Lc) (a : Nat) (v : Int32) (st : List Value) (M : Mem) (Q : Outcome → Mem → Prop), Wp d 127 161 ls (.int v :: .ref a :: st) M Q = (fk 34 (kO M a) = true ∧ Wp d 127 164 ls st (sF M 34 a v) Q) := fun d ls a v st M Q => w_putI (show ins 127 161 = some (.putfield 26, 3) by decide +kernel) (show fRes (mC 127) 26 = some (34, 5, false) by decide +kernel) (by decide +kernel) (by decide +kernel)
set_option maxRecDepth 100000 in
theorem r_127_164 : ∀ (d : Nat) (ls : Lc) (M : Mem) (Q : Outcome → Mem → Prop), Wp d 127 164 ls [] M Q = Q (.returned none) M := fun d ls M Q => w_return (show ins 127 164 = some (.return_, 1) by decide +kernel) (by decide +kernel)
set_option maxRecDepth 100000 in
theorem w_127_15 : (type_of% r_127_15) := r_127_15
set_option maxRecDepth 100000 in
theorem w_127_48 : (type_of% r_127_48) := r_127_48
set_option maxRecDepth 100000 in
theorem w_127_84 : (type_of% r_127_84) := r_127_84
set_option maxRecDepth 100000 in
theorem W_127 : (type_of% r_127_0) ∧ (type_of% r_127_1) ∧ (type_of% r_127_2) ∧ (type_of% r_127_5) ∧ (type_of% r_127_7) ∧ (type_of% r_127_8) ∧ (type_of% r_127_11) ∧ (type_of% r_127_12) ∧ (type_of% r_127_13) ∧ (type_of% r_127_17) ∧ (type_of% r_127_19) ∧ (type_of% r_127_22) ∧ (type_of% r_127_23) ∧ (type_of% r_127_26) ∧ (type_of% r_127_28) ∧ (type_of% r_127_30) ∧ (type_of% r_127_31) ∧ (type_of% r_127_32) ∧ (type_of% r_127_35) ∧ (type_of% r_127_37) ∧ (type_of% r_127_38) ∧ (type_of% r_127_39) ∧ (type_of% r_127_42) ∧ (type_of% r_127_45) ∧ (type_of% r_127_46) ∧ (type_of% r_127_50) ∧ (type_of% r_127_52) ∧ (type_of% r_127_55) ∧ (type_of% r_127_56) ∧ (type_of% r_127_59) ∧ (type_of% r_127_61) ∧ (type_of% r_127_63) ∧ (type_of% r_127_64) ∧ (type_of% r_127_64_1) ∧ (type_of% r_127_65) ∧ (type_of% r_127_67) ∧ (type_of% r_127_69) ∧ (type_of% r_127_70) ∧ (type_of% r_127_71) ∧ (type_of% r_127_72) ∧ (type_of% r_127_75) ∧ (type_of% r_127_78) ∧ (type_of% r_127_79) ∧ (type_of% r_127_82) ∧ (type_of% r_127_86) ∧ (type_of% r_127_87) ∧ (type_of% r_127_90) ∧ (type_of% r_127_91) ∧ (type_of% r_127_94) ∧ (type_of% r_127_96) ∧ (type_of% r_127_97) ∧ (type_of% r_127_100) ∧ (type_of% r_127_102) ∧ (type_of% r_127_103) ∧ (type_of% r_127_104) ∧ (type_of% r_127_105) ∧ (type_of% r_127_106) ∧ (type_of% r_127_107) ∧ (type_of% r_127_110) ∧ (type_of% r_127_112) ∧ (type_of% r_127_113) ∧ (type_of% r_127_116) ∧ (type_of% r_127_118) ∧ (type_of% r_127_119) ∧ (type_of% r_127_120) ∧ (type_of% r_127_121) ∧ (type_of% r_127_122) ∧ (type_of% r_127_125) ∧ (type_of% r_127_128) ∧ (type_of% r_127_129) ∧ (type_of% r_127_132) ∧ (type_of% r_127_133) ∧ (type_of% r_127_134) ∧ (type_of% r_127_135) ∧ (type_of% r_127_136) ∧ (type_of% r_127_139) ∧ (type_of% r_127_140) ∧ (type_of% r_127_142) ∧ (type_of% r_127_143) ∧ (type_of% r_127_144) ∧ (type_of% r_127_144_1) ∧ (type_of% r_127_145) ∧ (type_of% r_127_148) ∧ (type_of% r_127_149) ∧ (type_of% r_127_150) ∧ (type_of% r_127_153) ∧ (type_of% r_127_154) ∧ (type_of% r_127_154_1) ∧ (type_of% r_127_155) ∧ (type_of% r_127_158) ∧ (type_of% r_127_160) ∧ (type_of% r_127_161) ∧ (type_of% r_127_164) := ⟨r_127_0, r_127_1, r_127_2, r_127_5, r_127_7, r_127_8, r_127_11, r_127_12, r_127_13, r_127_17, r_127_19, r_127_22, r_127_23, r_127_26, r_127_28, r_127_30, r_127_31, r_127_32, r_127_35, r_127_37, r_127_38, r_127_39, r_127_42, r_127_45, r_127_46, r_127_50, r_127_52, r_127_55, r_127_56, r_127_59, r_127_61, r_127_63, r_127_64, r_127_64_1, r_127_65, r_127_67, r_127_69, r_127_70, r_127_71, r_127_72, r_127_75, r_127_78, r_127_79, r_127_82, r_127_86, r_127_87, r_127_90, r_127_91, r_127_94, r_127_96, r_127_97, r_127_100, r_127_102, r_127_103, r_127_104, r_127_105, r_127_106, r_127_107, r_127_110, r_127_112, r_127_113, r_127_116, r_127_118, r_127_119, r_127_120, r_127_121, r_127_122, r_127_125, r_127_128, r_127_129, r_127_132, r_127_133, r_127_134, r_127_135, r_127_136, r_127_139, r_127_140, r_127_142, r_127_143, r_127_144, r_127_144_1, r_127_145, r_127_148, r_127_149, r_127_150, r_127_153, r_127_154, r_127_154_1, r_127_155, r_127_158, r_127_160, r_127_161, r_127_164⟩
set_option maxRecDepth 100000 in
theorem ca_127 {d y pc : Nat} {ls : Lc} {a : Nat} {z0 : Int32} {z1 : Int32} {o2 : Option Nat} {z3 : Int32} {z4 : Int32} {r : List Value} {M : Mem} {Q : Outcome → Mem → Prop} (hd : 0 < d) (hw : Wp (d - 1) 127 0 [some (.ref a), some (.int z0), some (.int z1), some (va_rf o2), some (.int z3), some (.int z4), none, none] [] M (Cq d y pc ls r Q)) : Ca d y pc ls 127 [.ref a, .int z0, .int z1, va_rf o2, .int z3, .int z4] r M Q := ca_of (mq_get (by decide)) (by cases o2 <;> rfl) hd hw
/-! 128 PackedTree$Leaf.isOver()Z; loop heads [] -/
set_option maxRecDepth 100000 in
theorem r_128_0 : ∀ (d : Nat) (v : Nat) (st : List Value) (M : Mem) (Q : Outcome → Mem → Prop), Wp d 128 0 [some (.ref v)] st M Q = Wp d 128 1 [some (.ref v)] (.ref v :: st) M Q := fun d v st M Q => wA (show ins 128 0 = some (.aload_n 0, 1) by decide +kernel) rfl
set_option maxRecDepth 100000 in
theorem r_128_1 : ∀ (d : Nat) (ls : Lc) (a : Nat) (st : List Value) (M : Mem) (Q : Outcome → Mem → Prop), (smallR st = true) → Wp d 128 1 ls (.ref a :: st) M Q = (kO M a = 5 ∧ Ca d 128 1 ls 129 (.ref a :: []) st M Q) := fun d ls a st M Q h0 => w_virt1 (as := []) (show ins 128 1 = some (.invokevirtual 33, 3) by decide +kernel) (show mRes (mC 128) 33 = some (3, 5, [(5, 129)]) by decide +kernel) (by decide +kernel) rfl (by decide +kernel) (by decide +kernel) h0
set_option maxRecDepth 100000 in
theorem r_128_4 : ∀ (d : Nat) (ls : Lc) (st : List Value) (M : Mem) (Q : Outcome → Mem → Prop), Wp d 128 4 ls st M Q = Wp d 128 6 ls (.int (I 120) :: st) M Q := fun d ls st M Q => w_bipush (show ins 128 4 = some (.bipush 120, 2) by decide +kernel) (by decide)
set_option maxRecDepth 100000 in
theorem r_128_6 : ∀ (d : Nat) (ls : Lc) (a b : Int32) (st : List Value) (M : Mem) (Q : Outcome → Mem → Prop), Wp d 128 6 ls (.int b :: .int a :: st) M Q = Br (a ≤ b) d 128 13 9 ls st M Q := fun d ls a b st M Q => w_icmp (show ins 128 6 = some (.if_icmp .le 7, 3) by decide +kernel) rfl rfl
set_option maxRecDepth 100000 in
theorem r_128_9 : ∀ (d : Nat) (ls : Lc) (st : List Value) (M : Mem) (Q : Outcome → Mem → Prop), Wp d 128 9 ls st M Q = Wp d 128 10 ls (.int (I 1) :: st) M Q := fun d ls st M Q => w_iconst (show ins 128 9 = some (.iconst 1, 1) by decide +kernel)
set_option maxRecDepth 100000 in
theorem r_128_10 : ∀ (d : Nat) (ls : Lc) (st : List Value) (M : Mem) (Q : Outcome → Mem → Prop), Wp d 128 10 ls st M Q = Wp d 128 14 ls st M Q := fun d ls st M Q => w_goto (show ins 128 10 = some (.goto 4, 3) by decide +kernel) rfl
set_option maxRecDepth 100000 in
theorem r_128_13 : ∀ (d : Nat) (ls : Lc) (st : List Value) (M : Mem) (Q : Outcome → Mem → Prop), Wp d 128 13 ls st M Q = Wp d 128 14 ls (.int (I 0) :: st) M Q := fun d ls st M Q => w_iconst (show ins 128 13 = some (.iconst 0, 1) by decide +kernel)
set_option maxRecDepth 100000 in
theorem r_128_14 : ∀ (d : Nat) (ls : Lc) (z : Int) (M : Mem) (Q : Outcome → Mem → Prop), (z = 0 ∨ z = 1) → Wp d 128 14 ls [.int (I z)] M Q = Q (.returned (some (.int (I z)))) M := fun d ls z M Q h0 => w_zretI (show ins 128 14 = some (.ireturn, 1) by decide +kernel) (by decide +kernel) h0
set_option maxRecDepth 100000 in
theorem r_128_14_1 : ∀ (d : Nat) (ls : Lc) (b : Bool) (M : Mem) (Q : Outcome → Mem → Prop), Wp d 128 14 ls [.int (I (bI b))] M Q = Q (.returned (some (.int (I (bI b))))) M := fun d ls b M Q => w_zretB (show ins 128 14 = some (.ireturn, 1) by decide +kernel) (by decide +kernel)
set_option maxRecDepth 100000 in
theorem W_128 : (type_of% r_128_0) ∧ (type_of% r_128_1) ∧ (type_of% r_128_4) ∧ (type_of% r_128_6) ∧ (type_of% r_128_9) ∧ (type_of% r_128_10) ∧ (type_of% r_128_13) ∧ (type_of% r_128_14) ∧ (type_of% r_128_14_1) := ⟨r_128_0, r_128_1, r_128_4, r_128_6, r_128_9, r_128_10, r_128_13, r_128_14, r_128_14_1⟩
set_option maxRecDepth 100000 in
theorem ca_128 {d y pc : Nat} {ls : Lc} {a : Nat} {r : List Value} {M : Mem} {Q : Outcome → Mem → Prop} (hd : 0 < d) (hw : Wp (d - 1) 128 0 [some (.ref a)] [] M (Cq d y pc ls r Q)) : Ca d y pc ls 128 [.ref a] r M Q := ca_of (mq_get (by decide)) (by rfl) hd hw
/-! 129 PackedTree$Leaf.used()I; loop heads [] -/
set_option maxRecDepth 100000 in
theorem r_129_0 : ∀ (d : Nat) (ls : Lc) (st : List Value) (M : Mem) (Q : Outcome → Mem → Prop), Wp d 129 0 ls st M Q = Wp d 129 2 ls (.int (I 8) :: st) M Q := fun d ls st M Q => w_bipush (show ins 129 0 = some (.bipush 8, 2) by decide +kernel) (by decide)
set_option maxRecDepth 100000 in
theorem r_129_2 : ∀ (d : Nat) (v : Nat) (st : List Value) (M : Mem) (Q : Outcome → Mem → Prop), Wp d 129 2 [some (.ref v)] st M Q = Wp d 129 3 [some (.ref v)] (.ref v :: st) M Q := fun d v st M Q => wA (show ins 129 2 = some (.aload_n 0, 1) by decide +kernel) rfl
set_option maxRecDepth 100000 in
theorem r_129_3 : ∀ (d : Nat) (ls : Lc) (a : Nat) (st : List Value) (M : Mem) (Q : Outcome → Mem → Prop), Wp d 129 3 ls (.ref a :: st) M Q = (fk 37 (kO M a) = true ∧ Wp d 129 6 ls (.int (mF M 37 a) :: st) M Q) := fun d ls a st M Q => w_getI (show ins 129 3 = some (.getfield 22, 3) by decide +kernel) (show fRes (mC 129) 22 = some (37, 5, false) by decide +kernel) (by decide +kernel)
set_option maxRecDepth 100000 in
theorem r_129_6 : ∀ (d : Nat) (ls : Lc) (a b : Int) (st : List Value) (M : Mem) (Q : Outcome → Mem → Prop), Wp d 129 6 ls (.int (I b) :: .int (I a) :: st) M Q = Wp d 129 7 ls (.int (I (a * b)) :: st) M Q := fun d ls a b st M Q => w_imul (show ins 129 6 = some (.imul, 1) by decide +kernel)
set_option maxRecDepth 100000 in
theorem r_129_7 : ∀ (d : Nat) (v : Nat) (st : List Value) (M : Mem) (Q : Outcome → Mem → Prop), Wp d 129 7 [some (.ref v)] st M Q = Wp d 129 8 [some (.ref v)] (.ref v :: st) M Q := fun d v st M Q => wA (show ins 129 7 = some (.aload_n 0, 1) by decide +kernel) rfl
set_option maxRecDepth 100000 in
theorem r_129_8 : ∀ (d : Nat) (ls : Lc) (a : Nat) (st : List Value) (M : Mem) (Q : Outcome → Mem → Prop), Wp d 129 8 ls (.ref a :: st) M Q = (fk 34 (kO M a) = true ∧ Wp d 129 11 ls (.int (mF M 34 a) :: st) M Q) := fun d ls a st M Q => w_getI (show ins 129 8 = some (.getfield 26, 3) by decide +kernel) (show fRes (mC 129) 26 = some (34, 5, false) by decide +kernel) (by decide +kernel)
set_option maxRecDepth 100000 in
theorem r_129_11 : ∀ (d : Nat) (ls : Lc) (a b : Int) (st : List Value) (M : Mem) (Q : Outcome → Mem → Prop), Wp d 129 11 ls (.int (I b) :: .int (I a) :: st) M Q = Wp d 129 12 ls (.int (I (a + b)) :: st) M Q := fun d ls a b st M Q => w_iadd (show ins 129 11 = some (.iadd, 1) by decide +kernel)
set_option maxRecDepth 100000 in
theorem r_129_12 : ∀ (d : Nat) (ls : Lc) (v : Int32) (M : Mem) (Q : Outcome → Mem → Prop), Wp d 129 12 ls [.int v] M Q = Q (.returned (some (.int v))) M := fun d ls v M Q => w_ireturn (show ins 129 12 = some (.ireturn, 1) by decide +kernel) (by decide +kernel)
set_option maxRecDepth 100000 in
theorem W_129 : (type_of% r_129_0) ∧ (type_of% r_129_2) ∧ (type_of% r_129_3) ∧ (type_of% r_129_6) ∧ (type_of% r_129_7) ∧ (type_of% r_129_8) ∧ (type_of% r_129_11) ∧ (type_of% r_129_12) := ⟨r_129_0, r_129_2, r_129_3, r_129_6, r_129_7, r_129_8, r_129_11, r_129_12⟩
set_option maxRecDepth 100000 in
theorem ca_129 {d y pc : Nat} {ls : Lc} {a : Nat} {r : List Value} {M : Mem} {Q : Outcome → Mem → Prop} (hd : 0 < d) (hw : Wp (d - 1) 129 0 [some (.ref a)] [] M (Cq d y pc ls r Q)) : Ca d y pc ls 129 [.ref a] r M Q := ca_of (mq_get (by decide)) (by rfl) hd hw
/-! 130 PackedTree$Leaf.cost(I)I; loop heads [] -/
set_option maxRecDepth 100000 in
theorem r_130_0 : ∀ (d : Nat) (ls : Lc) (st : List Value) (M : Mem) (Q : Outcome → Mem → Prop), Wp d 130 0 ls st M Q = Wp d 130 2 ls (.int (I 8) :: st) M Q := fun d ls st M Q => w_bipush (show ins 130 0 = some (.bipush 8, 2) by decide +kernel) (by decide)
set_option maxRecDepth 100000 in
theorem r_130_2 : ∀ (d : Nat) (l1 : Option Value) (v : Nat) (st : List Value) (M : Mem) (Q : Outcome → Mem → Prop), Wp d 130 2 [some (.ref v), l1] st M Q = Wp d 130 3 [some (.ref v), l1] (.ref v :: st) M Q := fun d l1 v st M Q => wA (show ins 130 2 = some (.aload_n 0, 1) by decide +kernel) rfl
set_option maxRecDepth 100000 in
theorem r_130_3 : ∀ (d : Nat) (ls : Lc) (a : Nat) (st : List Value) (M : Mem) (Q : Outcome → Mem → Prop), Wp d 130 3 ls (.ref a :: st) M Q = (fk 38 (kO M a) = true ∧ Wp d 130 6 ls (va_rf (mR M 38 a) :: st) M Q) := fun d ls a st M Q => w_getR (show ins 130 3 = some (.getfield 15, 3) by decide +kernel) (show fRes (mC 130) 15 = some (38, 5, false) by decide +kernel) (by decide +kernel)
set_option maxRecDepth 100000 in
theorem r_130_6 : ∀ (d : Nat) (l0 : Option Value) (v : Int32) (st : List Value) (M : Mem) (Q : Outcome → Mem → Prop), Wp d 130 6 [l0, some (.int v)] st M Q = Wp d 130 7 [l0, some (.int v)] (.int v :: st) M Q := fun d l0 v st M Q => wA (show ins 130 6 = some (.iload_n 1, 1) by decide +kernel) rfl
set_option maxRecDepth 100000 in
theorem r_130_7 : ∀ (d : Nat) (ls : Lc) (a : Nat) (j : Int32) (st : List Value) (M : Mem) (Q : Outcome → Mem → Prop), Wp d 130 7 ls (.int j :: .ref a :: st) M Q = ((((kX M a).1 = 0 ∨ (kX M a).1 = 8) ∧ inB j (kX M a).2 = true) ∧ Wp d 130 8 ls (.int (mA M a j.toNatClampNeg) :: st) M Q) := fun d ls a j st M Q => w_iaload (show ins 130 7 = some (.iaload, 1) by decide +kernel)
set_option maxRecDepth 100000 in
theorem r_130_8 : ∀ (d : Nat) (ls : Lc) (a b : Int) (st : List Value) (M : Mem) (Q : Outcome → Mem → Prop), Wp d 130 8 ls (.int (I b) :: .int (I a) :: st) M Q = Wp d 130 9 ls (.int (I (a + b)) :: st) M Q := fun d ls a b st M Q => w_iadd (show ins 130 8 = some (.iadd, 1) by decide +kernel)
set_option maxRecDepth 100000 in
theorem r_130_9 : ∀ (d : Nat) (ls : Lc) (v : Int32) (M : Mem) (Q : Outcome → Mem → Prop), Wp d 130 9 ls [.int v] M Q = Q (.returned (some (.int v))) M := fun d ls v M Q => w_ireturn (show ins 130 9 = some (.ireturn, 1) by decide +kernel) (by decide +kernel)
set_option maxRecDepth 100000 in
theorem W_130 : (type_of% r_130_0) ∧ (type_of% r_130_2) ∧ (type_of% r_130_3) ∧ (type_of% r_130_6) ∧ (type_of% r_130_7) ∧ (type_of% r_130_8) ∧ (type_of% r_130_9) := ⟨r_130_0, r_130_2, r_130_3, r_130_6, r_130_7, r_130_8, r_130_9⟩
set_option maxRecDepth 100000 in
theorem ca_130 {d y pc : Nat} {ls : Lc} {a : Nat} {z0 : Int32} {r : List Value} {M : Mem} {Q : Outcome → Mem → Prop} (hd : 0 < d) (hw : Wp (d - 1) 130 0 [some (.ref a), some (.int z0)] [] M (Cq d y pc ls r Q)) : Ca d y pc ls 130 [.ref a, .int z0] r M Q := ca_of (mq_get (by decide)) (by rfl) hd hw
/-! 131 PackedTree$Leaf.fits(I)Z; loop heads [] -/
set_option maxRecDepth 100000 in
theorem r_131_0 : ∀ (d : Nat) (l1 : Option Value) (v : Nat) (st : List Value) (M : Mem) (Q : Outcome → Mem → Prop), Wp d 131 0 [some (.ref v), l1] st M Q = Wp d 131 1 [some (.ref v), l1] (.ref v :: st) M Q := fun d l1 v st M Q => wA (show ins 131 0 = some (.aload_n 0, 1) by decide +kernel) rfl
set_option maxRecDepth 100000 in
theorem r_131_1 : ∀ (d : Nat) (ls : Lc) (a : Nat) (st : List Value) (M : Mem) (Q : Outcome → Mem → Prop), (smallR st = true) → Wp d 131 1 ls (.ref a :: st) M Q = (kO M a = 5 ∧ Ca d 131 1 ls 129 (.ref a :: []) st M Q) := fun d ls a st M Q h0 => w_virt1 (as := []) (show ins 131 1 = some (.invokevirtual 33, 3) by decide +kernel) (show mRes (mC 131) 33 = some (3, 5, [(5, 129)]) by decide +kernel) (by decide +kernel) rfl (by decide +kernel) (by decide +kernel) h0
set_option maxRecDepth 100000 in
theorem r_131_4 : ∀ (d : Nat) (l0 : Option Value) (v : Int32) (st : List Value) (M : Mem) (Q : Outcome → Mem → Prop), Wp d 131 4 [l0, some (.int v)] st M Q = Wp d 131 5 [l0, some (.int v)] (.int v :: st) M Q := fun d l0 v st M Q => wA (show ins 131 4 = some (.iload_n 1, 1) by decide +kernel) rfl
set_option maxRecDepth 100000 in
theorem r_131_5 : ∀ (d : Nat) (ls : Lc) (a b : Int) (st : List Value) (M : Mem) (Q : Outcome → Mem → Prop), Wp d 131 5 ls (.int (I b) :: .int (I a) :: st) M Q = Wp d 131 6 ls (.int (I (a + b)) :: st) M Q := fun d ls a b st M Q => w_iadd (show ins 131 5 = some (.iadd, 1) by decide +kernel)
set_option maxRecDepth 100000 in
theorem r_131_6 : ∀ (d : Nat) (ls : Lc) (st : List Value) (M : Mem) (Q : Outcome → Mem → Prop), Wp d 131 6 ls st M Q = Wp d 131 8 ls (.int (I 120) :: st) M Q := fun d ls st M Q => w_bipush (show ins 131 6 = some (.bipush 120, 2) by decide +kernel) (by decide)
set_option maxRecDepth 100000 in
theorem r_131_8 : ∀ (d : Nat) (ls : Lc) (a b : Int32) (st : List Value) (M : Mem) (Q : Outcome → Mem → Prop), Wp d 131 8 ls (.int b :: .int a :: st) M Q = Br (b < a) d 131 15 11 ls st M Q := fun d ls a b st M Q => w_icmp (show ins 131 8 = some (.if_icmp .gt 7, 3) by decide +kernel) rfl rfl
set_option maxRecDepth 100000 in
theorem r_131_11 : ∀ (d : Nat) (ls : Lc) (st : List Value) (M : Mem) (Q : Outcome → Mem → Prop), Wp d 131 11 ls st M Q = Wp d 131 12 ls (.int (I 1) :: st) M Q := fun d ls st M Q => w_iconst (show ins 131 11 = some (.iconst 1, 1) by decide +kernel)
set_option maxRecDepth 100000 in
theorem r_131_12 : ∀ (d : Nat) (ls : Lc) (st : List Value) (M : Mem) (Q : Outcome → Mem → Prop), Wp d 131 12 ls st M Q = Wp d 131 16 ls st M Q := fun d ls st M Q => w_goto (show ins 131 12 = some (.goto 4, 3) by decide +kernel) rfl
set_option maxRecDepth 100000 in
theorem r_131_15 : ∀ (d : Nat) (ls : Lc) (st : List Value) (M : Mem) (Q : Outcome → Mem → Prop), Wp d 131 15 ls st M Q = Wp d 131 16 ls (.int (I 0) :: st) M Q := fun d ls st M Q => w_iconst (show ins 131 15 = some (.iconst 0, 1) by decide +kernel)
set_option maxRecDepth 100000 in
theorem r_131_16 : ∀ (d : Nat) (ls : Lc) (z : Int) (M : Mem) (Q : Outcome → Mem → Prop), (z = 0 ∨ z = 1) → Wp d 131 16 ls [.int (I z)] M Q = Q (.returned (some (.int (I z)))) M := fun d ls z M Q h0 => w_zretI (show ins 131 16 = some (.ireturn, 1) by decide +kernel) (by decide +kernel) h0
set_option maxRecDepth 100000 in
theorem r_131_16_1 : ∀ (d : Nat) (ls : Lc) (b : Bool) (M : Mem) (Q : Outcome → Mem → Prop), Wp d 131 16 ls [.int (I (bI b))] M Q = Q (.returned (some (.int (I (bI b))))) M := fun d ls b M Q => w_zretB (show ins 131 16 = some (.ireturn, 1) by decide +kernel) (by decide +kernel)
set_option maxRecDepth 100000 in
theorem W_131 : (type_of% r_131_0) ∧ (type_of% r_131_1) ∧ (type_of% r_131_4) ∧ (type_of% r_131_5) ∧ (type_of% r_131_6) ∧ (type_of% r_131_8) ∧ (type_of% r_131_11) ∧ (type_of% r_131_12) ∧ (type_of% r_131_15) ∧ (type_of% r_131_16) ∧ (type_of% r_131_16_1) := ⟨r_131_0, r_131_1, r_131_4, r_131_5, r_131_6, r_131_8, r_131_11, r_131_12, r_131_15, r_131_16, r_131_16_1⟩
set_option maxRecDepth 100000 in
theorem ca_131 {d y pc : Nat} {ls : Lc} {a : Nat} {z0 : Int32} {r : List Value} {M : Mem} {Q : Outcome → Mem → Prop} (hd : 0 < d) (hw : Wp (d - 1) 131 0 [some (.ref a), some (.int z0)] [] M (Cq d y pc ls r Q)) : Ca d y pc ls 131 [.ref a, .int z0] r M Q := ca_of (mq_get (by decide)) (by rfl) hd hw
/-! 132 PackedTree$Leaf.give(ILPackedTree$Leaf;I)V; loop heads [] -/
set_option maxRecDepth 100000 in
theorem r_132_0 : ∀ (d : Nat) (l0 l1 l3 : Option Value) (v : Nat) (st : List Value) (M : Mem) (Q : Outcome → Mem → Prop), Wp d 132 0 [l0, l1, some (.ref v), l3] st M Q = Wp d 132 1 [l0, l1, some (.ref v), l3] (.ref v :: st) M Q := fun d l0 l1 l3 v st M Q => wA (show ins 132 0 = some (.aload_n 2, 1) by decide +kernel) rfl
set_option maxRecDepth 100000 in
theorem r_132_0_1 : ∀ (d : Nat) (l0 l1 l3 : Option Value) (st : List Value) (M : Mem) (Q : Outcome → Mem → Prop), Wp d 132 0 [l0, l1, some .null, l3] st M Q = Wp d 132 1 [l0, l1, some .null, l3] (.null :: st) M Q := fun d l0 l1 l3 st M Q => wA (show ins 132 0 = some (.aload_n 2, 1) by decide +kernel) rfl
set_option maxRecDepth 100000 in
theorem r_132_1 : ∀ (d : Nat) (l0 l1 l2 : Option Value) (v : Int32) (st : List Value) (M : Mem) (Q : Outcome → Mem → Prop), Wp d 132 1 [l0, l1, l2, some (.int v)] st M Q = Wp d 132 2 [l0, l1, l2, some (.int v)] (.int v :: st) M Q := fun d l0 l1 l2 v st M Q => wA (show ins 132 1 = some (.iload_n 3, 1) by decide +kernel) rfl
set_option maxRecDepth 100000 in
theorem r_132_2 : ∀ (d : Nat) (l1 l2 l3 : Option Value) (v : Nat) (st : List Value) (M : Mem) (Q : Outcome → Mem → Prop), Wp d 132 2 [some (.ref v), l1, l2, l3] st M Q = Wp d 132 3 [some (.ref v), l1, l2, l3] (.ref v :: st) M Q := fun d l1 l2 l3 v st M Q => wA (show ins 132 2 = some (.aload_n 0, 1) by decide +kernel) rfl
set_option maxRecDepth 100000 in
theorem r_132_3 : ∀ (d : Nat) (ls : Lc) (a : Nat) (st : List Value) (M : Mem) (Q : Outcome → Mem → Prop), Wp d 132 3 ls (.ref a :: st) M Q = (fk 36 (kO M a) = true ∧ Wp d 132 6 ls (va_rf (mR M 36 a) :: st) M Q) := fun d ls a st M Q => w_getR (show ins 132 3 = some (.getfield 9, 3) by decide +kernel) (show fRes (mC 132) 9 = some (36, 5, false) by decide +kernel) (by decide +kernel)
set_option maxRecDepth 100000 in
theorem r_132_6 : ∀ (d : Nat) (l0 l2 l3 : Option Value) (v : Int32) (st : List Value) (M : Mem) (Q : Outcome → Mem → Prop), Wp d 132 6 [l0, some (.int v), l2, l3] st M Q = Wp d 132 7 [l0, some (.int v), l2, l3] (.int v :: st) M Q := fun d l0 l2 l3 v st M Q => wA (show ins 132 6 = some (.iload_n 1, 1) by decide +kernel) rfl
set_option maxRecDepth 100000 in
theorem r_132_7 : ∀ (d : Nat) (ls : Lc) (a : Nat) (j : Int32) (st : List Value) (M : Mem) (Q : Outcome → Mem → Prop), Wp d 132 7 ls (.int j :: .ref a :: st) M Q = ((((kX M a).1 = 0 ∨ (kX M a).1 = 8) ∧ inB j (kX M a).2 = true) ∧ Wp d 132 8 ls (.int (mA M a j.toNatClampNeg) :: st) M Q) := fun d ls a j st M Q => w_iaload (show ins 132 7 = some (.iaload, 1) by decide +kernel)
set_option maxRecDepth 100000 in
theorem r_132_8 : ∀ (d : Nat) (l1 l2 l3 : Option Value) (v : Nat) (st : List Value) (M : Mem) (Q : Outcome → Mem → Prop), Wp d 132 8 [some (.ref v), l1, l2, l3] st M Q = Wp d 132 9 [some (.ref v), l1, l2, l3] (.ref v :: st) M Q := fun d l1 l2 l3 v st M Q => wA (show ins 132 8 = some (.aload_n 0, 1) by decide +kernel) rfl
set_option maxRecDepth 100000 in
theorem r_132_9 : ∀ (d : Nat) (ls : Lc) (a : Nat) (st : List Value) (M : Mem) (Q : Outcome → Mem → Prop), Wp d 132 9 ls (.ref a :: st) M Q = (fk 35 (kO M a) = true ∧ Wp d 132 12 ls (va_rf (mR M 35 a) :: st) M Q) := fun d ls a st M Q => w_getR (show ins 132 9 = some (.getfield 18, 3) by decide +kernel) (show fRes (mC 132) 18 = some (35, 5, false) by decide +kernel) (by decide +kernel)
set_option maxRecDepth 100000 in
theorem r_132_12 : ∀ (d : Nat) (l1 l2 l3 : Option Value) (v : Nat) (st : List Value) (M : Mem) (Q : Outcome → Mem → Prop), Wp d 132 12 [some (.ref v), l1, l2, l3] st M Q = Wp d 132 13 [some (.ref v), l1, l2, l3] (.ref v :: st) M Q := fun d l1 l2 l3 v st M Q => wA (show ins 132 12 = some (.aload_n 0, 1) by decide +kernel) rfl
set_option maxRecDepth 100000 in
theorem r_132_13 : ∀ (d : Nat) (l0 l2 l3 : Option Value) (v : Int32) (st : List Value) (M : Mem) (Q : Outcome → Mem → Prop), Wp d 132 13 [l0, some (.int v), l2, l3] st M Q = Wp d 132 14 [l0, some (.int v), l2, l3] (.int v :: st) M Q := fun d l0 l2 l3 v st M Q => wA (show ins 132 13 = some (.iload_n 1, 1) by decide +kernel) rfl
set_option maxRecDepth 100000 in
theorem r_132_14 : ∀ (d : Nat) (ls : Lc) (v0 : Value) (a : Nat) (st : List Value) (M : Mem) (Q : Outcome → Mem → Prop), (smallR st = true) → Wp d 132 14 ls (v0 :: .ref a :: st) M Q = (kO M a = 5 ∧ Ca d 132 14 ls 126 (.ref a :: [v0]) st M Q) := fun d ls v0 a st M Q h0 => w_virt1 (as := [v0]) (show ins 132 14 = some (.invokevirtual 37, 3) by decide +kernel) (show mRes (mC 132) 37 = some (3, 5, [(5, 126)]) by decide +kernel) (by decide +kernel) rfl (by decide +kernel) (by decide +kernel) h0
set_option maxRecDepth 100000 in
theorem r_132_17 : ∀ (d : Nat) (l1 l2 l3 : Option Value) (v : Nat) (st : List Value) (M : Mem) (Q : Outcome → Mem → Prop), Wp d 132 17 [some (.ref v), l1, l2, l3] st M Q = Wp d 132 18 [some (.ref v), l1, l2, l3] (.ref v :: st) M Q := fun d l1 l2 l3 v st M Q => wA (show ins 132 17 = some (.aload_n 0, 1) by decide +kernel) rfl
set_option maxRecDepth 100000 in
theorem r_132_18 : ∀ (d : Nat) (ls : Lc) (a : Nat) (st : List Value) (M : Mem) (Q : Outcome → Mem → Prop), Wp d 132 18 ls (.ref a :: st) M Q = (fk 38 (kO M a) = true ∧ Wp d 132 21 ls (va_rf (mR M 38 a) :: st) M Q) := fun d ls a st M Q => w_getR (show ins 132 18 = some (.getfield 15, 3) by decide +kernel) (show fRes (mC 132) 15 = some (38, 5, false) by decide +kernel) (by decide +kernel)
set_option maxRecDepth 100000 in
theorem r_132_21 : ∀ (d : Nat) (l0 l2 l3 : Option Value) (v : Int32) (st : List Value) (M : Mem) (Q : Outcome → Mem → Prop), Wp d 132 21 [l0, some (.int v), l2, l3] st M Q = Wp d 132 22 [l0, some (.int v), l2, l3] (.int v :: st) M Q := fun d l0 l2 l3 v st M Q => wA (show ins 132 21 = some (.iload_n 1, 1) by decide +kernel) rfl
set_option maxRecDepth 100000 in
theorem r_132_22 : ∀ (d : Nat) (ls : Lc) (a : Nat) (j : Int32) (st : List Value) (M : Mem) (Q : Outcome → Mem → Prop), Wp d 132 22 ls (.int j :: .ref a :: st) M Q = ((((kX M a).1 = 0 ∨ (kX M a).1 = 8) ∧ inB j (kX M a).2 = true) ∧ Wp d 132 23 ls (.int (mA M a j.toNatClampNeg) :: st) M Q) := fun d ls a j st M Q => w_iaload (show ins 132 22 = some (.iaload, 1) by decide +kernel)
set_option maxRecDepth 100000 in
theorem r_132_23 : ∀ (d : Nat) (ls : Lc) (v0 v1 v2 v3 v4 : Value) (a : Nat) (st : List Value) (M : Mem) (Q : Outcome → Mem → Prop), (smallR st = true) → Wp d 132 23 ls (v4 :: v3 :: v2 :: v1 :: v0 :: .ref a :: st) M Q = (kO M a = 5 ∧ Ca d 132 23 ls 127 (.ref a :: [v0, v1, v2, v3, v4]) st M Q) := fun d ls v0 v1 v2 v3 v4 a st M Q h0 => w_virt1 (as := [v0, v1, v2, v3, v4]) (show ins 132 23 = some (.invokevirtual 41, 3) by decide +kernel) (show mRes (mC 132) 41 = some (3, 5, [(5, 127)]) by decide +kernel) (by decide +kernel) rfl (by decide +kernel) (by decide +kernel) h0
set_option maxRecDepth 100000 in
theorem r_132_26 : ∀ (d : Nat) (l1 l2 l3 : Option Value) (v : Nat) (st : List Value) (M : Mem) (Q : Outcome → Mem → Prop), Wp d 132 26 [some (.ref v), l1, l2, l3] st M Q = Wp d 132 27 [some (.ref v), l1, l2, l3] (.ref v :: st) M Q := fun d l1 l2 l3 v st M Q => wA (show ins 132 26 = some (.aload_n 0, 1) by decide +kernel) rfl
set_option maxRecDepth 100000 in
theorem r_132_27 : ∀ (d : Nat) (l0 l2 l3 : Option Value) (v : Int32) (st : List Value) (M : Mem) (Q : Outcome → Mem → Prop), Wp d 132 27 [l0, some (.int v), l2, l3] st M Q = Wp d 132 28 [l0, some (.int v), l2, l3] (.int v :: st) M Q := fun d l0 l2 l3 v st M Q => wA (show ins 132 27 = some (.iload_n 1, 1) by decide +kernel) rfl
set_option maxRecDepth 100000 in
theorem r_132_28 : ∀ (d : Nat) (ls : Lc) (v0 : Value) (a : Nat) (st : List Value) (M : Mem) (Q : Outcome → Mem → Prop), (smallR st = true) → Wp d 132 28 ls (v0 :: .ref a :: st) M Q = (kO M a = 5 ∧ Ca d 132 28 ls 125 (.ref a :: [v0]) st M Q) := fun d ls v0 a st M Q h0 => w_virt1 (as := [v0]) (show ins 132 28 = some (.invokevirtual 45, 3) by decide +kernel) (show mRes (mC 132) 45 = some (3, 5, [(5, 125)]) by decide +kernel) (by decide +kernel) rfl (by decide +kernel) (by decide +kernel) h0
set_option maxRecDepth 100000 in
theorem r_132_31 : ∀ (d : Nat) (ls : Lc) (M : Mem) (Q : Outcome → Mem → Prop), Wp d 132 31 ls [] M Q = Q (.returned none) M := fun d ls M Q => w_return (show ins 132 31 = some (.return_, 1) by decide +kernel) (by decide +kernel)
set_option maxRecDepth 100000 in
theorem W_132 : (type_of% r_132_0) ∧ (type_of% r_132_0_1) ∧ (type_of% r_132_1) ∧ (type_of% r_132_2) ∧ (type_of% r_132_3) ∧ (type_of% r_132_6) ∧ (type_of% r_132_7) ∧ (type_of% r_132_8) ∧ (type_of% r_132_9) ∧ (type_of% r_132_12) ∧ (type_of% r_132_13) ∧ (type_of% r_132_14) ∧ (type_of% r_132_17) ∧ (type_of% r_132_18) ∧ (type_of% r_132_21) ∧ (type_of% r_132_22) ∧ (type_of% r_132_23) ∧ (type_of% r_132_26) ∧ (type_of% r_132_27) ∧ (type_of% r_132_28) ∧ (type_of% r_132_31) := ⟨r_132_0, r_132_0_1, r_132_1, r_132_2, r_132_3, r_132_6, r_132_7, r_132_8, r_132_9, r_132_12, r_132_13, r_132_14, r_132_17, r_132_18, r_132_21, r_132_22, r_132_23, r_132_26, r_132_27, r_132_28, r_132_31⟩
set_option maxRecDepth 100000 in
theorem ca_132 {d y pc : Nat} {ls : Lc} {a : Nat} {z0 : Int32} {o1 : Option Nat} {z2 : Int32} {r : List Value} {M : Mem} {Q : Outcome → Mem → Prop} (hd : 0 < d) (hw : Wp (d - 1) 132 0 [some (.ref a), some (.int z0), some (va_rf o1), some (.int z2)] [] M (Cq d y pc ls r Q)) : Ca d y pc ls 132 [.ref a, .int z0, va_rf o1, .int z2] r M Q := ca_of (mq_get (by decide)) (by cases o1 <;> rfl) hd hw
/-! 133 PackedTree$Leaf.height()I; loop heads [] -/
set_option maxRecDepth 100000 in
theorem r_133_0 : ∀ (d : Nat) (ls : Lc) (st : List Value) (M : Mem) (Q : Outcome → Mem → Prop), Wp d 133 0 ls st M Q = Wp d 133 1 ls (.int (I 0) :: st) M Q := fun d ls st M Q => w_iconst (show ins 133 0 = some (.iconst 0, 1) by decide +kernel)
set_option maxRecDepth 100000 in
theorem r_133_1 : ∀ (d : Nat) (ls : Lc) (v : Int32) (M : Mem) (Q : Outcome → Mem → Prop), Wp d 133 1 ls [.int v] M Q = Q (.returned (some (.int v))) M := fun d ls v M Q => w_ireturn (show ins 133 1 = some (.ireturn, 1) by decide +kernel) (by decide +kernel)
set_option maxRecDepth 100000 in
theorem W_133 : (type_of% r_133_0) ∧ (type_of% r_133_1) := ⟨r_133_0, r_133_1⟩
set_option maxRecDepth 100000 in
theorem ca_133 {d y pc : Nat} {ls : Lc} {a : Nat} {r : List Value} {M : Mem} {Q : Outcome → Mem → Prop} (hd : 0 < d) (hw : Wp (d - 1) 133 0 [some (.ref a)] [] M (Cq d y pc ls r Q)) : Ca d y pc ls 133 [.ref a] r M Q := ca_of (mq_get (by decide)) (by rfl) hd hw
/-! 134 PackedTree$Leaf.lay([B)V; loop heads [15, 61] -/
set_option maxRecDepth 100000 in
theorem r_134_0 : ∀ (d : Nat) (l0 l2 : Option Value) (v : Nat) (st : List Value) (M : Mem) (Q : Outcome → Mem → Prop), Wp d 134 0 [l0, some (.ref v), l2] st M Q = Wp d 134 1 [l0, some (.ref v), l2] (.ref v :: st) M Q := fun d l0 l2 v st M Q => wA (show ins 134 0 = some (.aload_n 1, 1) by decide +kernel) rfl
set_option maxRecDepth 100000 in
theorem r_134_0_1 : ∀ (d : Nat) (l0 l2 : Option Value) (st : List Value) (M : Mem) (Q : Outcome → Mem → Prop), Wp d 134 0 [l0, some .null, l2] st M Q = Wp d 134 1 [l0, some .null, l2] (.null :: st) M Q := fun d l0 l2 st M Q => wA (show ins 134 0 = some (.aload_n 1, 1) by decide +kernel) rfl
set_option maxRecDepth 100000 in
theorem r_134_1 : ∀ (d : Nat) (ls : Lc) (st : List Value) (M : Mem) (Q : Outcome → Mem → Prop), Wp d 134 1 ls st M Q = Wp d 134 2 ls (.int (I 1) :: st) M Q := fun d ls st M Q => w_iconst (show ins 134 1 = some (.iconst 1, 1) by decide +kernel)
set_option maxRecDepth 100000 in
theorem r_134_2 : ∀ (d : Nat) (ls : Lc) (v0 v1 : Value)  (st : List Value) (M : Mem) (Q : Outcome → Mem → Prop), (smallR st = true) → Wp d 134 2 ls (v1 :: v0 :: st) M Q = Ca d 134 2 ls 26 [v0, v1] st M Q := fun d ls v0 v1 st M Q h0 => w_stat (as := [v0, v1]) (show ins 134 2 = some (.invokestatic 48, 3) by decide +kernel) (show mRes (mC 134) 48 = some (1, 1, [(0, 26)]) by decide +kernel) (by decide +kernel) (by decide +kernel) rfl h0
set_option maxRecDepth 100000 in
theorem r_134_5 : ∀ (d : Nat) (l0 l2 : Option Value) (v : Nat) (st : List Value) (M : Mem) (Q : Outcome → Mem → Prop), Wp d 134 5 [l0, some (.ref v), l2] st M Q = Wp d 134 6 [l0, some (.ref v), l2] (.ref v :: st) M Q := fun d l0 l2 v st M Q => wA (show ins 134 5 = some (.aload_n 1, 1) by decide +kernel) rfl
set_option maxRecDepth 100000 in
theorem r_134_5_1 : ∀ (d : Nat) (l0 l2 : Option Value) (st : List Value) (M : Mem) (Q : Outcome → Mem → Prop), Wp d 134 5 [l0, some .null, l2] st M Q = Wp d 134 6 [l0, some .null, l2] (.null :: st) M Q := fun d l0 l2 st M Q => wA (show ins 134 5 = some (.aload_n 1, 1) by decide +kernel) rfl
set_option maxRecDepth 100000 in
theorem r_134_6 : ∀ (d : Nat) (ls : Lc) (st : List Value) (M : Mem) (Q : Outcome → Mem → Prop), Wp d 134 6 ls st M Q = Wp d 134 7 ls (.int (I 1) :: st) M Q := fun d ls st M Q => w_iconst (show ins 134 6 = some (.iconst 1, 1) by decide +kernel)
set_option maxRecDepth 100000 in
theorem r_134_7 : ∀ (d : Nat) (l1 l2 : Option Value) (v : Nat) (st : List Value) (M : Mem) (Q : Outcome → Mem → Prop), Wp d 134 7 [some (.ref v), l1, l2] st M Q = Wp d 134 8 [some (.ref v), l1, l2] (.ref v :: st) M Q := fun d l1 l2 v st M Q => wA (show ins 134 7 = some (.aload_n 0, 1) by decide +kernel) rfl
set_option maxRecDepth 100000 in
theorem r_134_8 : ∀ (d : Nat) (ls : Lc) (a : Nat) (st : List Value) (M : Mem) (Q : Outcome → Mem → Prop), Wp d 134 8 ls (.ref a :: st) M Q = (fk 37 (kO M a) = true ∧ Wp d 134 11 ls (.int (mF M 37 a) :: st) M Q) := fun d ls a st M Q => w_getI (show ins 134 8 = some (.getfield 22, 3) by decide +kernel) (show fRes (mC 134) 22 = some (37, 5, false) by decide +kernel) (by decide +kernel)
set_option maxRecDepth 100000 in
theorem r_134_11 : ∀ (d : Nat) (ls : Lc) (a : Int32) (st : List Value) (M : Mem) (Q : Outcome → Mem → Prop), Wp d 134 11 ls (.int a :: st) M Q = Wp d 134 12 ls (.int a.toInt8.toInt32 :: st) M Q := fun d ls a st M Q => wA (show ins 134 11 = some (.i2b, 1) by decide +kernel) rfl
set_option maxRecDepth 100000 in
theorem r_134_12 : ∀ (d : Nat) (ls : Lc) (a : Nat) (j v : Int32) (st : List Value) (M : Mem) (Q : Outcome → Mem → Prop), Wp d 134 12 ls (.int v :: .int j :: .ref a :: st) M Q = ((((kX M a).1 = 1 ∨ (kX M a).1 = 2) ∧ inB j (kX M a).2 = true) ∧ Wp d 134 13 ls st (sA M a j.toNatClampNeg (nrw (kX M a).1 v)) Q) := fun d ls a j v st M Q => w_bastore (show ins 134 12 = some (.bastore, 1) by decide +kernel)
set_option maxRecDepth 100000 in
theorem r_134_13 : ∀ (d : Nat) (ls : Lc) (st : List Value) (M : Mem) (Q : Outcome → Mem → Prop), Wp d 134 13 ls st M Q = Wp d 134 14 ls (.int (I 0) :: st) M Q := fun d ls st M Q => w_iconst (show ins 134 13 = some (.iconst 0, 1) by decide +kernel)
set_option maxRecDepth 100000 in
theorem r_134_14 : ∀ (d : Nat) (l0 l1 l2 : Option Value) (v : Int32) (st : List Value) (M : Mem) (Q : Outcome → Mem → Prop), (lo l1 = false) → Wp d 134 14 [l0, l1, l2] (.int v :: st) M Q = Wp d 134 15 [l0, l1, some (.int v)] st M Q := fun d l0 l1 l2 v st M Q hl => w_istore_n (show ins 134 14 = some (.istore_n 2, 1) by decide +kernel) (st1_S rfl rfl hl)
set_option maxRecDepth 100000 in
theorem r_134_15 : ∀ (d : Nat) (l0 l1 : Option Value) (v : Int32) (st : List Value) (M : Mem) (Q : Outcome → Mem → Prop), Wp d 134 15 [l0, l1, some (.int v)] st M Q = Wp d 134 16 [l0, l1, some (.int v)] (.int v :: st) M Q := fun d l0 l1 v st M Q => wA (show ins 134 15 = some (.iload_n 2, 1) by decide +kernel) rfl
set_option maxRecDepth 100000 in
theorem r_134_16 : ∀ (d : Nat) (l1 l2 : Option Value) (v : Nat) (st : List Value) (M : Mem) (Q : Outcome → Mem → Prop), Wp d 134 16 [some (.ref v), l1, l2] st M Q = Wp d 134 17 [some (.ref v), l1, l2] (.ref v :: st) M Q := fun d l1 l2 v st M Q => wA (show ins 134 16 = some (.aload_n 0, 1) by decide +kernel) rfl
set_option maxRecDepth 100000 in
theorem r_134_17 : ∀ (d : Nat) (ls : Lc) (a : Nat) (st : List Value) (M : Mem) (Q : Outcome → Mem → Prop), Wp d 134 17 ls (.ref a :: st) M Q = (fk 37 (kO M a) = true ∧ Wp d 134 20 ls (.int (mF M 37 a) :: st) M Q) := fun d ls a st M Q => w_getI (show ins 134 17 = some (.getfield 22, 3) by decide +kernel) (show fRes (mC 134) 22 = some (37, 5, false) by decide +kernel) (by decide +kernel)
set_option maxRecDepth 100000 in
theorem r_134_20 : ∀ (d : Nat) (ls : Lc) (a b : Int32) (st : List Value) (M : Mem) (Q : Outcome → Mem → Prop), Wp d 134 20 ls (.int b :: .int a :: st) M Q = Br (b ≤ a) d 134 59 23 ls st M Q := fun d ls a b st M Q => w_icmp (show ins 134 20 = some (.if_icmp .ge 39, 3) by decide +kernel) rfl rfl
set_option maxRecDepth 100000 in
theorem r_134_23 : ∀ (d : Nat) (l0 l2 : Option Value) (v : Nat) (st : List Value) (M : Mem) (Q : Outcome → Mem → Prop), Wp d 134 23 [l0, some (.ref v), l2] st M Q = Wp d 134 24 [l0, some (.ref v), l2] (.ref v :: st) M Q := fun d l0 l2 v st M Q => wA (show ins 134 23 = some (.aload_n 1, 1) by decide +kernel) rfl
set_option maxRecDepth 100000 in
theorem r_134_23_1 : ∀ (d : Nat) (l0 l2 : Option Value) (st : List Value) (M : Mem) (Q : Outcome → Mem → Prop), Wp d 134 23 [l0, some .null, l2] st M Q = Wp d 134 24 [l0, some .null, l2] (.null :: st) M Q := fun d l0 l2 st M Q => wA (show ins 134 23 = some (.aload_n 1, 1) by decide +kernel) rfl
set_option maxRecDepth 100000 in
theorem r_134_24 : ∀ (d : Nat) (ls : Lc) (st : List Value) (M : Mem) (Q : Outcome → Mem → Prop), Wp d 134 24 ls st M Q = Wp d 134 25 ls (.int (I 2) :: st) M Q := fun d ls st M Q => w_iconst (show ins 134 24 = some (.iconst 2, 1) by decide +kernel)
set_option maxRecDepth 100000 in
theorem r_134_25 : ∀ (d : Nat) (ls : Lc) (st : List Value) (M : Mem) (Q : Outcome → Mem → Prop), Wp d 134 25 ls st M Q = Wp d 134 26 ls (.int (I 4) :: st) M Q := fun d ls st M Q => w_iconst (show ins 134 25 = some (.iconst 4, 1) by decide +kernel)
set_option maxRecDepth 100000 in
theorem r_134_26 : ∀ (d : Nat) (l0 l1 : Option Value) (v : Int32) (st : List Value) (M : Mem) (Q : Outcome → Mem → Prop), Wp d 134 26 [l0, l1, some (.int v)] st M Q = Wp d 134 27 [l0, l1, some (.int v)] (.int v :: st) M Q := fun d l0 l1 v st M Q => wA (show ins 134 26 = some (.iload_n 2, 1) by decide +kernel) rfl
set_option maxRecDepth 100000 in
theorem r_134_27 : ∀ (d : Nat) (ls : Lc) (a b : Int) (st : List Value) (M : Mem) (Q : Outcome → Mem → Prop), Wp d 134 27 ls (.int (I b) :: .int (I a) :: st) M Q = Wp d 134 28 ls (.int (I (a * b)) :: st) M Q := fun d ls a b st M Q => w_imul (show ins 134 27 = some (.imul, 1) by decide +kernel)
set_option maxRecDepth 100000 in
theorem r_134_28 : ∀ (d : Nat) (ls : Lc) (a b : Int) (st : List Value) (M : Mem) (Q : Outcome → Mem → Prop), Wp d 134 28 ls (.int (I b) :: .int (I a) :: st) M Q = Wp d 134 29 ls (.int (I (a + b)) :: st) M Q := fun d ls a b st M Q => w_iadd (show ins 134 28 = some (.iadd, 1) by decide +kernel)
set_option maxRecDepth 100000 in
theorem r_134_29 : ∀ (d : Nat) (ls : Lc) (st : List Value) (M : Mem) (Q : Outcome → Mem → Prop), Wp d 134 29 ls st M Q = Wp d 134 30 ls (.int (I 3) :: st) M Q := fun d ls st M Q => w_iconst (show ins 134 29 = some (.iconst 3, 1) by decide +kernel)
set_option maxRecDepth 100000 in
theorem r_134_30 : ∀ (d : Nat) (l1 l2 : Option Value) (v : Nat) (st : List Value) (M : Mem) (Q : Outcome → Mem → Prop), Wp d 134 30 [some (.ref v), l1, l2] st M Q = Wp d 134 31 [some (.ref v), l1, l2] (.ref v :: st) M Q := fun d l1 l2 v st M Q => wA (show ins 134 30 = some (.aload_n 0, 1) by decide +kernel) rfl
set_option maxRecDepth 100000 in
theorem r_134_31 : ∀ (d : Nat) (ls : Lc) (a : Nat) (st : List Value) (M : Mem) (Q : Outcome → Mem → Prop), Wp d 134 31 ls (.ref a :: st) M Q = (fk 36 (kO M a) = true ∧ Wp d 134 34 ls (va_rf (mR M 36 a) :: st) M Q) := fun d ls a st M Q => w_getR (show ins 134 31 = some (.getfield 9, 3) by decide +kernel) (show fRes (mC 134) 9 = some (36, 5, false) by decide +kernel) (by decide +kernel)
set_option maxRecDepth 100000 in
theorem r_134_34 : ∀ (d : Nat) (l0 l1 : Option Value) (v : Int32) (st : List Value) (M : Mem) (Q : Outcome → Mem → Prop), Wp d 134 34 [l0, l1, some (.int v)] st M Q = Wp d 134 35 [l0, l1, some (.int v)] (.int v :: st) M Q := fun d l0 l1 v st M Q => wA (show ins 134 34 = some (.iload_n 2, 1) by decide +kernel) rfl
set_option maxRecDepth 100000 in
theorem r_134_35 : ∀ (d : Nat) (ls : Lc) (a : Nat) (j : Int32) (st : List Value) (M : Mem) (Q : Outcome → Mem → Prop), Wp d 134 35 ls (.int j :: .ref a :: st) M Q = ((((kX M a).1 = 0 ∨ (kX M a).1 = 8) ∧ inB j (kX M a).2 = true) ∧ Wp d 134 36 ls (.int (mA M a j.toNatClampNeg) :: st) M Q) := fun d ls a j st M Q => w_iaload (show ins 134 35 = some (.iaload, 1) by decide +kernel)
set_option maxRecDepth 100000 in
theorem r_134_36 : ∀ (d : Nat) (ls : Lc) (v0 v1 v2 v3 : Value)  (st : List Value) (M : Mem) (Q : Outcome → Mem → Prop), (smallR st = true) → Wp d 134 36 ls (v3 :: v2 :: v1 :: v0 :: st) M Q = Ca d 134 36 ls 23 [v0, v1, v2, v3] st M Q := fun d ls v0 v1 v2 v3 st M Q h0 => w_stat (as := [v0, v1, v2, v3]) (show ins 134 36 = some (.invokestatic 52, 3) by decide +kernel) (show mRes (mC 134) 52 = some (1, 1, [(0, 23)]) by decide +kernel) (by decide +kernel) (by decide +kernel) rfl h0
set_option maxRecDepth 100000 in
theorem r_134_39 : ∀ (d : Nat) (l0 l2 : Option Value) (v : Nat) (st : List Value) (M : Mem) (Q : Outcome → Mem → Prop), Wp d 134 39 [l0, some (.ref v), l2] st M Q = Wp d 134 40 [l0, some (.ref v), l2] (.ref v :: st) M Q := fun d l0 l2 v st M Q => wA (show ins 134 39 = some (.aload_n 1, 1) by decide +kernel) rfl
set_option maxRecDepth 100000 in
theorem r_134_39_1 : ∀ (d : Nat) (l0 l2 : Option Value) (st : List Value) (M : Mem) (Q : Outcome → Mem → Prop), Wp d 134 39 [l0, some .null, l2] st M Q = Wp d 134 40 [l0, some .null, l2] (.null :: st) M Q := fun d l0 l2 st M Q => wA (show ins 134 39 = some (.aload_n 1, 1) by decide +kernel) rfl
set_option maxRecDepth 100000 in
theorem r_134_40 : ∀ (d : Nat) (ls : Lc) (st : List Value) (M : Mem) (Q : Outcome → Mem → Prop), Wp d 134 40 ls st M Q = Wp d 134 41 ls (.int (I 5) :: st) M Q := fun d ls st M Q => w_iconst (show ins 134 40 = some (.iconst 5, 1) by decide +kernel)
set_option maxRecDepth 100000 in
theorem r_134_41 : ∀ (d : Nat) (ls : Lc) (st : List Value) (M : Mem) (Q : Outcome → Mem → Prop), Wp d 134 41 ls st M Q = Wp d 134 42 ls (.int (I 4) :: st) M Q := fun d ls st M Q => w_iconst (show ins 134 41 = some (.iconst 4, 1) by decide +kernel)
set_option maxRecDepth 100000 in
theorem r_134_42 : ∀ (d : Nat) (l0 l1 : Option Value) (v : Int32) (st : List Value) (M : Mem) (Q : Outcome → Mem → Prop), Wp d 134 42 [l0, l1, some (.int v)] st M Q = Wp d 134 43 [l0, l1, some (.int v)] (.int v :: st) M Q := fun d l0 l1 v st M Q => wA (show ins 134 42 = some (.iload_n 2, 1) by decide +kernel) rfl
set_option maxRecDepth 100000 in
theorem r_134_43 : ∀ (d : Nat) (ls : Lc) (a b : Int) (st : List Value) (M : Mem) (Q : Outcome → Mem → Prop), Wp d 134 43 ls (.int (I b) :: .int (I a) :: st) M Q = Wp d 134 44 ls (.int (I (a * b)) :: st) M Q := fun d ls a b st M Q => w_imul (show ins 134 43 = some (.imul, 1) by decide +kernel)
set_option maxRecDepth 100000 in
theorem r_134_44 : ∀ (d : Nat) (ls : Lc) (a b : Int) (st : List Value) (M : Mem) (Q : Outcome → Mem → Prop), Wp d 134 44 ls (.int (I b) :: .int (I a) :: st) M Q = Wp d 134 45 ls (.int (I (a + b)) :: st) M Q := fun d ls a b st M Q => w_iadd (show ins 134 44 = some (.iadd, 1) by decide +kernel)
set_option maxRecDepth 100000 in
theorem r_134_45 : ∀ (d : Nat) (l1 l2 : Option Value) (v : Nat) (st : List Value) (M : Mem) (Q : Outcome → Mem → Prop), Wp d 134 45 [some (.ref v), l1, l2] st M Q = Wp d 134 46 [some (.ref v), l1, l2] (.ref v :: st) M Q := fun d l1 l2 v st M Q => wA (show ins 134 45 = some (.aload_n 0, 1) by decide +kernel) rfl
set_option maxRecDepth 100000 in
theorem r_134_46 : ∀ (d : Nat) (ls : Lc) (a : Nat) (st : List Value) (M : Mem) (Q : Outcome → Mem → Prop), Wp d 134 46 ls (.ref a :: st) M Q = (fk 38 (kO M a) = true ∧ Wp d 134 49 ls (va_rf (mR M 38 a) :: st) M Q) := fun d ls a st M Q => w_getR (show ins 134 46 = some (.getfield 15, 3) by decide +kernel) (show fRes (mC 134) 15 = some (38, 5, false) by decide +kernel) (by decide +kernel)
set_option maxRecDepth 100000 in
theorem r_134_49 : ∀ (d : Nat) (l0 l1 : Option Value) (v : Int32) (st : List Value) (M : Mem) (Q : Outcome → Mem → Prop), Wp d 134 49 [l0, l1, some (.int v)] st M Q = Wp d 134 50 [l0, l1, some (.int v)] (.int v :: st) M Q := fun d l0 l1 v st M Q => wA (show ins 134 49 = some (.iload_n 2, 1) by decide +kernel) rfl
set_option maxRecDepth 100000 in
theorem r_134_50 : ∀ (d : Nat) (ls : Lc) (a : Nat) (j : Int32) (st : List Value) (M : Mem) (Q : Outcome → Mem → Prop), Wp d 134 50 ls (.int j :: .ref a :: st) M Q = ((((kX M a).1 = 0 ∨ (kX M a).1 = 8) ∧ inB j (kX M a).2 = true) ∧ Wp d 134 51 ls (.int (mA M a j.toNatClampNeg) :: st) M Q) := fun d ls a j st M Q => w_iaload (show ins 134 50 = some (.iaload, 1) by decide +kernel)
set_option maxRecDepth 100000 in
theorem r_134_51 : ∀ (d : Nat) (ls : Lc) (a : Int32) (st : List Value) (M : Mem) (Q : Outcome → Mem → Prop), Wp d 134 51 ls (.int a :: st) M Q = Wp d 134 52 ls (.int a.toInt8.toInt32 :: st) M Q := fun d ls a st M Q => wA (show ins 134 51 = some (.i2b, 1) by decide +kernel) rfl
set_option maxRecDepth 100000 in
theorem r_134_52 : ∀ (d : Nat) (ls : Lc) (a : Nat) (j v : Int32) (st : List Value) (M : Mem) (Q : Outcome → Mem → Prop), Wp d 134 52 ls (.int v :: .int j :: .ref a :: st) M Q = ((((kX M a).1 = 1 ∨ (kX M a).1 = 2) ∧ inB j (kX M a).2 = true) ∧ Wp d 134 53 ls st (sA M a j.toNatClampNeg (nrw (kX M a).1 v)) Q) := fun d ls a j v st M Q => w_bastore (show ins 134 52 = some (.bastore, 1) by decide +kernel)
set_option maxRecDepth 100000 in
theorem r_134_53 : ∀ (d : Nat) (l0 l1 : Option Value) (z : Int) (st : List Value) (M : Mem) (Q : Outcome → Mem → Prop), (lo l1 = false) → Wp d 134 53 [l0, l1, some (.int (I z))] st M Q = Wp d 134 56 [l0, l1, some (.int (I (z + 1)))] st M Q := fun d l0 l1 z st M Q hl => w_iinc (show ins 134 53 = some (.iinc 2 1, 3) by decide +kernel) rfl (st1_S rfl rfl hl)
set_option maxRecDepth 100000 in
theorem r_134_56 : ∀ (d : Nat) (ls : Lc) (st : List Value) (M : Mem) (Q : Outcome → Mem → Prop), Wp d 134 56 ls st M Q = Wp d 134 15 ls st M Q := fun d ls st M Q => w_goto (show ins 134 56 = some (.goto (-41), 3) by decide +kernel) rfl
set_option maxRecDepth 100000 in
theorem r_134_59 : ∀ (d : Nat) (ls : Lc) (st : List Value) (M : Mem) (Q : Outcome → Mem → Prop), Wp d 134 59 ls st M Q = Wp d 134 60 ls (.int (I 0) :: st) M Q := fun d ls st M Q => w_iconst (show ins 134 59 = some (.iconst 0, 1) by decide +kernel)
set_option maxRecDepth 100000 in
theorem r_134_60 : ∀ (d : Nat) (l0 l1 l2 : Option Value) (v : Int32) (st : List Value) (M : Mem) (Q : Outcome → Mem → Prop), (lo l1 = false) → Wp d 134 60 [l0, l1, l2] (.int v :: st) M Q = Wp d 134 61 [l0, l1, some (.int v)] st M Q := fun d l0 l1 l2 v st M Q hl => w_istore_n (show ins 134 60 = some (.istore_n 2, 1) by decide +kernel) (st1_S rfl rfl hl)
set_option maxRecDepth 100000 in
theorem r_134_61 : ∀ (d : Nat) (l0 l1 : Option Value) (v : Int32) (st : List Value) (M : Mem) (Q : Outcome → Mem → Prop), Wp d 134 61 [l0, l1, some (.int v)] st M Q = Wp d 134 62 [l0, l1, some (.int v)] (.int v :: st) M Q := fun d l0 l1 v st M Q => wA (show ins 134 61 = some (.iload_n 2, 1) by decide +kernel) rfl
set_option maxRecDepth 100000 in
theorem r_134_62 : ∀ (d : Nat) (l1 l2 : Option Value) (v : Nat) (st : List Value) (M : Mem) (Q : Outcome → Mem → Prop), Wp d 134 62 [some (.ref v), l1, l2] st M Q = Wp d 134 63 [some (.ref v), l1, l2] (.ref v :: st) M Q := fun d l1 l2 v st M Q => wA (show ins 134 62 = some (.aload_n 0, 1) by decide +kernel) rfl
set_option maxRecDepth 100000 in
theorem r_134_63 : ∀ (d : Nat) (ls : Lc) (a : Nat) (st : List Value) (M : Mem) (Q : Outcome → Mem → Prop), Wp d 134 63 ls (.ref a :: st) M Q = (fk 34 (kO M a) = true ∧ Wp d 134 66 ls (.int (mF M 34 a) :: st) M Q) := fun d ls a st M Q => w_getI (show ins 134 63 = some (.getfield 26, 3) by decide +kernel) (show fRes (mC 134) 26 = some (34, 5, false) by decide +kernel) (by decide +kernel)
set_option maxRecDepth 100000 in
theorem r_134_66 : ∀ (d : Nat) (ls : Lc) (a b : Int32) (st : List Value) (M : Mem) (Q : Outcome → Mem → Prop), Wp d 134 66 ls (.int b :: .int a :: st) M Q = Br (b ≤ a) d 134 93 69 ls st M Q := fun d ls a b st M Q => w_icmp (show ins 134 66 = some (.if_icmp .ge 27, 3) by decide +kernel) rfl rfl
set_option maxRecDepth 100000 in
theorem r_134_69 : ∀ (d : Nat) (l0 l2 : Option Value) (v : Nat) (st : List Value) (M : Mem) (Q : Outcome → Mem → Prop), Wp d 134 69 [l0, some (.ref v), l2] st M Q = Wp d 134 70 [l0, some (.ref v), l2] (.ref v :: st) M Q := fun d l0 l2 v st M Q => wA (show ins 134 69 = some (.aload_n 1, 1) by decide +kernel) rfl
set_option maxRecDepth 100000 in
theorem r_134_69_1 : ∀ (d : Nat) (l0 l2 : Option Value) (st : List Value) (M : Mem) (Q : Outcome → Mem → Prop), Wp d 134 69 [l0, some .null, l2] st M Q = Wp d 134 70 [l0, some .null, l2] (.null :: st) M Q := fun d l0 l2 st M Q => wA (show ins 134 69 = some (.aload_n 1, 1) by decide +kernel) rfl
set_option maxRecDepth 100000 in
theorem r_134_70 : ∀ (d : Nat) (ls : Lc) (st : List Value) (M : Mem) (Q : Outcome → Mem → Prop), Wp d 134 70 ls st M Q = Wp d 134 71 ls (.int (I 2) :: st) M Q := fun d ls st M Q => w_iconst (show ins 134 70 = some (.iconst 2, 1) by decide +kernel)
set_option maxRecDepth 100000 in
theorem r_134_71 : ∀ (d : Nat) (ls : Lc) (st : List Value) (M : Mem) (Q : Outcome → Mem → Prop), Wp d 134 71 ls st M Q = Wp d 134 72 ls (.int (I 4) :: st) M Q := fun d ls st M Q => w_iconst (show ins 134 71 = some (.iconst 4, 1) by decide +kernel)
set_option maxRecDepth 100000 in
theorem r_134_72 : ∀ (d : Nat) (l1 l2 : Option Value) (v : Nat) (st : List Value) (M : Mem) (Q : Outcome → Mem → Prop), Wp d 134 72 [some (.ref v), l1, l2] st M Q = Wp d 134 73 [some (.ref v), l1, l2] (.ref v :: st) M Q := fun d l1 l2 v st M Q => wA (show ins 134 72 = some (.aload_n 0, 1) by decide +kernel) rfl
set_option maxRecDepth 100000 in
theorem r_134_73 : ∀ (d : Nat) (ls : Lc) (a : Nat) (st : List Value) (M : Mem) (Q : Outcome → Mem → Prop), Wp d 134 73 ls (.ref a :: st) M Q = (fk 37 (kO M a) = true ∧ Wp d 134 76 ls (.int (mF M 37 a) :: st) M Q) := fun d ls a st M Q => w_getI (show ins 134 73 = some (.getfield 22, 3) by decide +kernel) (show fRes (mC 134) 22 = some (37, 5, false) by decide +kernel) (by decide +kernel)
set_option maxRecDepth 100000 in
theorem r_134_76 : ∀ (d : Nat) (ls : Lc) (a b : Int) (st : List Value) (M : Mem) (Q : Outcome → Mem → Prop), Wp d 134 76 ls (.int (I b) :: .int (I a) :: st) M Q = Wp d 134 77 ls (.int (I (a * b)) :: st) M Q := fun d ls a b st M Q => w_imul (show ins 134 76 = some (.imul, 1) by decide +kernel)
set_option maxRecDepth 100000 in
theorem r_134_77 : ∀ (d : Nat) (ls : Lc) (a b : Int) (st : List Value) (M : Mem) (Q : Outcome → Mem → Prop), Wp d 134 77 ls (.int (I b) :: .int (I a) :: st) M Q = Wp d 134 78 ls (.int (I (a + b)) :: st) M Q := fun d ls a b st M Q => w_iadd (show ins 134 77 = some (.iadd, 1) by decide +kernel)
set_option maxRecDepth 100000 in
theorem r_134_78 : ∀ (d : Nat) (l0 l1 : Option Value) (v : Int32) (st : List Value) (M : Mem) (Q : Outcome → Mem → Prop), Wp d 134 78 [l0, l1, some (.int v)] st M Q = Wp d 134 79 [l0, l1, some (.int v)] (.int v :: st) M Q := fun d l0 l1 v st M Q => wA (show ins 134 78 = some (.iload_n 2, 1) by decide +kernel) rfl
set_option maxRecDepth 100000 in
theorem r_134_79 : ∀ (d : Nat) (ls : Lc) (a b : Int) (st : List Value) (M : Mem) (Q : Outcome → Mem → Prop), Wp d 134 79 ls (.int (I b) :: .int (I a) :: st) M Q = Wp d 134 80 ls (.int (I (a + b)) :: st) M Q := fun d ls a b st M Q => w_iadd (show ins 134 79 = some (.iadd, 1) by decide +kernel)
set_option maxRecDepth 100000 in
theorem r_134_80 : ∀ (d : Nat) (l1 l2 : Option Value) (v : Nat) (st : List Value) (M : Mem) (Q : Outcome → Mem → Prop), Wp d 134 80 [some (.ref v), l1, l2] st M Q = Wp d 134 81 [some (.ref v), l1, l2] (.ref v :: st) M Q := fun d l1 l2 v st M Q => wA (show ins 134 80 = some (.aload_n 0, 1) by decide +kernel) rfl
set_option maxRecDepth 100000 in
theorem r_134_81 : ∀ (d : Nat) (ls : Lc) (a : Nat) (st : List Value) (M : Mem) (Q : Outcome → Mem → Prop), Wp d 134 81 ls (.ref a :: st) M Q = (fk 35 (kO M a) = true ∧ Wp d 134 84 ls (va_rf (mR M 35 a) :: st) M Q) := fun d ls a st M Q => w_getR (show ins 134 81 = some (.getfield 18, 3) by decide +kernel) (show fRes (mC 134) 18 = some (35, 5, false) by decide +kernel) (by decide +kernel)
set_option maxRecDepth 100000 in
theorem r_134_84 : ∀ (d : Nat) (l0 l1 : Option Value) (v : Int32) (st : List Value) (M : Mem) (Q : Outcome → Mem → Prop), Wp d 134 84 [l0, l1, some (.int v)] st M Q = Wp d 134 85 [l0, l1, some (.int v)] (.int v :: st) M Q := fun d l0 l1 v st M Q => wA (show ins 134 84 = some (.iload_n 2, 1) by decide +kernel) rfl
set_option maxRecDepth 100000 in
theorem r_134_85 : ∀ (d : Nat) (ls : Lc) (a : Nat) (j : Int32) (st : List Value) (M : Mem) (Q : Outcome → Mem → Prop), Wp d 134 85 ls (.int j :: .ref a :: st) M Q = ((((kX M a).1 = 1 ∨ (kX M a).1 = 2) ∧ inB j (kX M a).2 = true) ∧ Wp d 134 86 ls (.int (mA M a j.toNatClampNeg) :: st) M Q) := fun d ls a j st M Q => w_baload (show ins 134 85 = some (.baload, 1) by decide +kernel)
set_option maxRecDepth 100000 in
theorem r_134_86 : ∀ (d : Nat) (ls : Lc) (a : Nat) (j v : Int32) (st : List Value) (M : Mem) (Q : Outcome → Mem → Prop), Wp d 134 86 ls (.int v :: .int j :: .ref a :: st) M Q = ((((kX M a).1 = 1 ∨ (kX M a).1 = 2) ∧ inB j (kX M a).2 = true) ∧ Wp d 134 87 ls st (sA M a j.toNatClampNeg (nrw (kX M a).1 v)) Q) := fun d ls a j v st M Q => w_bastore (show ins 134 86 = some (.bastore, 1) by decide +kernel)
set_option maxRecDepth 100000 in
theorem r_134_87 : ∀ (d : Nat) (l0 l1 : Option Value) (z : Int) (st : List Value) (M : Mem) (Q : Outcome → Mem → Prop), (lo l1 = false) → Wp d 134 87 [l0, l1, some (.int (I z))] st M Q = Wp d 134 90 [l0, l1, some (.int (I (z + 1)))] st M Q := fun d l0 l1 z st M Q hl => w_iinc (show ins 134 87 = some (.iinc 2 1, 3) by decide +kernel) rfl (st1_S rfl rfl hl)
set_option maxRecDepth 100000 in
theorem r_134_90 : ∀ (d : Nat) (ls : Lc) (st : List Value) (M : Mem) (Q : Outcome → Mem → Prop), Wp d 134 90 ls st M Q = Wp d 134 61 ls st M Q := fun d ls st M Q => w_goto (show ins 134 90 = some (.goto (-29), 3) by decide +kernel) rfl
set_option maxRecDepth 100000 in
theorem r_134_93 : ∀ (d : Nat) (ls : Lc) (M : Mem) (Q : Outcome → Mem → Prop), Wp d 134 93 ls [] M Q = Q (.returned none) M := fun d ls M Q => w_return (show ins 134 93 = some (.return_, 1) by decide +kernel) (by decide +kernel)
set_option maxRecDepth 100000 in
theorem w_134_15 : (type_of% r_134_15) := r_134_15
set_option maxRecDepth 100000 in
theorem w_134_61 : (type_of% r_134_61) := r_134_61
set_option maxRecDepth 100000 in
theorem W_134 : (type_of% r_134_0) ∧ (type_of% r_134_0_1) ∧ (type_of% r_134_1) ∧ (type_of% r_134_2) ∧ (type_of% r_134_5) ∧ (type_of% r_134_5_1) ∧ (type_of% r_134_6) ∧ (type_of% r_134_7) ∧ (type_of% r_134_8) ∧ (type_of% r_134_11) ∧ (type_of% r_134_12) ∧ (type_of% r_134_13) ∧ (type_of% r_134_14) ∧ (type_of% r_134_16) ∧ (type_of% r_134_17) ∧ (type_of% r_134_20) ∧ (type_of% r_134_23) ∧ (type_of% r_134_23_1) ∧ (type_of% r_134_24) ∧ (type_of% r_134_25) ∧ (type_of% r_134_26) ∧ (type_of% r_134_27) ∧ (type_of% r_134_28) ∧ (type_of% r_134_29) ∧ (type_of% r_134_30) ∧ (type_of% r_134_31) ∧ (type_of% r_134_34) ∧ (type_of% r_134_35) ∧ (type_of% r_134_36) ∧ (type_of% r_134_39) ∧ (type_of% r_134_39_1) ∧ (type_of% r_134_40) ∧ (type_of% r_134_41) ∧ (type_of% r_134_42) ∧ (type_of% r_134_43) ∧ (type_of% r_134_44) ∧ (type_of% r_134_45) ∧ (type_of% r_134_46) ∧ (type_of% r_134_49) ∧ (type_of% r_134_50) ∧ (type_of% r_134_51) ∧ (type_of% r_134_52) ∧ (type_of% r_134_53) ∧ (type_of% r_134_56) ∧ (type_of% r_134_59) ∧ (type_of% r_134_60) ∧ (type_of% r_134_62) ∧ (type_of% r_134_63) ∧ (type_of% r_134_66) ∧ (type_of% r_134_69) ∧ (type_of% r_134_69_1) ∧ (type_of% r_134_70) ∧ (type_of% r_134_71) ∧ (type_of% r_134_72) ∧ (type_of% r_134_73) ∧ (type_of% r_134_76) ∧ (type_of% r_134_77) ∧ (type_of% r_134_78) ∧ (type_of% r_134_79) ∧ (type_of% r_134_80) ∧ (type_of% r_134_81) ∧ (type_of% r_134_84) ∧ (type_of% r_134_85) ∧ (type_of% r_134_86) ∧ (type_of% r_134_87) ∧ (type_of% r_134_90) ∧ (type_of% r_134_93) := ⟨r_134_0, r_134_0_1, r_134_1, r_134_2, r_134_5, r_134_5_1, r_134_6, r_134_7, r_134_8, r_134_11, r_134_12, r_134_13, r_134_14, r_134_16, r_134_17, r_134_20, r_134_23, r_134_23_1, r_134_24, r_134_25, r_134_26, r_134_27, r_134_28, r_134_29, r_134_30, r_134_31, r_134_34, r_134_35, r_134_36, r_134_39, r_134_39_1, r_134_40, r_134_41, r_134_42, r_134_43, r_134_44, r_134_45, r_134_46, r_134_49, r_134_50, r_134_51, r_134_52, r_134_53, r_134_56, r_134_59, r_134_60, r_134_62, r_134_63, r_134_66, r_134_69, r_134_69_1, r_134_70, r_134_71, r_134_72, r_134_73, r_134_76, r_134_77, r_134_78, r_134_79, r_134_80, r_134_81, r_134_84, r_134_85, r_134_86, r_134_87, r_134_90, r_134_93⟩
set_option maxRecDepth 100000 in
theorem ca_134 {d y pc : Nat} {ls : Lc} {a : Nat} {o0 : Option Nat} {r : List Value} {M : Mem} {Q : Outcome → Mem → Prop} (hd : 0 < d) (hw : Wp (d - 1) 134 0 [some (.ref a), some (va_rf o0), none] [] M (Cq d y pc ls r Q)) : Ca d y pc ls 134 [.ref a, va_rf o0] r M Q := ca_of (mq_get (by decide)) (by cases o0 <;> rfl) hd hw
/-! 135 PackedTree$Leaf.take([B)V; loop heads [15] -/
set_option maxRecDepth 100000 in
theorem r_135_0 : ∀ (d : Nat) (l0 l2 l3 l4 l5 : Option Value) (v : Nat) (st : List Value) (M : Mem) (Q : Outcome → Mem → Prop), Wp d 135 0 [l0, some (.ref v), l2, l3, l4, l5] st M Q = Wp d 135 1 [l0, some (.ref v), l2, l3, l4, l5] (.ref v :: st) M Q := fun d l0 l2 l3 l4 l5 v st M Q => wA (show ins 135 0 = some (.aload_n 1, 1) by decide +kernel) rfl
set_option maxRecDepth 100000 in
theorem r_135_0_1 : ∀ (d : Nat) (l0 l2 l3 l4 l5 : Option Value) (st : List Value) (M : Mem) (Q : Outcome → Mem → Prop), Wp d 135 0 [l0, some .null, l2, l3, l4, l5] st M Q = Wp d 135 1 [l0, some .null, l2, l3, l4, l5] (.null :: st) M Q := fun d l0 l2 l3 l4 l5 st M Q => wA (show ins 135 0 = some (.aload_n 1, 1) by decide +kernel) rfl
set_option maxRecDepth 100000 in
theorem r_135_1 : ∀ (d : Nat) (ls : Lc) (st : List Value) (M : Mem) (Q : Outcome → Mem → Prop), Wp d 135 1 ls st M Q = Wp d 135 2 ls (.int (I 1) :: st) M Q := fun d ls st M Q => w_iconst (show ins 135 1 = some (.iconst 1, 1) by decide +kernel)
set_option maxRecDepth 100000 in
theorem r_135_2 : ∀ (d : Nat) (ls : Lc) (v0 v1 : Value)  (st : List Value) (M : Mem) (Q : Outcome → Mem → Prop), (smallR st = true) → Wp d 135 2 ls (v1 :: v0 :: st) M Q = Ca d 135 2 ls 36 [v0, v1] st M Q := fun d ls v0 v1 st M Q h0 => w_stat (as := [v0, v1]) (show ins 135 2 = some (.invokestatic 56, 3) by decide +kernel) (show mRes (mC 135) 56 = some (1, 1, [(0, 36)]) by decide +kernel) (by decide +kernel) (by decide +kernel) rfl h0
set_option maxRecDepth 100000 in
theorem r_135_5 : ∀ (d : Nat) (l0 l1 l2 l3 l4 l5 : Option Value) (v : Int32) (st : List Value) (M : Mem) (Q : Outcome → Mem → Prop), (lo l1 = false) → Wp d 135 5 [l0, l1, l2, l3, l4, l5] (.int v :: st) M Q = Wp d 135 6 [l0, l1, some (.int v), l3, l4, l5] st M Q := fun d l0 l1 l2 l3 l4 l5 v st M Q hl => w_istore_n (show ins 135 5 = some (.istore_n 2, 1) by decide +kernel) (st1_S rfl rfl hl)
set_option maxRecDepth 100000 in
theorem r_135_6 : ∀ (d : Nat) (ls : Lc) (st : List Value) (M : Mem) (Q : Outcome → Mem → Prop), Wp d 135 6 ls st M Q = Wp d 135 7 ls (.int (I 2) :: st) M Q := fun d ls st M Q => w_iconst (show ins 135 6 = some (.iconst 2, 1) by decide +kernel)
set_option maxRecDepth 100000 in
theorem r_135_7 : ∀ (d : Nat) (ls : Lc) (st : List Value) (M : Mem) (Q : Outcome → Mem → Prop), Wp d 135 7 ls st M Q = Wp d 135 8 ls (.int (I 4) :: st) M Q := fun d ls st M Q => w_iconst (show ins 135 7 = some (.iconst 4, 1) by decide +kernel)
set_option maxRecDepth 100000 in
theorem r_135_8 : ∀ (d : Nat) (l0 l1 l3 l4 l5 : Option Value) (v : Int32) (st : List Value) (M : Mem) (Q : Outcome → Mem → Prop), Wp d 135 8 [l0, l1, some (.int v), l3, l4, l5] st M Q = Wp d 135 9 [l0, l1, some (.int v), l3, l4, l5] (.int v :: st) M Q := fun d l0 l1 l3 l4 l5 v st M Q => wA (show ins 135 8 = some (.iload_n 2, 1) by decide +kernel) rfl
set_option maxRecDepth 100000 in
theorem r_135_9 : ∀ (d : Nat) (ls : Lc) (a b : Int) (st : List Value) (M : Mem) (Q : Outcome → Mem → Prop), Wp d 135 9 ls (.int (I b) :: .int (I a) :: st) M Q = Wp d 135 10 ls (.int (I (a * b)) :: st) M Q := fun d ls a b st M Q => w_imul (show ins 135 9 = some (.imul, 1) by decide +kernel)
set_option maxRecDepth 100000 in
theorem r_135_10 : ∀ (d : Nat) (ls : Lc) (a b : Int) (st : List Value) (M : Mem) (Q : Outcome → Mem → Prop), Wp d 135 10 ls (.int (I b) :: .int (I a) :: st) M Q = Wp d 135 11 ls (.int (I (a + b)) :: st) M Q := fun d ls a b st M Q => w_iadd (show ins 135 10 = some (.iadd, 1) by decide +kernel)
set_option maxRecDepth 100000 in
theorem r_135_11 : ∀ (d : Nat) (l0 l1 l2 l3 l4 l5 : Option Value) (v : Int32) (st : List Value) (M : Mem) (Q : Outcome → Mem → Prop), (lo l2 = false) → Wp d 135 11 [l0, l1, l2, l3, l4, l5] (.int v :: st) M Q = Wp d 135 12 [l0, l1, l2, some (.int v), l4, l5] st M Q := fun d l0 l1 l2 l3 l4 l5 v st M Q hl => w_istore_n (show ins 135 11 = some (.istore_n 3, 1) by decide +kernel) (st1_S rfl rfl hl)
set_option maxRecDepth 100000 in
theorem r_135_12 : ∀ (d : Nat) (ls : Lc) (st : List Value) (M : Mem) (Q : Outcome → Mem → Prop), Wp d 135 12 ls st M Q = Wp d 135 13 ls (.int (I 0) :: st) M Q := fun d ls st M Q => w_iconst (show ins 135 12 = some (.iconst 0, 1) by decide +kernel)
set_option maxRecDepth 100000 in
theorem r_135_13 : ∀ (d : Nat) (l0 l1 l2 l3 l4 l5 : Option Value) (v : Int32) (st : List Value) (M : Mem) (Q : Outcome → Mem → Prop), (lo l3 = false) → Wp d 135 13 [l0, l1, l2, l3, l4, l5] (.int v :: st) M Q = Wp d 135 15 [l0, l1, l2, l3, some (.int v), l5] st M Q := fun d l0 l1 l2 l3 l4 l5 v st M Q hl => w_istore (show ins 135 13 = some (.istore 4, 2) by decide +kernel) (st1_S rfl rfl hl)
set_option maxRecDepth 100000 in
theorem r_135_15 : ∀ (d : Nat) (l0 l1 l2 l3 l5 : Option Value) (v : Int32) (st : List Value) (M : Mem) (Q : Outcome → Mem → Prop), Wp d 135 15 [l0, l1, l2, l3, some (.int v), l5] st M Q = Wp d 135 17 [l0, l1, l2, l3, some (.int v), l5] (.int v :: st) M Q := fun d l0 l1 l2 l3 l5 v st M Q => wA (show ins 135 15 = some (.iload 4, 2) by decide +kernel) rfl
set_option maxRecDepth 100000 in
theorem r_135_17 : ∀ (d : Nat) (l0 l1 l3 l4 l5 : Option Value) (v : Int32) (st : List Value) (M : Mem) (Q : Outcome → Mem → Prop), Wp d 135 17 [l0, l1, some (.int v), l3, l4, l5] st M Q = Wp d 135 18 [l0, l1, some (.int v), l3, l4, l5] (.int v :: st) M Q := fun d l0 l1 l3 l4 l5 v st M Q => wA (show ins 135 17 = some (.iload_n 2, 1) by decide +kernel) rfl
set_option maxRecDepth 100000 in
theorem r_135_18 : ∀ (d : Nat) (ls : Lc) (a b : Int32) (st : List Value) (M : Mem) (Q : Outcome → Mem → Prop), Wp d 135 18 ls (.int b :: .int a :: st) M Q = Br (b ≤ a) d 135 65 21 ls st M Q := fun d ls a b st M Q => w_icmp (show ins 135 18 = some (.if_icmp .ge 47, 3) by decide +kernel) rfl rfl
set_option maxRecDepth 100000 in
theorem r_135_21 : ∀ (d : Nat) (l0 l2 l3 l4 l5 : Option Value) (v : Nat) (st : List Value) (M : Mem) (Q : Outcome → Mem → Prop), Wp d 135 21 [l0, some (.ref v), l2, l3, l4, l5] st M Q = Wp d 135 22 [l0, some (.ref v), l2, l3, l4, l5] (.ref v :: st) M Q := fun d l0 l2 l3 l4 l5 v st M Q => wA (show ins 135 21 = some (.aload_n 1, 1) by decide +kernel) rfl
set_option maxRecDepth 100000 in
theorem r_135_21_1 : ∀ (d : Nat) (l0 l2 l3 l4 l5 : Option Value) (st : List Value) (M : Mem) (Q : Outcome → Mem → Prop), Wp d 135 21 [l0, some .null, l2, l3, l4, l5] st M Q = Wp d 135 22 [l0, some .null, l2, l3, l4, l5] (.null :: st) M Q := fun d l0 l2 l3 l4 l5 st M Q => wA (show ins 135 21 = some (.aload_n 1, 1) by decide +kernel) rfl
set_option maxRecDepth 100000 in
theorem r_135_22 : ∀ (d : Nat) (ls : Lc) (st : List Value) (M : Mem) (Q : Outcome → Mem → Prop), Wp d 135 22 ls st M Q = Wp d 135 23 ls (.int (I 5) :: st) M Q := fun d ls st M Q => w_iconst (show ins 135 22 = some (.iconst 5, 1) by decide +kernel)
set_option maxRecDepth 100000 in
theorem r_135_23 : ∀ (d : Nat) (ls : Lc) (st : List Value) (M : Mem) (Q : Outcome → Mem → Prop), Wp d 135 23 ls st M Q = Wp d 135 24 ls (.int (I 4) :: st) M Q := fun d ls st M Q => w_iconst (show ins 135 23 = some (.iconst 4, 1) by decide +kernel)
set_option maxRecDepth 100000 in
theorem r_135_24 : ∀ (d : Nat) (l0 l1 l2 l3 l5 : Option Value) (v : Int32) (st : List Value) (M : Mem) (Q : Outcome → Mem → Prop), Wp d 135 24 [l0, l1, l2, l3, some (.int v), l5] st M Q = Wp d 135 26 [l0, l1, l2, l3, some (.int v), l5] (.int v :: st) M Q := fun d l0 l1 l2 l3 l5 v st M Q => wA (show ins 135 24 = some (.iload 4, 2) by decide +kernel) rfl
set_option maxRecDepth 100000 in
theorem r_135_26 : ∀ (d : Nat) (ls : Lc) (a b : Int) (st : List Value) (M : Mem) (Q : Outcome → Mem → Prop), Wp d 135 26 ls (.int (I b) :: .int (I a) :: st) M Q = Wp d 135 27 ls (.int (I (a * b)) :: st) M Q := fun d ls a b st M Q => w_imul (show ins 135 26 = some (.imul, 1) by decide +kernel)
set_option maxRecDepth 100000 in
theorem r_135_27 : ∀ (d : Nat) (ls : Lc) (a b : Int) (st : List Value) (M : Mem) (Q : Outcome → Mem → Prop), Wp d 135 27 ls (.int (I b) :: .int (I a) :: st) M Q = Wp d 135 28 ls (.int (I (a + b)) :: st) M Q := fun d ls a b st M Q => w_iadd (show ins 135 27 = some (.iadd, 1) by decide +kernel)
set_option maxRecDepth 100000 in
theorem r_135_28 : ∀ (d : Nat) (ls : Lc) (v0 v1 : Value)  (st : List Value) (M : Mem) (Q : Outcome → Mem → Prop), (smallR st = true) → Wp d 135 28 ls (v1 :: v0 :: st) M Q = Ca d 135 28 ls 36 [v0, v1] st M Q := fun d ls v0 v1 st M Q h0 => w_stat (as := [v0, v1]) (show ins 135 28 = some (.invokestatic 56, 3) by decide +kernel) (show mRes (mC 135) 56 = some (1, 1, [(0, 36)]) by decide +kernel) (by decide +kernel) (by decide +kernel) rfl h0
set_option maxRecDepth 100000 in
theorem r_135_31 : ∀ (d : Nat) (l0 l1 l2 l3 l4 l5 : Option Value) (v : Int32) (st : List Value) (M : Mem) (Q : Outcome → Mem → Prop), (lo l4 = false) → Wp d 135 31 [l0, l1, l2, l3, l4, l5] (.int v :: st) M Q = Wp d 135 33 [l0, l1, l2, l3, l4, some (.int v)] st M Q := fun d l0 l1 l2 l3 l4 l5 v st M Q hl => w_istore (show ins 135 31 = some (.istore 5, 2) by decide +kernel) (st1_S rfl rfl hl)
set_option maxRecDepth 100000 in
theorem r_135_33 : ∀ (d : Nat) (l1 l2 l3 l4 l5 : Option Value) (v : Nat) (st : List Value) (M : Mem) (Q : Outcome → Mem → Prop), Wp d 135 33 [some (.ref v), l1, l2, l3, l4, l5] st M Q = Wp d 135 34 [some (.ref v), l1, l2, l3, l4, l5] (.ref v :: st) M Q := fun d l1 l2 l3 l4 l5 v st M Q => wA (show ins 135 33 = some (.aload_n 0, 1) by decide +kernel) rfl
set_option maxRecDepth 100000 in
theorem r_135_34 : ∀ (d : Nat) (l0 l1 l2 l3 l5 : Option Value) (v : Int32) (st : List Value) (M : Mem) (Q : Outcome → Mem → Prop), Wp d 135 34 [l0, l1, l2, l3, some (.int v), l5] st M Q = Wp d 135 36 [l0, l1, l2, l3, some (.int v), l5] (.int v :: st) M Q := fun d l0 l1 l2 l3 l5 v st M Q => wA (show ins 135 34 = some (.iload 4, 2) by decide +kernel) rfl
set_option maxRecDepth 100000 in
theorem r_135_36 : ∀ (d : Nat) (l0 l2 l3 l4 l5 : Option Value) (v : Nat) (st : List Value) (M : Mem) (Q : Outcome → Mem → Prop), Wp d 135 36 [l0, some (.ref v), l2, l3, l4, l5] st M Q = Wp d 135 37 [l0, some (.ref v), l2, l3, l4, l5] (.ref v :: st) M Q := fun d l0 l2 l3 l4 l5 v st M Q => wA (show ins 135 36 = some (.aload_n 1, 1) by decide +kernel) rfl
set_option maxRecDepth 100000 in
theorem r_135_36_1 : ∀ (d : Nat) (l0 l2 l3 l4 l5 : Option Value) (st : List Value) (M : Mem) (Q : Outcome → Mem → Prop), Wp d 135 36 [l0, some .null, l2, l3, l4, l5] st M Q = Wp d 135 37 [l0, some .null, l2, l3, l4, l5] (.null :: st) M Q := fun d l0 l2 l3 l4 l5 st M Q => wA (show ins 135 36 = some (.aload_n 1, 1) by decide +kernel) rfl
set_option maxRecDepth 100000 in
theorem r_135_37 : ∀ (d : Nat) (ls : Lc) (st : List Value) (M : Mem) (Q : Outcome → Mem → Prop), Wp d 135 37 ls st M Q = Wp d 135 38 ls (.int (I 2) :: st) M Q := fun d ls st M Q => w_iconst (show ins 135 37 = some (.iconst 2, 1) by decide +kernel)
set_option maxRecDepth 100000 in
theorem r_135_38 : ∀ (d : Nat) (ls : Lc) (st : List Value) (M : Mem) (Q : Outcome → Mem → Prop), Wp d 135 38 ls st M Q = Wp d 135 39 ls (.int (I 4) :: st) M Q := fun d ls st M Q => w_iconst (show ins 135 38 = some (.iconst 4, 1) by decide +kernel)
set_option maxRecDepth 100000 in
theorem r_135_39 : ∀ (d : Nat) (l0 l1 l2 l3 l5 : Option Value) (v : Int32) (st : List Value) (M : Mem) (Q : Outcome → Mem → Prop), Wp d 135 39 [l0, l1, l2, l3, some (.int v), l5] st M Q = Wp d 135 41 [l0, l1, l2, l3, some (.int v), l5] (.int v :: st) M Q := fun d l0 l1 l2 l3 l5 v st M Q => wA (show ins 135 39 = some (.iload 4, 2) by decide +kernel) rfl
set_option maxRecDepth 100000 in
theorem r_135_41 : ∀ (d : Nat) (ls : Lc) (a b : Int) (st : List Value) (M : Mem) (Q : Outcome → Mem → Prop), Wp d 135 41 ls (.int (I b) :: .int (I a) :: st) M Q = Wp d 135 42 ls (.int (I (a * b)) :: st) M Q := fun d ls a b st M Q => w_imul (show ins 135 41 = some (.imul, 1) by decide +kernel)
set_option maxRecDepth 100000 in
theorem r_135_42 : ∀ (d : Nat) (ls : Lc) (a b : Int) (st : List Value) (M : Mem) (Q : Outcome → Mem → Prop), Wp d 135 42 ls (.int (I b) :: .int (I a) :: st) M Q = Wp d 135 43 ls (.int (I (a + b)) :: st) M Q := fun d ls a b st M Q => w_iadd (show ins 135 42 = some (.iadd, 1) by decide +kernel)
set_option maxRecDepth 100000 in
theorem r_135_43 : ∀ (d : Nat) (ls : Lc) (st : List Value) (M : Mem) (Q : Outcome → Mem → Prop), Wp d 135 43 ls st M Q = Wp d 135 44 ls (.int (I 3) :: st) M Q := fun d ls st M Q => w_iconst (show ins 135 43 = some (.iconst 3, 1) by decide +kernel)
set_option maxRecDepth 100000 in
theorem r_135_44 : ∀ (d : Nat) (ls : Lc) (v0 v1 v2 : Value)  (st : List Value) (M : Mem) (Q : Outcome → Mem → Prop), (smallR st = true) → Wp d 135 44 ls (v2 :: v1 :: v0 :: st) M Q = Ca d 135 44 ls 35 [v0, v1, v2] st M Q := fun d ls v0 v1 v2 st M Q h0 => w_stat (as := [v0, v1, v2]) (show ins 135 44 = some (.invokestatic 60, 3) by decide +kernel) (show mRes (mC 135) 60 = some (1, 1, [(0, 35)]) by decide +kernel) (by decide +kernel) (by decide +kernel) rfl h0
set_option maxRecDepth 100000 in
theorem r_135_47 : ∀ (d : Nat) (l0 l2 l3 l4 l5 : Option Value) (v : Nat) (st : List Value) (M : Mem) (Q : Outcome → Mem → Prop), Wp d 135 47 [l0, some (.ref v), l2, l3, l4, l5] st M Q = Wp d 135 48 [l0, some (.ref v), l2, l3, l4, l5] (.ref v :: st) M Q := fun d l0 l2 l3 l4 l5 v st M Q => wA (show ins 135 47 = some (.aload_n 1, 1) by decide +kernel) rfl
set_option maxRecDepth 100000 in
theorem r_135_47_1 : ∀ (d : Nat) (l0 l2 l3 l4 l5 : Option Value) (st : List Value) (M : Mem) (Q : Outcome → Mem → Prop), Wp d 135 47 [l0, some .null, l2, l3, l4, l5] st M Q = Wp d 135 48 [l0, some .null, l2, l3, l4, l5] (.null :: st) M Q := fun d l0 l2 l3 l4 l5 st M Q => wA (show ins 135 47 = some (.aload_n 1, 1) by decide +kernel) rfl
set_option maxRecDepth 100000 in
theorem r_135_48 : ∀ (d : Nat) (l0 l1 l2 l4 l5 : Option Value) (v : Int32) (st : List Value) (M : Mem) (Q : Outcome → Mem → Prop), Wp d 135 48 [l0, l1, l2, some (.int v), l4, l5] st M Q = Wp d 135 49 [l0, l1, l2, some (.int v), l4, l5] (.int v :: st) M Q := fun d l0 l1 l2 l4 l5 v st M Q => wA (show ins 135 48 = some (.iload_n 3, 1) by decide +kernel) rfl
set_option maxRecDepth 100000 in
theorem r_135_49 : ∀ (d : Nat) (l0 l1 l2 l3 l4 : Option Value) (v : Int32) (st : List Value) (M : Mem) (Q : Outcome → Mem → Prop), Wp d 135 49 [l0, l1, l2, l3, l4, some (.int v)] st M Q = Wp d 135 51 [l0, l1, l2, l3, l4, some (.int v)] (.int v :: st) M Q := fun d l0 l1 l2 l3 l4 v st M Q => wA (show ins 135 49 = some (.iload 5, 2) by decide +kernel) rfl
set_option maxRecDepth 100000 in
theorem r_135_51 : ∀ (d : Nat) (ls : Lc) (v0 v1 v2 v3 v4 : Value) (a : Nat) (st : List Value) (M : Mem) (Q : Outcome → Mem → Prop), (smallR st = true) → Wp d 135 51 ls (v4 :: v3 :: v2 :: v1 :: v0 :: .ref a :: st) M Q = (kO M a = 5 ∧ Ca d 135 51 ls 127 (.ref a :: [v0, v1, v2, v3, v4]) st M Q) := fun d ls v0 v1 v2 v3 v4 a st M Q h0 => w_virt1 (as := [v0, v1, v2, v3, v4]) (show ins 135 51 = some (.invokevirtual 41, 3) by decide +kernel) (show mRes (mC 135) 41 = some (3, 5, [(5, 127)]) by decide +kernel) (by decide +kernel) rfl (by decide +kernel) (by decide +kernel) h0
set_option maxRecDepth 100000 in
theorem r_135_54 : ∀ (d : Nat) (l0 l1 l2 l4 l5 : Option Value) (v : Int32) (st : List Value) (M : Mem) (Q : Outcome → Mem → Prop), Wp d 135 54 [l0, l1, l2, some (.int v), l4, l5] st M Q = Wp d 135 55 [l0, l1, l2, some (.int v), l4, l5] (.int v :: st) M Q := fun d l0 l1 l2 l4 l5 v st M Q => wA (show ins 135 54 = some (.iload_n 3, 1) by decide +kernel) rfl
set_option maxRecDepth 100000 in
theorem r_135_55 : ∀ (d : Nat) (l0 l1 l2 l3 l4 : Option Value) (v : Int32) (st : List Value) (M : Mem) (Q : Outcome → Mem → Prop), Wp d 135 55 [l0, l1, l2, l3, l4, some (.int v)] st M Q = Wp d 135 57 [l0, l1, l2, l3, l4, some (.int v)] (.int v :: st) M Q := fun d l0 l1 l2 l3 l4 v st M Q => wA (show ins 135 55 = some (.iload 5, 2) by decide +kernel) rfl
set_option maxRecDepth 100000 in
theorem r_135_57 : ∀ (d : Nat) (ls : Lc) (a b : Int) (st : List Value) (M : Mem) (Q : Outcome → Mem → Prop), Wp d 135 57 ls (.int (I b) :: .int (I a) :: st) M Q = Wp d 135 58 ls (.int (I (a + b)) :: st) M Q := fun d ls a b st M Q => w_iadd (show ins 135 57 = some (.iadd, 1) by decide +kernel)
set_option maxRecDepth 100000 in
theorem r_135_58 : ∀ (d : Nat) (l0 l1 l2 l3 l4 l5 : Option Value) (v : Int32) (st : List Value) (M : Mem) (Q : Outcome → Mem → Prop), (lo l2 = false) → Wp d 135 58 [l0, l1, l2, l3, l4, l5] (.int v :: st) M Q = Wp d 135 59 [l0, l1, l2, some (.int v), l4, l5] st M Q := fun d l0 l1 l2 l3 l4 l5 v st M Q hl => w_istore_n (show ins 135 58 = some (.istore_n 3, 1) by decide +kernel) (st1_S rfl rfl hl)
set_option maxRecDepth 100000 in
theorem r_135_59 : ∀ (d : Nat) (l0 l1 l2 l3 l5 : Option Value) (z : Int) (st : List Value) (M : Mem) (Q : Outcome → Mem → Prop), (lo l3 = false) → Wp d 135 59 [l0, l1, l2, l3, some (.int (I z)), l5] st M Q = Wp d 135 62 [l0, l1, l2, l3, some (.int (I (z + 1))), l5] st M Q := fun d l0 l1 l2 l3 l5 z st M Q hl => w_iinc (show ins 135 59 = some (.iinc 4 1, 3) by decide +kernel) rfl (st1_S rfl rfl hl)
set_option maxRecDepth 100000 in
theorem r_135_62 : ∀ (d : Nat) (ls : Lc) (st : List Value) (M : Mem) (Q : Outcome → Mem → Prop), Wp d 135 62 ls st M Q = Wp d 135 15 ls st M Q := fun d ls st M Q => w_goto (show ins 135 62 = some (.goto (-47), 3) by decide +kernel) rfl
set_option maxRecDepth 100000 in
theorem r_135_65 : ∀ (d : Nat) (ls : Lc) (M : Mem) (Q : Outcome → Mem → Prop), Wp d 135 65 ls [] M Q = Q (.returned none) M := fun d ls M Q => w_return (show ins 135 65 = some (.return_, 1) by decide +kernel) (by decide +kernel)
set_option maxRecDepth 100000 in
theorem w_135_15 : (type_of% r_135_15) := r_135_15
set_option maxRecDepth 100000 in
theorem W_135 : (type_of% r_135_0) ∧ (type_of% r_135_0_1) ∧ (type_of% r_135_1) ∧ (type_of% r_135_2) ∧ (type_of% r_135_5) ∧ (type_of% r_135_6) ∧ (type_of% r_135_7) ∧ (type_of% r_135_8) ∧ (type_of% r_135_9) ∧ (type_of% r_135_10) ∧ (type_of% r_135_11) ∧ (type_of% r_135_12) ∧ (type_of% r_135_13) ∧ (type_of% r_135_17) ∧ (type_of% r_135_18) ∧ (type_of% r_135_21) ∧ (type_of% r_135_21_1) ∧ (type_of% r_135_22) ∧ (type_of% r_135_23) ∧ (type_of% r_135_24) ∧ (type_of% r_135_26) ∧ (type_of% r_135_27) ∧ (type_of% r_135_28) ∧ (type_of% r_135_31) ∧ (type_of% r_135_33) ∧ (type_of% r_135_34) ∧ (type_of% r_135_36) ∧ (type_of% r_135_36_1) ∧ (type_of% r_135_37) ∧ (type_of% r_135_38) ∧ (type_of% r_135_39) ∧ (type_of% r_135_41) ∧ (type_of% r_135_42) ∧ (type_of% r_135_43) ∧ (type_of% r_135_44) ∧ (type_of% r_135_47) ∧ (type_of% r_135_47_1) ∧ (type_of% r_135_48) ∧ (type_of% r_135_49) ∧ (type_of% r_135_51) ∧ (type_of% r_135_54) ∧ (type_of% r_135_55) ∧ (type_of% r_135_57) ∧ (type_of% r_135_58) ∧ (type_of% r_135_59) ∧ (type_of% r_135_62) ∧ (type_of% r_135_65) := ⟨r_135_0, r_135_0_1, r_135_1, r_135_2, r_135_5, r_135_6, r_135_7, r_135_8, r_135_9, r_135_10, r_135_11, r_135_12, r_135_13, r_135_17, r_135_18, r_135_21, r_135_21_1, r_135_22, r_135_23, r_135_24, r_135_26, r_135_27, r_135_28, r_135_31, r_135_33, r_135_34, r_135_36, r_135_36_1, r_135_37, r_135_38, r_135_39, r_135_41, r_135_42, r_135_43, r_135_44, r_135_47, r_135_47_1, r_135_48, r_135_49, r_135_51, r_135_54, r_135_55, r_135_57, r_135_58, r_135_59, r_135_62, r_135_65⟩
set_option maxRecDepth 100000 in
theorem ca_135 {d y pc : Nat} {ls : Lc} {a : Nat} {o0 : Option Nat} {r : List Value} {M : Mem} {Q : Outcome → Mem → Prop} (hd : 0 < d) (hw : Wp (d - 1) 135 0 [some (.ref a), some (va_rf o0), none, none, none, none] [] M (Cq d y pc ls r Q)) : Ca d y pc ls 135 [.ref a, va_rf o0] r M Q := ca_of (mq_get (by decide)) (by cases o0 <;> rfl) hd hw
/-! 136 PackedTree$Leaf.many()I; loop heads [] -/
set_option maxRecDepth 100000 in
theorem r_136_0 : ∀ (d : Nat) (v : Nat) (st : List Value) (M : Mem) (Q : Outcome → Mem → Prop), Wp d 136 0 [some (.ref v)] st M Q = Wp d 136 1 [some (.ref v)] (.ref v :: st) M Q := fun d v st M Q => wA (show ins 136 0 = some (.aload_n 0, 1) by decide +kernel) rfl
set_option maxRecDepth 100000 in
theorem r_136_1 : ∀ (d : Nat) (ls : Lc) (a : Nat) (st : List Value) (M : Mem) (Q : Outcome → Mem → Prop), Wp d 136 1 ls (.ref a :: st) M Q = (fk 37 (kO M a) = true ∧ Wp d 136 4 ls (.int (mF M 37 a) :: st) M Q) := fun d ls a st M Q => w_getI (show ins 136 1 = some (.getfield 22, 3) by decide +kernel) (show fRes (mC 136) 22 = some (37, 5, false) by decide +kernel) (by decide +kernel)
set_option maxRecDepth 100000 in
theorem r_136_4 : ∀ (d : Nat) (ls : Lc) (v : Int32) (M : Mem) (Q : Outcome → Mem → Prop), Wp d 136 4 ls [.int v] M Q = Q (.returned (some (.int v))) M := fun d ls v M Q => w_ireturn (show ins 136 4 = some (.ireturn, 1) by decide +kernel) (by decide +kernel)
set_option maxRecDepth 100000 in
theorem W_136 : (type_of% r_136_0) ∧ (type_of% r_136_1) ∧ (type_of% r_136_4) := ⟨r_136_0, r_136_1, r_136_4⟩
set_option maxRecDepth 100000 in
theorem ca_136 {d y pc : Nat} {ls : Lc} {a : Nat} {r : List Value} {M : Mem} {Q : Outcome → Mem → Prop} (hd : 0 < d) (hw : Wp (d - 1) 136 0 [some (.ref a)] [] M (Cq d y pc ls r Q)) : Ca d y pc ls 136 [.ref a] r M Q := ca_of (mq_get (by decide)) (by rfl) hd hw
/-! 137 PackedTree$Inner.childFor(I)LPackedTree$Node;; loop heads [7] -/
set_option maxRecDepth 100000 in
theorem r_137_0 : ∀ (d : Nat) (l1 l2 : Option Value) (v : Nat) (st : List Value) (M : Mem) (Q : Outcome → Mem → Prop), Wp d 137 0 [some (.ref v), l1, l2] st M Q = Wp d 137 1 [some (.ref v), l1, l2] (.ref v :: st) M Q := fun d l1 l2 v st M Q => wA (show ins 137 0 = some (.aload_n 0, 1) by decide +kernel) rfl
set_option maxRecDepth 100000 in
theorem r_137_1 : ∀ (d : Nat) (ls : Lc) (a : Nat) (st : List Value) (M : Mem) (Q : Outcome → Mem → Prop), Wp d 137 1 ls (.ref a :: st) M Q = (fk 41 (kO M a) = true ∧ Wp d 137 4 ls (.int (mF M 41 a) :: st) M Q) := fun d ls a st M Q => w_getI (show ins 137 1 = some (.getfield 19, 3) by decide +kernel) (show fRes (mC 137) 19 = some (41, 6, false) by decide +kernel) (by decide +kernel)
set_option maxRecDepth 100000 in
theorem r_137_4 : ∀ (d : Nat) (ls : Lc) (st : List Value) (M : Mem) (Q : Outcome → Mem → Prop), Wp d 137 4 ls st M Q = Wp d 137 5 ls (.int (I 1) :: st) M Q := fun d ls st M Q => w_iconst (show ins 137 4 = some (.iconst 1, 1) by decide +kernel)
set_option maxRecDepth 100000 in
theorem r_137_5 : ∀ (d : Nat) (ls : Lc) (a b : Int) (st : List Value) (M : Mem) (Q : Outcome → Mem → Prop), Wp d 137 5 ls (.int (I b) :: .int (I a) :: st) M Q = Wp d 137 6 ls (.int (I (a - b)) :: st) M Q := fun d ls a b st M Q => w_isub (show ins 137 5 = some (.isub, 1) by decide +kernel)
set_option maxRecDepth 100000 in
theorem r_137_6 : ∀ (d : Nat) (l0 l1 l2 : Option Value) (v : Int32) (st : List Value) (M : Mem) (Q : Outcome → Mem → Prop), (lo l1 = false) → Wp d 137 6 [l0, l1, l2] (.int v :: st) M Q = Wp d 137 7 [l0, l1, some (.int v)] st M Q := fun d l0 l1 l2 v st M Q hl => w_istore_n (show ins 137 6 = some (.istore_n 2, 1) by decide +kernel) (st1_S rfl rfl hl)
set_option maxRecDepth 100000 in
theorem r_137_7 : ∀ (d : Nat) (l0 l1 : Option Value) (v : Int32) (st : List Value) (M : Mem) (Q : Outcome → Mem → Prop), Wp d 137 7 [l0, l1, some (.int v)] st M Q = Wp d 137 8 [l0, l1, some (.int v)] (.int v :: st) M Q := fun d l0 l1 v st M Q => wA (show ins 137 7 = some (.iload_n 2, 1) by decide +kernel) rfl
set_option maxRecDepth 100000 in
theorem r_137_8 : ∀ (d : Nat) (ls : Lc) (a : Int32) (st : List Value) (M : Mem) (Q : Outcome → Mem → Prop), Wp d 137 8 ls (.int a :: st) M Q = Br (a ≤ I 0) d 137 30 11 ls st M Q := fun d ls a st M Q => w_if (show ins 137 8 = some (.ifCond .le 22, 3) by decide +kernel) rfl rfl
set_option maxRecDepth 100000 in
theorem r_137_11 : ∀ (d : Nat) (l1 l2 : Option Value) (v : Nat) (st : List Value) (M : Mem) (Q : Outcome → Mem → Prop), Wp d 137 11 [some (.ref v), l1, l2] st M Q = Wp d 137 12 [some (.ref v), l1, l2] (.ref v :: st) M Q := fun d l1 l2 v st M Q => wA (show ins 137 11 = some (.aload_n 0, 1) by decide +kernel) rfl
set_option maxRecDepth 100000 in
theorem r_137_12 : ∀ (d : Nat) (ls : Lc) (a : Nat) (st : List Value) (M : Mem) (Q : Outcome → Mem → Prop), Wp d 137 12 ls (.ref a :: st) M Q = (fk 39 (kO M a) = true ∧ Wp d 137 15 ls (va_rf (mR M 39 a) :: st) M Q) := fun d ls a st M Q => w_getR (show ins 137 12 = some (.getfield 9, 3) by decide +kernel) (show fRes (mC 137) 9 = some (39, 6, false) by decide +kernel) (by decide +kernel)
set_option maxRecDepth 100000 in
theorem r_137_15 : ∀ (d : Nat) (l0 l1 : Option Value) (v : Int32) (st : List Value) (M : Mem) (Q : Outcome → Mem → Prop), Wp d 137 15 [l0, l1, some (.int v)] st M Q = Wp d 137 16 [l0, l1, some (.int v)] (.int v :: st) M Q := fun d l0 l1 v st M Q => wA (show ins 137 15 = some (.iload_n 2, 1) by decide +kernel) rfl
set_option maxRecDepth 100000 in
theorem r_137_16 : ∀ (d : Nat) (ls : Lc) (a : Nat) (j : Int32) (st : List Value) (M : Mem) (Q : Outcome → Mem → Prop), Wp d 137 16 ls (.int j :: .ref a :: st) M Q = ((((kX M a).1 = 4 ∨ (kX M a).1 = 5 ∨ (kX M a).1 = 6 ∨ (kX M a).1 = 7) ∧ inB j (kX M a).2 = true) ∧ Wp d 137 17 ls (va_rf (mQ M a j.toNatClampNeg) :: st) M Q) := fun d ls a j st M Q => w_aaload (show ins 137 16 = some (.aaload, 1) by decide +kernel)
set_option maxRecDepth 100000 in
theorem r_137_17 : ∀ (d : Nat) (ls : Lc) (a : Nat) (st : List Value) (M : Mem) (Q : Outcome → Mem → Prop), (smallR st = true) → Wp d 137 17 ls (.ref a :: st) M Q = ((kO M a = 5 ∧ Ca d 137 17 ls 122 (.ref a :: []) st M Q) ∨ (kO M a = 6 ∧ Ca d 137 17 ls 138 (.ref a :: []) st M Q)) := fun d ls a st M Q h0 => w_virt2 (as := []) (show ins 137 17 = some (.invokevirtual 22, 3) by decide +kernel) (show mRes (mC 137) 22 = some (4, 7, [(5, 122), (6, 138)]) by decide +kernel) (by decide +kernel) rfl (by decide +kernel) (by decide +kernel) (by decide +kernel) (by decide +kernel) (by decide +kernel) h0
set_option maxRecDepth 100000 in
theorem r_137_20 : ∀ (d : Nat) (l0 l2 : Option Value) (v : Int32) (st : List Value) (M : Mem) (Q : Outcome → Mem → Prop), Wp d 137 20 [l0, some (.int v), l2] st M Q = Wp d 137 21 [l0, some (.int v), l2] (.int v :: st) M Q := fun d l0 l2 v st M Q => wA (show ins 137 20 = some (.iload_n 1, 1) by decide +kernel) rfl
set_option maxRecDepth 100000 in
theorem r_137_21 : ∀ (d : Nat) (ls : Lc) (a b : Int32) (st : List Value) (M : Mem) (Q : Outcome → Mem → Prop), Wp d 137 21 ls (.int b :: .int a :: st) M Q = Br (a ≤ b) d 137 30 24 ls st M Q := fun d ls a b st M Q => w_icmp (show ins 137 21 = some (.if_icmp .le 9, 3) by decide +kernel) rfl rfl
set_option maxRecDepth 100000 in
theorem r_137_24 : ∀ (d : Nat) (l0 l1 : Option Value) (z : Int) (st : List Value) (M : Mem) (Q : Outcome → Mem → Prop), (lo l1 = false) → Wp d 137 24 [l0, l1, some (.int (I z))] st M Q = Wp d 137 27 [l0, l1, some (.int (I (z + (-1))))] st M Q := fun d l0 l1 z st M Q hl => w_iinc (show ins 137 24 = some (.iinc 2 (-1), 3) by decide +kernel) rfl (st1_S rfl rfl hl)
set_option maxRecDepth 100000 in
theorem r_137_27 : ∀ (d : Nat) (ls : Lc) (st : List Value) (M : Mem) (Q : Outcome → Mem → Prop), Wp d 137 27 ls st M Q = Wp d 137 7 ls st M Q := fun d ls st M Q => w_goto (show ins 137 27 = some (.goto (-20), 3) by decide +kernel) rfl
set_option maxRecDepth 100000 in
theorem r_137_30 : ∀ (d : Nat) (l1 l2 : Option Value) (v : Nat) (st : List Value) (M : Mem) (Q : Outcome → Mem → Prop), Wp d 137 30 [some (.ref v), l1, l2] st M Q = Wp d 137 31 [some (.ref v), l1, l2] (.ref v :: st) M Q := fun d l1 l2 v st M Q => wA (show ins 137 30 = some (.aload_n 0, 1) by decide +kernel) rfl
set_option maxRecDepth 100000 in
theorem r_137_31 : ∀ (d : Nat) (ls : Lc) (a : Nat) (st : List Value) (M : Mem) (Q : Outcome → Mem → Prop), Wp d 137 31 ls (.ref a :: st) M Q = (fk 39 (kO M a) = true ∧ Wp d 137 34 ls (va_rf (mR M 39 a) :: st) M Q) := fun d ls a st M Q => w_getR (show ins 137 31 = some (.getfield 9, 3) by decide +kernel) (show fRes (mC 137) 9 = some (39, 6, false) by decide +kernel) (by decide +kernel)
set_option maxRecDepth 100000 in
theorem r_137_34 : ∀ (d : Nat) (l0 l1 : Option Value) (v : Int32) (st : List Value) (M : Mem) (Q : Outcome → Mem → Prop), Wp d 137 34 [l0, l1, some (.int v)] st M Q = Wp d 137 35 [l0, l1, some (.int v)] (.int v :: st) M Q := fun d l0 l1 v st M Q => wA (show ins 137 34 = some (.iload_n 2, 1) by decide +kernel) rfl
set_option maxRecDepth 100000 in
theorem r_137_35 : ∀ (d : Nat) (ls : Lc) (a : Nat) (j : Int32) (st : List Value) (M : Mem) (Q : Outcome → Mem → Prop), Wp d 137 35 ls (.int j :: .ref a :: st) M Q = ((((kX M a).1 = 4 ∨ (kX M a).1 = 5 ∨ (kX M a).1 = 6 ∨ (kX M a).1 = 7) ∧ inB j (kX M a).2 = true) ∧ Wp d 137 36 ls (va_rf (mQ M a j.toNatClampNeg) :: st) M Q) := fun d ls a j st M Q => w_aaload (show ins 137 35 = some (.aaload, 1) by decide +kernel)
set_option maxRecDepth 100000 in
theorem r_137_36 : ∀ (d : Nat) (ls : Lc) (a : Nat) (M : Mem) (Q : Outcome → Mem → Prop), Wp d 137 36 ls [.ref a] M Q = Q (.returned (some (.ref a))) M := fun d ls a M Q => w_areturn (show ins 137 36 = some (.areturn, 1) by decide +kernel) (by decide +kernel)
set_option maxRecDepth 100000 in
theorem r_137_36_1 : ∀ (d : Nat) (ls : Lc) (M : Mem) (Q : Outcome → Mem → Prop), Wp d 137 36 ls [.null] M Q = Q (.returned (some .null)) M := fun d ls M Q => w_areturnN (show ins 137 36 = some (.areturn, 1) by decide +kernel) (by decide +kernel)
set_option maxRecDepth 100000 in
theorem w_137_7 : (type_of% r_137_7) := r_137_7
set_option maxRecDepth 100000 in
theorem W_137 : (type_of% r_137_0) ∧ (type_of% r_137_1) ∧ (type_of% r_137_4) ∧ (type_of% r_137_5) ∧ (type_of% r_137_6) ∧ (type_of% r_137_8) ∧ (type_of% r_137_11) ∧ (type_of% r_137_12) ∧ (type_of% r_137_15) ∧ (type_of% r_137_16) ∧ (type_of% r_137_17) ∧ (type_of% r_137_20) ∧ (type_of% r_137_21) ∧ (type_of% r_137_24) ∧ (type_of% r_137_27) ∧ (type_of% r_137_30) ∧ (type_of% r_137_31) ∧ (type_of% r_137_34) ∧ (type_of% r_137_35) ∧ (type_of% r_137_36) ∧ (type_of% r_137_36_1) := ⟨r_137_0, r_137_1, r_137_4, r_137_5, r_137_6, r_137_8, r_137_11, r_137_12, r_137_15, r_137_16, r_137_17, r_137_20, r_137_21, r_137_24, r_137_27, r_137_30, r_137_31, r_137_34, r_137_35, r_137_36, r_137_36_1⟩
set_option maxRecDepth 100000 in
theorem ca_137 {d y pc : Nat} {ls : Lc} {a : Nat} {z0 : Int32} {r : List Value} {M : Mem} {Q : Outcome → Mem → Prop} (hd : 0 < d) (hw : Wp (d - 1) 137 0 [some (.ref a), some (.int z0), none] [] M (Cq d y pc ls r Q)) : Ca d y pc ls 137 [.ref a, .int z0] r M Q := ca_of (mq_get (by decide)) (by rfl) hd hw
/-! 138 PackedTree$Inner.first()I; loop heads [] -/
set_option maxRecDepth 100000 in
theorem r_138_0 : ∀ (d : Nat) (v : Nat) (st : List Value) (M : Mem) (Q : Outcome → Mem → Prop), Wp d 138 0 [some (.ref v)] st M Q = Wp d 138 1 [some (.ref v)] (.ref v :: st) M Q := fun d v st M Q => wA (show ins 138 0 = some (.aload_n 0, 1) by decide +kernel) rfl
set_option maxRecDepth 100000 in
theorem r_138_1 : ∀ (d : Nat) (ls : Lc) (a : Nat) (st : List Value) (M : Mem) (Q : Outcome → Mem → Prop), Wp d 138 1 ls (.ref a :: st) M Q = (fk 39 (kO M a) = true ∧ Wp d 138 4 ls (va_rf (mR M 39 a) :: st) M Q) := fun d ls a st M Q => w_getR (show ins 138 1 = some (.getfield 9, 3) by decide +kernel) (show fRes (mC 138) 9 = some (39, 6, false) by decide +kernel) (by decide +kernel)
set_option maxRecDepth 100000 in
theorem r_138_4 : ∀ (d : Nat) (ls : Lc) (st : List Value) (M : Mem) (Q : Outcome → Mem → Prop), Wp d 138 4 ls st M Q = Wp d 138 5 ls (.int (I 0) :: st) M Q := fun d ls st M Q => w_iconst (show ins 138 4 = some (.iconst 0, 1) by decide +kernel)
set_option maxRecDepth 100000 in
theorem r_138_5 : ∀ (d : Nat) (ls : Lc) (a : Nat) (j : Int32) (st : List Value) (M : Mem) (Q : Outcome → Mem → Prop), Wp d 138 5 ls (.int j :: .ref a :: st) M Q = ((((kX M a).1 = 4 ∨ (kX M a).1 = 5 ∨ (kX M a).1 = 6 ∨ (kX M a).1 = 7) ∧ inB j (kX M a).2 = true) ∧ Wp d 138 6 ls (va_rf (mQ M a j.toNatClampNeg) :: st) M Q) := fun d ls a j st M Q => w_aaload (show ins 138 5 = some (.aaload, 1) by decide +kernel)
set_option maxRecDepth 100000 in
theorem r_138_6 : ∀ (d : Nat) (ls : Lc) (a : Nat) (st : List Value) (M : Mem) (Q : Outcome → Mem → Prop), (smallR st = true) → Wp d 138 6 ls (.ref a :: st) M Q = ((kO M a = 5 ∧ Ca d 138 6 ls 122 (.ref a :: []) st M Q) ∨ (kO M a = 6 ∧ Ca d 138 6 ls 138 (.ref a :: []) st M Q)) := fun d ls a st M Q h0 => w_virt2 (as := []) (show ins 138 6 = some (.invokevirtual 22, 3) by decide +kernel) (show mRes (mC 138) 22 = some (4, 7, [(5, 122), (6, 138)]) by decide +kernel) (by decide +kernel) rfl (by decide +kernel) (by decide +kernel) (by decide +kernel) (by decide +kernel) (by decide +kernel) h0
set_option maxRecDepth 100000 in
theorem r_138_9 : ∀ (d : Nat) (ls : Lc) (v : Int32) (M : Mem) (Q : Outcome → Mem → Prop), Wp d 138 9 ls [.int v] M Q = Q (.returned (some (.int v))) M := fun d ls v M Q => w_ireturn (show ins 138 9 = some (.ireturn, 1) by decide +kernel) (by decide +kernel)
set_option maxRecDepth 100000 in
theorem W_138 : (type_of% r_138_0) ∧ (type_of% r_138_1) ∧ (type_of% r_138_4) ∧ (type_of% r_138_5) ∧ (type_of% r_138_6) ∧ (type_of% r_138_9) := ⟨r_138_0, r_138_1, r_138_4, r_138_5, r_138_6, r_138_9⟩
set_option maxRecDepth 100000 in
theorem ca_138 {d y pc : Nat} {ls : Lc} {a : Nat} {r : List Value} {M : Mem} {Q : Outcome → Mem → Prop} (hd : 0 < d) (hw : Wp (d - 1) 138 0 [some (.ref a)] [] M (Cq d y pc ls r Q)) : Ca d y pc ls 138 [.ref a] r M Q := ca_of (mq_get (by decide)) (by rfl) hd hw
/-! 139 PackedTree$Inner.height()I; loop heads [] -/
set_option maxRecDepth 100000 in
theorem r_139_0 : ∀ (d : Nat) (v : Nat) (st : List Value) (M : Mem) (Q : Outcome → Mem → Prop), Wp d 139 0 [some (.ref v)] st M Q = Wp d 139 1 [some (.ref v)] (.ref v :: st) M Q := fun d v st M Q => wA (show ins 139 0 = some (.aload_n 0, 1) by decide +kernel) rfl
set_option maxRecDepth 100000 in
theorem r_139_1 : ∀ (d : Nat) (ls : Lc) (a : Nat) (st : List Value) (M : Mem) (Q : Outcome → Mem → Prop), Wp d 139 1 ls (.ref a :: st) M Q = (fk 40 (kO M a) = true ∧ Wp d 139 4 ls (.int (mF M 40 a) :: st) M Q) := fun d ls a st M Q => w_getI (show ins 139 1 = some (.getfield 15, 3) by decide +kernel) (show fRes (mC 139) 15 = some (40, 6, false) by decide +kernel) (by decide +kernel)
set_option maxRecDepth 100000 in
theorem r_139_4 : ∀ (d : Nat) (ls : Lc) (v : Int32) (M : Mem) (Q : Outcome → Mem → Prop), Wp d 139 4 ls [.int v] M Q = Q (.returned (some (.int v))) M := fun d ls v M Q => w_ireturn (show ins 139 4 = some (.ireturn, 1) by decide +kernel) (by decide +kernel)
set_option maxRecDepth 100000 in
theorem W_139 : (type_of% r_139_0) ∧ (type_of% r_139_1) ∧ (type_of% r_139_4) := ⟨r_139_0, r_139_1, r_139_4⟩
set_option maxRecDepth 100000 in
theorem ca_139 {d y pc : Nat} {ls : Lc} {a : Nat} {r : List Value} {M : Mem} {Q : Outcome → Mem → Prop} (hd : 0 < d) (hw : Wp (d - 1) 139 0 [some (.ref a)] [] M (Cq d y pc ls r Q)) : Ca d y pc ls 139 [.ref a] r M Q := ca_of (mq_get (by decide)) (by rfl) hd hw
/-! 140 PackedTree$Inner.<init>(I)V; loop heads [] -/
set_option maxRecDepth 100000 in
theorem r_140_0 : ∀ (d : Nat) (l1 : Option Value) (v : Nat) (st : List Value) (M : Mem) (Q : Outcome → Mem → Prop), Wp d 140 0 [some (.ref v), l1] st M Q = Wp d 140 1 [some (.ref v), l1] (.ref v :: st) M Q := fun d l1 v st M Q => wA (show ins 140 0 = some (.aload_n 0, 1) by decide +kernel) rfl
set_option maxRecDepth 100000 in
theorem r_140_1 : ∀ (d : Nat) (l0 : Option Value) (v : Int32) (st : List Value) (M : Mem) (Q : Outcome → Mem → Prop), Wp d 140 1 [l0, some (.int v)] st M Q = Wp d 140 2 [l0, some (.int v)] (.int v :: st) M Q := fun d l0 v st M Q => wA (show ins 140 1 = some (.iload_n 1, 1) by decide +kernel) rfl
set_option maxRecDepth 100000 in
theorem r_140_2 : ∀ (d : Nat) (ls : Lc) (v0 : Value) (a : Nat) (st : List Value) (M : Mem) (Q : Outcome → Mem → Prop), (smallR st = true) → Wp d 140 2 ls (v0 :: .ref a :: st) M Q = Ca d 140 2 ls 149 (.ref a :: [v0]) st M Q := fun d ls v0 a st M Q h0 => w_spec (as := [v0]) (show ins 140 2 = some (.invokespecial 3, 3) by decide +kernel) (show mRes (mC 140) 3 = some (2, 7, [(0, 149)]) by decide +kernel) (by decide +kernel) rfl h0
set_option maxRecDepth 100000 in
theorem r_140_5 : ∀ (d : Nat) (l1 : Option Value) (v : Nat) (st : List Value) (M : Mem) (Q : Outcome → Mem → Prop), Wp d 140 5 [some (.ref v), l1] st M Q = Wp d 140 6 [some (.ref v), l1] (.ref v :: st) M Q := fun d l1 v st M Q => wA (show ins 140 5 = some (.aload_n 0, 1) by decide +kernel) rfl
set_option maxRecDepth 100000 in
theorem r_140_6 : ∀ (d : Nat) (ls : Lc) (st : List Value) (M : Mem) (Q : Outcome → Mem → Prop), Wp d 140 6 ls st M Q = Wp d 140 8 ls (.int (I 6) :: st) M Q := fun d ls st M Q => w_bipush (show ins 140 6 = some (.bipush 6, 2) by decide +kernel) (by decide)
set_option maxRecDepth 100000 in
theorem r_140_8 : ∀ (d : Nat) (ls : Lc) (n : Int) (st : List Value) (M : Mem) (Q : Outcome → Mem → Prop), (0 ≤ n) → (n ≤ 60000) → Wp d 140 8 ls (.int (I n) :: st) M Q = Wp d 140 11 ls (.ref (mN M) :: st) (nw M (.inr (7, n.toNat)) n.toNat) Q := fun d ls n st M Q h0 h1 => w_anewarray (show ins 140 8 = some (.anewarray 4, 3) by decide +kernel) (show cRes (mC 140) 4 = some 7 by decide +kernel) (by decide +kernel) h0 h1
set_option maxRecDepth 100000 in
theorem r_140_11 : ∀ (d : Nat) (ls : Lc) (a b : Nat) (st : List Value) (M : Mem) (Q : Outcome → Mem → Prop), Wp d 140 11 ls (.ref b :: .ref a :: st) M Q = (fk 39 (kO M a) = true ∧ Wp d 140 14 ls st (sR M 39 a (some b)) Q) := fun d ls a b st M Q => w_putR (v := some b) (show ins 140 11 = some (.putfield 9, 3) by decide +kernel) (show fRes (mC 140) 9 = some (39, 6, false) by decide +kernel) (by decide +kernel) (by decide +kernel)
set_option maxRecDepth 100000 in
theorem r_140_11_1 : ∀ (d : Nat) (ls : Lc) (a : Nat) (st : List Value) (M : Mem) (Q : Outcome → Mem → Prop), Wp d 140 11 ls (.null :: .ref a :: st) M Q = (fk 39 (kO M a) = true ∧ Wp d 140 14 ls st (sR M 39 a none) Q) := fun d ls a st M Q => w_putR (v := none) (show ins 140 11 = some (.putfield 9, 3) by decide +kernel) (show fRes (mC 140) 9 = some (39, 6, false) by decide +kernel) (by decide +kernel) (by decide +kernel)
set_option maxRecDepth 100000 in
theorem r_140_14 : ∀ (d : Nat) (ls : Lc) (M : Mem) (Q : Outcome → Mem → Prop), Wp d 140 14 ls [] M Q = Q (.returned none) M := fun d ls M Q => w_return (show ins 140 14 = some (.return_, 1) by decide +kernel) (by decide +kernel)
set_option maxRecDepth 100000 in
theorem W_140 : (type_of% r_140_0) ∧ (type_of% r_140_1) ∧ (type_of% r_140_2) ∧ (type_of% r_140_5) ∧ (type_of% r_140_6) ∧ (type_of% r_140_8) ∧ (type_of% r_140_11) ∧ (type_of% r_140_11_1) ∧ (type_of% r_140_14) := ⟨r_140_0, r_140_1, r_140_2, r_140_5, r_140_6, r_140_8, r_140_11, r_140_11_1, r_140_14⟩
set_option maxRecDepth 100000 in
theorem ca_140 {d y pc : Nat} {ls : Lc} {a : Nat} {z0 : Int32} {r : List Value} {M : Mem} {Q : Outcome → Mem → Prop} (hd : 0 < d) (hw : Wp (d - 1) 140 0 [some (.ref a), some (.int z0)] [] M (Cq d y pc ls r Q)) : Ca d y pc ls 140 [.ref a, .int z0] r M Q := ca_of (mq_get (by decide)) (by rfl) hd hw
/-! 141 PackedTree$Inner.begin(I)V; loop heads [] -/
set_option maxRecDepth 100000 in
theorem r_141_0 : ∀ (d : Nat) (l1 : Option Value) (v : Nat) (st : List Value) (M : Mem) (Q : Outcome → Mem → Prop), Wp d 141 0 [some (.ref v), l1] st M Q = Wp d 141 1 [some (.ref v), l1] (.ref v :: st) M Q := fun d l1 v st M Q => wA (show ins 141 0 = some (.aload_n 0, 1) by decide +kernel) rfl
set_option maxRecDepth 100000 in
theorem r_141_1 : ∀ (d : Nat) (ls : Lc) (a : Nat) (st : List Value) (M : Mem) (Q : Outcome → Mem → Prop), (smallR st = true) → Wp d 141 1 ls (.ref a :: st) M Q = (kO M a = 6 ∧ Ca d 141 1 ls 150 (.ref a :: []) st M Q) := fun d ls a st M Q h0 => w_virt1 (as := []) (show ins 141 1 = some (.invokevirtual 26, 3) by decide +kernel) (show mRes (mC 141) 26 = some (4, 6, [(6, 150)]) by decide +kernel) (by decide +kernel) rfl (by decide +kernel) (by decide +kernel) h0
set_option maxRecDepth 100000 in
theorem r_141_4 : ∀ (d : Nat) (l1 : Option Value) (v : Nat) (st : List Value) (M : Mem) (Q : Outcome → Mem → Prop), Wp d 141 4 [some (.ref v), l1] st M Q = Wp d 141 5 [some (.ref v), l1] (.ref v :: st) M Q := fun d l1 v st M Q => wA (show ins 141 4 = some (.aload_n 0, 1) by decide +kernel) rfl
set_option maxRecDepth 100000 in
theorem r_141_5 : ∀ (d : Nat) (ls : Lc) (st : List Value) (M : Mem) (Q : Outcome → Mem → Prop), Wp d 141 5 ls st M Q = Wp d 141 6 ls (.int (I 0) :: st) M Q := fun d ls st M Q => w_iconst (show ins 141 5 = some (.iconst 0, 1) by decide +kernel)
set_option maxRecDepth 100000 in
theorem r_141_6 : ∀ (d : Nat) (ls : Lc) (a : Nat) (v : Int32) (st : List Value) (M : Mem) (Q : Outcome → Mem → Prop), Wp d 141 6 ls (.int v :: .ref a :: st) M Q = (fk 41 (kO M a) = true ∧ Wp d 141 9 ls st (sF M 41 a v) Q) := fun d ls a v st M Q => w_putI (show ins 141 6 = some (.putfield 19, 3) by decide +kernel) (show fRes (mC 141) 19 = some (41, 6, false) by decide +kernel) (by decide +kernel) (by decide +kernel)
set_option maxRecDepth 100000 in
theorem r_141_9 : ∀ (d : Nat) (l1 : Option Value) (v : Nat) (st : List Value) (M : Mem) (Q : Outcome → Mem → Prop), Wp d 141 9 [some (.ref v), l1] st M Q = Wp d 141 10 [some (.ref v), l1] (.ref v :: st) M Q := fun d l1 v st M Q => wA (show ins 141 9 = some (.aload_n 0, 1) by decide +kernel) rfl
set_option maxRecDepth 100000 in
theorem r_141_10 : ∀ (d : Nat) (l0 : Option Value) (v : Int32) (st : List Value) (M : Mem) (Q : Outcome → Mem → Prop), Wp d 141 10 [l0, some (.int v)] st M Q = Wp d 141 11 [l0, some (.int v)] (.int v :: st) M Q := fun d l0 v st M Q => wA (show ins 141 10 = some (.iload_n 1, 1) by decide +kernel) rfl
set_option maxRecDepth 100000 in
theorem r_141_11 : ∀ (d : Nat) (ls : Lc) (a : Nat) (v : Int32) (st : List Value) (M : Mem) (Q : Outcome → Mem → Prop), Wp d 141 11 ls (.int v :: .ref a :: st) M Q = (fk 40 (kO M a) = true ∧ Wp d 141 14 ls st (sF M 40 a v) Q) := fun d ls a v st M Q => w_putI (show ins 141 11 = some (.putfield 15, 3) by decide +kernel) (show fRes (mC 141) 15 = some (40, 6, false) by decide +kernel) (by decide +kernel) (by decide +kernel)
set_option maxRecDepth 100000 in
theorem r_141_14 : ∀ (d : Nat) (ls : Lc) (M : Mem) (Q : Outcome → Mem → Prop), Wp d 141 14 ls [] M Q = Q (.returned none) M := fun d ls M Q => w_return (show ins 141 14 = some (.return_, 1) by decide +kernel) (by decide +kernel)
set_option maxRecDepth 100000 in
theorem W_141 : (type_of% r_141_0) ∧ (type_of% r_141_1) ∧ (type_of% r_141_4) ∧ (type_of% r_141_5) ∧ (type_of% r_141_6) ∧ (type_of% r_141_9) ∧ (type_of% r_141_10) ∧ (type_of% r_141_11) ∧ (type_of% r_141_14) := ⟨r_141_0, r_141_1, r_141_4, r_141_5, r_141_6, r_141_9, r_141_10, r_141_11, r_141_14⟩
set_option maxRecDepth 100000 in
theorem ca_141 {d y pc : Nat} {ls : Lc} {a : Nat} {z0 : Int32} {r : List Value} {M : Mem} {Q : Outcome → Mem → Prop} (hd : 0 < d) (hw : Wp (d - 1) 141 0 [some (.ref a), some (.int z0)] [] M (Cq d y pc ls r Q)) : Ca d y pc ls 141 [.ref a, .int z0] r M Q := ca_of (mq_get (by decide)) (by rfl) hd hw
/-! 142 PackedTree$Inner.put(ILPackedTree$Node;)V; loop heads [5] -/
set_option maxRecDepth 100000 in
theorem r_142_0 : ∀ (d : Nat) (l1 l2 l3 : Option Value) (v : Nat) (st : List Value) (M : Mem) (Q : Outcome → Mem → Prop), Wp d 142 0 [some (.ref v), l1, l2, l3] st M Q = Wp d 142 1 [some (.ref v), l1, l2, l3] (.ref v :: st) M Q := fun d l1 l2 l3 v st M Q => wA (show ins 142 0 = some (.aload_n 0, 1) by decide +kernel) rfl
set_option maxRecDepth 100000 in
theorem r_142_1 : ∀ (d : Nat) (ls : Lc) (a : Nat) (st : List Value) (M : Mem) (Q : Outcome → Mem → Prop), Wp d 142 1 ls (.ref a :: st) M Q = (fk 41 (kO M a) = true ∧ Wp d 142 4 ls (.int (mF M 41 a) :: st) M Q) := fun d ls a st M Q => w_getI (show ins 142 1 = some (.getfield 19, 3) by decide +kernel) (show fRes (mC 142) 19 = some (41, 6, false) by decide +kernel) (by decide +kernel)
set_option maxRecDepth 100000 in
theorem r_142_4 : ∀ (d : Nat) (l0 l1 l2 l3 : Option Value) (v : Int32) (st : List Value) (M : Mem) (Q : Outcome → Mem → Prop), (lo l2 = false) → Wp d 142 4 [l0, l1, l2, l3] (.int v :: st) M Q = Wp d 142 5 [l0, l1, l2, some (.int v)] st M Q := fun d l0 l1 l2 l3 v st M Q hl => w_istore_n (show ins 142 4 = some (.istore_n 3, 1) by decide +kernel) (st1_S rfl rfl hl)
set_option maxRecDepth 100000 in
theorem r_142_5 : ∀ (d : Nat) (l0 l1 l2 : Option Value) (v : Int32) (st : List Value) (M : Mem) (Q : Outcome → Mem → Prop), Wp d 142 5 [l0, l1, l2, some (.int v)] st M Q = Wp d 142 6 [l0, l1, l2, some (.int v)] (.int v :: st) M Q := fun d l0 l1 l2 v st M Q => wA (show ins 142 5 = some (.iload_n 3, 1) by decide +kernel) rfl
set_option maxRecDepth 100000 in
theorem r_142_6 : ∀ (d : Nat) (l0 l2 l3 : Option Value) (v : Int32) (st : List Value) (M : Mem) (Q : Outcome → Mem → Prop), Wp d 142 6 [l0, some (.int v), l2, l3] st M Q = Wp d 142 7 [l0, some (.int v), l2, l3] (.int v :: st) M Q := fun d l0 l2 l3 v st M Q => wA (show ins 142 6 = some (.iload_n 1, 1) by decide +kernel) rfl
set_option maxRecDepth 100000 in
theorem r_142_7 : ∀ (d : Nat) (ls : Lc) (a b : Int32) (st : List Value) (M : Mem) (Q : Outcome → Mem → Prop), Wp d 142 7 ls (.int b :: .int a :: st) M Q = Br (a ≤ b) d 142 30 10 ls st M Q := fun d ls a b st M Q => w_icmp (show ins 142 7 = some (.if_icmp .le 23, 3) by decide +kernel) rfl rfl
set_option maxRecDepth 100000 in
theorem r_142_10 : ∀ (d : Nat) (l1 l2 l3 : Option Value) (v : Nat) (st : List Value) (M : Mem) (Q : Outcome → Mem → Prop), Wp d 142 10 [some (.ref v), l1, l2, l3] st M Q = Wp d 142 11 [some (.ref v), l1, l2, l3] (.ref v :: st) M Q := fun d l1 l2 l3 v st M Q => wA (show ins 142 10 = some (.aload_n 0, 1) by decide +kernel) rfl
set_option maxRecDepth 100000 in
theorem r_142_11 : ∀ (d : Nat) (ls : Lc) (a : Nat) (st : List Value) (M : Mem) (Q : Outcome → Mem → Prop), Wp d 142 11 ls (.ref a :: st) M Q = (fk 39 (kO M a) = true ∧ Wp d 142 14 ls (va_rf (mR M 39 a) :: st) M Q) := fun d ls a st M Q => w_getR (show ins 142 11 = some (.getfield 9, 3) by decide +kernel) (show fRes (mC 142) 9 = some (39, 6, false) by decide +kernel) (by decide +kernel)
set_option maxRecDepth 100000 in
theorem r_142_14 : ∀ (d : Nat) (l0 l1 l2 : Option Value) (v : Int32) (st : List Value) (M : Mem) (Q : Outcome → Mem → Prop), Wp d 142 14 [l0, l1, l2, some (.int v)] st M Q = Wp d 142 15 [l0, l1, l2, some (.int v)] (.int v :: st) M Q := fun d l0 l1 l2 v st M Q => wA (show ins 142 14 = some (.iload_n 3, 1) by decide +kernel) rfl
set_option maxRecDepth 100000 in
theorem r_142_15 : ∀ (d : Nat) (l1 l2 l3 : Option Value) (v : Nat) (st : List Value) (M : Mem) (Q : Outcome → Mem → Prop), Wp d 142 15 [some (.ref v), l1, l2, l3] st M Q = Wp d 142 16 [some (.ref v), l1, l2, l3] (.ref v :: st) M Q := fun d l1 l2 l3 v st M Q => wA (show ins 142 15 = some (.aload_n 0, 1) by decide +kernel) rfl
set_option maxRecDepth 100000 in
theorem r_142_16 : ∀ (d : Nat) (ls : Lc) (a : Nat) (st : List Value) (M : Mem) (Q : Outcome → Mem → Prop), Wp d 142 16 ls (.ref a :: st) M Q = (fk 39 (kO M a) = true ∧ Wp d 142 19 ls (va_rf (mR M 39 a) :: st) M Q) := fun d ls a st M Q => w_getR (show ins 142 16 = some (.getfield 9, 3) by decide +kernel) (show fRes (mC 142) 9 = some (39, 6, false) by decide +kernel) (by decide +kernel)
set_option maxRecDepth 100000 in
theorem r_142_19 : ∀ (d : Nat) (l0 l1 l2 : Option Value) (v : Int32) (st : List Value) (M : Mem) (Q : Outcome → Mem → Prop), Wp d 142 19 [l0, l1, l2, some (.int v)] st M Q = Wp d 142 20 [l0, l1, l2, some (.int v)] (.int v :: st) M Q := fun d l0 l1 l2 v st M Q => wA (show ins 142 19 = some (.iload_n 3, 1) by decide +kernel) rfl
set_option maxRecDepth 100000 in
theorem r_142_20 : ∀ (d : Nat) (ls : Lc) (st : List Value) (M : Mem) (Q : Outcome → Mem → Prop), Wp d 142 20 ls st M Q = Wp d 142 21 ls (.int (I 1) :: st) M Q := fun d ls st M Q => w_iconst (show ins 142 20 = some (.iconst 1, 1) by decide +kernel)
set_option maxRecDepth 100000 in
theorem r_142_21 : ∀ (d : Nat) (ls : Lc) (a b : Int) (st : List Value) (M : Mem) (Q : Outcome → Mem → Prop), Wp d 142 21 ls (.int (I b) :: .int (I a) :: st) M Q = Wp d 142 22 ls (.int (I (a - b)) :: st) M Q := fun d ls a b st M Q => w_isub (show ins 142 21 = some (.isub, 1) by decide +kernel)
set_option maxRecDepth 100000 in
theorem r_142_22 : ∀ (d : Nat) (ls : Lc) (a : Nat) (j : Int32) (st : List Value) (M : Mem) (Q : Outcome → Mem → Prop), Wp d 142 22 ls (.int j :: .ref a :: st) M Q = ((((kX M a).1 = 4 ∨ (kX M a).1 = 5 ∨ (kX M a).1 = 6 ∨ (kX M a).1 = 7) ∧ inB j (kX M a).2 = true) ∧ Wp d 142 23 ls (va_rf (mQ M a j.toNatClampNeg) :: st) M Q) := fun d ls a j st M Q => w_aaload (show ins 142 22 = some (.aaload, 1) by decide +kernel)
set_option maxRecDepth 100000 in
theorem r_142_23 : ∀ (d : Nat) (ls : Lc) (a : Nat) (j : Int32) (st : List Value) (M : Mem) (Q : Outcome → Mem → Prop), Wp d 142 23 ls (.null :: .int j :: .ref a :: st) M Q = ((((kX M a).1 = 5 ∨ (kX M a).1 = 6 ∨ (kX M a).1 = 7) ∧ inB j (kX M a).2 = true) ∧ Wp d 142 24 ls st (sQ M a j.toNatClampNeg none) Q) := fun d ls a j st M Q => w_aastoreN (show ins 142 23 = some (.aastore, 1) by decide +kernel)
set_option maxRecDepth 100000 in
theorem r_142_23_1 : ∀ (d : Nat) (ls : Lc) (a v : Nat) (j : Int32) (st : List Value) (M : Mem) (Q : Outcome → Mem → Prop), Wp d 142 23 ls (.ref v :: .int j :: .ref a :: st) M Q = ((fitQ (kX M a).1 (kO M v) = true ∧ inB j (kX M a).2 = true) ∧ Wp d 142 24 ls st (sQ M a j.toNatClampNeg (some v)) Q) := fun d ls a v j st M Q => w_aastore (show ins 142 23 = some (.aastore, 1) by decide +kernel)
set_option maxRecDepth 100000 in
theorem r_142_24 : ∀ (d : Nat) (l0 l1 l2 : Option Value) (z : Int) (st : List Value) (M : Mem) (Q : Outcome → Mem → Prop), (lo l2 = false) → Wp d 142 24 [l0, l1, l2, some (.int (I z))] st M Q = Wp d 142 27 [l0, l1, l2, some (.int (I (z + (-1))))] st M Q := fun d l0 l1 l2 z st M Q hl => w_iinc (show ins 142 24 = some (.iinc 3 (-1), 3) by decide +kernel) rfl (st1_S rfl rfl hl)
set_option maxRecDepth 100000 in
theorem r_142_27 : ∀ (d : Nat) (ls : Lc) (st : List Value) (M : Mem) (Q : Outcome → Mem → Prop), Wp d 142 27 ls st M Q = Wp d 142 5 ls st M Q := fun d ls st M Q => w_goto (show ins 142 27 = some (.goto (-22), 3) by decide +kernel) rfl
set_option maxRecDepth 100000 in
theorem r_142_30 : ∀ (d : Nat) (l1 l2 l3 : Option Value) (v : Nat) (st : List Value) (M : Mem) (Q : Outcome → Mem → Prop), Wp d 142 30 [some (.ref v), l1, l2, l3] st M Q = Wp d 142 31 [some (.ref v), l1, l2, l3] (.ref v :: st) M Q := fun d l1 l2 l3 v st M Q => wA (show ins 142 30 = some (.aload_n 0, 1) by decide +kernel) rfl
set_option maxRecDepth 100000 in
theorem r_142_31 : ∀ (d : Nat) (ls : Lc) (a : Nat) (st : List Value) (M : Mem) (Q : Outcome → Mem → Prop), Wp d 142 31 ls (.ref a :: st) M Q = (fk 39 (kO M a) = true ∧ Wp d 142 34 ls (va_rf (mR M 39 a) :: st) M Q) := fun d ls a st M Q => w_getR (show ins 142 31 = some (.getfield 9, 3) by decide +kernel) (show fRes (mC 142) 9 = some (39, 6, false) by decide +kernel) (by decide +kernel)
set_option maxRecDepth 100000 in
theorem r_142_34 : ∀ (d : Nat) (l0 l2 l3 : Option Value) (v : Int32) (st : List Value) (M : Mem) (Q : Outcome → Mem → Prop), Wp d 142 34 [l0, some (.int v), l2, l3] st M Q = Wp d 142 35 [l0, some (.int v), l2, l3] (.int v :: st) M Q := fun d l0 l2 l3 v st M Q => wA (show ins 142 34 = some (.iload_n 1, 1) by decide +kernel) rfl
set_option maxRecDepth 100000 in
theorem r_142_35 : ∀ (d : Nat) (l0 l1 l3 : Option Value) (v : Nat) (st : List Value) (M : Mem) (Q : Outcome → Mem → Prop), Wp d 142 35 [l0, l1, some (.ref v), l3] st M Q = Wp d 142 36 [l0, l1, some (.ref v), l3] (.ref v :: st) M Q := fun d l0 l1 l3 v st M Q => wA (show ins 142 35 = some (.aload_n 2, 1) by decide +kernel) rfl
set_option maxRecDepth 100000 in
theorem r_142_35_1 : ∀ (d : Nat) (l0 l1 l3 : Option Value) (st : List Value) (M : Mem) (Q : Outcome → Mem → Prop), Wp d 142 35 [l0, l1, some .null, l3] st M Q = Wp d 142 36 [l0, l1, some .null, l3] (.null :: st) M Q := fun d l0 l1 l3 st M Q => wA (show ins 142 35 = some (.aload_n 2, 1) by decide +kernel) rfl
set_option maxRecDepth 100000 in
theorem r_142_36 : ∀ (d : Nat) (ls : Lc) (a : Nat) (j : Int32) (st : List Value) (M : Mem) (Q : Outcome → Mem → Prop), Wp d 142 36 ls (.null :: .int j :: .ref a :: st) M Q = ((((kX M a).1 = 5 ∨ (kX M a).1 = 6 ∨ (kX M a).1 = 7) ∧ inB j (kX M a).2 = true) ∧ Wp d 142 37 ls st (sQ M a j.toNatClampNeg none) Q) := fun d ls a j st M Q => w_aastoreN (show ins 142 36 = some (.aastore, 1) by decide +kernel)
set_option maxRecDepth 100000 in
theorem r_142_36_1 : ∀ (d : Nat) (ls : Lc) (a v : Nat) (j : Int32) (st : List Value) (M : Mem) (Q : Outcome → Mem → Prop), Wp d 142 36 ls (.ref v :: .int j :: .ref a :: st) M Q = ((fitQ (kX M a).1 (kO M v) = true ∧ inB j (kX M a).2 = true) ∧ Wp d 142 37 ls st (sQ M a j.toNatClampNeg (some v)) Q) := fun d ls a v j st M Q => w_aastore (show ins 142 36 = some (.aastore, 1) by decide +kernel)
set_option maxRecDepth 100000 in
theorem r_142_37 : ∀ (d : Nat) (l0 l1 l3 : Option Value) (v : Nat) (st : List Value) (M : Mem) (Q : Outcome → Mem → Prop), Wp d 142 37 [l0, l1, some (.ref v), l3] st M Q = Wp d 142 38 [l0, l1, some (.ref v), l3] (.ref v :: st) M Q := fun d l0 l1 l3 v st M Q => wA (show ins 142 37 = some (.aload_n 2, 1) by decide +kernel) rfl
set_option maxRecDepth 100000 in
theorem r_142_37_1 : ∀ (d : Nat) (l0 l1 l3 : Option Value) (st : List Value) (M : Mem) (Q : Outcome → Mem → Prop), Wp d 142 37 [l0, l1, some .null, l3] st M Q = Wp d 142 38 [l0, l1, some .null, l3] (.null :: st) M Q := fun d l0 l1 l3 st M Q => wA (show ins 142 37 = some (.aload_n 2, 1) by decide +kernel) rfl
set_option maxRecDepth 100000 in
theorem r_142_38 : ∀ (d : Nat) (l1 l2 l3 : Option Value) (v : Nat) (st : List Value) (M : Mem) (Q : Outcome → Mem → Prop), Wp d 142 38 [some (.ref v), l1, l2, l3] st M Q = Wp d 142 39 [some (.ref v), l1, l2, l3] (.ref v :: st) M Q := fun d l1 l2 l3 v st M Q => wA (show ins 142 38 = some (.aload_n 0, 1) by decide +kernel) rfl
set_option maxRecDepth 100000 in
theorem r_142_39 : ∀ (d : Nat) (ls : Lc) (a b : Nat) (st : List Value) (M : Mem) (Q : Outcome → Mem → Prop), Wp d 142 39 ls (.ref b :: .ref a :: st) M Q = (fk 33 (kO M a) = true ∧ Wp d 142 42 ls st (sR M 33 a (some b)) Q) := fun d ls a b st M Q => w_putR (v := some b) (show ins 142 39 = some (.putfield 30, 3) by decide +kernel) (show fRes (mC 142) 30 = some (33, 7, false) by decide +kernel) (by decide +kernel) (by decide +kernel)
set_option maxRecDepth 100000 in
theorem r_142_39_1 : ∀ (d : Nat) (ls : Lc) (a : Nat) (st : List Value) (M : Mem) (Q : Outcome → Mem → Prop), Wp d 142 39 ls (.null :: .ref a :: st) M Q = (fk 33 (kO M a) = true ∧ Wp d 142 42 ls st (sR M 33 a none) Q) := fun d ls a st M Q => w_putR (v := none) (show ins 142 39 = some (.putfield 30, 3) by decide +kernel) (show fRes (mC 142) 30 = some (33, 7, false) by decide +kernel) (by decide +kernel) (by decide +kernel)
set_option maxRecDepth 100000 in
theorem r_142_42 : ∀ (d : Nat) (l1 l2 l3 : Option Value) (v : Nat) (st : List Value) (M : Mem) (Q : Outcome → Mem → Prop), Wp d 142 42 [some (.ref v), l1, l2, l3] st M Q = Wp d 142 43 [some (.ref v), l1, l2, l3] (.ref v :: st) M Q := fun d l1 l2 l3 v st M Q => wA (show ins 142 42 = some (.aload_n 0, 1) by decide +kernel) rfl
set_option maxRecDepth 100000 in
theorem r_142_43 : ∀ (d : Nat) (ls : Lc) (v : Nat) (st : List Value) (M : Mem) (Q : Outcome → Mem → Prop), Wp d 142 43 ls (.ref v :: st) M Q = Wp d 142 44 ls (.ref v :: .ref v :: st) M Q := fun d ls v st M Q => wA (show ins 142 43 = some (.dup, 1) by decide +kernel) rfl
set_option maxRecDepth 100000 in
theorem r_142_43_1 : ∀ (d : Nat) (ls : Lc) (v : Int32) (st : List Value) (M : Mem) (Q : Outcome → Mem → Prop), Wp d 142 43 ls (.int v :: st) M Q = Wp d 142 44 ls (.int v :: .int v :: st) M Q := fun d ls v st M Q => wA (show ins 142 43 = some (.dup, 1) by decide +kernel) rfl
set_option maxRecDepth 100000 in
theorem r_142_44 : ∀ (d : Nat) (ls : Lc) (a : Nat) (st : List Value) (M : Mem) (Q : Outcome → Mem → Prop), Wp d 142 44 ls (.ref a :: st) M Q = (fk 41 (kO M a) = true ∧ Wp d 142 47 ls (.int (mF M 41 a) :: st) M Q) := fun d ls a st M Q => w_getI (show ins 142 44 = some (.getfield 19, 3) by decide +kernel) (show fRes (mC 142) 19 = some (41, 6, false) by decide +kernel) (by decide +kernel)
set_option maxRecDepth 100000 in
theorem r_142_47 : ∀ (d : Nat) (ls : Lc) (st : List Value) (M : Mem) (Q : Outcome → Mem → Prop), Wp d 142 47 ls st M Q = Wp d 142 48 ls (.int (I 1) :: st) M Q := fun d ls st M Q => w_iconst (show ins 142 47 = some (.iconst 1, 1) by decide +kernel)
set_option maxRecDepth 100000 in
theorem r_142_48 : ∀ (d : Nat) (ls : Lc) (a b : Int) (st : List Value) (M : Mem) (Q : Outcome → Mem → Prop), Wp d 142 48 ls (.int (I b) :: .int (I a) :: st) M Q = Wp d 142 49 ls (.int (I (a + b)) :: st) M Q := fun d ls a b st M Q => w_iadd (show ins 142 48 = some (.iadd, 1) by decide +kernel)
set_option maxRecDepth 100000 in
theorem r_142_49 : ∀ (d : Nat) (ls : Lc) (a : Nat) (v : Int32) (st : List Value) (M : Mem) (Q : Outcome → Mem → Prop), Wp d 142 49 ls (.int v :: .ref a :: st) M Q = (fk 41 (kO M a) = true ∧ Wp d 142 52 ls st (sF M 41 a v) Q) := fun d ls a v st M Q => w_putI (show ins 142 49 = some (.putfield 19, 3) by decide +kernel) (show fRes (mC 142) 19 = some (41, 6, false) by decide +kernel) (by decide +kernel) (by decide +kernel)
set_option maxRecDepth 100000 in
theorem r_142_52 : ∀ (d : Nat) (ls : Lc) (M : Mem) (Q : Outcome → Mem → Prop), Wp d 142 52 ls [] M Q = Q (.returned none) M := fun d ls M Q => w_return (show ins 142 52 = some (.return_, 1) by decide +kernel) (by decide +kernel)
set_option maxRecDepth 100000 in
theorem w_142_5 : (type_of% r_142_5) := r_142_5
set_option maxRecDepth 100000 in
theorem W_142 : (type_of% r_142_0) ∧ (type_of% r_142_1) ∧ (type_of% r_142_4) ∧ (type_of% r_142_6) ∧ (type_of% r_142_7) ∧ (type_of% r_142_10) ∧ (type_of% r_142_11) ∧ (type_of% r_142_14) ∧ (type_of% r_142_15) ∧ (type_of% r_142_16) ∧ (type_of% r_142_19) ∧ (type_of% r_142_20) ∧ (type_of% r_142_21) ∧ (type_of% r_142_22) ∧ (type_of% r_142_23) ∧ (type_of% r_142_23_1) ∧ (type_of% r_142_24) ∧ (type_of% r_142_27) ∧ (type_of% r_142_30) ∧ (type_of% r_142_31) ∧ (type_of% r_142_34) ∧ (type_of% r_142_35) ∧ (type_of% r_142_35_1) ∧ (type_of% r_142_36) ∧ (type_of% r_142_36_1) ∧ (type_of% r_142_37) ∧ (type_of% r_142_37_1) ∧ (type_of% r_142_38) ∧ (type_of% r_142_39) ∧ (type_of% r_142_39_1) ∧ (type_of% r_142_42) ∧ (type_of% r_142_43) ∧ (type_of% r_142_43_1) ∧ (type_of% r_142_44) ∧ (type_of% r_142_47) ∧ (type_of% r_142_48) ∧ (type_of% r_142_49) ∧ (type_of% r_142_52) := ⟨r_142_0, r_142_1, r_142_4, r_142_6, r_142_7, r_142_10, r_142_11, r_142_14, r_142_15, r_142_16, r_142_19, r_142_20, r_142_21, r_142_22, r_142_23, r_142_23_1, r_142_24, r_142_27, r_142_30, r_142_31, r_142_34, r_142_35, r_142_35_1, r_142_36, r_142_36_1, r_142_37, r_142_37_1, r_142_38, r_142_39, r_142_39_1, r_142_42, r_142_43, r_142_43_1, r_142_44, r_142_47, r_142_48, r_142_49, r_142_52⟩
set_option maxRecDepth 100000 in
theorem ca_142 {d y pc : Nat} {ls : Lc} {a : Nat} {z0 : Int32} {o1 : Option Nat} {r : List Value} {M : Mem} {Q : Outcome → Mem → Prop} (hd : 0 < d) (hw : Wp (d - 1) 142 0 [some (.ref a), some (.int z0), some (va_rf o1), none] [] M (Cq d y pc ls r Q)) : Ca d y pc ls 142 [.ref a, .int z0, va_rf o1] r M Q := ca_of (mq_get (by decide)) (by cases o1 <;> rfl) hd hw
/-! 143 PackedTree$Inner.at(LPackedTree$Node;)I; loop heads [2] -/
set_option maxRecDepth 100000 in
theorem r_143_0 : ∀ (d : Nat) (ls : Lc) (st : List Value) (M : Mem) (Q : Outcome → Mem → Prop), Wp d 143 0 ls st M Q = Wp d 143 1 ls (.int (I 0) :: st) M Q := fun d ls st M Q => w_iconst (show ins 143 0 = some (.iconst 0, 1) by decide +kernel)
set_option maxRecDepth 100000 in
theorem r_143_1 : ∀ (d : Nat) (l0 l1 l2 : Option Value) (v : Int32) (st : List Value) (M : Mem) (Q : Outcome → Mem → Prop), (lo l1 = false) → Wp d 143 1 [l0, l1, l2] (.int v :: st) M Q = Wp d 143 2 [l0, l1, some (.int v)] st M Q := fun d l0 l1 l2 v st M Q hl => w_istore_n (show ins 143 1 = some (.istore_n 2, 1) by decide +kernel) (st1_S rfl rfl hl)
set_option maxRecDepth 100000 in
theorem r_143_2 : ∀ (d : Nat) (l1 l2 : Option Value) (v : Nat) (st : List Value) (M : Mem) (Q : Outcome → Mem → Prop), Wp d 143 2 [some (.ref v), l1, l2] st M Q = Wp d 143 3 [some (.ref v), l1, l2] (.ref v :: st) M Q := fun d l1 l2 v st M Q => wA (show ins 143 2 = some (.aload_n 0, 1) by decide +kernel) rfl
set_option maxRecDepth 100000 in
theorem r_143_3 : ∀ (d : Nat) (ls : Lc) (a : Nat) (st : List Value) (M : Mem) (Q : Outcome → Mem → Prop), Wp d 143 3 ls (.ref a :: st) M Q = (fk 39 (kO M a) = true ∧ Wp d 143 6 ls (va_rf (mR M 39 a) :: st) M Q) := fun d ls a st M Q => w_getR (show ins 143 3 = some (.getfield 9, 3) by decide +kernel) (show fRes (mC 143) 9 = some (39, 6, false) by decide +kernel) (by decide +kernel)
set_option maxRecDepth 100000 in
theorem r_143_6 : ∀ (d : Nat) (l0 l1 : Option Value) (v : Int32) (st : List Value) (M : Mem) (Q : Outcome → Mem → Prop), Wp d 143 6 [l0, l1, some (.int v)] st M Q = Wp d 143 7 [l0, l1, some (.int v)] (.int v :: st) M Q := fun d l0 l1 v st M Q => wA (show ins 143 6 = some (.iload_n 2, 1) by decide +kernel) rfl
set_option maxRecDepth 100000 in
theorem r_143_7 : ∀ (d : Nat) (ls : Lc) (a : Nat) (j : Int32) (st : List Value) (M : Mem) (Q : Outcome → Mem → Prop), Wp d 143 7 ls (.int j :: .ref a :: st) M Q = ((((kX M a).1 = 4 ∨ (kX M a).1 = 5 ∨ (kX M a).1 = 6 ∨ (kX M a).1 = 7) ∧ inB j (kX M a).2 = true) ∧ Wp d 143 8 ls (va_rf (mQ M a j.toNatClampNeg) :: st) M Q) := fun d ls a j st M Q => w_aaload (show ins 143 7 = some (.aaload, 1) by decide +kernel)
set_option maxRecDepth 100000 in
theorem r_143_8 : ∀ (d : Nat) (l0 l2 : Option Value) (v : Nat) (st : List Value) (M : Mem) (Q : Outcome → Mem → Prop), Wp d 143 8 [l0, some (.ref v), l2] st M Q = Wp d 143 9 [l0, some (.ref v), l2] (.ref v :: st) M Q := fun d l0 l2 v st M Q => wA (show ins 143 8 = some (.aload_n 1, 1) by decide +kernel) rfl
set_option maxRecDepth 100000 in
theorem r_143_8_1 : ∀ (d : Nat) (l0 l2 : Option Value) (st : List Value) (M : Mem) (Q : Outcome → Mem → Prop), Wp d 143 8 [l0, some .null, l2] st M Q = Wp d 143 9 [l0, some .null, l2] (.null :: st) M Q := fun d l0 l2 st M Q => wA (show ins 143 8 = some (.aload_n 1, 1) by decide +kernel) rfl
set_option maxRecDepth 100000 in
theorem r_143_9 : ∀ (d : Nat) (ls : Lc) (a b : Nat) (st : List Value) (M : Mem) (Q : Outcome → Mem → Prop), Wp d 143 9 ls (.ref b :: .ref a :: st) M Q = Br (a = b) d 143 18 12 ls st M Q := fun d ls a b st M Q => w_acmpE (show ins 143 9 = some (.if_acmp .eq 9, 3) by decide +kernel) rfl
set_option maxRecDepth 100000 in
theorem r_143_12 : ∀ (d : Nat) (l0 l1 : Option Value) (z : Int) (st : List Value) (M : Mem) (Q : Outcome → Mem → Prop), (lo l1 = false) → Wp d 143 12 [l0, l1, some (.int (I z))] st M Q = Wp d 143 15 [l0, l1, some (.int (I (z + 1)))] st M Q := fun d l0 l1 z st M Q hl => w_iinc (show ins 143 12 = some (.iinc 2 1, 3) by decide +kernel) rfl (st1_S rfl rfl hl)
set_option maxRecDepth 100000 in
theorem r_143_15 : ∀ (d : Nat) (ls : Lc) (st : List Value) (M : Mem) (Q : Outcome → Mem → Prop), Wp d 143 15 ls st M Q = Wp d 143 2 ls st M Q := fun d ls st M Q => w_goto (show ins 143 15 = some (.goto (-13), 3) by decide +kernel) rfl
set_option maxRecDepth 100000 in
theorem r_143_18 : ∀ (d : Nat) (l0 l1 : Option Value) (v : Int32) (st : List Value) (M : Mem) (Q : Outcome → Mem → Prop), Wp d 143 18 [l0, l1, some (.int v)] st M Q = Wp d 143 19 [l0, l1, some (.int v)] (.int v :: st) M Q := fun d l0 l1 v st M Q => wA (show ins 143 18 = some (.iload_n 2, 1) by decide +kernel) rfl
set_option maxRecDepth 100000 in
theorem r_143_19 : ∀ (d : Nat) (ls : Lc) (v : Int32) (M : Mem) (Q : Outcome → Mem → Prop), Wp d 143 19 ls [.int v] M Q = Q (.returned (some (.int v))) M := fun d ls v M Q => w_ireturn (show ins 143 19 = some (.ireturn, 1) by decide +kernel) (by decide +kernel)
set_option maxRecDepth 100000 in
theorem w_143_2 : (type_of% r_143_2) := r_143_2
set_option maxRecDepth 100000 in
theorem W_143 : (type_of% r_143_0) ∧ (type_of% r_143_1) ∧ (type_of% r_143_3) ∧ (type_of% r_143_6) ∧ (type_of% r_143_7) ∧ (type_of% r_143_8) ∧ (type_of% r_143_8_1) ∧ (type_of% r_143_9) ∧ (type_of% r_143_12) ∧ (type_of% r_143_15) ∧ (type_of% r_143_18) ∧ (type_of% r_143_19) := ⟨r_143_0, r_143_1, r_143_3, r_143_6, r_143_7, r_143_8, r_143_8_1, r_143_9, r_143_12, r_143_15, r_143_18, r_143_19⟩
set_option maxRecDepth 100000 in
theorem ca_143 {d y pc : Nat} {ls : Lc} {a : Nat} {o0 : Option Nat} {r : List Value} {M : Mem} {Q : Outcome → Mem → Prop} (hd : 0 < d) (hw : Wp (d - 1) 143 0 [some (.ref a), some (va_rf o0), none] [] M (Cq d y pc ls r Q)) : Ca d y pc ls 143 [.ref a, va_rf o0] r M Q := ca_of (mq_get (by decide)) (by cases o0 <;> rfl) hd hw
/-! 144 PackedTree$Inner.drop(I)LPackedTree$Node;; loop heads [19] -/
set_option maxRecDepth 100000 in
theorem r_144_0 : ∀ (d : Nat) (l1 l2 l3 : Option Value) (v : Nat) (st : List Value) (M : Mem) (Q : Outcome → Mem → Prop), Wp d 144 0 [some (.ref v), l1, l2, l3] st M Q = Wp d 144 1 [some (.ref v), l1, l2, l3] (.ref v :: st) M Q := fun d l1 l2 l3 v st M Q => wA (show ins 144 0 = some (.aload_n 0, 1) by decide +kernel) rfl
set_option maxRecDepth 100000 in
theorem r_144_1 : ∀ (d : Nat) (ls : Lc) (a : Nat) (st : List Value) (M : Mem) (Q : Outcome → Mem → Prop), Wp d 144 1 ls (.ref a :: st) M Q = (fk 39 (kO M a) = true ∧ Wp d 144 4 ls (va_rf (mR M 39 a) :: st) M Q) := fun d ls a st M Q => w_getR (show ins 144 1 = some (.getfield 9, 3) by decide +kernel) (show fRes (mC 144) 9 = some (39, 6, false) by decide +kernel) (by decide +kernel)
set_option maxRecDepth 100000 in
theorem r_144_4 : ∀ (d : Nat) (l0 l2 l3 : Option Value) (v : Int32) (st : List Value) (M : Mem) (Q : Outcome → Mem → Prop), Wp d 144 4 [l0, some (.int v), l2, l3] st M Q = Wp d 144 5 [l0, some (.int v), l2, l3] (.int v :: st) M Q := fun d l0 l2 l3 v st M Q => wA (show ins 144 4 = some (.iload_n 1, 1) by decide +kernel) rfl
set_option maxRecDepth 100000 in
theorem r_144_5 : ∀ (d : Nat) (ls : Lc) (a : Nat) (j : Int32) (st : List Value) (M : Mem) (Q : Outcome → Mem → Prop), Wp d 144 5 ls (.int j :: .ref a :: st) M Q = ((((kX M a).1 = 4 ∨ (kX M a).1 = 5 ∨ (kX M a).1 = 6 ∨ (kX M a).1 = 7) ∧ inB j (kX M a).2 = true) ∧ Wp d 144 6 ls (va_rf (mQ M a j.toNatClampNeg) :: st) M Q) := fun d ls a j st M Q => w_aaload (show ins 144 5 = some (.aaload, 1) by decide +kernel)
set_option maxRecDepth 100000 in
theorem r_144_6 : ∀ (d : Nat) (l0 l1 l2 l3 : Option Value) (v : Nat) (st : List Value) (M : Mem) (Q : Outcome → Mem → Prop), (lo l1 = false) → Wp d 144 6 [l0, l1, l2, l3] (.ref v :: st) M Q = Wp d 144 7 [l0, l1, some (.ref v), l3] st M Q := fun d l0 l1 l2 l3 v st M Q hl => w_astore_n (show ins 144 6 = some (.astore_n 2, 1) by decide +kernel) (st1_S rfl rfl hl)
set_option maxRecDepth 100000 in
theorem r_144_6_1 : ∀ (d : Nat) (l0 l1 l2 l3 : Option Value) (st : List Value) (M : Mem) (Q : Outcome → Mem → Prop), (lo l1 = false) → Wp d 144 6 [l0, l1, l2, l3] (.null :: st) M Q = Wp d 144 7 [l0, l1, some (.null), l3] st M Q := fun d l0 l1 l2 l3 st M Q hl => w_astoreN_n (show ins 144 6 = some (.astore_n 2, 1) by decide +kernel) (st1_S rfl rfl hl)
set_option maxRecDepth 100000 in
theorem r_144_7 : ∀ (d : Nat) (l1 l2 l3 : Option Value) (v : Nat) (st : List Value) (M : Mem) (Q : Outcome → Mem → Prop), Wp d 144 7 [some (.ref v), l1, l2, l3] st M Q = Wp d 144 8 [some (.ref v), l1, l2, l3] (.ref v :: st) M Q := fun d l1 l2 l3 v st M Q => wA (show ins 144 7 = some (.aload_n 0, 1) by decide +kernel) rfl
set_option maxRecDepth 100000 in
theorem r_144_8 : ∀ (d : Nat) (ls : Lc) (v : Nat) (st : List Value) (M : Mem) (Q : Outcome → Mem → Prop), Wp d 144 8 ls (.ref v :: st) M Q = Wp d 144 9 ls (.ref v :: .ref v :: st) M Q := fun d ls v st M Q => wA (show ins 144 8 = some (.dup, 1) by decide +kernel) rfl
set_option maxRecDepth 100000 in
theorem r_144_8_1 : ∀ (d : Nat) (ls : Lc) (v : Int32) (st : List Value) (M : Mem) (Q : Outcome → Mem → Prop), Wp d 144 8 ls (.int v :: st) M Q = Wp d 144 9 ls (.int v :: .int v :: st) M Q := fun d ls v st M Q => wA (show ins 144 8 = some (.dup, 1) by decide +kernel) rfl
set_option maxRecDepth 100000 in
theorem r_144_9 : ∀ (d : Nat) (ls : Lc) (a : Nat) (st : List Value) (M : Mem) (Q : Outcome → Mem → Prop), Wp d 144 9 ls (.ref a :: st) M Q = (fk 41 (kO M a) = true ∧ Wp d 144 12 ls (.int (mF M 41 a) :: st) M Q) := fun d ls a st M Q => w_getI (show ins 144 9 = some (.getfield 19, 3) by decide +kernel) (show fRes (mC 144) 19 = some (41, 6, false) by decide +kernel) (by decide +kernel)
set_option maxRecDepth 100000 in
theorem r_144_12 : ∀ (d : Nat) (ls : Lc) (st : List Value) (M : Mem) (Q : Outcome → Mem → Prop), Wp d 144 12 ls st M Q = Wp d 144 13 ls (.int (I 1) :: st) M Q := fun d ls st M Q => w_iconst (show ins 144 12 = some (.iconst 1, 1) by decide +kernel)
set_option maxRecDepth 100000 in
theorem r_144_13 : ∀ (d : Nat) (ls : Lc) (a b : Int) (st : List Value) (M : Mem) (Q : Outcome → Mem → Prop), Wp d 144 13 ls (.int (I b) :: .int (I a) :: st) M Q = Wp d 144 14 ls (.int (I (a - b)) :: st) M Q := fun d ls a b st M Q => w_isub (show ins 144 13 = some (.isub, 1) by decide +kernel)
set_option maxRecDepth 100000 in
theorem r_144_14 : ∀ (d : Nat) (ls : Lc) (a : Nat) (v : Int32) (st : List Value) (M : Mem) (Q : Outcome → Mem → Prop), Wp d 144 14 ls (.int v :: .ref a :: st) M Q = (fk 41 (kO M a) = true ∧ Wp d 144 17 ls st (sF M 41 a v) Q) := fun d ls a v st M Q => w_putI (show ins 144 14 = some (.putfield 19, 3) by decide +kernel) (show fRes (mC 144) 19 = some (41, 6, false) by decide +kernel) (by decide +kernel) (by decide +kernel)
set_option maxRecDepth 100000 in
theorem r_144_17 : ∀ (d : Nat) (l0 l2 l3 : Option Value) (v : Int32) (st : List Value) (M : Mem) (Q : Outcome → Mem → Prop), Wp d 144 17 [l0, some (.int v), l2, l3] st M Q = Wp d 144 18 [l0, some (.int v), l2, l3] (.int v :: st) M Q := fun d l0 l2 l3 v st M Q => wA (show ins 144 17 = some (.iload_n 1, 1) by decide +kernel) rfl
set_option maxRecDepth 100000 in
theorem r_144_18 : ∀ (d : Nat) (l0 l1 l2 l3 : Option Value) (v : Int32) (st : List Value) (M : Mem) (Q : Outcome → Mem → Prop), (lo l2 = false) → Wp d 144 18 [l0, l1, l2, l3] (.int v :: st) M Q = Wp d 144 19 [l0, l1, l2, some (.int v)] st M Q := fun d l0 l1 l2 l3 v st M Q hl => w_istore_n (show ins 144 18 = some (.istore_n 3, 1) by decide +kernel) (st1_S rfl rfl hl)
set_option maxRecDepth 100000 in
theorem r_144_19 : ∀ (d : Nat) (l0 l1 l2 : Option Value) (v : Int32) (st : List Value) (M : Mem) (Q : Outcome → Mem → Prop), Wp d 144 19 [l0, l1, l2, some (.int v)] st M Q = Wp d 144 20 [l0, l1, l2, some (.int v)] (.int v :: st) M Q := fun d l0 l1 l2 v st M Q => wA (show ins 144 19 = some (.iload_n 3, 1) by decide +kernel) rfl
set_option maxRecDepth 100000 in
theorem r_144_20 : ∀ (d : Nat) (l1 l2 l3 : Option Value) (v : Nat) (st : List Value) (M : Mem) (Q : Outcome → Mem → Prop), Wp d 144 20 [some (.ref v), l1, l2, l3] st M Q = Wp d 144 21 [some (.ref v), l1, l2, l3] (.ref v :: st) M Q := fun d l1 l2 l3 v st M Q => wA (show ins 144 20 = some (.aload_n 0, 1) by decide +kernel) rfl
set_option maxRecDepth 100000 in
theorem r_144_21 : ∀ (d : Nat) (ls : Lc) (a : Nat) (st : List Value) (M : Mem) (Q : Outcome → Mem → Prop), Wp d 144 21 ls (.ref a :: st) M Q = (fk 41 (kO M a) = true ∧ Wp d 144 24 ls (.int (mF M 41 a) :: st) M Q) := fun d ls a st M Q => w_getI (show ins 144 21 = some (.getfield 19, 3) by decide +kernel) (show fRes (mC 144) 19 = some (41, 6, false) by decide +kernel) (by decide +kernel)
set_option maxRecDepth 100000 in
theorem r_144_24 : ∀ (d : Nat) (ls : Lc) (a b : Int32) (st : List Value) (M : Mem) (Q : Outcome → Mem → Prop), Wp d 144 24 ls (.int b :: .int a :: st) M Q = Br (b ≤ a) d 144 47 27 ls st M Q := fun d ls a b st M Q => w_icmp (show ins 144 24 = some (.if_icmp .ge 23, 3) by decide +kernel) rfl rfl
set_option maxRecDepth 100000 in
theorem r_144_27 : ∀ (d : Nat) (l1 l2 l3 : Option Value) (v : Nat) (st : List Value) (M : Mem) (Q : Outcome → Mem → Prop), Wp d 144 27 [some (.ref v), l1, l2, l3] st M Q = Wp d 144 28 [some (.ref v), l1, l2, l3] (.ref v :: st) M Q := fun d l1 l2 l3 v st M Q => wA (show ins 144 27 = some (.aload_n 0, 1) by decide +kernel) rfl
set_option maxRecDepth 100000 in
theorem r_144_28 : ∀ (d : Nat) (ls : Lc) (a : Nat) (st : List Value) (M : Mem) (Q : Outcome → Mem → Prop), Wp d 144 28 ls (.ref a :: st) M Q = (fk 39 (kO M a) = true ∧ Wp d 144 31 ls (va_rf (mR M 39 a) :: st) M Q) := fun d ls a st M Q => w_getR (show ins 144 28 = some (.getfield 9, 3) by decide +kernel) (show fRes (mC 144) 9 = some (39, 6, false) by decide +kernel) (by decide +kernel)
set_option maxRecDepth 100000 in
theorem r_144_31 : ∀ (d : Nat) (l0 l1 l2 : Option Value) (v : Int32) (st : List Value) (M : Mem) (Q : Outcome → Mem → Prop), Wp d 144 31 [l0, l1, l2, some (.int v)] st M Q = Wp d 144 32 [l0, l1, l2, some (.int v)] (.int v :: st) M Q := fun d l0 l1 l2 v st M Q => wA (show ins 144 31 = some (.iload_n 3, 1) by decide +kernel) rfl
set_option maxRecDepth 100000 in
theorem r_144_32 : ∀ (d : Nat) (l1 l2 l3 : Option Value) (v : Nat) (st : List Value) (M : Mem) (Q : Outcome → Mem → Prop), Wp d 144 32 [some (.ref v), l1, l2, l3] st M Q = Wp d 144 33 [some (.ref v), l1, l2, l3] (.ref v :: st) M Q := fun d l1 l2 l3 v st M Q => wA (show ins 144 32 = some (.aload_n 0, 1) by decide +kernel) rfl
set_option maxRecDepth 100000 in
theorem r_144_33 : ∀ (d : Nat) (ls : Lc) (a : Nat) (st : List Value) (M : Mem) (Q : Outcome → Mem → Prop), Wp d 144 33 ls (.ref a :: st) M Q = (fk 39 (kO M a) = true ∧ Wp d 144 36 ls (va_rf (mR M 39 a) :: st) M Q) := fun d ls a st M Q => w_getR (show ins 144 33 = some (.getfield 9, 3) by decide +kernel) (show fRes (mC 144) 9 = some (39, 6, false) by decide +kernel) (by decide +kernel)
set_option maxRecDepth 100000 in
theorem r_144_36 : ∀ (d : Nat) (l0 l1 l2 : Option Value) (v : Int32) (st : List Value) (M : Mem) (Q : Outcome → Mem → Prop), Wp d 144 36 [l0, l1, l2, some (.int v)] st M Q = Wp d 144 37 [l0, l1, l2, some (.int v)] (.int v :: st) M Q := fun d l0 l1 l2 v st M Q => wA (show ins 144 36 = some (.iload_n 3, 1) by decide +kernel) rfl
set_option maxRecDepth 100000 in
theorem r_144_37 : ∀ (d : Nat) (ls : Lc) (st : List Value) (M : Mem) (Q : Outcome → Mem → Prop), Wp d 144 37 ls st M Q = Wp d 144 38 ls (.int (I 1) :: st) M Q := fun d ls st M Q => w_iconst (show ins 144 37 = some (.iconst 1, 1) by decide +kernel)
set_option maxRecDepth 100000 in
theorem r_144_38 : ∀ (d : Nat) (ls : Lc) (a b : Int) (st : List Value) (M : Mem) (Q : Outcome → Mem → Prop), Wp d 144 38 ls (.int (I b) :: .int (I a) :: st) M Q = Wp d 144 39 ls (.int (I (a + b)) :: st) M Q := fun d ls a b st M Q => w_iadd (show ins 144 38 = some (.iadd, 1) by decide +kernel)
set_option maxRecDepth 100000 in
theorem r_144_39 : ∀ (d : Nat) (ls : Lc) (a : Nat) (j : Int32) (st : List Value) (M : Mem) (Q : Outcome → Mem → Prop), Wp d 144 39 ls (.int j :: .ref a :: st) M Q = ((((kX M a).1 = 4 ∨ (kX M a).1 = 5 ∨ (kX M a).1 = 6 ∨ (kX M a).1 = 7) ∧ inB j (kX M a).2 = true) ∧ Wp d 144 40 ls (va_rf (mQ M a j.toNatClampNeg) :: st) M Q) := fun d ls a j st M Q => w_aaload (show ins 144 39 = some (.aaload, 1) by decide +kernel)
set_option maxRecDepth 100000 in
theorem r_144_40 : ∀ (d : Nat) (ls : Lc) (a : Nat) (j : Int32) (st : List Value) (M : Mem) (Q : Outcome → Mem → Prop), Wp d 144 40 ls (.null :: .int j :: .ref a :: st) M Q = ((((kX M a).1 = 5 ∨ (kX M a).1 = 6 ∨ (kX M a).1 = 7) ∧ inB j (kX M a).2 = true) ∧ Wp d 144 41 ls st (sQ M a j.toNatClampNeg none) Q) := fun d ls a j st M Q => w_aastoreN (show ins 144 40 = some (.aastore, 1) by decide +kernel)
set_option maxRecDepth 100000 in
theorem r_144_40_1 : ∀ (d : Nat) (ls : Lc) (a v : Nat) (j : Int32) (st : List Value) (M : Mem) (Q : Outcome → Mem → Prop), Wp d 144 40 ls (.ref v :: .int j :: .ref a :: st) M Q = ((fitQ (kX M a).1 (kO M v) = true ∧ inB j (kX M a).2 = true) ∧ Wp d 144 41 ls st (sQ M a j.toNatClampNeg (some v)) Q) := fun d ls a v j st M Q => w_aastore (show ins 144 40 = some (.aastore, 1) by decide +kernel)
set_option maxRecDepth 100000 in
theorem r_144_41 : ∀ (d : Nat) (l0 l1 l2 : Option Value) (z : Int) (st : List Value) (M : Mem) (Q : Outcome → Mem → Prop), (lo l2 = false) → Wp d 144 41 [l0, l1, l2, some (.int (I z))] st M Q = Wp d 144 44 [l0, l1, l2, some (.int (I (z + 1)))] st M Q := fun d l0 l1 l2 z st M Q hl => w_iinc (show ins 144 41 = some (.iinc 3 1, 3) by decide +kernel) rfl (st1_S rfl rfl hl)
set_option maxRecDepth 100000 in
theorem r_144_44 : ∀ (d : Nat) (ls : Lc) (st : List Value) (M : Mem) (Q : Outcome → Mem → Prop), Wp d 144 44 ls st M Q = Wp d 144 19 ls st M Q := fun d ls st M Q => w_goto (show ins 144 44 = some (.goto (-25), 3) by decide +kernel) rfl
set_option maxRecDepth 100000 in
theorem r_144_47 : ∀ (d : Nat) (l1 l2 l3 : Option Value) (v : Nat) (st : List Value) (M : Mem) (Q : Outcome → Mem → Prop), Wp d 144 47 [some (.ref v), l1, l2, l3] st M Q = Wp d 144 48 [some (.ref v), l1, l2, l3] (.ref v :: st) M Q := fun d l1 l2 l3 v st M Q => wA (show ins 144 47 = some (.aload_n 0, 1) by decide +kernel) rfl
set_option maxRecDepth 100000 in
theorem r_144_48 : ∀ (d : Nat) (ls : Lc) (a : Nat) (st : List Value) (M : Mem) (Q : Outcome → Mem → Prop), Wp d 144 48 ls (.ref a :: st) M Q = (fk 39 (kO M a) = true ∧ Wp d 144 51 ls (va_rf (mR M 39 a) :: st) M Q) := fun d ls a st M Q => w_getR (show ins 144 48 = some (.getfield 9, 3) by decide +kernel) (show fRes (mC 144) 9 = some (39, 6, false) by decide +kernel) (by decide +kernel)
set_option maxRecDepth 100000 in
theorem r_144_51 : ∀ (d : Nat) (l1 l2 l3 : Option Value) (v : Nat) (st : List Value) (M : Mem) (Q : Outcome → Mem → Prop), Wp d 144 51 [some (.ref v), l1, l2, l3] st M Q = Wp d 144 52 [some (.ref v), l1, l2, l3] (.ref v :: st) M Q := fun d l1 l2 l3 v st M Q => wA (show ins 144 51 = some (.aload_n 0, 1) by decide +kernel) rfl
set_option maxRecDepth 100000 in
theorem r_144_52 : ∀ (d : Nat) (ls : Lc) (a : Nat) (st : List Value) (M : Mem) (Q : Outcome → Mem → Prop), Wp d 144 52 ls (.ref a :: st) M Q = (fk 41 (kO M a) = true ∧ Wp d 144 55 ls (.int (mF M 41 a) :: st) M Q) := fun d ls a st M Q => w_getI (show ins 144 52 = some (.getfield 19, 3) by decide +kernel) (show fRes (mC 144) 19 = some (41, 6, false) by decide +kernel) (by decide +kernel)
set_option maxRecDepth 100000 in
theorem r_144_55 : ∀ (d : Nat) (ls : Lc) (st : List Value) (M : Mem) (Q : Outcome → Mem → Prop), Wp d 144 55 ls st M Q = Wp d 144 56 ls (.null :: st) M Q := fun d ls st M Q => wA (show ins 144 55 = some (.aconst_null, 1) by decide +kernel) rfl
set_option maxRecDepth 100000 in
theorem r_144_56 : ∀ (d : Nat) (ls : Lc) (a : Nat) (j : Int32) (st : List Value) (M : Mem) (Q : Outcome → Mem → Prop), Wp d 144 56 ls (.null :: .int j :: .ref a :: st) M Q = ((((kX M a).1 = 5 ∨ (kX M a).1 = 6 ∨ (kX M a).1 = 7) ∧ inB j (kX M a).2 = true) ∧ Wp d 144 57 ls st (sQ M a j.toNatClampNeg none) Q) := fun d ls a j st M Q => w_aastoreN (show ins 144 56 = some (.aastore, 1) by decide +kernel)
set_option maxRecDepth 100000 in
theorem r_144_56_1 : ∀ (d : Nat) (ls : Lc) (a v : Nat) (j : Int32) (st : List Value) (M : Mem) (Q : Outcome → Mem → Prop), Wp d 144 56 ls (.ref v :: .int j :: .ref a :: st) M Q = ((fitQ (kX M a).1 (kO M v) = true ∧ inB j (kX M a).2 = true) ∧ Wp d 144 57 ls st (sQ M a j.toNatClampNeg (some v)) Q) := fun d ls a v j st M Q => w_aastore (show ins 144 56 = some (.aastore, 1) by decide +kernel)
set_option maxRecDepth 100000 in
theorem r_144_57 : ∀ (d : Nat) (l0 l1 l3 : Option Value) (v : Nat) (st : List Value) (M : Mem) (Q : Outcome → Mem → Prop), Wp d 144 57 [l0, l1, some (.ref v), l3] st M Q = Wp d 144 58 [l0, l1, some (.ref v), l3] (.ref v :: st) M Q := fun d l0 l1 l3 v st M Q => wA (show ins 144 57 = some (.aload_n 2, 1) by decide +kernel) rfl
set_option maxRecDepth 100000 in
theorem r_144_57_1 : ∀ (d : Nat) (l0 l1 l3 : Option Value) (st : List Value) (M : Mem) (Q : Outcome → Mem → Prop), Wp d 144 57 [l0, l1, some .null, l3] st M Q = Wp d 144 58 [l0, l1, some .null, l3] (.null :: st) M Q := fun d l0 l1 l3 st M Q => wA (show ins 144 57 = some (.aload_n 2, 1) by decide +kernel) rfl
set_option maxRecDepth 100000 in
theorem r_144_58 : ∀ (d : Nat) (ls : Lc) (a : Nat) (M : Mem) (Q : Outcome → Mem → Prop), Wp d 144 58 ls [.ref a] M Q = Q (.returned (some (.ref a))) M := fun d ls a M Q => w_areturn (show ins 144 58 = some (.areturn, 1) by decide +kernel) (by decide +kernel)
set_option maxRecDepth 100000 in
theorem r_144_58_1 : ∀ (d : Nat) (ls : Lc) (M : Mem) (Q : Outcome → Mem → Prop), Wp d 144 58 ls [.null] M Q = Q (.returned (some .null)) M := fun d ls M Q => w_areturnN (show ins 144 58 = some (.areturn, 1) by decide +kernel) (by decide +kernel)
set_option maxRecDepth 100000 in
theorem w_144_19 : (type_of% r_144_19) := r_144_19
set_option maxRecDepth 100000 in
theorem W_144 : (type_of% r_144_0) ∧ (type_of% r_144_1) ∧ (type_of% r_144_4) ∧ (type_of% r_144_5) ∧ (type_of% r_144_6) ∧ (type_of% r_144_6_1) ∧ (type_of% r_144_7) ∧ (type_of% r_144_8) ∧ (type_of% r_144_8_1) ∧ (type_of% r_144_9) ∧ (type_of% r_144_12) ∧ (type_of% r_144_13) ∧ (type_of% r_144_14) ∧ (type_of% r_144_17) ∧ (type_of% r_144_18) ∧ (type_of% r_144_20) ∧ (type_of% r_144_21) ∧ (type_of% r_144_24) ∧ (type_of% r_144_27) ∧ (type_of% r_144_28) ∧ (type_of% r_144_31) ∧ (type_of% r_144_32) ∧ (type_of% r_144_33) ∧ (type_of% r_144_36) ∧ (type_of% r_144_37) ∧ (type_of% r_144_38) ∧ (type_of% r_144_39) ∧ (type_of% r_144_40) ∧ (type_of% r_144_40_1) ∧ (type_of% r_144_41) ∧ (type_of% r_144_44) ∧ (type_of% r_144_47) ∧ (type_of% r_144_48) ∧ (type_of% r_144_51) ∧ (type_of% r_144_52) ∧ (type_of% r_144_55) ∧ (type_of% r_144_56) ∧ (type_of% r_144_56_1) ∧ (type_of% r_144_57) ∧ (type_of% r_144_57_1) ∧ (type_of% r_144_58) ∧ (type_of% r_144_58_1) := ⟨r_144_0, r_144_1, r_144_4, r_144_5, r_144_6, r_144_6_1, r_144_7, r_144_8, r_144_8_1, r_144_9, r_144_12, r_144_13, r_144_14, r_144_17, r_144_18, r_144_20, r_144_21, r_144_24, r_144_27, r_144_28, r_144_31, r_144_32, r_144_33, r_144_36, r_144_37, r_144_38, r_144_39, r_144_40, r_144_40_1, r_144_41, r_144_44, r_144_47, r_144_48, r_144_51, r_144_52, r_144_55, r_144_56, r_144_56_1, r_144_57, r_144_57_1, r_144_58, r_144_58_1⟩
set_option maxRecDepth 100000 in
theorem ca_144 {d y pc : Nat} {ls : Lc} {a : Nat} {z0 : Int32} {r : List Value} {M : Mem} {Q : Outcome → Mem → Prop} (hd : 0 < d) (hw : Wp (d - 1) 144 0 [some (.ref a), some (.int z0), none, none] [] M (Cq d y pc ls r Q)) : Ca d y pc ls 144 [.ref a, .int z0] r M Q := ca_of (mq_get (by decide)) (by rfl) hd hw
/-! 145 PackedTree$Inner.hasRoom()Z; loop heads [] -/
set_option maxRecDepth 100000 in
theorem r_145_0 : ∀ (d : Nat) (v : Nat) (st : List Value) (M : Mem) (Q : Outcome → Mem → Prop), Wp d 145 0 [some (.ref v)] st M Q = Wp d 145 1 [some (.ref v)] (.ref v :: st) M Q := fun d v st M Q => wA (show ins 145 0 = some (.aload_n 0, 1) by decide +kernel) rfl
set_option maxRecDepth 100000 in
theorem r_145_1 : ∀ (d : Nat) (ls : Lc) (a : Nat) (st : List Value) (M : Mem) (Q : Outcome → Mem → Prop), Wp d 145 1 ls (.ref a :: st) M Q = (fk 41 (kO M a) = true ∧ Wp d 145 4 ls (.int (mF M 41 a) :: st) M Q) := fun d ls a st M Q => w_getI (show ins 145 1 = some (.getfield 19, 3) by decide +kernel) (show fRes (mC 145) 19 = some (41, 6, false) by decide +kernel) (by decide +kernel)
set_option maxRecDepth 100000 in
theorem r_145_4 : ∀ (d : Nat) (ls : Lc) (st : List Value) (M : Mem) (Q : Outcome → Mem → Prop), Wp d 145 4 ls st M Q = Wp d 145 5 ls (.int (I 5) :: st) M Q := fun d ls st M Q => w_iconst (show ins 145 4 = some (.iconst 5, 1) by decide +kernel)
set_option maxRecDepth 100000 in
theorem r_145_5 : ∀ (d : Nat) (ls : Lc) (a b : Int32) (st : List Value) (M : Mem) (Q : Outcome → Mem → Prop), Wp d 145 5 ls (.int b :: .int a :: st) M Q = Br (b ≤ a) d 145 12 8 ls st M Q := fun d ls a b st M Q => w_icmp (show ins 145 5 = some (.if_icmp .ge 7, 3) by decide +kernel) rfl rfl
set_option maxRecDepth 100000 in
theorem r_145_8 : ∀ (d : Nat) (ls : Lc) (st : List Value) (M : Mem) (Q : Outcome → Mem → Prop), Wp d 145 8 ls st M Q = Wp d 145 9 ls (.int (I 1) :: st) M Q := fun d ls st M Q => w_iconst (show ins 145 8 = some (.iconst 1, 1) by decide +kernel)
set_option maxRecDepth 100000 in
theorem r_145_9 : ∀ (d : Nat) (ls : Lc) (st : List Value) (M : Mem) (Q : Outcome → Mem → Prop), Wp d 145 9 ls st M Q = Wp d 145 13 ls st M Q := fun d ls st M Q => w_goto (show ins 145 9 = some (.goto 4, 3) by decide +kernel) rfl
set_option maxRecDepth 100000 in
theorem r_145_12 : ∀ (d : Nat) (ls : Lc) (st : List Value) (M : Mem) (Q : Outcome → Mem → Prop), Wp d 145 12 ls st M Q = Wp d 145 13 ls (.int (I 0) :: st) M Q := fun d ls st M Q => w_iconst (show ins 145 12 = some (.iconst 0, 1) by decide +kernel)
set_option maxRecDepth 100000 in
theorem r_145_13 : ∀ (d : Nat) (ls : Lc) (z : Int) (M : Mem) (Q : Outcome → Mem → Prop), (z = 0 ∨ z = 1) → Wp d 145 13 ls [.int (I z)] M Q = Q (.returned (some (.int (I z)))) M := fun d ls z M Q h0 => w_zretI (show ins 145 13 = some (.ireturn, 1) by decide +kernel) (by decide +kernel) h0
set_option maxRecDepth 100000 in
theorem r_145_13_1 : ∀ (d : Nat) (ls : Lc) (b : Bool) (M : Mem) (Q : Outcome → Mem → Prop), Wp d 145 13 ls [.int (I (bI b))] M Q = Q (.returned (some (.int (I (bI b))))) M := fun d ls b M Q => w_zretB (show ins 145 13 = some (.ireturn, 1) by decide +kernel) (by decide +kernel)
set_option maxRecDepth 100000 in
theorem W_145 : (type_of% r_145_0) ∧ (type_of% r_145_1) ∧ (type_of% r_145_4) ∧ (type_of% r_145_5) ∧ (type_of% r_145_8) ∧ (type_of% r_145_9) ∧ (type_of% r_145_12) ∧ (type_of% r_145_13) ∧ (type_of% r_145_13_1) := ⟨r_145_0, r_145_1, r_145_4, r_145_5, r_145_8, r_145_9, r_145_12, r_145_13, r_145_13_1⟩
set_option maxRecDepth 100000 in
theorem ca_145 {d y pc : Nat} {ls : Lc} {a : Nat} {r : List Value} {M : Mem} {Q : Outcome → Mem → Prop} (hd : 0 < d) (hw : Wp (d - 1) 145 0 [some (.ref a)] [] M (Cq d y pc ls r Q)) : Ca d y pc ls 145 [.ref a] r M Q := ca_of (mq_get (by decide)) (by rfl) hd hw
/-! 146 PackedTree$Inner.lay([B)V; loop heads [23] -/
set_option maxRecDepth 100000 in
theorem r_146_0 : ∀ (d : Nat) (l0 l2 : Option Value) (v : Nat) (st : List Value) (M : Mem) (Q : Outcome → Mem → Prop), Wp d 146 0 [l0, some (.ref v), l2] st M Q = Wp d 146 1 [l0, some (.ref v), l2] (.ref v :: st) M Q := fun d l0 l2 v st M Q => wA (show ins 146 0 = some (.aload_n 1, 1) by decide +kernel) rfl
set_option maxRecDepth 100000 in
theorem r_146_0_1 : ∀ (d : Nat) (l0 l2 : Option Value) (st : List Value) (M : Mem) (Q : Outcome → Mem → Prop), Wp d 146 0 [l0, some .null, l2] st M Q = Wp d 146 1 [l0, some .null, l2] (.null :: st) M Q := fun d l0 l2 st M Q => wA (show ins 146 0 = some (.aload_n 1, 1) by decide +kernel) rfl
set_option maxRecDepth 100000 in
theorem r_146_1 : ∀ (d : Nat) (ls : Lc) (st : List Value) (M : Mem) (Q : Outcome → Mem → Prop), Wp d 146 1 ls st M Q = Wp d 146 2 ls (.int (I 2) :: st) M Q := fun d ls st M Q => w_iconst (show ins 146 1 = some (.iconst 2, 1) by decide +kernel)
set_option maxRecDepth 100000 in
theorem r_146_2 : ∀ (d : Nat) (ls : Lc) (v0 v1 : Value)  (st : List Value) (M : Mem) (Q : Outcome → Mem → Prop), (smallR st = true) → Wp d 146 2 ls (v1 :: v0 :: st) M Q = Ca d 146 2 ls 26 [v0, v1] st M Q := fun d ls v0 v1 st M Q h0 => w_stat (as := [v0, v1]) (show ins 146 2 = some (.invokestatic 34, 3) by decide +kernel) (show mRes (mC 146) 34 = some (1, 1, [(0, 26)]) by decide +kernel) (by decide +kernel) (by decide +kernel) rfl h0
set_option maxRecDepth 100000 in
theorem r_146_5 : ∀ (d : Nat) (l0 l2 : Option Value) (v : Nat) (st : List Value) (M : Mem) (Q : Outcome → Mem → Prop), Wp d 146 5 [l0, some (.ref v), l2] st M Q = Wp d 146 6 [l0, some (.ref v), l2] (.ref v :: st) M Q := fun d l0 l2 v st M Q => wA (show ins 146 5 = some (.aload_n 1, 1) by decide +kernel) rfl
set_option maxRecDepth 100000 in
theorem r_146_5_1 : ∀ (d : Nat) (l0 l2 : Option Value) (st : List Value) (M : Mem) (Q : Outcome → Mem → Prop), Wp d 146 5 [l0, some .null, l2] st M Q = Wp d 146 6 [l0, some .null, l2] (.null :: st) M Q := fun d l0 l2 st M Q => wA (show ins 146 5 = some (.aload_n 1, 1) by decide +kernel) rfl
set_option maxRecDepth 100000 in
theorem r_146_6 : ∀ (d : Nat) (ls : Lc) (st : List Value) (M : Mem) (Q : Outcome → Mem → Prop), Wp d 146 6 ls st M Q = Wp d 146 7 ls (.int (I 0) :: st) M Q := fun d ls st M Q => w_iconst (show ins 146 6 = some (.iconst 0, 1) by decide +kernel)
set_option maxRecDepth 100000 in
theorem r_146_7 : ∀ (d : Nat) (l1 l2 : Option Value) (v : Nat) (st : List Value) (M : Mem) (Q : Outcome → Mem → Prop), Wp d 146 7 [some (.ref v), l1, l2] st M Q = Wp d 146 8 [some (.ref v), l1, l2] (.ref v :: st) M Q := fun d l1 l2 v st M Q => wA (show ins 146 7 = some (.aload_n 0, 1) by decide +kernel) rfl
set_option maxRecDepth 100000 in
theorem r_146_8 : ∀ (d : Nat) (ls : Lc) (a : Nat) (st : List Value) (M : Mem) (Q : Outcome → Mem → Prop), Wp d 146 8 ls (.ref a :: st) M Q = (fk 40 (kO M a) = true ∧ Wp d 146 11 ls (.int (mF M 40 a) :: st) M Q) := fun d ls a st M Q => w_getI (show ins 146 8 = some (.getfield 15, 3) by decide +kernel) (show fRes (mC 146) 15 = some (40, 6, false) by decide +kernel) (by decide +kernel)
set_option maxRecDepth 100000 in
theorem r_146_11 : ∀ (d : Nat) (ls : Lc) (a : Int32) (st : List Value) (M : Mem) (Q : Outcome → Mem → Prop), Wp d 146 11 ls (.int a :: st) M Q = Wp d 146 12 ls (.int a.toInt8.toInt32 :: st) M Q := fun d ls a st M Q => wA (show ins 146 11 = some (.i2b, 1) by decide +kernel) rfl
set_option maxRecDepth 100000 in
theorem r_146_12 : ∀ (d : Nat) (ls : Lc) (a : Nat) (j v : Int32) (st : List Value) (M : Mem) (Q : Outcome → Mem → Prop), Wp d 146 12 ls (.int v :: .int j :: .ref a :: st) M Q = ((((kX M a).1 = 1 ∨ (kX M a).1 = 2) ∧ inB j (kX M a).2 = true) ∧ Wp d 146 13 ls st (sA M a j.toNatClampNeg (nrw (kX M a).1 v)) Q) := fun d ls a j v st M Q => w_bastore (show ins 146 12 = some (.bastore, 1) by decide +kernel)
set_option maxRecDepth 100000 in
theorem r_146_13 : ∀ (d : Nat) (l0 l2 : Option Value) (v : Nat) (st : List Value) (M : Mem) (Q : Outcome → Mem → Prop), Wp d 146 13 [l0, some (.ref v), l2] st M Q = Wp d 146 14 [l0, some (.ref v), l2] (.ref v :: st) M Q := fun d l0 l2 v st M Q => wA (show ins 146 13 = some (.aload_n 1, 1) by decide +kernel) rfl
set_option maxRecDepth 100000 in
theorem r_146_13_1 : ∀ (d : Nat) (l0 l2 : Option Value) (st : List Value) (M : Mem) (Q : Outcome → Mem → Prop), Wp d 146 13 [l0, some .null, l2] st M Q = Wp d 146 14 [l0, some .null, l2] (.null :: st) M Q := fun d l0 l2 st M Q => wA (show ins 146 13 = some (.aload_n 1, 1) by decide +kernel) rfl
set_option maxRecDepth 100000 in
theorem r_146_14 : ∀ (d : Nat) (ls : Lc) (st : List Value) (M : Mem) (Q : Outcome → Mem → Prop), Wp d 146 14 ls st M Q = Wp d 146 15 ls (.int (I 1) :: st) M Q := fun d ls st M Q => w_iconst (show ins 146 14 = some (.iconst 1, 1) by decide +kernel)
set_option maxRecDepth 100000 in
theorem r_146_15 : ∀ (d : Nat) (l1 l2 : Option Value) (v : Nat) (st : List Value) (M : Mem) (Q : Outcome → Mem → Prop), Wp d 146 15 [some (.ref v), l1, l2] st M Q = Wp d 146 16 [some (.ref v), l1, l2] (.ref v :: st) M Q := fun d l1 l2 v st M Q => wA (show ins 146 15 = some (.aload_n 0, 1) by decide +kernel) rfl
set_option maxRecDepth 100000 in
theorem r_146_16 : ∀ (d : Nat) (ls : Lc) (a : Nat) (st : List Value) (M : Mem) (Q : Outcome → Mem → Prop), Wp d 146 16 ls (.ref a :: st) M Q = (fk 41 (kO M a) = true ∧ Wp d 146 19 ls (.int (mF M 41 a) :: st) M Q) := fun d ls a st M Q => w_getI (show ins 146 16 = some (.getfield 19, 3) by decide +kernel) (show fRes (mC 146) 19 = some (41, 6, false) by decide +kernel) (by decide +kernel)
set_option maxRecDepth 100000 in
theorem r_146_19 : ∀ (d : Nat) (ls : Lc) (a : Int32) (st : List Value) (M : Mem) (Q : Outcome → Mem → Prop), Wp d 146 19 ls (.int a :: st) M Q = Wp d 146 20 ls (.int a.toInt8.toInt32 :: st) M Q := fun d ls a st M Q => wA (show ins 146 19 = some (.i2b, 1) by decide +kernel) rfl
set_option maxRecDepth 100000 in
theorem r_146_20 : ∀ (d : Nat) (ls : Lc) (a : Nat) (j v : Int32) (st : List Value) (M : Mem) (Q : Outcome → Mem → Prop), Wp d 146 20 ls (.int v :: .int j :: .ref a :: st) M Q = ((((kX M a).1 = 1 ∨ (kX M a).1 = 2) ∧ inB j (kX M a).2 = true) ∧ Wp d 146 21 ls st (sA M a j.toNatClampNeg (nrw (kX M a).1 v)) Q) := fun d ls a j v st M Q => w_bastore (show ins 146 20 = some (.bastore, 1) by decide +kernel)
set_option maxRecDepth 100000 in
theorem r_146_21 : ∀ (d : Nat) (ls : Lc) (st : List Value) (M : Mem) (Q : Outcome → Mem → Prop), Wp d 146 21 ls st M Q = Wp d 146 22 ls (.int (I 0) :: st) M Q := fun d ls st M Q => w_iconst (show ins 146 21 = some (.iconst 0, 1) by decide +kernel)
set_option maxRecDepth 100000 in
theorem r_146_22 : ∀ (d : Nat) (l0 l1 l2 : Option Value) (v : Int32) (st : List Value) (M : Mem) (Q : Outcome → Mem → Prop), (lo l1 = false) → Wp d 146 22 [l0, l1, l2] (.int v :: st) M Q = Wp d 146 23 [l0, l1, some (.int v)] st M Q := fun d l0 l1 l2 v st M Q hl => w_istore_n (show ins 146 22 = some (.istore_n 2, 1) by decide +kernel) (st1_S rfl rfl hl)
set_option maxRecDepth 100000 in
theorem r_146_23 : ∀ (d : Nat) (l0 l1 : Option Value) (v : Int32) (st : List Value) (M : Mem) (Q : Outcome → Mem → Prop), Wp d 146 23 [l0, l1, some (.int v)] st M Q = Wp d 146 24 [l0, l1, some (.int v)] (.int v :: st) M Q := fun d l0 l1 v st M Q => wA (show ins 146 23 = some (.iload_n 2, 1) by decide +kernel) rfl
set_option maxRecDepth 100000 in
theorem r_146_24 : ∀ (d : Nat) (l1 l2 : Option Value) (v : Nat) (st : List Value) (M : Mem) (Q : Outcome → Mem → Prop), Wp d 146 24 [some (.ref v), l1, l2] st M Q = Wp d 146 25 [some (.ref v), l1, l2] (.ref v :: st) M Q := fun d l1 l2 v st M Q => wA (show ins 146 24 = some (.aload_n 0, 1) by decide +kernel) rfl
set_option maxRecDepth 100000 in
theorem r_146_25 : ∀ (d : Nat) (ls : Lc) (a : Nat) (st : List Value) (M : Mem) (Q : Outcome → Mem → Prop), Wp d 146 25 ls (.ref a :: st) M Q = (fk 41 (kO M a) = true ∧ Wp d 146 28 ls (.int (mF M 41 a) :: st) M Q) := fun d ls a st M Q => w_getI (show ins 146 25 = some (.getfield 19, 3) by decide +kernel) (show fRes (mC 146) 19 = some (41, 6, false) by decide +kernel) (by decide +kernel)
set_option maxRecDepth 100000 in
theorem r_146_28 : ∀ (d : Nat) (ls : Lc) (a b : Int32) (st : List Value) (M : Mem) (Q : Outcome → Mem → Prop), Wp d 146 28 ls (.int b :: .int a :: st) M Q = Br (b ≤ a) d 146 73 31 ls st M Q := fun d ls a b st M Q => w_icmp (show ins 146 28 = some (.if_icmp .ge 45, 3) by decide +kernel) rfl rfl
set_option maxRecDepth 100000 in
theorem r_146_31 : ∀ (d : Nat) (l0 l2 : Option Value) (v : Nat) (st : List Value) (M : Mem) (Q : Outcome → Mem → Prop), Wp d 146 31 [l0, some (.ref v), l2] st M Q = Wp d 146 32 [l0, some (.ref v), l2] (.ref v :: st) M Q := fun d l0 l2 v st M Q => wA (show ins 146 31 = some (.aload_n 1, 1) by decide +kernel) rfl
set_option maxRecDepth 100000 in
theorem r_146_31_1 : ∀ (d : Nat) (l0 l2 : Option Value) (st : List Value) (M : Mem) (Q : Outcome → Mem → Prop), Wp d 146 31 [l0, some .null, l2] st M Q = Wp d 146 32 [l0, some .null, l2] (.null :: st) M Q := fun d l0 l2 st M Q => wA (show ins 146 31 = some (.aload_n 1, 1) by decide +kernel) rfl
set_option maxRecDepth 100000 in
theorem r_146_32 : ∀ (d : Nat) (ls : Lc) (st : List Value) (M : Mem) (Q : Outcome → Mem → Prop), Wp d 146 32 ls st M Q = Wp d 146 33 ls (.int (I 2) :: st) M Q := fun d ls st M Q => w_iconst (show ins 146 32 = some (.iconst 2, 1) by decide +kernel)
set_option maxRecDepth 100000 in
theorem r_146_33 : ∀ (d : Nat) (ls : Lc) (st : List Value) (M : Mem) (Q : Outcome → Mem → Prop), Wp d 146 33 ls st M Q = Wp d 146 34 ls (.int (I 4) :: st) M Q := fun d ls st M Q => w_iconst (show ins 146 33 = some (.iconst 4, 1) by decide +kernel)
set_option maxRecDepth 100000 in
theorem r_146_34 : ∀ (d : Nat) (l0 l1 : Option Value) (v : Int32) (st : List Value) (M : Mem) (Q : Outcome → Mem → Prop), Wp d 146 34 [l0, l1, some (.int v)] st M Q = Wp d 146 35 [l0, l1, some (.int v)] (.int v :: st) M Q := fun d l0 l1 v st M Q => wA (show ins 146 34 = some (.iload_n 2, 1) by decide +kernel) rfl
set_option maxRecDepth 100000 in
theorem r_146_35 : ∀ (d : Nat) (ls : Lc) (a b : Int) (st : List Value) (M : Mem) (Q : Outcome → Mem → Prop), Wp d 146 35 ls (.int (I b) :: .int (I a) :: st) M Q = Wp d 146 36 ls (.int (I (a * b)) :: st) M Q := fun d ls a b st M Q => w_imul (show ins 146 35 = some (.imul, 1) by decide +kernel)
set_option maxRecDepth 100000 in
theorem r_146_36 : ∀ (d : Nat) (ls : Lc) (a b : Int) (st : List Value) (M : Mem) (Q : Outcome → Mem → Prop), Wp d 146 36 ls (.int (I b) :: .int (I a) :: st) M Q = Wp d 146 37 ls (.int (I (a + b)) :: st) M Q := fun d ls a b st M Q => w_iadd (show ins 146 36 = some (.iadd, 1) by decide +kernel)
set_option maxRecDepth 100000 in
theorem r_146_37 : ∀ (d : Nat) (l1 l2 : Option Value) (v : Nat) (st : List Value) (M : Mem) (Q : Outcome → Mem → Prop), Wp d 146 37 [some (.ref v), l1, l2] st M Q = Wp d 146 38 [some (.ref v), l1, l2] (.ref v :: st) M Q := fun d l1 l2 v st M Q => wA (show ins 146 37 = some (.aload_n 0, 1) by decide +kernel) rfl
set_option maxRecDepth 100000 in
theorem r_146_38 : ∀ (d : Nat) (ls : Lc) (a : Nat) (st : List Value) (M : Mem) (Q : Outcome → Mem → Prop), Wp d 146 38 ls (.ref a :: st) M Q = (fk 39 (kO M a) = true ∧ Wp d 146 41 ls (va_rf (mR M 39 a) :: st) M Q) := fun d ls a st M Q => w_getR (show ins 146 38 = some (.getfield 9, 3) by decide +kernel) (show fRes (mC 146) 9 = some (39, 6, false) by decide +kernel) (by decide +kernel)
set_option maxRecDepth 100000 in
theorem r_146_41 : ∀ (d : Nat) (l0 l1 : Option Value) (v : Int32) (st : List Value) (M : Mem) (Q : Outcome → Mem → Prop), Wp d 146 41 [l0, l1, some (.int v)] st M Q = Wp d 146 42 [l0, l1, some (.int v)] (.int v :: st) M Q := fun d l0 l1 v st M Q => wA (show ins 146 41 = some (.iload_n 2, 1) by decide +kernel) rfl
set_option maxRecDepth 100000 in
theorem r_146_42 : ∀ (d : Nat) (ls : Lc) (a : Nat) (j : Int32) (st : List Value) (M : Mem) (Q : Outcome → Mem → Prop), Wp d 146 42 ls (.int j :: .ref a :: st) M Q = ((((kX M a).1 = 4 ∨ (kX M a).1 = 5 ∨ (kX M a).1 = 6 ∨ (kX M a).1 = 7) ∧ inB j (kX M a).2 = true) ∧ Wp d 146 43 ls (va_rf (mQ M a j.toNatClampNeg) :: st) M Q) := fun d ls a j st M Q => w_aaload (show ins 146 42 = some (.aaload, 1) by decide +kernel)
set_option maxRecDepth 100000 in
theorem r_146_43 : ∀ (d : Nat) (ls : Lc) (a : Nat) (st : List Value) (M : Mem) (Q : Outcome → Mem → Prop), Wp d 146 43 ls (.ref a :: st) M Q = (fk 32 (kO M a) = true ∧ Wp d 146 46 ls (.int (mF M 32 a) :: st) M Q) := fun d ls a st M Q => w_getI (show ins 146 43 = some (.getfield 38, 3) by decide +kernel) (show fRes (mC 146) 38 = some (32, 7, false) by decide +kernel) (by decide +kernel)
set_option maxRecDepth 100000 in
theorem r_146_46 : ∀ (d : Nat) (ls : Lc) (a : Int32) (st : List Value) (M : Mem) (Q : Outcome → Mem → Prop), Wp d 146 46 ls (.int a :: st) M Q = Wp d 146 47 ls (.int a.toInt8.toInt32 :: st) M Q := fun d ls a st M Q => wA (show ins 146 46 = some (.i2b, 1) by decide +kernel) rfl
set_option maxRecDepth 100000 in
theorem r_146_47 : ∀ (d : Nat) (ls : Lc) (a : Nat) (j v : Int32) (st : List Value) (M : Mem) (Q : Outcome → Mem → Prop), Wp d 146 47 ls (.int v :: .int j :: .ref a :: st) M Q = ((((kX M a).1 = 1 ∨ (kX M a).1 = 2) ∧ inB j (kX M a).2 = true) ∧ Wp d 146 48 ls st (sA M a j.toNatClampNeg (nrw (kX M a).1 v)) Q) := fun d ls a j v st M Q => w_bastore (show ins 146 47 = some (.bastore, 1) by decide +kernel)
set_option maxRecDepth 100000 in
theorem r_146_48 : ∀ (d : Nat) (l0 l2 : Option Value) (v : Nat) (st : List Value) (M : Mem) (Q : Outcome → Mem → Prop), Wp d 146 48 [l0, some (.ref v), l2] st M Q = Wp d 146 49 [l0, some (.ref v), l2] (.ref v :: st) M Q := fun d l0 l2 v st M Q => wA (show ins 146 48 = some (.aload_n 1, 1) by decide +kernel) rfl
set_option maxRecDepth 100000 in
theorem r_146_48_1 : ∀ (d : Nat) (l0 l2 : Option Value) (st : List Value) (M : Mem) (Q : Outcome → Mem → Prop), Wp d 146 48 [l0, some .null, l2] st M Q = Wp d 146 49 [l0, some .null, l2] (.null :: st) M Q := fun d l0 l2 st M Q => wA (show ins 146 48 = some (.aload_n 1, 1) by decide +kernel) rfl
set_option maxRecDepth 100000 in
theorem r_146_49 : ∀ (d : Nat) (ls : Lc) (st : List Value) (M : Mem) (Q : Outcome → Mem → Prop), Wp d 146 49 ls st M Q = Wp d 146 50 ls (.int (I 3) :: st) M Q := fun d ls st M Q => w_iconst (show ins 146 49 = some (.iconst 3, 1) by decide +kernel)
set_option maxRecDepth 100000 in
theorem r_146_50 : ∀ (d : Nat) (ls : Lc) (st : List Value) (M : Mem) (Q : Outcome → Mem → Prop), Wp d 146 50 ls st M Q = Wp d 146 51 ls (.int (I 4) :: st) M Q := fun d ls st M Q => w_iconst (show ins 146 50 = some (.iconst 4, 1) by decide +kernel)
set_option maxRecDepth 100000 in
theorem r_146_51 : ∀ (d : Nat) (l0 l1 : Option Value) (v : Int32) (st : List Value) (M : Mem) (Q : Outcome → Mem → Prop), Wp d 146 51 [l0, l1, some (.int v)] st M Q = Wp d 146 52 [l0, l1, some (.int v)] (.int v :: st) M Q := fun d l0 l1 v st M Q => wA (show ins 146 51 = some (.iload_n 2, 1) by decide +kernel) rfl
set_option maxRecDepth 100000 in
theorem r_146_52 : ∀ (d : Nat) (ls : Lc) (a b : Int) (st : List Value) (M : Mem) (Q : Outcome → Mem → Prop), Wp d 146 52 ls (.int (I b) :: .int (I a) :: st) M Q = Wp d 146 53 ls (.int (I (a * b)) :: st) M Q := fun d ls a b st M Q => w_imul (show ins 146 52 = some (.imul, 1) by decide +kernel)
set_option maxRecDepth 100000 in
theorem r_146_53 : ∀ (d : Nat) (ls : Lc) (a b : Int) (st : List Value) (M : Mem) (Q : Outcome → Mem → Prop), Wp d 146 53 ls (.int (I b) :: .int (I a) :: st) M Q = Wp d 146 54 ls (.int (I (a + b)) :: st) M Q := fun d ls a b st M Q => w_iadd (show ins 146 53 = some (.iadd, 1) by decide +kernel)
set_option maxRecDepth 100000 in
theorem r_146_54 : ∀ (d : Nat) (ls : Lc) (st : List Value) (M : Mem) (Q : Outcome → Mem → Prop), Wp d 146 54 ls st M Q = Wp d 146 55 ls (.int (I 3) :: st) M Q := fun d ls st M Q => w_iconst (show ins 146 54 = some (.iconst 3, 1) by decide +kernel)
set_option maxRecDepth 100000 in
theorem r_146_55 : ∀ (d : Nat) (l1 l2 : Option Value) (v : Nat) (st : List Value) (M : Mem) (Q : Outcome → Mem → Prop), Wp d 146 55 [some (.ref v), l1, l2] st M Q = Wp d 146 56 [some (.ref v), l1, l2] (.ref v :: st) M Q := fun d l1 l2 v st M Q => wA (show ins 146 55 = some (.aload_n 0, 1) by decide +kernel) rfl
set_option maxRecDepth 100000 in
theorem r_146_56 : ∀ (d : Nat) (ls : Lc) (a : Nat) (st : List Value) (M : Mem) (Q : Outcome → Mem → Prop), Wp d 146 56 ls (.ref a :: st) M Q = (fk 39 (kO M a) = true ∧ Wp d 146 59 ls (va_rf (mR M 39 a) :: st) M Q) := fun d ls a st M Q => w_getR (show ins 146 56 = some (.getfield 9, 3) by decide +kernel) (show fRes (mC 146) 9 = some (39, 6, false) by decide +kernel) (by decide +kernel)
set_option maxRecDepth 100000 in
theorem r_146_59 : ∀ (d : Nat) (l0 l1 : Option Value) (v : Int32) (st : List Value) (M : Mem) (Q : Outcome → Mem → Prop), Wp d 146 59 [l0, l1, some (.int v)] st M Q = Wp d 146 60 [l0, l1, some (.int v)] (.int v :: st) M Q := fun d l0 l1 v st M Q => wA (show ins 146 59 = some (.iload_n 2, 1) by decide +kernel) rfl
set_option maxRecDepth 100000 in
theorem r_146_60 : ∀ (d : Nat) (ls : Lc) (a : Nat) (j : Int32) (st : List Value) (M : Mem) (Q : Outcome → Mem → Prop), Wp d 146 60 ls (.int j :: .ref a :: st) M Q = ((((kX M a).1 = 4 ∨ (kX M a).1 = 5 ∨ (kX M a).1 = 6 ∨ (kX M a).1 = 7) ∧ inB j (kX M a).2 = true) ∧ Wp d 146 61 ls (va_rf (mQ M a j.toNatClampNeg) :: st) M Q) := fun d ls a j st M Q => w_aaload (show ins 146 60 = some (.aaload, 1) by decide +kernel)
set_option maxRecDepth 100000 in
theorem r_146_61 : ∀ (d : Nat) (ls : Lc) (a : Nat) (st : List Value) (M : Mem) (Q : Outcome → Mem → Prop), (smallR st = true) → Wp d 146 61 ls (.ref a :: st) M Q = ((kO M a = 5 ∧ Ca d 146 61 ls 122 (.ref a :: []) st M Q) ∨ (kO M a = 6 ∧ Ca d 146 61 ls 138 (.ref a :: []) st M Q)) := fun d ls a st M Q h0 => w_virt2 (as := []) (show ins 146 61 = some (.invokevirtual 22, 3) by decide +kernel) (show mRes (mC 146) 22 = some (4, 7, [(5, 122), (6, 138)]) by decide +kernel) (by decide +kernel) rfl (by decide +kernel) (by decide +kernel) (by decide +kernel) (by decide +kernel) (by decide +kernel) h0
set_option maxRecDepth 100000 in
theorem r_146_64 : ∀ (d : Nat) (ls : Lc) (v0 v1 v2 v3 : Value)  (st : List Value) (M : Mem) (Q : Outcome → Mem → Prop), (smallR st = true) → Wp d 146 64 ls (v3 :: v2 :: v1 :: v0 :: st) M Q = Ca d 146 64 ls 23 [v0, v1, v2, v3] st M Q := fun d ls v0 v1 v2 v3 st M Q h0 => w_stat (as := [v0, v1, v2, v3]) (show ins 146 64 = some (.invokestatic 41, 3) by decide +kernel) (show mRes (mC 146) 41 = some (1, 1, [(0, 23)]) by decide +kernel) (by decide +kernel) (by decide +kernel) rfl h0
set_option maxRecDepth 100000 in
theorem r_146_67 : ∀ (d : Nat) (l0 l1 : Option Value) (z : Int) (st : List Value) (M : Mem) (Q : Outcome → Mem → Prop), (lo l1 = false) → Wp d 146 67 [l0, l1, some (.int (I z))] st M Q = Wp d 146 70 [l0, l1, some (.int (I (z + 1)))] st M Q := fun d l0 l1 z st M Q hl => w_iinc (show ins 146 67 = some (.iinc 2 1, 3) by decide +kernel) rfl (st1_S rfl rfl hl)
set_option maxRecDepth 100000 in
theorem r_146_70 : ∀ (d : Nat) (ls : Lc) (st : List Value) (M : Mem) (Q : Outcome → Mem → Prop), Wp d 146 70 ls st M Q = Wp d 146 23 ls st M Q := fun d ls st M Q => w_goto (show ins 146 70 = some (.goto (-47), 3) by decide +kernel) rfl
set_option maxRecDepth 100000 in
theorem r_146_73 : ∀ (d : Nat) (ls : Lc) (M : Mem) (Q : Outcome → Mem → Prop), Wp d 146 73 ls [] M Q = Q (.returned none) M := fun d ls M Q => w_return (show ins 146 73 = some (.return_, 1) by decide +kernel) (by decide +kernel)
set_option maxRecDepth 100000 in
theorem w_146_23 : (type_of% r_146_23) := r_146_23
set_option maxRecDepth 100000 in
theorem W_146 : (type_of% r_146_0) ∧ (type_of% r_146_0_1) ∧ (type_of% r_146_1) ∧ (type_of% r_146_2) ∧ (type_of% r_146_5) ∧ (type_of% r_146_5_1) ∧ (type_of% r_146_6) ∧ (type_of% r_146_7) ∧ (type_of% r_146_8) ∧ (type_of% r_146_11) ∧ (type_of% r_146_12) ∧ (type_of% r_146_13) ∧ (type_of% r_146_13_1) ∧ (type_of% r_146_14) ∧ (type_of% r_146_15) ∧ (type_of% r_146_16) ∧ (type_of% r_146_19) ∧ (type_of% r_146_20) ∧ (type_of% r_146_21) ∧ (type_of% r_146_22) ∧ (type_of% r_146_24) ∧ (type_of% r_146_25) ∧ (type_of% r_146_28) ∧ (type_of% r_146_31) ∧ (type_of% r_146_31_1) ∧ (type_of% r_146_32) ∧ (type_of% r_146_33) ∧ (type_of% r_146_34) ∧ (type_of% r_146_35) ∧ (type_of% r_146_36) ∧ (type_of% r_146_37) ∧ (type_of% r_146_38) ∧ (type_of% r_146_41) ∧ (type_of% r_146_42) ∧ (type_of% r_146_43) ∧ (type_of% r_146_46) ∧ (type_of% r_146_47) ∧ (type_of% r_146_48) ∧ (type_of% r_146_48_1) ∧ (type_of% r_146_49) ∧ (type_of% r_146_50) ∧ (type_of% r_146_51) ∧ (type_of% r_146_52) ∧ (type_of% r_146_53) ∧ (type_of% r_146_54) ∧ (type_of% r_146_55) ∧ (type_of% r_146_56) ∧ (type_of% r_146_59) ∧ (type_of% r_146_60) ∧ (type_of% r_146_61) ∧ (type_of% r_146_64) ∧ (type_of% r_146_67) ∧ (type_of% r_146_70) ∧ (type_of% r_146_73) := ⟨r_146_0, r_146_0_1, r_146_1, r_146_2, r_146_5, r_146_5_1, r_146_6, r_146_7, r_146_8, r_146_11, r_146_12, r_146_13, r_146_13_1, r_146_14, r_146_15, r_146_16, r_146_19, r_146_20, r_146_21, r_146_22, r_146_24, r_146_25, r_146_28, r_146_31, r_146_31_1, r_146_32, r_146_33, r_146_34, r_146_35, r_146_36, r_146_37, r_146_38, r_146_41, r_146_42, r_146_43, r_146_46, r_146_47, r_146_48, r_146_48_1, r_146_49, r_146_50, r_146_51, r_146_52, r_146_53, r_146_54, r_146_55, r_146_56, r_146_59, r_146_60, r_146_61, r_146_64, r_146_67, r_146_70, r_146_73⟩
set_option maxRecDepth 100000 in
theorem ca_146 {d y pc : Nat} {ls : Lc} {a : Nat} {o0 : Option Nat} {r : List Value} {M : Mem} {Q : Outcome → Mem → Prop} (hd : 0 < d) (hw : Wp (d - 1) 146 0 [some (.ref a), some (va_rf o0), none] [] M (Cq d y pc ls r Q)) : Ca d y pc ls 146 [.ref a, va_rf o0] r M Q := ca_of (mq_get (by decide)) (by cases o0 <;> rfl) hd hw
/-! 147 PackedTree$Inner.many()I; loop heads [] -/
set_option maxRecDepth 100000 in
theorem r_147_0 : ∀ (d : Nat) (v : Nat) (st : List Value) (M : Mem) (Q : Outcome → Mem → Prop), Wp d 147 0 [some (.ref v)] st M Q = Wp d 147 1 [some (.ref v)] (.ref v :: st) M Q := fun d v st M Q => wA (show ins 147 0 = some (.aload_n 0, 1) by decide +kernel) rfl
set_option maxRecDepth 100000 in
theorem r_147_1 : ∀ (d : Nat) (ls : Lc) (a : Nat) (st : List Value) (M : Mem) (Q : Outcome → Mem → Prop), Wp d 147 1 ls (.ref a :: st) M Q = (fk 41 (kO M a) = true ∧ Wp d 147 4 ls (.int (mF M 41 a) :: st) M Q) := fun d ls a st M Q => w_getI (show ins 147 1 = some (.getfield 19, 3) by decide +kernel) (show fRes (mC 147) 19 = some (41, 6, false) by decide +kernel) (by decide +kernel)
set_option maxRecDepth 100000 in
theorem r_147_4 : ∀ (d : Nat) (ls : Lc) (v : Int32) (M : Mem) (Q : Outcome → Mem → Prop), Wp d 147 4 ls [.int v] M Q = Q (.returned (some (.int v))) M := fun d ls v M Q => w_ireturn (show ins 147 4 = some (.ireturn, 1) by decide +kernel) (by decide +kernel)
set_option maxRecDepth 100000 in
theorem W_147 : (type_of% r_147_0) ∧ (type_of% r_147_1) ∧ (type_of% r_147_4) := ⟨r_147_0, r_147_1, r_147_4⟩
set_option maxRecDepth 100000 in
theorem ca_147 {d y pc : Nat} {ls : Lc} {a : Nat} {r : List Value} {M : Mem} {Q : Outcome → Mem → Prop} (hd : 0 < d) (hw : Wp (d - 1) 147 0 [some (.ref a)] [] M (Cq d y pc ls r Q)) : Ca d y pc ls 147 [.ref a] r M Q := ca_of (mq_get (by decide)) (by rfl) hd hw
/-! 148 PackedTree$Inner.used()I; loop heads [] -/
set_option maxRecDepth 100000 in
theorem r_148_0 : ∀ (d : Nat) (ls : Lc) (st : List Value) (M : Mem) (Q : Outcome → Mem → Prop), Wp d 148 0 ls st M Q = Wp d 148 1 ls (.int (I 0) :: st) M Q := fun d ls st M Q => w_iconst (show ins 148 0 = some (.iconst 0, 1) by decide +kernel)
set_option maxRecDepth 100000 in
theorem r_148_1 : ∀ (d : Nat) (ls : Lc) (v : Int32) (M : Mem) (Q : Outcome → Mem → Prop), Wp d 148 1 ls [.int v] M Q = Q (.returned (some (.int v))) M := fun d ls v M Q => w_ireturn (show ins 148 1 = some (.ireturn, 1) by decide +kernel) (by decide +kernel)
set_option maxRecDepth 100000 in
theorem W_148 : (type_of% r_148_0) ∧ (type_of% r_148_1) := ⟨r_148_0, r_148_1⟩
set_option maxRecDepth 100000 in
theorem ca_148 {d y pc : Nat} {ls : Lc} {a : Nat} {r : List Value} {M : Mem} {Q : Outcome → Mem → Prop} (hd : 0 < d) (hw : Wp (d - 1) 148 0 [some (.ref a)] [] M (Cq d y pc ls r Q)) : Ca d y pc ls 148 [.ref a] r M Q := ca_of (mq_get (by decide)) (by rfl) hd hw
/-! 149 PackedTree$Node.<init>(I)V; loop heads [] -/
set_option maxRecDepth 100000 in
theorem r_149_0 : ∀ (d : Nat) (l1 : Option Value) (v : Nat) (st : List Value) (M : Mem) (Q : Outcome → Mem → Prop), Wp d 149 0 [some (.ref v), l1] st M Q = Wp d 149 1 [some (.ref v), l1] (.ref v :: st) M Q := fun d l1 v st M Q => wA (show ins 149 0 = some (.aload_n 0, 1) by decide +kernel) rfl
set_option maxRecDepth 100000 in
theorem r_149_1 : ∀ (d : Nat) (ls : Lc) (a : Nat) (st : List Value) (M : Mem) (Q : Outcome → Mem → Prop), (smallR st = true) → Wp d 149 1 ls (.ref a :: st) M Q = Wp d 149 4 ls st M Q := fun d ls a st M Q h0 => w_obj (show ins 149 1 = some (.invokespecial 1, 3) by decide +kernel) (show mRes (mC 149) 1 = some (2, 10, [(0, 232)]) by decide +kernel) h0
set_option maxRecDepth 100000 in
theorem r_149_4 : ∀ (d : Nat) (l1 : Option Value) (v : Nat) (st : List Value) (M : Mem) (Q : Outcome → Mem → Prop), Wp d 149 4 [some (.ref v), l1] st M Q = Wp d 149 5 [some (.ref v), l1] (.ref v :: st) M Q := fun d l1 v st M Q => wA (show ins 149 4 = some (.aload_n 0, 1) by decide +kernel) rfl
set_option maxRecDepth 100000 in
theorem r_149_5 : ∀ (d : Nat) (l0 : Option Value) (v : Int32) (st : List Value) (M : Mem) (Q : Outcome → Mem → Prop), Wp d 149 5 [l0, some (.int v)] st M Q = Wp d 149 6 [l0, some (.int v)] (.int v :: st) M Q := fun d l0 v st M Q => wA (show ins 149 5 = some (.iload_n 1, 1) by decide +kernel) rfl
set_option maxRecDepth 100000 in
theorem r_149_6 : ∀ (d : Nat) (ls : Lc) (a : Nat) (v : Int32) (st : List Value) (M : Mem) (Q : Outcome → Mem → Prop), Wp d 149 6 ls (.int v :: .ref a :: st) M Q = (fk 32 (kO M a) = true ∧ Wp d 149 9 ls st (sF M 32 a v) Q) := fun d ls a v st M Q => w_putI (show ins 149 6 = some (.putfield 7, 3) by decide +kernel) (show fRes (mC 149) 7 = some (32, 7, false) by decide +kernel) (by decide +kernel) (by decide +kernel)
set_option maxRecDepth 100000 in
theorem r_149_9 : ∀ (d : Nat) (ls : Lc) (M : Mem) (Q : Outcome → Mem → Prop), Wp d 149 9 ls [] M Q = Q (.returned none) M := fun d ls M Q => w_return (show ins 149 9 = some (.return_, 1) by decide +kernel) (by decide +kernel)
set_option maxRecDepth 100000 in
theorem W_149 : (type_of% r_149_0) ∧ (type_of% r_149_1) ∧ (type_of% r_149_4) ∧ (type_of% r_149_5) ∧ (type_of% r_149_6) ∧ (type_of% r_149_9) := ⟨r_149_0, r_149_1, r_149_4, r_149_5, r_149_6, r_149_9⟩
set_option maxRecDepth 100000 in
theorem ca_149 {d y pc : Nat} {ls : Lc} {a : Nat} {z0 : Int32} {r : List Value} {M : Mem} {Q : Outcome → Mem → Prop} (hd : 0 < d) (hw : Wp (d - 1) 149 0 [some (.ref a), some (.int z0)] [] M (Cq d y pc ls r Q)) : Ca d y pc ls 149 [.ref a, .int z0] r M Q := ca_of (mq_get (by decide)) (by rfl) hd hw
/-! 150 PackedTree$Node.alone()V; loop heads [] -/
set_option maxRecDepth 100000 in
theorem r_150_0 : ∀ (d : Nat) (v : Nat) (st : List Value) (M : Mem) (Q : Outcome → Mem → Prop), Wp d 150 0 [some (.ref v)] st M Q = Wp d 150 1 [some (.ref v)] (.ref v :: st) M Q := fun d v st M Q => wA (show ins 150 0 = some (.aload_n 0, 1) by decide +kernel) rfl
set_option maxRecDepth 100000 in
theorem r_150_1 : ∀ (d : Nat) (ls : Lc) (st : List Value) (M : Mem) (Q : Outcome → Mem → Prop), Wp d 150 1 ls st M Q = Wp d 150 2 ls (.null :: st) M Q := fun d ls st M Q => wA (show ins 150 1 = some (.aconst_null, 1) by decide +kernel) rfl
set_option maxRecDepth 100000 in
theorem r_150_2 : ∀ (d : Nat) (ls : Lc) (a b : Nat) (st : List Value) (M : Mem) (Q : Outcome → Mem → Prop), Wp d 150 2 ls (.ref b :: .ref a :: st) M Q = (fk 33 (kO M a) = true ∧ Wp d 150 5 ls st (sR M 33 a (some b)) Q) := fun d ls a b st M Q => w_putR (v := some b) (show ins 150 2 = some (.putfield 13, 3) by decide +kernel) (show fRes (mC 150) 13 = some (33, 7, false) by decide +kernel) (by decide +kernel) (by decide +kernel)
set_option maxRecDepth 100000 in
theorem r_150_2_1 : ∀ (d : Nat) (ls : Lc) (a : Nat) (st : List Value) (M : Mem) (Q : Outcome → Mem → Prop), Wp d 150 2 ls (.null :: .ref a :: st) M Q = (fk 33 (kO M a) = true ∧ Wp d 150 5 ls st (sR M 33 a none) Q) := fun d ls a st M Q => w_putR (v := none) (show ins 150 2 = some (.putfield 13, 3) by decide +kernel) (show fRes (mC 150) 13 = some (33, 7, false) by decide +kernel) (by decide +kernel) (by decide +kernel)
set_option maxRecDepth 100000 in
theorem r_150_5 : ∀ (d : Nat) (v : Nat) (st : List Value) (M : Mem) (Q : Outcome → Mem → Prop), Wp d 150 5 [some (.ref v)] st M Q = Wp d 150 6 [some (.ref v)] (.ref v :: st) M Q := fun d v st M Q => wA (show ins 150 5 = some (.aload_n 0, 1) by decide +kernel) rfl
set_option maxRecDepth 100000 in
theorem r_150_6 : ∀ (d : Nat) (ls : Lc) (st : List Value) (M : Mem) (Q : Outcome → Mem → Prop), Wp d 150 6 ls st M Q = Wp d 150 7 ls (.null :: st) M Q := fun d ls st M Q => wA (show ins 150 6 = some (.aconst_null, 1) by decide +kernel) rfl
set_option maxRecDepth 100000 in
theorem r_150_7 : ∀ (d : Nat) (ls : Lc) (a b : Nat) (st : List Value) (M : Mem) (Q : Outcome → Mem → Prop), Wp d 150 7 ls (.ref b :: .ref a :: st) M Q = (fk 30 (kO M a) = true ∧ Wp d 150 10 ls st (sR M 30 a (some b)) Q) := fun d ls a b st M Q => w_putR (v := some b) (show ins 150 7 = some (.putfield 17, 3) by decide +kernel) (show fRes (mC 150) 17 = some (30, 7, false) by decide +kernel) (by decide +kernel) (by decide +kernel)
set_option maxRecDepth 100000 in
theorem r_150_7_1 : ∀ (d : Nat) (ls : Lc) (a : Nat) (st : List Value) (M : Mem) (Q : Outcome → Mem → Prop), Wp d 150 7 ls (.null :: .ref a :: st) M Q = (fk 30 (kO M a) = true ∧ Wp d 150 10 ls st (sR M 30 a none) Q) := fun d ls a st M Q => w_putR (v := none) (show ins 150 7 = some (.putfield 17, 3) by decide +kernel) (show fRes (mC 150) 17 = some (30, 7, false) by decide +kernel) (by decide +kernel) (by decide +kernel)
set_option maxRecDepth 100000 in
theorem r_150_10 : ∀ (d : Nat) (v : Nat) (st : List Value) (M : Mem) (Q : Outcome → Mem → Prop), Wp d 150 10 [some (.ref v)] st M Q = Wp d 150 11 [some (.ref v)] (.ref v :: st) M Q := fun d v st M Q => wA (show ins 150 10 = some (.aload_n 0, 1) by decide +kernel) rfl
set_option maxRecDepth 100000 in
theorem r_150_11 : ∀ (d : Nat) (ls : Lc) (st : List Value) (M : Mem) (Q : Outcome → Mem → Prop), Wp d 150 11 ls st M Q = Wp d 150 12 ls (.null :: st) M Q := fun d ls st M Q => wA (show ins 150 11 = some (.aconst_null, 1) by decide +kernel) rfl
set_option maxRecDepth 100000 in
theorem r_150_12 : ∀ (d : Nat) (ls : Lc) (a b : Nat) (st : List Value) (M : Mem) (Q : Outcome → Mem → Prop), Wp d 150 12 ls (.ref b :: .ref a :: st) M Q = (fk 31 (kO M a) = true ∧ Wp d 150 15 ls st (sR M 31 a (some b)) Q) := fun d ls a b st M Q => w_putR (v := some b) (show ins 150 12 = some (.putfield 21, 3) by decide +kernel) (show fRes (mC 150) 21 = some (31, 7, false) by decide +kernel) (by decide +kernel) (by decide +kernel)
set_option maxRecDepth 100000 in
theorem r_150_12_1 : ∀ (d : Nat) (ls : Lc) (a : Nat) (st : List Value) (M : Mem) (Q : Outcome → Mem → Prop), Wp d 150 12 ls (.null :: .ref a :: st) M Q = (fk 31 (kO M a) = true ∧ Wp d 150 15 ls st (sR M 31 a none) Q) := fun d ls a st M Q => w_putR (v := none) (show ins 150 12 = some (.putfield 21, 3) by decide +kernel) (show fRes (mC 150) 21 = some (31, 7, false) by decide +kernel) (by decide +kernel) (by decide +kernel)
set_option maxRecDepth 100000 in
theorem r_150_15 : ∀ (d : Nat) (ls : Lc) (M : Mem) (Q : Outcome → Mem → Prop), Wp d 150 15 ls [] M Q = Q (.returned none) M := fun d ls M Q => w_return (show ins 150 15 = some (.return_, 1) by decide +kernel) (by decide +kernel)
set_option maxRecDepth 100000 in
theorem W_150 : (type_of% r_150_0) ∧ (type_of% r_150_1) ∧ (type_of% r_150_2) ∧ (type_of% r_150_2_1) ∧ (type_of% r_150_5) ∧ (type_of% r_150_6) ∧ (type_of% r_150_7) ∧ (type_of% r_150_7_1) ∧ (type_of% r_150_10) ∧ (type_of% r_150_11) ∧ (type_of% r_150_12) ∧ (type_of% r_150_12_1) ∧ (type_of% r_150_15) := ⟨r_150_0, r_150_1, r_150_2, r_150_2_1, r_150_5, r_150_6, r_150_7, r_150_7_1, r_150_10, r_150_11, r_150_12, r_150_12_1, r_150_15⟩
set_option maxRecDepth 100000 in
theorem ca_150 {d y pc : Nat} {ls : Lc} {a : Nat} {r : List Value} {M : Mem} {Q : Outcome → Mem → Prop} (hd : 0 < d) (hw : Wp (d - 1) 150 0 [some (.ref a)] [] M (Cq d y pc ls r Q)) : Ca d y pc ls 150 [.ref a] r M Q := ca_of (mq_get (by decide)) (by rfl) hd hw
/-! 151 PackedTree$Node.comesBehind(LPackedTree$Node;)V; loop heads [] -/
set_option maxRecDepth 100000 in
theorem r_151_0 : ∀ (d : Nat) (l1 : Option Value) (v : Nat) (st : List Value) (M : Mem) (Q : Outcome → Mem → Prop), Wp d 151 0 [some (.ref v), l1] st M Q = Wp d 151 1 [some (.ref v), l1] (.ref v :: st) M Q := fun d l1 v st M Q => wA (show ins 151 0 = some (.aload_n 0, 1) by decide +kernel) rfl
set_option maxRecDepth 100000 in
theorem r_151_1 : ∀ (d : Nat) (l0 : Option Value) (v : Nat) (st : List Value) (M : Mem) (Q : Outcome → Mem → Prop), Wp d 151 1 [l0, some (.ref v)] st M Q = Wp d 151 2 [l0, some (.ref v)] (.ref v :: st) M Q := fun d l0 v st M Q => wA (show ins 151 1 = some (.aload_n 1, 1) by decide +kernel) rfl
set_option maxRecDepth 100000 in
theorem r_151_1_1 : ∀ (d : Nat) (l0 : Option Value) (st : List Value) (M : Mem) (Q : Outcome → Mem → Prop), Wp d 151 1 [l0, some .null] st M Q = Wp d 151 2 [l0, some .null] (.null :: st) M Q := fun d l0 st M Q => wA (show ins 151 1 = some (.aload_n 1, 1) by decide +kernel) rfl
set_option maxRecDepth 100000 in
theorem r_151_2 : ∀ (d : Nat) (ls : Lc) (a b : Nat) (st : List Value) (M : Mem) (Q : Outcome → Mem → Prop), Wp d 151 2 ls (.ref b :: .ref a :: st) M Q = (fk 30 (kO M a) = true ∧ Wp d 151 5 ls st (sR M 30 a (some b)) Q) := fun d ls a b st M Q => w_putR (v := some b) (show ins 151 2 = some (.putfield 17, 3) by decide +kernel) (show fRes (mC 151) 17 = some (30, 7, false) by decide +kernel) (by decide +kernel) (by decide +kernel)
set_option maxRecDepth 100000 in
theorem r_151_2_1 : ∀ (d : Nat) (ls : Lc) (a : Nat) (st : List Value) (M : Mem) (Q : Outcome → Mem → Prop), Wp d 151 2 ls (.null :: .ref a :: st) M Q = (fk 30 (kO M a) = true ∧ Wp d 151 5 ls st (sR M 30 a none) Q) := fun d ls a st M Q => w_putR (v := none) (show ins 151 2 = some (.putfield 17, 3) by decide +kernel) (show fRes (mC 151) 17 = some (30, 7, false) by decide +kernel) (by decide +kernel) (by decide +kernel)
set_option maxRecDepth 100000 in
theorem r_151_5 : ∀ (d : Nat) (l1 : Option Value) (v : Nat) (st : List Value) (M : Mem) (Q : Outcome → Mem → Prop), Wp d 151 5 [some (.ref v), l1] st M Q = Wp d 151 6 [some (.ref v), l1] (.ref v :: st) M Q := fun d l1 v st M Q => wA (show ins 151 5 = some (.aload_n 0, 1) by decide +kernel) rfl
set_option maxRecDepth 100000 in
theorem r_151_6 : ∀ (d : Nat) (l0 : Option Value) (v : Nat) (st : List Value) (M : Mem) (Q : Outcome → Mem → Prop), Wp d 151 6 [l0, some (.ref v)] st M Q = Wp d 151 7 [l0, some (.ref v)] (.ref v :: st) M Q := fun d l0 v st M Q => wA (show ins 151 6 = some (.aload_n 1, 1) by decide +kernel) rfl
set_option maxRecDepth 100000 in
theorem r_151_6_1 : ∀ (d : Nat) (l0 : Option Value) (st : List Value) (M : Mem) (Q : Outcome → Mem → Prop), Wp d 151 6 [l0, some .null] st M Q = Wp d 151 7 [l0, some .null] (.null :: st) M Q := fun d l0 st M Q => wA (show ins 151 6 = some (.aload_n 1, 1) by decide +kernel) rfl
set_option maxRecDepth 100000 in
theorem r_151_7 : ∀ (d : Nat) (ls : Lc) (a : Nat) (st : List Value) (M : Mem) (Q : Outcome → Mem → Prop), Wp d 151 7 ls (.ref a :: st) M Q = (fk 31 (kO M a) = true ∧ Wp d 151 10 ls (va_rf (mR M 31 a) :: st) M Q) := fun d ls a st M Q => w_getR (show ins 151 7 = some (.getfield 21, 3) by decide +kernel) (show fRes (mC 151) 21 = some (31, 7, false) by decide +kernel) (by decide +kernel)
set_option maxRecDepth 100000 in
theorem r_151_10 : ∀ (d : Nat) (ls : Lc) (a b : Nat) (st : List Value) (M : Mem) (Q : Outcome → Mem → Prop), Wp d 151 10 ls (.ref b :: .ref a :: st) M Q = (fk 31 (kO M a) = true ∧ Wp d 151 13 ls st (sR M 31 a (some b)) Q) := fun d ls a b st M Q => w_putR (v := some b) (show ins 151 10 = some (.putfield 21, 3) by decide +kernel) (show fRes (mC 151) 21 = some (31, 7, false) by decide +kernel) (by decide +kernel) (by decide +kernel)
set_option maxRecDepth 100000 in
theorem r_151_10_1 : ∀ (d : Nat) (ls : Lc) (a : Nat) (st : List Value) (M : Mem) (Q : Outcome → Mem → Prop), Wp d 151 10 ls (.null :: .ref a :: st) M Q = (fk 31 (kO M a) = true ∧ Wp d 151 13 ls st (sR M 31 a none) Q) := fun d ls a st M Q => w_putR (v := none) (show ins 151 10 = some (.putfield 21, 3) by decide +kernel) (show fRes (mC 151) 21 = some (31, 7, false) by decide +kernel) (by decide +kernel) (by decide +kernel)
set_option maxRecDepth 100000 in
theorem r_151_13 : ∀ (d : Nat) (l1 : Option Value) (v : Nat) (st : List Value) (M : Mem) (Q : Outcome → Mem → Prop), Wp d 151 13 [some (.ref v), l1] st M Q = Wp d 151 14 [some (.ref v), l1] (.ref v :: st) M Q := fun d l1 v st M Q => wA (show ins 151 13 = some (.aload_n 0, 1) by decide +kernel) rfl
set_option maxRecDepth 100000 in
theorem r_151_14 : ∀ (d : Nat) (ls : Lc) (a : Nat) (st : List Value) (M : Mem) (Q : Outcome → Mem → Prop), Wp d 151 14 ls (.ref a :: st) M Q = (fk 31 (kO M a) = true ∧ Wp d 151 17 ls (va_rf (mR M 31 a) :: st) M Q) := fun d ls a st M Q => w_getR (show ins 151 14 = some (.getfield 21, 3) by decide +kernel) (show fRes (mC 151) 21 = some (31, 7, false) by decide +kernel) (by decide +kernel)
set_option maxRecDepth 100000 in
theorem r_151_17 : ∀ (d : Nat) (ls : Lc) (st : List Value) (M : Mem) (Q : Outcome → Mem → Prop), Wp d 151 17 ls (.null :: st) M Q = Wp d 151 28 ls st M Q := fun d ls st M Q => w_ifnullN (show ins 151 17 = some (.ifnull 11, 3) by decide +kernel) rfl
set_option maxRecDepth 100000 in
theorem r_151_17_1 : ∀ (d : Nat) (ls : Lc) (v : Nat) (st : List Value) (M : Mem) (Q : Outcome → Mem → Prop), Wp d 151 17 ls (.ref v :: st) M Q = Wp d 151 20 ls st M Q := fun d ls v st M Q => w_ifnullR (show ins 151 17 = some (.ifnull 11, 3) by decide +kernel) (t := 28) rfl
set_option maxRecDepth 100000 in
theorem r_151_20 : ∀ (d : Nat) (l1 : Option Value) (v : Nat) (st : List Value) (M : Mem) (Q : Outcome → Mem → Prop), Wp d 151 20 [some (.ref v), l1] st M Q = Wp d 151 21 [some (.ref v), l1] (.ref v :: st) M Q := fun d l1 v st M Q => wA (show ins 151 20 = some (.aload_n 0, 1) by decide +kernel) rfl
set_option maxRecDepth 100000 in
theorem r_151_21 : ∀ (d : Nat) (ls : Lc) (a : Nat) (st : List Value) (M : Mem) (Q : Outcome → Mem → Prop), Wp d 151 21 ls (.ref a :: st) M Q = (fk 31 (kO M a) = true ∧ Wp d 151 24 ls (va_rf (mR M 31 a) :: st) M Q) := fun d ls a st M Q => w_getR (show ins 151 21 = some (.getfield 21, 3) by decide +kernel) (show fRes (mC 151) 21 = some (31, 7, false) by decide +kernel) (by decide +kernel)
set_option maxRecDepth 100000 in
theorem r_151_24 : ∀ (d : Nat) (l1 : Option Value) (v : Nat) (st : List Value) (M : Mem) (Q : Outcome → Mem → Prop), Wp d 151 24 [some (.ref v), l1] st M Q = Wp d 151 25 [some (.ref v), l1] (.ref v :: st) M Q := fun d l1 v st M Q => wA (show ins 151 24 = some (.aload_n 0, 1) by decide +kernel) rfl
set_option maxRecDepth 100000 in
theorem r_151_25 : ∀ (d : Nat) (ls : Lc) (a b : Nat) (st : List Value) (M : Mem) (Q : Outcome → Mem → Prop), Wp d 151 25 ls (.ref b :: .ref a :: st) M Q = (fk 30 (kO M a) = true ∧ Wp d 151 28 ls st (sR M 30 a (some b)) Q) := fun d ls a b st M Q => w_putR (v := some b) (show ins 151 25 = some (.putfield 17, 3) by decide +kernel) (show fRes (mC 151) 17 = some (30, 7, false) by decide +kernel) (by decide +kernel) (by decide +kernel)
set_option maxRecDepth 100000 in
theorem r_151_25_1 : ∀ (d : Nat) (ls : Lc) (a : Nat) (st : List Value) (M : Mem) (Q : Outcome → Mem → Prop), Wp d 151 25 ls (.null :: .ref a :: st) M Q = (fk 30 (kO M a) = true ∧ Wp d 151 28 ls st (sR M 30 a none) Q) := fun d ls a st M Q => w_putR (v := none) (show ins 151 25 = some (.putfield 17, 3) by decide +kernel) (show fRes (mC 151) 17 = some (30, 7, false) by decide +kernel) (by decide +kernel) (by decide +kernel)
set_option maxRecDepth 100000 in
theorem r_151_28 : ∀ (d : Nat) (l0 : Option Value) (v : Nat) (st : List Value) (M : Mem) (Q : Outcome → Mem → Prop), Wp d 151 28 [l0, some (.ref v)] st M Q = Wp d 151 29 [l0, some (.ref v)] (.ref v :: st) M Q := fun d l0 v st M Q => wA (show ins 151 28 = some (.aload_n 1, 1) by decide +kernel) rfl
set_option maxRecDepth 100000 in
theorem r_151_28_1 : ∀ (d : Nat) (l0 : Option Value) (st : List Value) (M : Mem) (Q : Outcome → Mem → Prop), Wp d 151 28 [l0, some .null] st M Q = Wp d 151 29 [l0, some .null] (.null :: st) M Q := fun d l0 st M Q => wA (show ins 151 28 = some (.aload_n 1, 1) by decide +kernel) rfl
set_option maxRecDepth 100000 in
theorem r_151_29 : ∀ (d : Nat) (l1 : Option Value) (v : Nat) (st : List Value) (M : Mem) (Q : Outcome → Mem → Prop), Wp d 151 29 [some (.ref v), l1] st M Q = Wp d 151 30 [some (.ref v), l1] (.ref v :: st) M Q := fun d l1 v st M Q => wA (show ins 151 29 = some (.aload_n 0, 1) by decide +kernel) rfl
set_option maxRecDepth 100000 in
theorem r_151_30 : ∀ (d : Nat) (ls : Lc) (a b : Nat) (st : List Value) (M : Mem) (Q : Outcome → Mem → Prop), Wp d 151 30 ls (.ref b :: .ref a :: st) M Q = (fk 31 (kO M a) = true ∧ Wp d 151 33 ls st (sR M 31 a (some b)) Q) := fun d ls a b st M Q => w_putR (v := some b) (show ins 151 30 = some (.putfield 21, 3) by decide +kernel) (show fRes (mC 151) 21 = some (31, 7, false) by decide +kernel) (by decide +kernel) (by decide +kernel)
set_option maxRecDepth 100000 in
theorem r_151_30_1 : ∀ (d : Nat) (ls : Lc) (a : Nat) (st : List Value) (M : Mem) (Q : Outcome → Mem → Prop), Wp d 151 30 ls (.null :: .ref a :: st) M Q = (fk 31 (kO M a) = true ∧ Wp d 151 33 ls st (sR M 31 a none) Q) := fun d ls a st M Q => w_putR (v := none) (show ins 151 30 = some (.putfield 21, 3) by decide +kernel) (show fRes (mC 151) 21 = some (31, 7, false) by decide +kernel) (by decide +kernel) (by decide +kernel)
set_option maxRecDepth 100000 in
theorem r_151_33 : ∀ (d : Nat) (ls : Lc) (M : Mem) (Q : Outcome → Mem → Prop), Wp d 151 33 ls [] M Q = Q (.returned none) M := fun d ls M Q => w_return (show ins 151 33 = some (.return_, 1) by decide +kernel) (by decide +kernel)
set_option maxRecDepth 100000 in
theorem W_151 : (type_of% r_151_0) ∧ (type_of% r_151_1) ∧ (type_of% r_151_1_1) ∧ (type_of% r_151_2) ∧ (type_of% r_151_2_1) ∧ (type_of% r_151_5) ∧ (type_of% r_151_6) ∧ (type_of% r_151_6_1) ∧ (type_of% r_151_7) ∧ (type_of% r_151_10) ∧ (type_of% r_151_10_1) ∧ (type_of% r_151_13) ∧ (type_of% r_151_14) ∧ (type_of% r_151_17) ∧ (type_of% r_151_17_1) ∧ (type_of% r_151_20) ∧ (type_of% r_151_21) ∧ (type_of% r_151_24) ∧ (type_of% r_151_25) ∧ (type_of% r_151_25_1) ∧ (type_of% r_151_28) ∧ (type_of% r_151_28_1) ∧ (type_of% r_151_29) ∧ (type_of% r_151_30) ∧ (type_of% r_151_30_1) ∧ (type_of% r_151_33) := ⟨r_151_0, r_151_1, r_151_1_1, r_151_2, r_151_2_1, r_151_5, r_151_6, r_151_6_1, r_151_7, r_151_10, r_151_10_1, r_151_13, r_151_14, r_151_17, r_151_17_1, r_151_20, r_151_21, r_151_24, r_151_25, r_151_25_1, r_151_28, r_151_28_1, r_151_29, r_151_30, r_151_30_1, r_151_33⟩
set_option maxRecDepth 100000 in
theorem ca_151 {d y pc : Nat} {ls : Lc} {a : Nat} {o0 : Option Nat} {r : List Value} {M : Mem} {Q : Outcome → Mem → Prop} (hd : 0 < d) (hw : Wp (d - 1) 151 0 [some (.ref a), some (va_rf o0)] [] M (Cq d y pc ls r Q)) : Ca d y pc ls 151 [.ref a, va_rf o0] r M Q := ca_of (mq_get (by decide)) (by cases o0 <;> rfl) hd hw
/-! 152 PackedTree$Node.goes()V; loop heads [] -/
set_option maxRecDepth 100000 in
theorem r_152_0 : ∀ (d : Nat) (v : Nat) (st : List Value) (M : Mem) (Q : Outcome → Mem → Prop), Wp d 152 0 [some (.ref v)] st M Q = Wp d 152 1 [some (.ref v)] (.ref v :: st) M Q := fun d v st M Q => wA (show ins 152 0 = some (.aload_n 0, 1) by decide +kernel) rfl
set_option maxRecDepth 100000 in
theorem r_152_1 : ∀ (d : Nat) (ls : Lc) (a : Nat) (st : List Value) (M : Mem) (Q : Outcome → Mem → Prop), Wp d 152 1 ls (.ref a :: st) M Q = (fk 30 (kO M a) = true ∧ Wp d 152 4 ls (va_rf (mR M 30 a) :: st) M Q) := fun d ls a st M Q => w_getR (show ins 152 1 = some (.getfield 17, 3) by decide +kernel) (show fRes (mC 152) 17 = some (30, 7, false) by decide +kernel) (by decide +kernel)
set_option maxRecDepth 100000 in
theorem r_152_4 : ∀ (d : Nat) (ls : Lc) (st : List Value) (M : Mem) (Q : Outcome → Mem → Prop), Wp d 152 4 ls (.null :: st) M Q = Wp d 152 18 ls st M Q := fun d ls st M Q => w_ifnullN (show ins 152 4 = some (.ifnull 14, 3) by decide +kernel) rfl
set_option maxRecDepth 100000 in
theorem r_152_4_1 : ∀ (d : Nat) (ls : Lc) (v : Nat) (st : List Value) (M : Mem) (Q : Outcome → Mem → Prop), Wp d 152 4 ls (.ref v :: st) M Q = Wp d 152 7 ls st M Q := fun d ls v st M Q => w_ifnullR (show ins 152 4 = some (.ifnull 14, 3) by decide +kernel) (t := 18) rfl
set_option maxRecDepth 100000 in
theorem r_152_7 : ∀ (d : Nat) (v : Nat) (st : List Value) (M : Mem) (Q : Outcome → Mem → Prop), Wp d 152 7 [some (.ref v)] st M Q = Wp d 152 8 [some (.ref v)] (.ref v :: st) M Q := fun d v st M Q => wA (show ins 152 7 = some (.aload_n 0, 1) by decide +kernel) rfl
set_option maxRecDepth 100000 in
theorem r_152_8 : ∀ (d : Nat) (ls : Lc) (a : Nat) (st : List Value) (M : Mem) (Q : Outcome → Mem → Prop), Wp d 152 8 ls (.ref a :: st) M Q = (fk 30 (kO M a) = true ∧ Wp d 152 11 ls (va_rf (mR M 30 a) :: st) M Q) := fun d ls a st M Q => w_getR (show ins 152 8 = some (.getfield 17, 3) by decide +kernel) (show fRes (mC 152) 17 = some (30, 7, false) by decide +kernel) (by decide +kernel)
set_option maxRecDepth 100000 in
theorem r_152_11 : ∀ (d : Nat) (v : Nat) (st : List Value) (M : Mem) (Q : Outcome → Mem → Prop), Wp d 152 11 [some (.ref v)] st M Q = Wp d 152 12 [some (.ref v)] (.ref v :: st) M Q := fun d v st M Q => wA (show ins 152 11 = some (.aload_n 0, 1) by decide +kernel) rfl
set_option maxRecDepth 100000 in
theorem r_152_12 : ∀ (d : Nat) (ls : Lc) (a : Nat) (st : List Value) (M : Mem) (Q : Outcome → Mem → Prop), Wp d 152 12 ls (.ref a :: st) M Q = (fk 31 (kO M a) = true ∧ Wp d 152 15 ls (va_rf (mR M 31 a) :: st) M Q) := fun d ls a st M Q => w_getR (show ins 152 12 = some (.getfield 21, 3) by decide +kernel) (show fRes (mC 152) 21 = some (31, 7, false) by decide +kernel) (by decide +kernel)
set_option maxRecDepth 100000 in
theorem r_152_15 : ∀ (d : Nat) (ls : Lc) (a b : Nat) (st : List Value) (M : Mem) (Q : Outcome → Mem → Prop), Wp d 152 15 ls (.ref b :: .ref a :: st) M Q = (fk 31 (kO M a) = true ∧ Wp d 152 18 ls st (sR M 31 a (some b)) Q) := fun d ls a b st M Q => w_putR (v := some b) (show ins 152 15 = some (.putfield 21, 3) by decide +kernel) (show fRes (mC 152) 21 = some (31, 7, false) by decide +kernel) (by decide +kernel) (by decide +kernel)
set_option maxRecDepth 100000 in
theorem r_152_15_1 : ∀ (d : Nat) (ls : Lc) (a : Nat) (st : List Value) (M : Mem) (Q : Outcome → Mem → Prop), Wp d 152 15 ls (.null :: .ref a :: st) M Q = (fk 31 (kO M a) = true ∧ Wp d 152 18 ls st (sR M 31 a none) Q) := fun d ls a st M Q => w_putR (v := none) (show ins 152 15 = some (.putfield 21, 3) by decide +kernel) (show fRes (mC 152) 21 = some (31, 7, false) by decide +kernel) (by decide +kernel) (by decide +kernel)
set_option maxRecDepth 100000 in
theorem r_152_18 : ∀ (d : Nat) (v : Nat) (st : List Value) (M : Mem) (Q : Outcome → Mem → Prop), Wp d 152 18 [some (.ref v)] st M Q = Wp d 152 19 [some (.ref v)] (.ref v :: st) M Q := fun d v st M Q => wA (show ins 152 18 = some (.aload_n 0, 1) by decide +kernel) rfl
set_option maxRecDepth 100000 in
theorem r_152_19 : ∀ (d : Nat) (ls : Lc) (a : Nat) (st : List Value) (M : Mem) (Q : Outcome → Mem → Prop), Wp d 152 19 ls (.ref a :: st) M Q = (fk 31 (kO M a) = true ∧ Wp d 152 22 ls (va_rf (mR M 31 a) :: st) M Q) := fun d ls a st M Q => w_getR (show ins 152 19 = some (.getfield 21, 3) by decide +kernel) (show fRes (mC 152) 21 = some (31, 7, false) by decide +kernel) (by decide +kernel)
set_option maxRecDepth 100000 in
theorem r_152_22 : ∀ (d : Nat) (ls : Lc) (st : List Value) (M : Mem) (Q : Outcome → Mem → Prop), Wp d 152 22 ls (.null :: st) M Q = Wp d 152 36 ls st M Q := fun d ls st M Q => w_ifnullN (show ins 152 22 = some (.ifnull 14, 3) by decide +kernel) rfl
set_option maxRecDepth 100000 in
theorem r_152_22_1 : ∀ (d : Nat) (ls : Lc) (v : Nat) (st : List Value) (M : Mem) (Q : Outcome → Mem → Prop), Wp d 152 22 ls (.ref v :: st) M Q = Wp d 152 25 ls st M Q := fun d ls v st M Q => w_ifnullR (show ins 152 22 = some (.ifnull 14, 3) by decide +kernel) (t := 36) rfl
set_option maxRecDepth 100000 in
theorem r_152_25 : ∀ (d : Nat) (v : Nat) (st : List Value) (M : Mem) (Q : Outcome → Mem → Prop), Wp d 152 25 [some (.ref v)] st M Q = Wp d 152 26 [some (.ref v)] (.ref v :: st) M Q := fun d v st M Q => wA (show ins 152 25 = some (.aload_n 0, 1) by decide +kernel) rfl
set_option maxRecDepth 100000 in
theorem r_152_26 : ∀ (d : Nat) (ls : Lc) (a : Nat) (st : List Value) (M : Mem) (Q : Outcome → Mem → Prop), Wp d 152 26 ls (.ref a :: st) M Q = (fk 31 (kO M a) = true ∧ Wp d 152 29 ls (va_rf (mR M 31 a) :: st) M Q) := fun d ls a st M Q => w_getR (show ins 152 26 = some (.getfield 21, 3) by decide +kernel) (show fRes (mC 152) 21 = some (31, 7, false) by decide +kernel) (by decide +kernel)
set_option maxRecDepth 100000 in
theorem r_152_29 : ∀ (d : Nat) (v : Nat) (st : List Value) (M : Mem) (Q : Outcome → Mem → Prop), Wp d 152 29 [some (.ref v)] st M Q = Wp d 152 30 [some (.ref v)] (.ref v :: st) M Q := fun d v st M Q => wA (show ins 152 29 = some (.aload_n 0, 1) by decide +kernel) rfl
set_option maxRecDepth 100000 in
theorem r_152_30 : ∀ (d : Nat) (ls : Lc) (a : Nat) (st : List Value) (M : Mem) (Q : Outcome → Mem → Prop), Wp d 152 30 ls (.ref a :: st) M Q = (fk 30 (kO M a) = true ∧ Wp d 152 33 ls (va_rf (mR M 30 a) :: st) M Q) := fun d ls a st M Q => w_getR (show ins 152 30 = some (.getfield 17, 3) by decide +kernel) (show fRes (mC 152) 17 = some (30, 7, false) by decide +kernel) (by decide +kernel)
set_option maxRecDepth 100000 in
theorem r_152_33 : ∀ (d : Nat) (ls : Lc) (a b : Nat) (st : List Value) (M : Mem) (Q : Outcome → Mem → Prop), Wp d 152 33 ls (.ref b :: .ref a :: st) M Q = (fk 30 (kO M a) = true ∧ Wp d 152 36 ls st (sR M 30 a (some b)) Q) := fun d ls a b st M Q => w_putR (v := some b) (show ins 152 33 = some (.putfield 17, 3) by decide +kernel) (show fRes (mC 152) 17 = some (30, 7, false) by decide +kernel) (by decide +kernel) (by decide +kernel)
set_option maxRecDepth 100000 in
theorem r_152_33_1 : ∀ (d : Nat) (ls : Lc) (a : Nat) (st : List Value) (M : Mem) (Q : Outcome → Mem → Prop), Wp d 152 33 ls (.null :: .ref a :: st) M Q = (fk 30 (kO M a) = true ∧ Wp d 152 36 ls st (sR M 30 a none) Q) := fun d ls a st M Q => w_putR (v := none) (show ins 152 33 = some (.putfield 17, 3) by decide +kernel) (show fRes (mC 152) 17 = some (30, 7, false) by decide +kernel) (by decide +kernel) (by decide +kernel)
set_option maxRecDepth 100000 in
theorem r_152_36 : ∀ (d : Nat) (ls : Lc) (M : Mem) (Q : Outcome → Mem → Prop), Wp d 152 36 ls [] M Q = Q (.returned none) M := fun d ls M Q => w_return (show ins 152 36 = some (.return_, 1) by decide +kernel) (by decide +kernel)
set_option maxRecDepth 100000 in
theorem W_152 : (type_of% r_152_0) ∧ (type_of% r_152_1) ∧ (type_of% r_152_4) ∧ (type_of% r_152_4_1) ∧ (type_of% r_152_7) ∧ (type_of% r_152_8) ∧ (type_of% r_152_11) ∧ (type_of% r_152_12) ∧ (type_of% r_152_15) ∧ (type_of% r_152_15_1) ∧ (type_of% r_152_18) ∧ (type_of% r_152_19) ∧ (type_of% r_152_22) ∧ (type_of% r_152_22_1) ∧ (type_of% r_152_25) ∧ (type_of% r_152_26) ∧ (type_of% r_152_29) ∧ (type_of% r_152_30) ∧ (type_of% r_152_33) ∧ (type_of% r_152_33_1) ∧ (type_of% r_152_36) := ⟨r_152_0, r_152_1, r_152_4, r_152_4_1, r_152_7, r_152_8, r_152_11, r_152_12, r_152_15, r_152_15_1, r_152_18, r_152_19, r_152_22, r_152_22_1, r_152_25, r_152_26, r_152_29, r_152_30, r_152_33, r_152_33_1, r_152_36⟩
set_option maxRecDepth 100000 in
theorem ca_152 {d y pc : Nat} {ls : Lc} {a : Nat} {r : List Value} {M : Mem} {Q : Outcome → Mem → Prop} (hd : 0 < d) (hw : Wp (d - 1) 152 0 [some (.ref a)] [] M (Cq d y pc ls r Q)) : Ca d y pc ls 152 [.ref a] r M Q := ca_of (mq_get (by decide)) (by rfl) hd hw
/-! 153 PackedTreeModel.<init>(II)V; loop heads [] -/
set_option maxRecDepth 100000 in
theorem r_153_0 : ∀ (d : Nat) (l1 l2 : Option Value) (v : Nat) (st : List Value) (M : Mem) (Q : Outcome → Mem → Prop), Wp d 153 0 [some (.ref v), l1, l2] st M Q = Wp d 153 1 [some (.ref v), l1, l2] (.ref v :: st) M Q := fun d l1 l2 v st M Q => wA (show ins 153 0 = some (.aload_n 0, 1) by decide +kernel) rfl
set_option maxRecDepth 100000 in
theorem r_153_1 : ∀ (d : Nat) (ls : Lc) (a : Nat) (st : List Value) (M : Mem) (Q : Outcome → Mem → Prop), (smallR st = true) → Wp d 153 1 ls (.ref a :: st) M Q = Wp d 153 4 ls st M Q := fun d ls a st M Q h0 => w_obj (show ins 153 1 = some (.invokespecial 1, 3) by decide +kernel) (show mRes (mC 153) 1 = some (2, 10, [(0, 232)]) by decide +kernel) h0
set_option maxRecDepth 100000 in
theorem r_153_4 : ∀ (d : Nat) (l1 l2 : Option Value) (v : Nat) (st : List Value) (M : Mem) (Q : Outcome → Mem → Prop), Wp d 153 4 [some (.ref v), l1, l2] st M Q = Wp d 153 5 [some (.ref v), l1, l2] (.ref v :: st) M Q := fun d l1 l2 v st M Q => wA (show ins 153 4 = some (.aload_n 0, 1) by decide +kernel) rfl
set_option maxRecDepth 100000 in
theorem r_153_5 : ∀ (d : Nat) (ls : Lc) (st : List Value) (M : Mem) (Q : Outcome → Mem → Prop), Wp d 153 5 ls st M Q = Wp d 153 8 ls (.int (I 25366) :: st) M Q := fun d ls st M Q => w_sipush (show ins 153 5 = some (.sipush 25366, 3) by decide +kernel) (by decide)
set_option maxRecDepth 100000 in
theorem r_153_8 : ∀ (d : Nat) (ls : Lc) (n : Int) (st : List Value) (M : Mem) (Q : Outcome → Mem → Prop), (0 ≤ n) → (n ≤ 60000) → Wp d 153 8 ls (.int (I n) :: st) M Q = Wp d 153 10 ls (.ref (mN M) :: st) (nw M (.inr (0, n.toNat)) n.toNat) Q := fun d ls n st M Q h0 h1 => w_newarray (show ins 153 8 = some (.newarray .int, 2) by decide +kernel) rfl h0 h1
set_option maxRecDepth 100000 in
theorem r_153_10 : ∀ (d : Nat) (ls : Lc) (a b : Nat) (st : List Value) (M : Mem) (Q : Outcome → Mem → Prop), Wp d 153 10 ls (.ref b :: .ref a :: st) M Q = (fk 53 (kO M a) = true ∧ Wp d 153 13 ls st (sR M 53 a (some b)) Q) := fun d ls a b st M Q => w_putR (v := some b) (show ins 153 10 = some (.putfield 7, 3) by decide +kernel) (show fRes (mC 153) 7 = some (53, 8, false) by decide +kernel) (by decide +kernel) (by decide +kernel)
set_option maxRecDepth 100000 in
theorem r_153_10_1 : ∀ (d : Nat) (ls : Lc) (a : Nat) (st : List Value) (M : Mem) (Q : Outcome → Mem → Prop), Wp d 153 10 ls (.null :: .ref a :: st) M Q = (fk 53 (kO M a) = true ∧ Wp d 153 13 ls st (sR M 53 a none) Q) := fun d ls a st M Q => w_putR (v := none) (show ins 153 10 = some (.putfield 7, 3) by decide +kernel) (show fRes (mC 153) 7 = some (53, 8, false) by decide +kernel) (by decide +kernel) (by decide +kernel)
set_option maxRecDepth 100000 in
theorem r_153_13 : ∀ (d : Nat) (l1 l2 : Option Value) (v : Nat) (st : List Value) (M : Mem) (Q : Outcome → Mem → Prop), Wp d 153 13 [some (.ref v), l1, l2] st M Q = Wp d 153 14 [some (.ref v), l1, l2] (.ref v :: st) M Q := fun d l1 l2 v st M Q => wA (show ins 153 13 = some (.aload_n 0, 1) by decide +kernel) rfl
set_option maxRecDepth 100000 in
theorem r_153_14 : ∀ (d : Nat) (ls : Lc) (st : List Value) (M : Mem) (Q : Outcome → Mem → Prop), Wp d 153 14 ls st M Q = Wp d 153 17 ls (.int (I 25366) :: st) M Q := fun d ls st M Q => w_sipush (show ins 153 14 = some (.sipush 25366, 3) by decide +kernel) (by decide)
set_option maxRecDepth 100000 in
theorem r_153_17 : ∀ (d : Nat) (ls : Lc) (n : Int) (st : List Value) (M : Mem) (Q : Outcome → Mem → Prop), (0 ≤ n) → (n ≤ 60000) → Wp d 153 17 ls (.int (I n) :: st) M Q = Wp d 153 19 ls (.ref (mN M) :: st) (nw M (.inr (0, n.toNat)) n.toNat) Q := fun d ls n st M Q h0 h1 => w_newarray (show ins 153 17 = some (.newarray .int, 2) by decide +kernel) rfl h0 h1
set_option maxRecDepth 100000 in
theorem r_153_19 : ∀ (d : Nat) (ls : Lc) (a b : Nat) (st : List Value) (M : Mem) (Q : Outcome → Mem → Prop), Wp d 153 19 ls (.ref b :: .ref a :: st) M Q = (fk 42 (kO M a) = true ∧ Wp d 153 22 ls st (sR M 42 a (some b)) Q) := fun d ls a b st M Q => w_putR (v := some b) (show ins 153 19 = some (.putfield 13, 3) by decide +kernel) (show fRes (mC 153) 13 = some (42, 8, false) by decide +kernel) (by decide +kernel) (by decide +kernel)
set_option maxRecDepth 100000 in
theorem r_153_19_1 : ∀ (d : Nat) (ls : Lc) (a : Nat) (st : List Value) (M : Mem) (Q : Outcome → Mem → Prop), Wp d 153 19 ls (.null :: .ref a :: st) M Q = (fk 42 (kO M a) = true ∧ Wp d 153 22 ls st (sR M 42 a none) Q) := fun d ls a st M Q => w_putR (v := none) (show ins 153 19 = some (.putfield 13, 3) by decide +kernel) (show fRes (mC 153) 13 = some (42, 8, false) by decide +kernel) (by decide +kernel) (by decide +kernel)
set_option maxRecDepth 100000 in
theorem r_153_22 : ∀ (d : Nat) (l1 l2 : Option Value) (v : Nat) (st : List Value) (M : Mem) (Q : Outcome → Mem → Prop), Wp d 153 22 [some (.ref v), l1, l2] st M Q = Wp d 153 23 [some (.ref v), l1, l2] (.ref v :: st) M Q := fun d l1 l2 v st M Q => wA (show ins 153 22 = some (.aload_n 0, 1) by decide +kernel) rfl
set_option maxRecDepth 100000 in
theorem r_153_23 : ∀ (d : Nat) (ls : Lc) (st : List Value) (M : Mem) (Q : Outcome → Mem → Prop), Wp d 153 23 ls st M Q = Wp d 153 26 ls (.int (I 25366) :: st) M Q := fun d ls st M Q => w_sipush (show ins 153 23 = some (.sipush 25366, 3) by decide +kernel) (by decide)
set_option maxRecDepth 100000 in
theorem r_153_26 : ∀ (d : Nat) (ls : Lc) (n : Int) (st : List Value) (M : Mem) (Q : Outcome → Mem → Prop), (0 ≤ n) → (n ≤ 60000) → Wp d 153 26 ls (.int (I n) :: st) M Q = Wp d 153 28 ls (.ref (mN M) :: st) (nw M (.inr (0, n.toNat)) n.toNat) Q := fun d ls n st M Q h0 h1 => w_newarray (show ins 153 26 = some (.newarray .int, 2) by decide +kernel) rfl h0 h1
set_option maxRecDepth 100000 in
theorem r_153_28 : ∀ (d : Nat) (ls : Lc) (a b : Nat) (st : List Value) (M : Mem) (Q : Outcome → Mem → Prop), Wp d 153 28 ls (.ref b :: .ref a :: st) M Q = (fk 45 (kO M a) = true ∧ Wp d 153 31 ls st (sR M 45 a (some b)) Q) := fun d ls a b st M Q => w_putR (v := some b) (show ins 153 28 = some (.putfield 16, 3) by decide +kernel) (show fRes (mC 153) 16 = some (45, 8, false) by decide +kernel) (by decide +kernel) (by decide +kernel)
set_option maxRecDepth 100000 in
theorem r_153_28_1 : ∀ (d : Nat) (ls : Lc) (a : Nat) (st : List Value) (M : Mem) (Q : Outcome → Mem → Prop), Wp d 153 28 ls (.null :: .ref a :: st) M Q = (fk 45 (kO M a) = true ∧ Wp d 153 31 ls st (sR M 45 a none) Q) := fun d ls a st M Q => w_putR (v := none) (show ins 153 28 = some (.putfield 16, 3) by decide +kernel) (show fRes (mC 153) 16 = some (45, 8, false) by decide +kernel) (by decide +kernel) (by decide +kernel)
set_option maxRecDepth 100000 in
theorem r_153_31 : ∀ (d : Nat) (l1 l2 : Option Value) (v : Nat) (st : List Value) (M : Mem) (Q : Outcome → Mem → Prop), Wp d 153 31 [some (.ref v), l1, l2] st M Q = Wp d 153 32 [some (.ref v), l1, l2] (.ref v :: st) M Q := fun d l1 l2 v st M Q => wA (show ins 153 31 = some (.aload_n 0, 1) by decide +kernel) rfl
set_option maxRecDepth 100000 in
theorem r_153_32 : ∀ (d : Nat) (ls : Lc) (st : List Value) (M : Mem) (Q : Outcome → Mem → Prop), Wp d 153 32 ls st M Q = Wp d 153 35 ls (.int (I 2560) :: st) M Q := fun d ls st M Q => w_sipush (show ins 153 32 = some (.sipush 2560, 3) by decide +kernel) (by decide)
set_option maxRecDepth 100000 in
theorem r_153_35 : ∀ (d : Nat) (ls : Lc) (n : Int) (st : List Value) (M : Mem) (Q : Outcome → Mem → Prop), (0 ≤ n) → (n ≤ 60000) → Wp d 153 35 ls (.int (I n) :: st) M Q = Wp d 153 37 ls (.ref (mN M) :: st) (nw M (.inr (0, n.toNat)) n.toNat) Q := fun d ls n st M Q h0 h1 => w_newarray (show ins 153 35 = some (.newarray .int, 2) by decide +kernel) rfl h0 h1
set_option maxRecDepth 100000 in
theorem r_153_37 : ∀ (d : Nat) (ls : Lc) (a b : Nat) (st : List Value) (M : Mem) (Q : Outcome → Mem → Prop), Wp d 153 37 ls (.ref b :: .ref a :: st) M Q = (fk 51 (kO M a) = true ∧ Wp d 153 40 ls st (sR M 51 a (some b)) Q) := fun d ls a b st M Q => w_putR (v := some b) (show ins 153 37 = some (.putfield 19, 3) by decide +kernel) (show fRes (mC 153) 19 = some (51, 8, false) by decide +kernel) (by decide +kernel) (by decide +kernel)
set_option maxRecDepth 100000 in
theorem r_153_37_1 : ∀ (d : Nat) (ls : Lc) (a : Nat) (st : List Value) (M : Mem) (Q : Outcome → Mem → Prop), Wp d 153 37 ls (.null :: .ref a :: st) M Q = (fk 51 (kO M a) = true ∧ Wp d 153 40 ls st (sR M 51 a none) Q) := fun d ls a st M Q => w_putR (v := none) (show ins 153 37 = some (.putfield 19, 3) by decide +kernel) (show fRes (mC 153) 19 = some (51, 8, false) by decide +kernel) (by decide +kernel) (by decide +kernel)
set_option maxRecDepth 100000 in
theorem r_153_40 : ∀ (d : Nat) (l1 l2 : Option Value) (v : Nat) (st : List Value) (M : Mem) (Q : Outcome → Mem → Prop), Wp d 153 40 [some (.ref v), l1, l2] st M Q = Wp d 153 41 [some (.ref v), l1, l2] (.ref v :: st) M Q := fun d l1 l2 v st M Q => wA (show ins 153 40 = some (.aload_n 0, 1) by decide +kernel) rfl
set_option maxRecDepth 100000 in
theorem r_153_41 : ∀ (d : Nat) (ls : Lc) (st : List Value) (M : Mem) (Q : Outcome → Mem → Prop), Wp d 153 41 ls st M Q = Wp d 153 43 ls (.int (I 96) :: st) M Q := fun d ls st M Q => w_bipush (show ins 153 41 = some (.bipush 96, 2) by decide +kernel) (by decide)
set_option maxRecDepth 100000 in
theorem r_153_43 : ∀ (d : Nat) (ls : Lc) (n : Int) (st : List Value) (M : Mem) (Q : Outcome → Mem → Prop), (0 ≤ n) → (n ≤ 60000) → Wp d 153 43 ls (.int (I n) :: st) M Q = Wp d 153 45 ls (.ref (mN M) :: st) (nw M (.inr (2, n.toNat)) n.toNat) Q := fun d ls n st M Q h0 h1 => w_newarray (show ins 153 43 = some (.newarray .boolean, 2) by decide +kernel) rfl h0 h1
set_option maxRecDepth 100000 in
theorem r_153_45 : ∀ (d : Nat) (ls : Lc) (a b : Nat) (st : List Value) (M : Mem) (Q : Outcome → Mem → Prop), Wp d 153 45 ls (.ref b :: .ref a :: st) M Q = (fk 48 (kO M a) = true ∧ Wp d 153 48 ls st (sR M 48 a (some b)) Q) := fun d ls a b st M Q => w_putR (v := some b) (show ins 153 45 = some (.putfield 22, 3) by decide +kernel) (show fRes (mC 153) 22 = some (48, 8, false) by decide +kernel) (by decide +kernel) (by decide +kernel)
set_option maxRecDepth 100000 in
theorem r_153_45_1 : ∀ (d : Nat) (ls : Lc) (a : Nat) (st : List Value) (M : Mem) (Q : Outcome → Mem → Prop), Wp d 153 45 ls (.null :: .ref a :: st) M Q = (fk 48 (kO M a) = true ∧ Wp d 153 48 ls st (sR M 48 a none) Q) := fun d ls a st M Q => w_putR (v := none) (show ins 153 45 = some (.putfield 22, 3) by decide +kernel) (show fRes (mC 153) 22 = some (48, 8, false) by decide +kernel) (by decide +kernel) (by decide +kernel)
set_option maxRecDepth 100000 in
theorem r_153_48 : ∀ (d : Nat) (l1 l2 : Option Value) (v : Nat) (st : List Value) (M : Mem) (Q : Outcome → Mem → Prop), Wp d 153 48 [some (.ref v), l1, l2] st M Q = Wp d 153 49 [some (.ref v), l1, l2] (.ref v :: st) M Q := fun d l1 l2 v st M Q => wA (show ins 153 48 = some (.aload_n 0, 1) by decide +kernel) rfl
set_option maxRecDepth 100000 in
theorem r_153_49 : ∀ (d : Nat) (ls : Lc) (st : List Value) (M : Mem) (Q : Outcome → Mem → Prop), Wp d 153 49 ls st M Q = Wp d 153 50 ls (.int (I (-1)) :: st) M Q := fun d ls st M Q => w_iconst (show ins 153 49 = some (.iconst (-1), 1) by decide +kernel)
set_option maxRecDepth 100000 in
theorem r_153_50 : ∀ (d : Nat) (ls : Lc) (a : Nat) (v : Int32) (st : List Value) (M : Mem) (Q : Outcome → Mem → Prop), Wp d 153 50 ls (.int v :: .ref a :: st) M Q = (fk 46 (kO M a) = true ∧ Wp d 153 53 ls st (sF M 46 a v) Q) := fun d ls a v st M Q => w_putI (show ins 153 50 = some (.putfield 26, 3) by decide +kernel) (show fRes (mC 153) 26 = some (46, 8, false) by decide +kernel) (by decide +kernel) (by decide +kernel)
set_option maxRecDepth 100000 in
theorem r_153_53 : ∀ (d : Nat) (l1 l2 : Option Value) (v : Nat) (st : List Value) (M : Mem) (Q : Outcome → Mem → Prop), Wp d 153 53 [some (.ref v), l1, l2] st M Q = Wp d 153 54 [some (.ref v), l1, l2] (.ref v :: st) M Q := fun d l1 l2 v st M Q => wA (show ins 153 53 = some (.aload_n 0, 1) by decide +kernel) rfl
set_option maxRecDepth 100000 in
theorem r_153_54 : ∀ (d : Nat) (l0 l2 : Option Value) (v : Int32) (st : List Value) (M : Mem) (Q : Outcome → Mem → Prop), Wp d 153 54 [l0, some (.int v), l2] st M Q = Wp d 153 55 [l0, some (.int v), l2] (.int v :: st) M Q := fun d l0 l2 v st M Q => wA (show ins 153 54 = some (.iload_n 1, 1) by decide +kernel) rfl
set_option maxRecDepth 100000 in
theorem r_153_55 : ∀ (d : Nat) (ls : Lc) (st : List Value) (M : Mem) (Q : Outcome → Mem → Prop), Wp d 153 55 ls st M Q = Wp d 153 57 ls (.int (I 16) :: st) M Q := fun d ls st M Q => w_bipush (show ins 153 55 = some (.bipush 16, 2) by decide +kernel) (by decide)
set_option maxRecDepth 100000 in
theorem r_153_57 : ∀ (d : Nat) (ls : Lc) (a b : Int32) (st : List Value) (M : Mem) (Q : Outcome → Mem → Prop), Wp d 153 57 ls (.int b :: .int a :: st) M Q = Br (b ≤ a) d 153 65 60 ls st M Q := fun d ls a b st M Q => w_icmp (show ins 153 57 = some (.if_icmp .ge 8, 3) by decide +kernel) rfl rfl
set_option maxRecDepth 100000 in
theorem r_153_60 : ∀ (d : Nat) (ls : Lc) (st : List Value) (M : Mem) (Q : Outcome → Mem → Prop), Wp d 153 60 ls st M Q = Wp d 153 62 ls (.int (I 16) :: st) M Q := fun d ls st M Q => w_bipush (show ins 153 60 = some (.bipush 16, 2) by decide +kernel) (by decide)
set_option maxRecDepth 100000 in
theorem r_153_62 : ∀ (d : Nat) (ls : Lc) (st : List Value) (M : Mem) (Q : Outcome → Mem → Prop), Wp d 153 62 ls st M Q = Wp d 153 77 ls st M Q := fun d ls st M Q => w_goto (show ins 153 62 = some (.goto 15, 3) by decide +kernel) rfl
set_option maxRecDepth 100000 in
theorem r_153_65 : ∀ (d : Nat) (l0 l2 : Option Value) (v : Int32) (st : List Value) (M : Mem) (Q : Outcome → Mem → Prop), Wp d 153 65 [l0, some (.int v), l2] st M Q = Wp d 153 66 [l0, some (.int v), l2] (.int v :: st) M Q := fun d l0 l2 v st M Q => wA (show ins 153 65 = some (.iload_n 1, 1) by decide +kernel) rfl
set_option maxRecDepth 100000 in
theorem r_153_66 : ∀ (d : Nat) (ls : Lc) (st : List Value) (M : Mem) (Q : Outcome → Mem → Prop), Wp d 153 66 ls st M Q = Wp d 153 68 ls (.int (I 96) :: st) M Q := fun d ls st M Q => w_bipush (show ins 153 66 = some (.bipush 96, 2) by decide +kernel) (by decide)
set_option maxRecDepth 100000 in
theorem r_153_68 : ∀ (d : Nat) (ls : Lc) (a b : Int32) (st : List Value) (M : Mem) (Q : Outcome → Mem → Prop), Wp d 153 68 ls (.int b :: .int a :: st) M Q = Br (a ≤ b) d 153 76 71 ls st M Q := fun d ls a b st M Q => w_icmp (show ins 153 68 = some (.if_icmp .le 8, 3) by decide +kernel) rfl rfl
set_option maxRecDepth 100000 in
theorem r_153_71 : ∀ (d : Nat) (ls : Lc) (st : List Value) (M : Mem) (Q : Outcome → Mem → Prop), Wp d 153 71 ls st M Q = Wp d 153 73 ls (.int (I 96) :: st) M Q := fun d ls st M Q => w_bipush (show ins 153 71 = some (.bipush 96, 2) by decide +kernel) (by decide)
set_option maxRecDepth 100000 in
theorem r_153_73 : ∀ (d : Nat) (ls : Lc) (st : List Value) (M : Mem) (Q : Outcome → Mem → Prop), Wp d 153 73 ls st M Q = Wp d 153 77 ls st M Q := fun d ls st M Q => w_goto (show ins 153 73 = some (.goto 4, 3) by decide +kernel) rfl
set_option maxRecDepth 100000 in
theorem r_153_76 : ∀ (d : Nat) (l0 l2 : Option Value) (v : Int32) (st : List Value) (M : Mem) (Q : Outcome → Mem → Prop), Wp d 153 76 [l0, some (.int v), l2] st M Q = Wp d 153 77 [l0, some (.int v), l2] (.int v :: st) M Q := fun d l0 l2 v st M Q => wA (show ins 153 76 = some (.iload_n 1, 1) by decide +kernel) rfl
set_option maxRecDepth 100000 in
theorem r_153_77 : ∀ (d : Nat) (ls : Lc) (a : Nat) (v : Int32) (st : List Value) (M : Mem) (Q : Outcome → Mem → Prop), Wp d 153 77 ls (.int v :: .ref a :: st) M Q = (fk 43 (kO M a) = true ∧ Wp d 153 80 ls st (sF M 43 a v) Q) := fun d ls a v st M Q => w_putI (show ins 153 77 = some (.putfield 30, 3) by decide +kernel) (show fRes (mC 153) 30 = some (43, 8, false) by decide +kernel) (by decide +kernel) (by decide +kernel)
set_option maxRecDepth 100000 in
theorem r_153_80 : ∀ (d : Nat) (l1 l2 : Option Value) (v : Nat) (st : List Value) (M : Mem) (Q : Outcome → Mem → Prop), Wp d 153 80 [some (.ref v), l1, l2] st M Q = Wp d 153 81 [some (.ref v), l1, l2] (.ref v :: st) M Q := fun d l1 l2 v st M Q => wA (show ins 153 80 = some (.aload_n 0, 1) by decide +kernel) rfl
set_option maxRecDepth 100000 in
theorem r_153_81 : ∀ (d : Nat) (l0 l1 : Option Value) (v : Int32) (st : List Value) (M : Mem) (Q : Outcome → Mem → Prop), Wp d 153 81 [l0, l1, some (.int v)] st M Q = Wp d 153 82 [l0, l1, some (.int v)] (.int v :: st) M Q := fun d l0 l1 v st M Q => wA (show ins 153 81 = some (.iload_n 2, 1) by decide +kernel) rfl
set_option maxRecDepth 100000 in
theorem r_153_82 : ∀ (d : Nat) (ls : Lc) (st : List Value) (M : Mem) (Q : Outcome → Mem → Prop), Wp d 153 82 ls st M Q = Wp d 153 84 ls (.int (I 6) :: st) M Q := fun d ls st M Q => w_bipush (show ins 153 82 = some (.bipush 6, 2) by decide +kernel) (by decide)
set_option maxRecDepth 100000 in
theorem r_153_84 : ∀ (d : Nat) (ls : Lc) (a b : Int32) (st : List Value) (M : Mem) (Q : Outcome → Mem → Prop), Wp d 153 84 ls (.int b :: .int a :: st) M Q = Br (b ≤ a) d 153 92 87 ls st M Q := fun d ls a b st M Q => w_icmp (show ins 153 84 = some (.if_icmp .ge 8, 3) by decide +kernel) rfl rfl
set_option maxRecDepth 100000 in
theorem r_153_87 : ∀ (d : Nat) (ls : Lc) (st : List Value) (M : Mem) (Q : Outcome → Mem → Prop), Wp d 153 87 ls st M Q = Wp d 153 89 ls (.int (I 6) :: st) M Q := fun d ls st M Q => w_bipush (show ins 153 87 = some (.bipush 6, 2) by decide +kernel) (by decide)
set_option maxRecDepth 100000 in
theorem r_153_89 : ∀ (d : Nat) (ls : Lc) (st : List Value) (M : Mem) (Q : Outcome → Mem → Prop), Wp d 153 89 ls st M Q = Wp d 153 104 ls st M Q := fun d ls st M Q => w_goto (show ins 153 89 = some (.goto 15, 3) by decide +kernel) rfl
set_option maxRecDepth 100000 in
theorem r_153_92 : ∀ (d : Nat) (l0 l1 : Option Value) (v : Int32) (st : List Value) (M : Mem) (Q : Outcome → Mem → Prop), Wp d 153 92 [l0, l1, some (.int v)] st M Q = Wp d 153 93 [l0, l1, some (.int v)] (.int v :: st) M Q := fun d l0 l1 v st M Q => wA (show ins 153 92 = some (.iload_n 2, 1) by decide +kernel) rfl
set_option maxRecDepth 100000 in
theorem r_153_93 : ∀ (d : Nat) (ls : Lc) (st : List Value) (M : Mem) (Q : Outcome → Mem → Prop), Wp d 153 93 ls st M Q = Wp d 153 95 ls (.int (I 64) :: st) M Q := fun d ls st M Q => w_bipush (show ins 153 93 = some (.bipush 64, 2) by decide +kernel) (by decide)
set_option maxRecDepth 100000 in
theorem r_153_95 : ∀ (d : Nat) (ls : Lc) (a b : Int32) (st : List Value) (M : Mem) (Q : Outcome → Mem → Prop), Wp d 153 95 ls (.int b :: .int a :: st) M Q = Br (a ≤ b) d 153 103 98 ls st M Q := fun d ls a b st M Q => w_icmp (show ins 153 95 = some (.if_icmp .le 8, 3) by decide +kernel) rfl rfl
set_option maxRecDepth 100000 in
theorem r_153_98 : ∀ (d : Nat) (ls : Lc) (st : List Value) (M : Mem) (Q : Outcome → Mem → Prop), Wp d 153 98 ls st M Q = Wp d 153 100 ls (.int (I 64) :: st) M Q := fun d ls st M Q => w_bipush (show ins 153 98 = some (.bipush 64, 2) by decide +kernel) (by decide)
set_option maxRecDepth 100000 in
theorem r_153_100 : ∀ (d : Nat) (ls : Lc) (st : List Value) (M : Mem) (Q : Outcome → Mem → Prop), Wp d 153 100 ls st M Q = Wp d 153 104 ls st M Q := fun d ls st M Q => w_goto (show ins 153 100 = some (.goto 4, 3) by decide +kernel) rfl
set_option maxRecDepth 100000 in
theorem r_153_103 : ∀ (d : Nat) (l0 l1 : Option Value) (v : Int32) (st : List Value) (M : Mem) (Q : Outcome → Mem → Prop), Wp d 153 103 [l0, l1, some (.int v)] st M Q = Wp d 153 104 [l0, l1, some (.int v)] (.int v :: st) M Q := fun d l0 l1 v st M Q => wA (show ins 153 103 = some (.iload_n 2, 1) by decide +kernel) rfl
set_option maxRecDepth 100000 in
theorem r_153_104 : ∀ (d : Nat) (ls : Lc) (a : Nat) (v : Int32) (st : List Value) (M : Mem) (Q : Outcome → Mem → Prop), Wp d 153 104 ls (.int v :: .ref a :: st) M Q = (fk 49 (kO M a) = true ∧ Wp d 153 107 ls st (sF M 49 a v) Q) := fun d ls a v st M Q => w_putI (show ins 153 104 = some (.putfield 33, 3) by decide +kernel) (show fRes (mC 153) 33 = some (49, 8, false) by decide +kernel) (by decide +kernel) (by decide +kernel)
set_option maxRecDepth 100000 in
theorem r_153_107 : ∀ (d : Nat) (l1 l2 : Option Value) (v : Nat) (st : List Value) (M : Mem) (Q : Outcome → Mem → Prop), Wp d 153 107 [some (.ref v), l1, l2] st M Q = Wp d 153 108 [some (.ref v), l1, l2] (.ref v :: st) M Q := fun d l1 l2 v st M Q => wA (show ins 153 107 = some (.aload_n 0, 1) by decide +kernel) rfl
set_option maxRecDepth 100000 in
theorem r_153_108 : ∀ (d : Nat) (ls : Lc) (a : Nat) (st : List Value) (M : Mem) (Q : Outcome → Mem → Prop), Wp d 153 108 ls (.ref a :: st) M Q = (fk 53 (kO M a) = true ∧ Wp d 153 111 ls (va_rf (mR M 53 a) :: st) M Q) := fun d ls a st M Q => w_getR (show ins 153 108 = some (.getfield 7, 3) by decide +kernel) (show fRes (mC 153) 7 = some (53, 8, false) by decide +kernel) (by decide +kernel)
set_option maxRecDepth 100000 in
theorem r_153_111 : ∀ (d : Nat) (ls : Lc) (st : List Value) (M : Mem) (Q : Outcome → Mem → Prop), Wp d 153 111 ls st M Q = Wp d 153 112 ls (.int (I 0) :: st) M Q := fun d ls st M Q => w_iconst (show ins 153 111 = some (.iconst 0, 1) by decide +kernel)
set_option maxRecDepth 100000 in
theorem r_153_112 : ∀ (d : Nat) (ls : Lc) (st : List Value) (M : Mem) (Q : Outcome → Mem → Prop), Wp d 153 112 ls st M Q = Wp d 153 113 ls (.int (I 1) :: st) M Q := fun d ls st M Q => w_iconst (show ins 153 112 = some (.iconst 1, 1) by decide +kernel)
set_option maxRecDepth 100000 in
theorem r_153_113 : ∀ (d : Nat) (ls : Lc) (a : Nat) (j v : Int32) (st : List Value) (M : Mem) (Q : Outcome → Mem → Prop), Wp d 153 113 ls (.int v :: .int j :: .ref a :: st) M Q = (((kX M a).1 = 0 ∧ inB j (kX M a).2 = true) ∧ Wp d 153 114 ls st (sA M a j.toNatClampNeg v) Q) := fun d ls a j v st M Q => w_iastore (show ins 153 113 = some (.iastore, 1) by decide +kernel)
set_option maxRecDepth 100000 in
theorem r_153_114 : ∀ (d : Nat) (l1 l2 : Option Value) (v : Nat) (st : List Value) (M : Mem) (Q : Outcome → Mem → Prop), Wp d 153 114 [some (.ref v), l1, l2] st M Q = Wp d 153 115 [some (.ref v), l1, l2] (.ref v :: st) M Q := fun d l1 l2 v st M Q => wA (show ins 153 114 = some (.aload_n 0, 1) by decide +kernel) rfl
set_option maxRecDepth 100000 in
theorem r_153_115 : ∀ (d : Nat) (ls : Lc) (a : Nat) (st : List Value) (M : Mem) (Q : Outcome → Mem → Prop), Wp d 153 115 ls (.ref a :: st) M Q = (fk 53 (kO M a) = true ∧ Wp d 153 118 ls (va_rf (mR M 53 a) :: st) M Q) := fun d ls a st M Q => w_getR (show ins 153 115 = some (.getfield 7, 3) by decide +kernel) (show fRes (mC 153) 7 = some (53, 8, false) by decide +kernel) (by decide +kernel)
set_option maxRecDepth 100000 in
theorem r_153_118 : ∀ (d : Nat) (ls : Lc) (st : List Value) (M : Mem) (Q : Outcome → Mem → Prop), Wp d 153 118 ls st M Q = Wp d 153 119 ls (.int (I 1) :: st) M Q := fun d ls st M Q => w_iconst (show ins 153 118 = some (.iconst 1, 1) by decide +kernel)
set_option maxRecDepth 100000 in
theorem r_153_119 : ∀ (d : Nat) (ls : Lc) (st : List Value) (M : Mem) (Q : Outcome → Mem → Prop), Wp d 153 119 ls st M Q = Wp d 153 120 ls (.int (I 1) :: st) M Q := fun d ls st M Q => w_iconst (show ins 153 119 = some (.iconst 1, 1) by decide +kernel)
set_option maxRecDepth 100000 in
theorem r_153_120 : ∀ (d : Nat) (ls : Lc) (a : Nat) (j v : Int32) (st : List Value) (M : Mem) (Q : Outcome → Mem → Prop), Wp d 153 120 ls (.int v :: .int j :: .ref a :: st) M Q = (((kX M a).1 = 0 ∧ inB j (kX M a).2 = true) ∧ Wp d 153 121 ls st (sA M a j.toNatClampNeg v) Q) := fun d ls a j v st M Q => w_iastore (show ins 153 120 = some (.iastore, 1) by decide +kernel)
set_option maxRecDepth 100000 in
theorem r_153_121 : ∀ (d : Nat) (l1 l2 : Option Value) (v : Nat) (st : List Value) (M : Mem) (Q : Outcome → Mem → Prop), Wp d 153 121 [some (.ref v), l1, l2] st M Q = Wp d 153 122 [some (.ref v), l1, l2] (.ref v :: st) M Q := fun d l1 l2 v st M Q => wA (show ins 153 121 = some (.aload_n 0, 1) by decide +kernel) rfl
set_option maxRecDepth 100000 in
theorem r_153_122 : ∀ (d : Nat) (ls : Lc) (a : Nat) (st : List Value) (M : Mem) (Q : Outcome → Mem → Prop), Wp d 153 122 ls (.ref a :: st) M Q = (fk 53 (kO M a) = true ∧ Wp d 153 125 ls (va_rf (mR M 53 a) :: st) M Q) := fun d ls a st M Q => w_getR (show ins 153 122 = some (.getfield 7, 3) by decide +kernel) (show fRes (mC 153) 7 = some (53, 8, false) by decide +kernel) (by decide +kernel)
set_option maxRecDepth 100000 in
theorem r_153_125 : ∀ (d : Nat) (ls : Lc) (st : List Value) (M : Mem) (Q : Outcome → Mem → Prop), Wp d 153 125 ls st M Q = Wp d 153 127 ls (.int (I 97) :: st) M Q := fun d ls st M Q => w_bipush (show ins 153 125 = some (.bipush 97, 2) by decide +kernel) (by decide)
set_option maxRecDepth 100000 in
theorem r_153_127 : ∀ (d : Nat) (ls : Lc) (st : List Value) (M : Mem) (Q : Outcome → Mem → Prop), Wp d 153 127 ls st M Q = Wp d 153 128 ls (.int (I 1) :: st) M Q := fun d ls st M Q => w_iconst (show ins 153 127 = some (.iconst 1, 1) by decide +kernel)
set_option maxRecDepth 100000 in
theorem r_153_128 : ∀ (d : Nat) (ls : Lc) (a : Nat) (j v : Int32) (st : List Value) (M : Mem) (Q : Outcome → Mem → Prop), Wp d 153 128 ls (.int v :: .int j :: .ref a :: st) M Q = (((kX M a).1 = 0 ∧ inB j (kX M a).2 = true) ∧ Wp d 153 129 ls st (sA M a j.toNatClampNeg v) Q) := fun d ls a j v st M Q => w_iastore (show ins 153 128 = some (.iastore, 1) by decide +kernel)
set_option maxRecDepth 100000 in
theorem r_153_129 : ∀ (d : Nat) (l1 l2 : Option Value) (v : Nat) (st : List Value) (M : Mem) (Q : Outcome → Mem → Prop), Wp d 153 129 [some (.ref v), l1, l2] st M Q = Wp d 153 130 [some (.ref v), l1, l2] (.ref v :: st) M Q := fun d l1 l2 v st M Q => wA (show ins 153 129 = some (.aload_n 0, 1) by decide +kernel) rfl
set_option maxRecDepth 100000 in
theorem r_153_130 : ∀ (d : Nat) (ls : Lc) (a : Nat) (st : List Value) (M : Mem) (Q : Outcome → Mem → Prop), Wp d 153 130 ls (.ref a :: st) M Q = (fk 53 (kO M a) = true ∧ Wp d 153 133 ls (va_rf (mR M 53 a) :: st) M Q) := fun d ls a st M Q => w_getR (show ins 153 130 = some (.getfield 7, 3) by decide +kernel) (show fRes (mC 153) 7 = some (53, 8, false) by decide +kernel) (by decide +kernel)
set_option maxRecDepth 100000 in
theorem r_153_133 : ∀ (d : Nat) (ls : Lc) (st : List Value) (M : Mem) (Q : Outcome → Mem → Prop), Wp d 153 133 ls st M Q = Wp d 153 136 ls (.int (I 158) :: st) M Q := fun d ls st M Q => w_sipush (show ins 153 133 = some (.sipush 158, 3) by decide +kernel) (by decide)
set_option maxRecDepth 100000 in
theorem r_153_136 : ∀ (d : Nat) (ls : Lc) (st : List Value) (M : Mem) (Q : Outcome → Mem → Prop), Wp d 153 136 ls st M Q = Wp d 153 137 ls (.int (I 1) :: st) M Q := fun d ls st M Q => w_iconst (show ins 153 136 = some (.iconst 1, 1) by decide +kernel)
set_option maxRecDepth 100000 in
theorem r_153_137 : ∀ (d : Nat) (ls : Lc) (a : Nat) (j v : Int32) (st : List Value) (M : Mem) (Q : Outcome → Mem → Prop), Wp d 153 137 ls (.int v :: .int j :: .ref a :: st) M Q = (((kX M a).1 = 0 ∧ inB j (kX M a).2 = true) ∧ Wp d 153 138 ls st (sA M a j.toNatClampNeg v) Q) := fun d ls a j v st M Q => w_iastore (show ins 153 137 = some (.iastore, 1) by decide +kernel)
set_option maxRecDepth 100000 in
theorem r_153_138 : ∀ (d : Nat) (l1 l2 : Option Value) (v : Nat) (st : List Value) (M : Mem) (Q : Outcome → Mem → Prop), Wp d 153 138 [some (.ref v), l1, l2] st M Q = Wp d 153 139 [some (.ref v), l1, l2] (.ref v :: st) M Q := fun d l1 l2 v st M Q => wA (show ins 153 138 = some (.aload_n 0, 1) by decide +kernel) rfl
set_option maxRecDepth 100000 in
theorem r_153_139 : ∀ (d : Nat) (ls : Lc) (a : Nat) (st : List Value) (M : Mem) (Q : Outcome → Mem → Prop), Wp d 153 139 ls (.ref a :: st) M Q = (fk 53 (kO M a) = true ∧ Wp d 153 142 ls (va_rf (mR M 53 a) :: st) M Q) := fun d ls a st M Q => w_getR (show ins 153 139 = some (.getfield 7, 3) by decide +kernel) (show fRes (mC 153) 7 = some (53, 8, false) by decide +kernel) (by decide +kernel)
set_option maxRecDepth 100000 in
theorem r_153_142 : ∀ (d : Nat) (ls : Lc) (st : List Value) (M : Mem) (Q : Outcome → Mem → Prop), Wp d 153 142 ls st M Q = Wp d 153 145 ls (.int (I 3757) :: st) M Q := fun d ls st M Q => w_sipush (show ins 153 142 = some (.sipush 3757, 3) by decide +kernel) (by decide)
set_option maxRecDepth 100000 in
theorem r_153_145 : ∀ (d : Nat) (ls : Lc) (st : List Value) (M : Mem) (Q : Outcome → Mem → Prop), Wp d 153 145 ls st M Q = Wp d 153 146 ls (.int (I 1) :: st) M Q := fun d ls st M Q => w_iconst (show ins 153 145 = some (.iconst 1, 1) by decide +kernel)
set_option maxRecDepth 100000 in
theorem r_153_146 : ∀ (d : Nat) (ls : Lc) (a : Nat) (j v : Int32) (st : List Value) (M : Mem) (Q : Outcome → Mem → Prop), Wp d 153 146 ls (.int v :: .int j :: .ref a :: st) M Q = (((kX M a).1 = 0 ∧ inB j (kX M a).2 = true) ∧ Wp d 153 147 ls st (sA M a j.toNatClampNeg v) Q) := fun d ls a j v st M Q => w_iastore (show ins 153 146 = some (.iastore, 1) by decide +kernel)
set_option maxRecDepth 100000 in
theorem r_153_147 : ∀ (d : Nat) (l1 l2 : Option Value) (v : Nat) (st : List Value) (M : Mem) (Q : Outcome → Mem → Prop), Wp d 153 147 [some (.ref v), l1, l2] st M Q = Wp d 153 148 [some (.ref v), l1, l2] (.ref v :: st) M Q := fun d l1 l2 v st M Q => wA (show ins 153 147 = some (.aload_n 0, 1) by decide +kernel) rfl
set_option maxRecDepth 100000 in
theorem r_153_148 : ∀ (d : Nat) (ls : Lc) (a : Nat) (st : List Value) (M : Mem) (Q : Outcome → Mem → Prop), Wp d 153 148 ls (.ref a :: st) M Q = (fk 53 (kO M a) = true ∧ Wp d 153 151 ls (va_rf (mR M 53 a) :: st) M Q) := fun d ls a st M Q => w_getR (show ins 153 148 = some (.getfield 7, 3) by decide +kernel) (show fRes (mC 153) 7 = some (53, 8, false) by decide +kernel) (by decide +kernel)
set_option maxRecDepth 100000 in
theorem r_153_151 : ∀ (d : Nat) (ls : Lc) (st : List Value) (M : Mem) (Q : Outcome → Mem → Prop), Wp d 153 151 ls st M Q = Wp d 153 154 ls (.int (I 3949) :: st) M Q := fun d ls st M Q => w_sipush (show ins 153 151 = some (.sipush 3949, 3) by decide +kernel) (by decide)
set_option maxRecDepth 100000 in
theorem r_153_154 : ∀ (d : Nat) (ls : Lc) (st : List Value) (M : Mem) (Q : Outcome → Mem → Prop), Wp d 153 154 ls st M Q = Wp d 153 155 ls (.int (I (-1)) :: st) M Q := fun d ls st M Q => w_iconst (show ins 153 154 = some (.iconst (-1), 1) by decide +kernel)
set_option maxRecDepth 100000 in
theorem r_153_155 : ∀ (d : Nat) (ls : Lc) (a : Nat) (j v : Int32) (st : List Value) (M : Mem) (Q : Outcome → Mem → Prop), Wp d 153 155 ls (.int v :: .int j :: .ref a :: st) M Q = (((kX M a).1 = 0 ∧ inB j (kX M a).2 = true) ∧ Wp d 153 156 ls st (sA M a j.toNatClampNeg v) Q) := fun d ls a j v st M Q => w_iastore (show ins 153 155 = some (.iastore, 1) by decide +kernel)
set_option maxRecDepth 100000 in
theorem r_153_156 : ∀ (d : Nat) (l1 l2 : Option Value) (v : Nat) (st : List Value) (M : Mem) (Q : Outcome → Mem → Prop), Wp d 153 156 [some (.ref v), l1, l2] st M Q = Wp d 153 157 [some (.ref v), l1, l2] (.ref v :: st) M Q := fun d l1 l2 v st M Q => wA (show ins 153 156 = some (.aload_n 0, 1) by decide +kernel) rfl
set_option maxRecDepth 100000 in
theorem r_153_157 : ∀ (d : Nat) (ls : Lc) (a : Nat) (st : List Value) (M : Mem) (Q : Outcome → Mem → Prop), Wp d 153 157 ls (.ref a :: st) M Q = (fk 53 (kO M a) = true ∧ Wp d 153 160 ls (va_rf (mR M 53 a) :: st) M Q) := fun d ls a st M Q => w_getR (show ins 153 157 = some (.getfield 7, 3) by decide +kernel) (show fRes (mC 153) 7 = some (53, 8, false) by decide +kernel) (by decide +kernel)
set_option maxRecDepth 100000 in
theorem r_153_160 : ∀ (d : Nat) (ls : Lc) (st : List Value) (M : Mem) (Q : Outcome → Mem → Prop), Wp d 153 160 ls st M Q = Wp d 153 163 ls (.int (I 3853) :: st) M Q := fun d ls st M Q => w_sipush (show ins 153 160 = some (.sipush 3853, 3) by decide +kernel) (by decide)
set_option maxRecDepth 100000 in
theorem r_153_163 : ∀ (d : Nat) (ls : Lc) (st : List Value) (M : Mem) (Q : Outcome → Mem → Prop), Wp d 153 163 ls st M Q = Wp d 153 164 ls (.int (I 1) :: st) M Q := fun d ls st M Q => w_iconst (show ins 153 163 = some (.iconst 1, 1) by decide +kernel)
set_option maxRecDepth 100000 in
theorem r_153_164 : ∀ (d : Nat) (ls : Lc) (a : Nat) (j v : Int32) (st : List Value) (M : Mem) (Q : Outcome → Mem → Prop), Wp d 153 164 ls (.int v :: .int j :: .ref a :: st) M Q = (((kX M a).1 = 0 ∧ inB j (kX M a).2 = true) ∧ Wp d 153 165 ls st (sA M a j.toNatClampNeg v) Q) := fun d ls a j v st M Q => w_iastore (show ins 153 164 = some (.iastore, 1) by decide +kernel)
set_option maxRecDepth 100000 in
theorem r_153_165 : ∀ (d : Nat) (l1 l2 : Option Value) (v : Nat) (st : List Value) (M : Mem) (Q : Outcome → Mem → Prop), Wp d 153 165 [some (.ref v), l1, l2] st M Q = Wp d 153 166 [some (.ref v), l1, l2] (.ref v :: st) M Q := fun d l1 l2 v st M Q => wA (show ins 153 165 = some (.aload_n 0, 1) by decide +kernel) rfl
set_option maxRecDepth 100000 in
theorem r_153_166 : ∀ (d : Nat) (ls : Lc) (a : Nat) (st : List Value) (M : Mem) (Q : Outcome → Mem → Prop), Wp d 153 166 ls (.ref a :: st) M Q = (fk 53 (kO M a) = true ∧ Wp d 153 169 ls (va_rf (mR M 53 a) :: st) M Q) := fun d ls a st M Q => w_getR (show ins 153 166 = some (.getfield 7, 3) by decide +kernel) (show fRes (mC 153) 7 = some (53, 8, false) by decide +kernel) (by decide +kernel)
set_option maxRecDepth 100000 in
theorem r_153_169 : ∀ (d : Nat) (ls : Lc) (st : List Value) (M : Mem) (Q : Outcome → Mem → Prop), Wp d 153 169 ls st M Q = Wp d 153 172 ls (.int (I 4636) :: st) M Q := fun d ls st M Q => w_sipush (show ins 153 169 = some (.sipush 4636, 3) by decide +kernel) (by decide)
set_option maxRecDepth 100000 in
theorem r_153_172 : ∀ (d : Nat) (ls : Lc) (st : List Value) (M : Mem) (Q : Outcome → Mem → Prop), Wp d 153 172 ls st M Q = Wp d 153 173 ls (.int (I 1) :: st) M Q := fun d ls st M Q => w_iconst (show ins 153 172 = some (.iconst 1, 1) by decide +kernel)
set_option maxRecDepth 100000 in
theorem r_153_173 : ∀ (d : Nat) (ls : Lc) (a : Nat) (j v : Int32) (st : List Value) (M : Mem) (Q : Outcome → Mem → Prop), Wp d 153 173 ls (.int v :: .int j :: .ref a :: st) M Q = (((kX M a).1 = 0 ∧ inB j (kX M a).2 = true) ∧ Wp d 153 174 ls st (sA M a j.toNatClampNeg v) Q) := fun d ls a j v st M Q => w_iastore (show ins 153 173 = some (.iastore, 1) by decide +kernel)
set_option maxRecDepth 100000 in
theorem r_153_174 : ∀ (d : Nat) (l1 l2 : Option Value) (v : Nat) (st : List Value) (M : Mem) (Q : Outcome → Mem → Prop), Wp d 153 174 [some (.ref v), l1, l2] st M Q = Wp d 153 175 [some (.ref v), l1, l2] (.ref v :: st) M Q := fun d l1 l2 v st M Q => wA (show ins 153 174 = some (.aload_n 0, 1) by decide +kernel) rfl
set_option maxRecDepth 100000 in
theorem r_153_175 : ∀ (d : Nat) (ls : Lc) (a : Nat) (st : List Value) (M : Mem) (Q : Outcome → Mem → Prop), Wp d 153 175 ls (.ref a :: st) M Q = (fk 53 (kO M a) = true ∧ Wp d 153 178 ls (va_rf (mR M 53 a) :: st) M Q) := fun d ls a st M Q => w_getR (show ins 153 175 = some (.getfield 7, 3) by decide +kernel) (show fRes (mC 153) 7 = some (53, 8, false) by decide +kernel) (by decide +kernel)
set_option maxRecDepth 100000 in
theorem r_153_178 : ∀ (d : Nat) (ls : Lc) (st : List Value) (M : Mem) (Q : Outcome → Mem → Prop), Wp d 153 178 ls st M Q = Wp d 153 181 ls (.int (I 9244) :: st) M Q := fun d ls st M Q => w_sipush (show ins 153 178 = some (.sipush 9244, 3) by decide +kernel) (by decide)
set_option maxRecDepth 100000 in
theorem r_153_181 : ∀ (d : Nat) (ls : Lc) (st : List Value) (M : Mem) (Q : Outcome → Mem → Prop), Wp d 153 181 ls st M Q = Wp d 153 183 ls (.int (I 6) :: st) M Q := fun d ls st M Q => w_bipush (show ins 153 181 = some (.bipush 6, 2) by decide +kernel) (by decide)
set_option maxRecDepth 100000 in
theorem r_153_183 : ∀ (d : Nat) (ls : Lc) (a : Nat) (j v : Int32) (st : List Value) (M : Mem) (Q : Outcome → Mem → Prop), Wp d 153 183 ls (.int v :: .int j :: .ref a :: st) M Q = (((kX M a).1 = 0 ∧ inB j (kX M a).2 = true) ∧ Wp d 153 184 ls st (sA M a j.toNatClampNeg v) Q) := fun d ls a j v st M Q => w_iastore (show ins 153 183 = some (.iastore, 1) by decide +kernel)
set_option maxRecDepth 100000 in
theorem r_153_184 : ∀ (d : Nat) (l1 l2 : Option Value) (v : Nat) (st : List Value) (M : Mem) (Q : Outcome → Mem → Prop), Wp d 153 184 [some (.ref v), l1, l2] st M Q = Wp d 153 185 [some (.ref v), l1, l2] (.ref v :: st) M Q := fun d l1 l2 v st M Q => wA (show ins 153 184 = some (.aload_n 0, 1) by decide +kernel) rfl
set_option maxRecDepth 100000 in
theorem r_153_185 : ∀ (d : Nat) (ls : Lc) (a : Nat) (st : List Value) (M : Mem) (Q : Outcome → Mem → Prop), Wp d 153 185 ls (.ref a :: st) M Q = (fk 53 (kO M a) = true ∧ Wp d 153 188 ls (va_rf (mR M 53 a) :: st) M Q) := fun d ls a st M Q => w_getR (show ins 153 185 = some (.getfield 7, 3) by decide +kernel) (show fRes (mC 153) 7 = some (53, 8, false) by decide +kernel) (by decide +kernel)
set_option maxRecDepth 100000 in
theorem r_153_188 : ∀ (d : Nat) (ls : Lc) (st : List Value) (M : Mem) (Q : Outcome → Mem → Prop), Wp d 153 188 ls st M Q = Wp d 153 191 ls (.int (I 12300) :: st) M Q := fun d ls st M Q => w_sipush (show ins 153 188 = some (.sipush 12300, 3) by decide +kernel) (by decide)
set_option maxRecDepth 100000 in
theorem r_153_191 : ∀ (d : Nat) (ls : Lc) (st : List Value) (M : Mem) (Q : Outcome → Mem → Prop), Wp d 153 191 ls st M Q = Wp d 153 192 ls (.int (I 1) :: st) M Q := fun d ls st M Q => w_iconst (show ins 153 191 = some (.iconst 1, 1) by decide +kernel)
set_option maxRecDepth 100000 in
theorem r_153_192 : ∀ (d : Nat) (ls : Lc) (a : Nat) (j v : Int32) (st : List Value) (M : Mem) (Q : Outcome → Mem → Prop), Wp d 153 192 ls (.int v :: .int j :: .ref a :: st) M Q = (((kX M a).1 = 0 ∧ inB j (kX M a).2 = true) ∧ Wp d 153 193 ls st (sA M a j.toNatClampNeg v) Q) := fun d ls a j v st M Q => w_iastore (show ins 153 192 = some (.iastore, 1) by decide +kernel)
set_option maxRecDepth 100000 in
theorem r_153_193 : ∀ (d : Nat) (l1 l2 : Option Value) (v : Nat) (st : List Value) (M : Mem) (Q : Outcome → Mem → Prop), Wp d 153 193 [some (.ref v), l1, l2] st M Q = Wp d 153 194 [some (.ref v), l1, l2] (.ref v :: st) M Q := fun d l1 l2 v st M Q => wA (show ins 153 193 = some (.aload_n 0, 1) by decide +kernel) rfl
set_option maxRecDepth 100000 in
theorem r_153_194 : ∀ (d : Nat) (ls : Lc) (a : Nat) (st : List Value) (M : Mem) (Q : Outcome → Mem → Prop), Wp d 153 194 ls (.ref a :: st) M Q = (fk 53 (kO M a) = true ∧ Wp d 153 197 ls (va_rf (mR M 53 a) :: st) M Q) := fun d ls a st M Q => w_getR (show ins 153 194 = some (.getfield 7, 3) by decide +kernel) (show fRes (mC 153) 7 = some (53, 8, false) by decide +kernel) (by decide +kernel)
set_option maxRecDepth 100000 in
theorem r_153_197 : ∀ (d : Nat) (ls : Lc) (st : List Value) (M : Mem) (Q : Outcome → Mem → Prop), Wp d 153 197 ls st M Q = Wp d 153 200 ls (.int (I 13068) :: st) M Q := fun d ls st M Q => w_sipush (show ins 153 197 = some (.sipush 13068, 3) by decide +kernel) (by decide)
set_option maxRecDepth 100000 in
theorem r_153_200 : ∀ (d : Nat) (ls : Lc) (st : List Value) (M : Mem) (Q : Outcome → Mem → Prop), Wp d 153 200 ls st M Q = Wp d 153 201 ls (.int (I 1) :: st) M Q := fun d ls st M Q => w_iconst (show ins 153 200 = some (.iconst 1, 1) by decide +kernel)
set_option maxRecDepth 100000 in
theorem r_153_201 : ∀ (d : Nat) (ls : Lc) (a : Nat) (j v : Int32) (st : List Value) (M : Mem) (Q : Outcome → Mem → Prop), Wp d 153 201 ls (.int v :: .int j :: .ref a :: st) M Q = (((kX M a).1 = 0 ∧ inB j (kX M a).2 = true) ∧ Wp d 153 202 ls st (sA M a j.toNatClampNeg v) Q) := fun d ls a j v st M Q => w_iastore (show ins 153 201 = some (.iastore, 1) by decide +kernel)
set_option maxRecDepth 100000 in
theorem r_153_202 : ∀ (d : Nat) (l1 l2 : Option Value) (v : Nat) (st : List Value) (M : Mem) (Q : Outcome → Mem → Prop), Wp d 153 202 [some (.ref v), l1, l2] st M Q = Wp d 153 203 [some (.ref v), l1, l2] (.ref v :: st) M Q := fun d l1 l2 v st M Q => wA (show ins 153 202 = some (.aload_n 0, 1) by decide +kernel) rfl
set_option maxRecDepth 100000 in
theorem r_153_203 : ∀ (d : Nat) (ls : Lc) (a : Nat) (st : List Value) (M : Mem) (Q : Outcome → Mem → Prop), Wp d 153 203 ls (.ref a :: st) M Q = (fk 53 (kO M a) = true ∧ Wp d 153 206 ls (va_rf (mR M 53 a) :: st) M Q) := fun d ls a st M Q => w_getR (show ins 153 203 = some (.getfield 7, 3) by decide +kernel) (show fRes (mC 153) 7 = some (53, 8, false) by decide +kernel) (by decide +kernel)
set_option maxRecDepth 100000 in
theorem r_153_206 : ∀ (d : Nat) (ls : Lc) (st : List Value) (M : Mem) (Q : Outcome → Mem → Prop), Wp d 153 206 ls st M Q = Wp d 153 209 ls (.int (I 13076) :: st) M Q := fun d ls st M Q => w_sipush (show ins 153 206 = some (.sipush 13076, 3) by decide +kernel) (by decide)
set_option maxRecDepth 100000 in
theorem r_153_209 : ∀ (d : Nat) (ls : Lc) (st : List Value) (M : Mem) (Q : Outcome → Mem → Prop), Wp d 153 209 ls st M Q = Wp d 153 210 ls (.int (I 1) :: st) M Q := fun d ls st M Q => w_iconst (show ins 153 209 = some (.iconst 1, 1) by decide +kernel)
set_option maxRecDepth 100000 in
theorem r_153_210 : ∀ (d : Nat) (ls : Lc) (a : Nat) (j v : Int32) (st : List Value) (M : Mem) (Q : Outcome → Mem → Prop), Wp d 153 210 ls (.int v :: .int j :: .ref a :: st) M Q = (((kX M a).1 = 0 ∧ inB j (kX M a).2 = true) ∧ Wp d 153 211 ls st (sA M a j.toNatClampNeg v) Q) := fun d ls a j v st M Q => w_iastore (show ins 153 210 = some (.iastore, 1) by decide +kernel)
set_option maxRecDepth 100000 in
theorem r_153_211 : ∀ (d : Nat) (l1 l2 : Option Value) (v : Nat) (st : List Value) (M : Mem) (Q : Outcome → Mem → Prop), Wp d 153 211 [some (.ref v), l1, l2] st M Q = Wp d 153 212 [some (.ref v), l1, l2] (.ref v :: st) M Q := fun d l1 l2 v st M Q => wA (show ins 153 211 = some (.aload_n 0, 1) by decide +kernel) rfl
set_option maxRecDepth 100000 in
theorem r_153_212 : ∀ (d : Nat) (ls : Lc) (a : Nat) (st : List Value) (M : Mem) (Q : Outcome → Mem → Prop), Wp d 153 212 ls (.ref a :: st) M Q = (fk 53 (kO M a) = true ∧ Wp d 153 215 ls (va_rf (mR M 53 a) :: st) M Q) := fun d ls a st M Q => w_getR (show ins 153 212 = some (.getfield 7, 3) by decide +kernel) (show fRes (mC 153) 7 = some (53, 8, false) by decide +kernel) (by decide +kernel)
set_option maxRecDepth 100000 in
theorem r_153_215 : ∀ (d : Nat) (ls : Lc) (st : List Value) (M : Mem) (Q : Outcome → Mem → Prop), Wp d 153 215 ls st M Q = Wp d 153 218 ls (.int (I 13077) :: st) M Q := fun d ls st M Q => w_sipush (show ins 153 215 = some (.sipush 13077, 3) by decide +kernel) (by decide)
set_option maxRecDepth 100000 in
theorem r_153_218 : ∀ (d : Nat) (ls : Lc) (st : List Value) (M : Mem) (Q : Outcome → Mem → Prop), Wp d 153 218 ls st M Q = Wp d 153 219 ls (.int (I 1) :: st) M Q := fun d ls st M Q => w_iconst (show ins 153 218 = some (.iconst 1, 1) by decide +kernel)
set_option maxRecDepth 100000 in
theorem r_153_219 : ∀ (d : Nat) (ls : Lc) (a : Nat) (j v : Int32) (st : List Value) (M : Mem) (Q : Outcome → Mem → Prop), Wp d 153 219 ls (.int v :: .int j :: .ref a :: st) M Q = (((kX M a).1 = 0 ∧ inB j (kX M a).2 = true) ∧ Wp d 153 220 ls st (sA M a j.toNatClampNeg v) Q) := fun d ls a j v st M Q => w_iastore (show ins 153 219 = some (.iastore, 1) by decide +kernel)
set_option maxRecDepth 100000 in
theorem r_153_220 : ∀ (d : Nat) (l1 l2 : Option Value) (v : Nat) (st : List Value) (M : Mem) (Q : Outcome → Mem → Prop), Wp d 153 220 [some (.ref v), l1, l2] st M Q = Wp d 153 221 [some (.ref v), l1, l2] (.ref v :: st) M Q := fun d l1 l2 v st M Q => wA (show ins 153 220 = some (.aload_n 0, 1) by decide +kernel) rfl
set_option maxRecDepth 100000 in
theorem r_153_221 : ∀ (d : Nat) (ls : Lc) (a : Nat) (st : List Value) (M : Mem) (Q : Outcome → Mem → Prop), Wp d 153 221 ls (.ref a :: st) M Q = (fk 53 (kO M a) = true ∧ Wp d 153 224 ls (va_rf (mR M 53 a) :: st) M Q) := fun d ls a st M Q => w_getR (show ins 153 221 = some (.getfield 7, 3) by decide +kernel) (show fRes (mC 153) 7 = some (53, 8, false) by decide +kernel) (by decide +kernel)
set_option maxRecDepth 100000 in
theorem r_153_224 : ∀ (d : Nat) (l1 l2 : Option Value) (v : Nat) (st : List Value) (M : Mem) (Q : Outcome → Mem → Prop), Wp d 153 224 [some (.ref v), l1, l2] st M Q = Wp d 153 225 [some (.ref v), l1, l2] (.ref v :: st) M Q := fun d l1 l2 v st M Q => wA (show ins 153 224 = some (.aload_n 0, 1) by decide +kernel) rfl
set_option maxRecDepth 100000 in
theorem r_153_225 : ∀ (d : Nat) (ls : Lc) (a : Nat) (st : List Value) (M : Mem) (Q : Outcome → Mem → Prop), Wp d 153 225 ls (.ref a :: st) M Q = (fk 45 (kO M a) = true ∧ Wp d 153 228 ls (va_rf (mR M 45 a) :: st) M Q) := fun d ls a st M Q => w_getR (show ins 153 225 = some (.getfield 16, 3) by decide +kernel) (show fRes (mC 153) 16 = some (45, 8, false) by decide +kernel) (by decide +kernel)
set_option maxRecDepth 100000 in
theorem r_153_228 : ∀ (d : Nat) (ls : Lc) (v0 v1 : Value)  (st : List Value) (M : Mem) (Q : Outcome → Mem → Prop), (smallR st = true) → Wp d 153 228 ls (v1 :: v0 :: st) M Q = Ca d 153 228 ls 154 [v0, v1] st M Q := fun d ls v0 v1 st M Q h0 => w_stat (as := [v0, v1]) (show ins 153 228 = some (.invokestatic 36, 3) by decide +kernel) (show mRes (mC 153) 36 = some (0, 8, [(0, 154)]) by decide +kernel) (by decide +kernel) (by decide +kernel) rfl h0
set_option maxRecDepth 100000 in
theorem r_153_231 : ∀ (d : Nat) (ls : Lc) (M : Mem) (Q : Outcome → Mem → Prop), Wp d 153 231 ls [] M Q = Q (.returned none) M := fun d ls M Q => w_return (show ins 153 231 = some (.return_, 1) by decide +kernel) (by decide +kernel)
set_option maxRecDepth 100000 in
theorem W_153 : (type_of% r_153_0) ∧ (type_of% r_153_1) ∧ (type_of% r_153_4) ∧ (type_of% r_153_5) ∧ (type_of% r_153_8) ∧ (type_of% r_153_10) ∧ (type_of% r_153_10_1) ∧ (type_of% r_153_13) ∧ (type_of% r_153_14) ∧ (type_of% r_153_17) ∧ (type_of% r_153_19) ∧ (type_of% r_153_19_1) ∧ (type_of% r_153_22) ∧ (type_of% r_153_23) ∧ (type_of% r_153_26) ∧ (type_of% r_153_28) ∧ (type_of% r_153_28_1) ∧ (type_of% r_153_31) ∧ (type_of% r_153_32) ∧ (type_of% r_153_35) ∧ (type_of% r_153_37) ∧ (type_of% r_153_37_1) ∧ (type_of% r_153_40) ∧ (type_of% r_153_41) ∧ (type_of% r_153_43) ∧ (type_of% r_153_45) ∧ (type_of% r_153_45_1) ∧ (type_of% r_153_48) ∧ (type_of% r_153_49) ∧ (type_of% r_153_50) ∧ (type_of% r_153_53) ∧ (type_of% r_153_54) ∧ (type_of% r_153_55) ∧ (type_of% r_153_57) ∧ (type_of% r_153_60) ∧ (type_of% r_153_62) ∧ (type_of% r_153_65) ∧ (type_of% r_153_66) ∧ (type_of% r_153_68) ∧ (type_of% r_153_71) ∧ (type_of% r_153_73) ∧ (type_of% r_153_76) ∧ (type_of% r_153_77) ∧ (type_of% r_153_80) ∧ (type_of% r_153_81) ∧ (type_of% r_153_82) ∧ (type_of% r_153_84) ∧ (type_of% r_153_87) ∧ (type_of% r_153_89) ∧ (type_of% r_153_92) ∧ (type_of% r_153_93) ∧ (type_of% r_153_95) ∧ (type_of% r_153_98) ∧ (type_of% r_153_100) ∧ (type_of% r_153_103) ∧ (type_of% r_153_104) ∧ (type_of% r_153_107) ∧ (type_of% r_153_108) ∧ (type_of% r_153_111) ∧ (type_of% r_153_112) ∧ (type_of% r_153_113) ∧ (type_of% r_153_114) ∧ (type_of% r_153_115) ∧ (type_of% r_153_118) ∧ (type_of% r_153_119) ∧ (type_of% r_153_120) ∧ (type_of% r_153_121) ∧ (type_of% r_153_122) ∧ (type_of% r_153_125) ∧ (type_of% r_153_127) ∧ (type_of% r_153_128) ∧ (type_of% r_153_129) ∧ (type_of% r_153_130) ∧ (type_of% r_153_133) ∧ (type_of% r_153_136) ∧ (type_of% r_153_137) ∧ (type_of% r_153_138) ∧ (type_of% r_153_139) ∧ (type_of% r_153_142) ∧ (type_of% r_153_145) ∧ (type_of% r_153_146) ∧ (type_of% r_153_147) ∧ (type_of% r_153_148) ∧ (type_of% r_153_151) ∧ (type_of% r_153_154) ∧ (type_of% r_153_155) ∧ (type_of% r_153_156) ∧ (type_of% r_153_157) ∧ (type_of% r_153_160) ∧ (type_of% r_153_163) ∧ (type_of% r_153_164) ∧ (type_of% r_153_165) ∧ (type_of% r_153_166) ∧ (type_of% r_153_169) ∧ (type_of% r_153_172) ∧ (type_of% r_153_173) ∧ (type_of% r_153_174) ∧ (type_of% r_153_175) ∧ (type_of% r_153_178) ∧ (type_of% r_153_181) ∧ (type_of% r_153_183) ∧ (type_of% r_153_184) ∧ (type_of% r_153_185) ∧ (type_of% r_153_188) ∧ (type_of% r_153_191) ∧ (type_of% r_153_192) ∧ (type_of% r_153_193) ∧ (type_of% r_153_194) ∧ (type_of% r_153_197) ∧ (type_of% r_153_200) ∧ (type_of% r_153_201) ∧ (type_of% r_153_202) ∧ (type_of% r_153_203) ∧ (type_of% r_153_206) ∧ (type_of% r_153_209) ∧ (type_of% r_153_210) ∧ (type_of% r_153_211) ∧ (type_of% r_153_212) ∧ (type_of% r_153_215) ∧ (type_of% r_153_218) ∧ (type_of% r_153_219) ∧ (type_of% r_153_220) ∧ (type_of% r_153_221) ∧ (type_of% r_153_224) ∧ (type_of% r_153_225) ∧ (type_of% r_153_228) ∧ (type_of% r_153_231) := ⟨r_153_0, r_153_1, r_153_4, r_153_5, r_153_8, r_153_10, r_153_10_1, r_153_13, r_153_14, r_153_17, r_153_19, r_153_19_1, r_153_22, r_153_23, r_153_26, r_153_28, r_153_28_1, r_153_31, r_153_32, r_153_35, r_153_37, r_153_37_1, r_153_40, r_153_41, r_153_43, r_153_45, r_153_45_1, r_153_48, r_153_49, r_153_50, r_153_53, r_153_54, r_153_55, r_153_57, r_153_60, r_153_62, r_153_65, r_153_66, r_153_68, r_153_71, r_153_73, r_153_76, r_153_77, r_153_80, r_153_81, r_153_82, r_153_84, r_153_87, r_153_89, r_153_92, r_153_93, r_153_95, r_153_98, r_153_100, r_153_103, r_153_104, r_153_107, r_153_108, r_153_111, r_153_112, r_153_113, r_153_114, r_153_115, r_153_118, r_153_119, r_153_120, r_153_121, r_153_122, r_153_125, r_153_127, r_153_128, r_153_129, r_153_130, r_153_133, r_153_136, r_153_137, r_153_138, r_153_139, r_153_142, r_153_145, r_153_146, r_153_147, r_153_148, r_153_151, r_153_154, r_153_155, r_153_156, r_153_157, r_153_160, r_153_163, r_153_164, r_153_165, r_153_166, r_153_169, r_153_172, r_153_173, r_153_174, r_153_175, r_153_178, r_153_181, r_153_183, r_153_184, r_153_185, r_153_188, r_153_191, r_153_192, r_153_193, r_153_194, r_153_197, r_153_200, r_153_201, r_153_202, r_153_203, r_153_206, r_153_209, r_153_210, r_153_211, r_153_212, r_153_215, r_153_218, r_153_219, r_153_220, r_153_221, r_153_224, r_153_225, r_153_228, r_153_231⟩
set_option maxRecDepth 100000 in
theorem ca_153 {d y pc : Nat} {ls : Lc} {a : Nat} {z0 : Int32} {z1 : Int32} {r : List Value} {M : Mem} {Q : Outcome → Mem → Prop} (hd : 0 < d) (hw : Wp (d - 1) 153 0 [some (.ref a), some (.int z0), some (.int z1)] [] M (Cq d y pc ls r Q)) : Ca d y pc ls 153 [.ref a, .int z0, .int z1] r M Q := ca_of (mq_get (by decide)) (by rfl) hd hw
/-! 154 PackedTreeModel.keep([I[I)V; loop heads [2] -/
set_option maxRecDepth 100000 in
theorem r_154_0 : ∀ (d : Nat) (ls : Lc) (st : List Value) (M : Mem) (Q : Outcome → Mem → Prop), Wp d 154 0 ls st M Q = Wp d 154 1 ls (.int (I 0) :: st) M Q := fun d ls st M Q => w_iconst (show ins 154 0 = some (.iconst 0, 1) by decide +kernel)
set_option maxRecDepth 100000 in
theorem r_154_1 : ∀ (d : Nat) (l0 l1 l2 : Option Value) (v : Int32) (st : List Value) (M : Mem) (Q : Outcome → Mem → Prop), (lo l1 = false) → Wp d 154 1 [l0, l1, l2] (.int v :: st) M Q = Wp d 154 2 [l0, l1, some (.int v)] st M Q := fun d l0 l1 l2 v st M Q hl => w_istore_n (show ins 154 1 = some (.istore_n 2, 1) by decide +kernel) (st1_S rfl rfl hl)
set_option maxRecDepth 100000 in
theorem r_154_2 : ∀ (d : Nat) (l0 l1 : Option Value) (v : Int32) (st : List Value) (M : Mem) (Q : Outcome → Mem → Prop), Wp d 154 2 [l0, l1, some (.int v)] st M Q = Wp d 154 3 [l0, l1, some (.int v)] (.int v :: st) M Q := fun d l0 l1 v st M Q => wA (show ins 154 2 = some (.iload_n 2, 1) by decide +kernel) rfl
set_option maxRecDepth 100000 in
theorem r_154_3 : ∀ (d : Nat) (ls : Lc) (st : List Value) (M : Mem) (Q : Outcome → Mem → Prop), Wp d 154 3 ls st M Q = Wp d 154 6 ls (.int (I 25366) :: st) M Q := fun d ls st M Q => w_sipush (show ins 154 3 = some (.sipush 25366, 3) by decide +kernel) (by decide)
set_option maxRecDepth 100000 in
theorem r_154_6 : ∀ (d : Nat) (ls : Lc) (a b : Int32) (st : List Value) (M : Mem) (Q : Outcome → Mem → Prop), Wp d 154 6 ls (.int b :: .int a :: st) M Q = Br (b ≤ a) d 154 21 9 ls st M Q := fun d ls a b st M Q => w_icmp (show ins 154 6 = some (.if_icmp .ge 15, 3) by decide +kernel) rfl rfl
set_option maxRecDepth 100000 in
theorem r_154_9 : ∀ (d : Nat) (l0 l2 : Option Value) (v : Nat) (st : List Value) (M : Mem) (Q : Outcome → Mem → Prop), Wp d 154 9 [l0, some (.ref v), l2] st M Q = Wp d 154 10 [l0, some (.ref v), l2] (.ref v :: st) M Q := fun d l0 l2 v st M Q => wA (show ins 154 9 = some (.aload_n 1, 1) by decide +kernel) rfl
set_option maxRecDepth 100000 in
theorem r_154_9_1 : ∀ (d : Nat) (l0 l2 : Option Value) (st : List Value) (M : Mem) (Q : Outcome → Mem → Prop), Wp d 154 9 [l0, some .null, l2] st M Q = Wp d 154 10 [l0, some .null, l2] (.null :: st) M Q := fun d l0 l2 st M Q => wA (show ins 154 9 = some (.aload_n 1, 1) by decide +kernel) rfl
set_option maxRecDepth 100000 in
theorem r_154_10 : ∀ (d : Nat) (l0 l1 : Option Value) (v : Int32) (st : List Value) (M : Mem) (Q : Outcome → Mem → Prop), Wp d 154 10 [l0, l1, some (.int v)] st M Q = Wp d 154 11 [l0, l1, some (.int v)] (.int v :: st) M Q := fun d l0 l1 v st M Q => wA (show ins 154 10 = some (.iload_n 2, 1) by decide +kernel) rfl
set_option maxRecDepth 100000 in
theorem r_154_11 : ∀ (d : Nat) (l1 l2 : Option Value) (v : Nat) (st : List Value) (M : Mem) (Q : Outcome → Mem → Prop), Wp d 154 11 [some (.ref v), l1, l2] st M Q = Wp d 154 12 [some (.ref v), l1, l2] (.ref v :: st) M Q := fun d l1 l2 v st M Q => wA (show ins 154 11 = some (.aload_n 0, 1) by decide +kernel) rfl
set_option maxRecDepth 100000 in
theorem r_154_11_1 : ∀ (d : Nat) (l1 l2 : Option Value) (st : List Value) (M : Mem) (Q : Outcome → Mem → Prop), Wp d 154 11 [some .null, l1, l2] st M Q = Wp d 154 12 [some .null, l1, l2] (.null :: st) M Q := fun d l1 l2 st M Q => wA (show ins 154 11 = some (.aload_n 0, 1) by decide +kernel) rfl
set_option maxRecDepth 100000 in
theorem r_154_12 : ∀ (d : Nat) (l0 l1 : Option Value) (v : Int32) (st : List Value) (M : Mem) (Q : Outcome → Mem → Prop), Wp d 154 12 [l0, l1, some (.int v)] st M Q = Wp d 154 13 [l0, l1, some (.int v)] (.int v :: st) M Q := fun d l0 l1 v st M Q => wA (show ins 154 12 = some (.iload_n 2, 1) by decide +kernel) rfl
set_option maxRecDepth 100000 in
theorem r_154_13 : ∀ (d : Nat) (ls : Lc) (a : Nat) (j : Int32) (st : List Value) (M : Mem) (Q : Outcome → Mem → Prop), Wp d 154 13 ls (.int j :: .ref a :: st) M Q = ((((kX M a).1 = 0 ∨ (kX M a).1 = 8) ∧ inB j (kX M a).2 = true) ∧ Wp d 154 14 ls (.int (mA M a j.toNatClampNeg) :: st) M Q) := fun d ls a j st M Q => w_iaload (show ins 154 13 = some (.iaload, 1) by decide +kernel)
set_option maxRecDepth 100000 in
theorem r_154_14 : ∀ (d : Nat) (ls : Lc) (a : Nat) (j v : Int32) (st : List Value) (M : Mem) (Q : Outcome → Mem → Prop), Wp d 154 14 ls (.int v :: .int j :: .ref a :: st) M Q = (((kX M a).1 = 0 ∧ inB j (kX M a).2 = true) ∧ Wp d 154 15 ls st (sA M a j.toNatClampNeg v) Q) := fun d ls a j v st M Q => w_iastore (show ins 154 14 = some (.iastore, 1) by decide +kernel)
set_option maxRecDepth 100000 in
theorem r_154_15 : ∀ (d : Nat) (l0 l1 : Option Value) (z : Int) (st : List Value) (M : Mem) (Q : Outcome → Mem → Prop), (lo l1 = false) → Wp d 154 15 [l0, l1, some (.int (I z))] st M Q = Wp d 154 18 [l0, l1, some (.int (I (z + 1)))] st M Q := fun d l0 l1 z st M Q hl => w_iinc (show ins 154 15 = some (.iinc 2 1, 3) by decide +kernel) rfl (st1_S rfl rfl hl)
set_option maxRecDepth 100000 in
theorem r_154_18 : ∀ (d : Nat) (ls : Lc) (st : List Value) (M : Mem) (Q : Outcome → Mem → Prop), Wp d 154 18 ls st M Q = Wp d 154 2 ls st M Q := fun d ls st M Q => w_goto (show ins 154 18 = some (.goto (-16), 3) by decide +kernel) rfl
set_option maxRecDepth 100000 in
theorem r_154_21 : ∀ (d : Nat) (ls : Lc) (M : Mem) (Q : Outcome → Mem → Prop), Wp d 154 21 ls [] M Q = Q (.returned none) M := fun d ls M Q => w_return (show ins 154 21 = some (.return_, 1) by decide +kernel) (by decide +kernel)
set_option maxRecDepth 100000 in
theorem w_154_2 : (type_of% r_154_2) := r_154_2
set_option maxRecDepth 100000 in
theorem W_154 : (type_of% r_154_0) ∧ (type_of% r_154_1) ∧ (type_of% r_154_3) ∧ (type_of% r_154_6) ∧ (type_of% r_154_9) ∧ (type_of% r_154_9_1) ∧ (type_of% r_154_10) ∧ (type_of% r_154_11) ∧ (type_of% r_154_11_1) ∧ (type_of% r_154_12) ∧ (type_of% r_154_13) ∧ (type_of% r_154_14) ∧ (type_of% r_154_15) ∧ (type_of% r_154_18) ∧ (type_of% r_154_21) := ⟨r_154_0, r_154_1, r_154_3, r_154_6, r_154_9, r_154_9_1, r_154_10, r_154_11, r_154_11_1, r_154_12, r_154_13, r_154_14, r_154_15, r_154_18, r_154_21⟩
set_option maxRecDepth 100000 in
theorem ca_154 {d y pc : Nat} {ls : Lc} {o0 : Option Nat} {o1 : Option Nat} {r : List Value} {M : Mem} {Q : Outcome → Mem → Prop} (hd : 0 < d) (hw : Wp (d - 1) 154 0 [some (va_rf o0), some (va_rf o1), none] [] M (Cq d y pc ls r Q)) : Ca d y pc ls 154 [va_rf o0, va_rf o1] r M Q := ca_of (mq_get (by decide)) (by cases o0 <;> cases o1 <;> rfl) hd hw
