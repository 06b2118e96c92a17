/-! ===== OBJECTS: kind, links, size, data blocks, tail, what entries tell ===== -/
abbrev Ob : Type := (Nat → Nat) × (Nat → Nat) × (Nat → Nat) × (Nat → List Nat) × (Nat → List Nat) × (Nat → Nat)
def oK (X : Ob) : Nat → Nat := X.1
def oL (X : Ob) : Nat → Nat := X.2.1
def oS (X : Ob) : Nat → Nat := X.2.2.1
def oD (X : Ob) : Nat → List Nat := X.2.2.2.1
def oT (X : Ob) : Nat → List Nat := X.2.2.2.2.1
def oE (X : Ob) : Nat → Nat := X.2.2.2.2.2
def stB (k l n : Nat) : List Nat := [k - 1, l / 256 % 256, l % 256, n / 256 % 256, n % 256, 0]
/-- the body of an item -/
def pyO (X : Ob) (key : Nat) : List Nat :=
  if key % 4096 = 0 then stB (oK X (key / 4096)) (oL X (key / 4096)) (oS X (key / 4096)) else if key % 4096 = 2048 then (oD X (key / 4096)).flatMap (fun b => [b, 0]) else if key % 4096 = 3072 then oT X (key / 4096) else [oE X key, 0, 0]
theorem ky_parts {o k n : Nat} (hk : k < 4) (hn : n < 1024) : ky o k n / 1024 % 4 = k ∧ ky o k n / 4096 = o ∧ ky o k n % 1024 = n ∧ ky o k n % 4096 = k * 1024 + n := by unfold ky; omega
theorem pyO_0 (X : Ob) (o : Nat) : pyO X (ky o 0 0) = stB (oK X o) (oL X o) (oS X o) := by
  obtain ⟨_, h2, _, h1⟩ := ky_parts (o := o) (k := 0) (n := 0) (by omega) (by omega)
  unfold pyO; rw [if_pos h1, h2]
theorem pyO_1 (X : Ob) (o : Nat) {n : Nat} (hn : n < 1024) : pyO X (ky o 1 n) = [oE X (ky o 1 n), 0, 0] := by
  obtain ⟨_, h2, _, h1⟩ := ky_parts (o := o) (k := 1) (n := n) (by omega) hn
  unfold pyO; rw [if_neg (by omega), if_neg (by omega), if_neg (by omega)]
theorem pyO_2 (X : Ob) (o : Nat) : pyO X (ky o 2 0) = (oD X o).flatMap (fun b => [b, 0]) := by
  obtain ⟨_, h2, _, h1⟩ := ky_parts (o := o) (k := 2) (n := 0) (by omega) (by omega)
  unfold pyO; rw [if_neg (by omega), if_pos h1, h2]
theorem pyO_3 (X : Ob) (o : Nat) : pyO X (ky o 3 0) = oT X o := by
  obtain ⟨_, h2, _, h1⟩ := ky_parts (o := o) (k := 3) (n := 0) (by omega) (by omega)
  unfold pyO; rw [if_neg (by omega), if_neg (by omega), if_pos h1, h2]
/-- changes of objects -/
def vS (X : Ob) (o k l n : Nat) : Ob := (fu X.1 o k, fu X.2.1 o l, fu X.2.2.1 o n, X.2.2.2)
def vD (X : Ob) (o : Nat) (l : List Nat) : Ob := (X.1, X.2.1, X.2.2.1, fu X.2.2.2.1 o l, X.2.2.2.2)
def vT (X : Ob) (o : Nat) (l : List Nat) : Ob := (X.1, X.2.1, X.2.2.1, X.2.2.2.1, fu X.2.2.2.2.1 o l, X.2.2.2.2.2)
def vE (X : Ob) (key v : Nat) : Ob := (X.1, X.2.1, X.2.2.1, X.2.2.2.1, X.2.2.2.2.1, fu X.2.2.2.2.2 key v)
theorem pyO_vS (X : Ob) (o k l n : Nat) : pyO (vS X o k l n) = fu (pyO X) (ky o 0 0) (stB k l n) := by
  funext key
  by_cases e : key = ky o 0 0
  · rw [e, fu_s, pyO_0]; unfold vS oK oL oS; simp only [fu_s]
  · rw [fu_n _ _ e]
    unfold pyO
    by_cases h0 : key % 4096 = 0
    · rw [if_pos h0, if_pos h0]
      have : key / 4096 ≠ o := by intro h; apply e; unfold ky; omega
      unfold vS oK oL oS; simp only [fu_n _ _ this]
    · rw [if_neg h0, if_neg h0]; rfl
theorem pyO_vD (X : Ob) (o : Nat) (l : List Nat) : pyO (vD X o l) = fu (pyO X) (ky o 2 0) (l.flatMap (fun b => [b, 0])) := by
  funext key
  by_cases e : key = ky o 2 0
  · rw [e, fu_s, pyO_2]; unfold vD oD; simp only [fu_s]
  · rw [fu_n _ _ e]
    unfold pyO
    by_cases h0 : key % 4096 = 2048
    · have g0 : ¬ key % 4096 = 0 := by omega
      simp only [g0, if_false]
      rw [if_pos h0, if_pos h0]
      have : key / 4096 ≠ o := by intro h; apply e; unfold ky; omega
      unfold vD oD; simp only [fu_n _ _ this]
    · rw [if_neg h0, if_neg h0]; rfl
theorem pyO_vT (X : Ob) (o : Nat) (l : List Nat) : pyO (vT X o l) = fu (pyO X) (ky o 3 0) l := by
  funext key
  by_cases e : key = ky o 3 0
  · rw [e, fu_s, pyO_3]; unfold vT oT; simp only [fu_s]
  · rw [fu_n _ _ e]
    unfold pyO
    by_cases h0 : key % 4096 = 3072
    · have g0 : ¬ key % 4096 = 0 := by omega
      have g1 : ¬ key % 4096 = 2048 := by omega
      simp only [g0, g1, if_false]
      rw [if_pos h0, if_pos h0]
      have : key / 4096 ≠ o := by intro h; apply e; unfold ky; omega
      unfold vT oT; simp only [fu_n _ _ this]
    · rw [if_neg h0, if_neg h0]; rfl
theorem pyO_vE (X : Ob) (o v : Nat) {n : Nat} (hn : n < 1024) : pyO (vE X (ky o 1 n) v) = fu (pyO X) (ky o 1 n) [v, 0, 0] := by
  obtain ⟨_, h2, _, h1⟩ := ky_parts (o := o) (k := 1) (n := n) (by omega) hn
  funext key
  by_cases e : key = ky o 1 n
  · rw [e, fu_s, pyO_1 _ _ hn]; unfold vE oE; simp only [fu_s]
  · rw [fu_n _ _ e]
    unfold pyO vE oE
    simp only [fu_n _ _ e]
    rfl
theorem vS_at (X : Ob) (o k l n : Nat) : oK (vS X o k l n) = fu (oK X) o k ∧ oL (vS X o k l n) = fu (oL X) o l ∧ oS (vS X o k l n) = fu (oS X) o n ∧ oD (vS X o k l n) = oD X ∧ oT (vS X o k l n) = oT X ∧ oE (vS X o k l n) = oE X := ⟨rfl, rfl, rfl, rfl, rfl, rfl⟩
theorem vD_at (X : Ob) (o : Nat) (l : List Nat) : oK (vD X o l) = oK X ∧ oL (vD X o l) = oL X ∧ oS (vD X o l) = oS X ∧ oD (vD X o l) = fu (oD X) o l ∧ oT (vD X o l) = oT X ∧ oE (vD X o l) = oE X := ⟨rfl, rfl, rfl, rfl, rfl, rfl⟩
theorem vT_at (X : Ob) (o : Nat) (l : List Nat) : oK (vT X o l) = oK X ∧ oL (vT X o l) = oL X ∧ oS (vT X o l) = oS X ∧ oD (vT X o l) = oD X ∧ oT (vT X o l) = fu (oT X) o l ∧ oE (vT X o l) = oE X := ⟨rfl, rfl, rfl, rfl, rfl, rfl⟩
theorem vE_at (X : Ob) (k v : Nat) : oK (vE X k v) = oK X ∧ oL (vE X k v) = oL X ∧ oS (vE X k v) = oS X ∧ oD (vE X k v) = oD X ∧ oT (vE X k v) = oT X ∧ oE (vE X k v) = fu (oE X) k v := ⟨rfl, rfl, rfl, rfl, rfl, rfl⟩
/-- the component with tree and objects -/
def CX (M : Mem) (p m J : Nat) (A : Ad) (T : Tr) (X : Ob) : Prop := PK M p m J ∧ RM M (p + 201) (p + 199) m A T (pyO X) none ∧ Gt m T (pyO X) ∧ NB A (p + 403 + J) ∧ p + 403 + J ≤ mN M
/-- only what find() found changes -/
def Tw (t : Nat) (M M' : Mem) : Prop := ∃ v z, M' = sF (sR M 14 t v) 16 t z
theorem up2_2 {α : Type} (g : Nat → Nat → α) (x y : Nat) (v v' : α) : up2 (up2 g x y v) x y v' = up2 g x y v' := by
  funext a b
  unfold up2
  split <;> rfl
theorem up2_id {α : Type} (g : Nat → Nat → α) (x y : Nat) : up2 g x y (g x y) = g := by
  funext a b
  unfold up2
  split
  · rename_i h; rw [h.1, h.2]
  · rfl
theorem Tw.refl (t : Nat) (M : Mem) : Tw t M M := by
  refine ⟨mR M 14 t, mF M 16 t, ?_⟩
  unfold sF sR mR mF
  rw [up2_id]
  simp only [up2_id]
theorem Tw.trans {t : Nat} {M M' M'' : Mem} (h : Tw t M M') (h' : Tw t M' M'') : Tw t M M'' := by
  obtain ⟨v, z, rfl⟩ := h
  obtain ⟨v', z', rfl⟩ := h'
  refine ⟨v', z', ?_⟩
  unfold sF sR
  simp only [up2_2]
theorem Tw.f1 {t : Nat} {M M' : Mem} (h : Tw t M M') : (∀ a i, mA M' a i = mA M a i) ∧ (∀ a i, mQ M' a i = mQ M a i) ∧ (∀ a i, mL M' a i = mL M a i) ∧ mN M' = mN M ∧ mS M' = mS M ∧ (∀ a, mK M' a = mK M a) ∧ (∀ a, kO M' a = kO M a) ∧ (∀ a, kX M' a = kX M a) ∧ (∀ f a, (f ≠ 16 ∨ a ≠ t) → mF M' f a = mF M f a) ∧ (∀ f a, (f ≠ 14 ∨ a ≠ t) → mR M' f a = mR M f a) := by
  obtain ⟨v, z, rfl⟩ := h
  refine ⟨fun _ _ => rfl, fun _ _ => rfl, fun _ _ => rfl, rfl, rfl, fun _ => rfl, fun _ => rfl, fun _ => rfl, fun f a hh => ?_, fun f a hh => ?_⟩
  · rw [mF_sF, if_neg (fun e => by rcases hh with h | h; exact h e.1; exact h e.2)]; rfl
  · show mR (sR M 14 t v) f a = _
    rw [mR_sR, if_neg (fun e => by rcases hh with h | h; exact h e.1; exact h e.2)]
theorem CX.tw {M M' : Mem} {p m J : Nat} {A : Ad} {T : Tr} {X : Ob} (h : CX M p m J A T X) (F : Tw (p + 201) M M') : CX M' p m J A T X := by
  have f := F.f1
  obtain ⟨h1, h2, h3, h4, h5⟩ := h
  refine ⟨h1.of (fun a _ => f.2.2.2.2.2.1 a) (fun a g ha => f.2.2.2.2.2.2.2.2.2 g a (.inr (by have := ha.2.2; omega))) (fun a i _ => f.2.1 a i) (f.2.2.2.2.2.2.2.2.1 _ _ (.inl (by omega))) (f.2.2.2.2.2.2.2.2.1 _ _ (.inl (by omega))), ?_, h3, h4, by rw [f.2.2.2.1]; exact h5⟩
  obtain ⟨v, z, rfl⟩ := F
  exact (h2.lfr v).plc z
section Ri
variable {d p m J : Nat} {M : Mem} {A : Ad} {T : Tr} {X : Ob} {Q : Outcome → Mem → Prop}
/-- a body's bytes in a leaf -/
theorem LfIs.body {q k key : Nat} {ks : List Nat} {py : Nat → List Nat} (h : LfIs M q ks py) (hk : ks[k]? = some key) : ((ks.take k).flatMap py).length + (py key).length ≤ 240 ∧ ∀ i v, (py key)[i]? = some v → mA M (q + 3) (((ks.take k).flatMap py).length + i) = bB (v : Nat) := by
  have hl := (List.getElem?_eq_some_iff.mp hk).1
  have e : ks = ks.take k ++ key :: ks.drop (k + 1) := by
    have h2 := List.take_append_drop k ks
    rw [List.drop_eq_getElem_cons hl, (List.getElem?_eq_some_iff.mp hk).2] at h2
    exact h2.symm
  have e2 : ks.flatMap py = (ks.take k).flatMap py ++ (py key ++ (ks.drop (k + 1)).flatMap py) := by
    conv => lhs; rw [e]
    rw [List.flatMap_append, List.flatMap_cons]
  obtain ⟨h1, h2, h3, h4, h5, h6, h7⟩ := h
  refine ⟨by rw [e2, List.length_append, List.length_append] at h5; omega, fun i v hv => h7 _ v ?_⟩
  have hi := (List.getElem?_eq_some_iff.mp hv).1
  rw [e2, List.getElem?_append_right (by omega), Nat.add_sub_cancel_left, List.getElem?_append_left hi]
  exact hv
/-- find, and the leaf that was found -/
theorem n_fnd (hd : 13 ≤ d) (C : CX M p m J A T X) {key : Nat} (hkey : key < 1000000) (hQ : ∀ M' q, Tw (p + 201) M M' → CX M' p m J A T X → mR M' 14 (p + 201) = some q → kO M' q = 5 → mF M' 16 (p + 201) = I (pl key (tI T (lfT T key)) : Nat) → pl key (tI T (lfT T key)) ≤ (tI T (lfT T key)).length → LfIs M' q (tI T (lfT T key)) (pyO X) → (key ∈ its T → (tI T (lfT T key))[pl key (tI T (lfT T key))]? = some key) → Q (.returned (some (.int (I (bI (decide (key ∈ its T))))))) M') : Wp d 98 0 [some (.ref (p + 201)), some (.int (I (key : Nat)))] [] M Q := by
  obtain ⟨h1, h2, h3, h4, h5⟩ := id C
  refine n_find h2 h3.1 h3.2.2 hkey hd (fun M' q hq hM R' F' e14 e16 => ?_)
  have hT : Tw (p + 201) M M' := ⟨_, _, hM⟩
  obtain ⟨hx, _, _, _, _, _, _, e5, _, _⟩ := lf_spec h3.1 key
  obtain ⟨q', a1, a2, _⟩ := R'.2.2.1 _ (h3.1.1.1 0 _ hx).2.1
  rw [hq] at a1
  obtain rfl := Option.some.inj a1
  exact hQ M' q hT (C.tw hT) e14 a2.1.1 e16 (pl_le _ _) a2 (fun hk => (pl_has e5).mpr ((lf_mem h3.1 key).mp hk))
/-- which objects there are -/
def iso (T : Tr) (z : Int) : Bool := decide (1 ≤ z ∧ z ≤ 60 ∧ ky z.toNat 0 0 ∈ its T)
theorem n_isObject (hd : 14 ≤ d) (C : CX M p m J A T X) {z : Int} (z0 : -2147483648 ≤ z) (z1 : z < 2147483648) (hQ : ∀ M', Tw (p + 201) M M' → CX M' p m J A T X → Q (.returned (some (.int (I (bI (iso T z)))))) M') : Wp d 33 0 [some (.ref p), some (.int (I z))] [] M Q := by
  have k0 := C.1.1.1
  have k9 := C.1.1.2.2.2.2.2.2.2.2.1
  have kt := C.2.1.1.1.1
  simp (disch := first | (simp only [dd, dr]; done) | omega) only [W_33, k0, I_lt, I_le, I_inj, inB_I, tc_I, Int.toNat_natCast, fkt, rf1, rf0, cq, Nat.reduceAdd, Nat.reduceEqDiff, Int.reduceToNat, eq_self, true_and, and_true, true_or, or_true, bI_0, bI_1, mm, rAm, mF_sF, mR_sR, false_and, and_false, if_false, if_true, false_or, or_false, not_true_eq_false, not_false_eq_true, and_self]
  refine ⟨fun h => ?_, fun h => ?_⟩
  · have e : iso T z = false := decide_eq_false (fun h' => by omega)
    have := hQ M (Tw.refl _ _) C
    rw [e] at this
    simp (disch := first | (simp only [dd, dr]; done) | omega) only [W_33, I_lt, I_le, I_inj, inB_I, tc_I, Int.toNat_natCast, fkt, rf1, rf0, cq, Nat.reduceAdd, Nat.reduceEqDiff, Int.reduceToNat, eq_self, true_and, and_true, true_or, or_true, bI_0, bI_1, mm, rAm, mF_sF, mR_sR, false_and, and_false, if_false, if_true, false_or, or_false, not_true_eq_false, not_false_eq_true, and_self]
    exact this
  · simp (disch := first | (simp only [dd, dr]; done) | omega) only [W_33, I_lt, I_le, I_inj, inB_I, tc_I, Int.toNat_natCast, fkt, rf1, rf0, cq, Nat.reduceAdd, Nat.reduceEqDiff, Int.reduceToNat, eq_self, true_and, and_true, true_or, or_true, bI_0, bI_1, mm, rAm, mF_sF, mR_sR, false_and, and_false, if_false, if_true, false_or, or_false, not_true_eq_false, not_false_eq_true, and_self]
    refine ⟨fun h2 => ?_, fun h2 => ?_⟩
    · have e : iso T z = false := decide_eq_false (fun h' => by omega)
      have := hQ M (Tw.refl _ _) C
      rw [e] at this
      simp (disch := first | (simp only [dd, dr]; done) | omega) only [W_33, I_lt, I_le, I_inj, inB_I, tc_I, Int.toNat_natCast, fkt, rf1, rf0, cq, Nat.reduceAdd, Nat.reduceEqDiff, Int.reduceToNat, eq_self, true_and, and_true, true_or, or_true, bI_0, bI_1, mm, rAm, mF_sF, mR_sR, false_and, and_false, if_false, if_true, false_or, or_false, not_true_eq_false, not_false_eq_true, and_self]
      exact this
    · simp (disch := first | (simp only [dd, dr]; done) | omega) only [W_33, k0, k9, kt, I_lt, I_le, I_inj, inB_I, tc_I, Int.toNat_natCast, fkt, rf1, rf0, cq, Nat.reduceAdd, Nat.reduceEqDiff, Int.reduceToNat, eq_self, true_and, and_true, true_or, or_true, bI_0, bI_1, mm, rAm, mF_sF, mR_sR, false_and, and_false, if_false, if_true, false_or, or_false, not_true_eq_false, not_false_eq_true, and_self]
      refine ca_24 (by omega) (c_keyOf ?_)
      obtain ⟨o, rfl⟩ : ∃ o : Nat, z = o := ⟨z.toNat, by omega⟩
      rw [show ((o : Int) * 4 + 0) * 1024 + 0 = ((ky o 0 0 : Nat) : Int) by unfold ky; omega]
      simp (disch := first | (simp only [dd, dr]; done) | omega) only [W_33, kt, I_lt, I_le, I_inj, inB_I, tc_I, Int.toNat_natCast, fkt, rf1, rf0, cq, Nat.reduceAdd, Nat.reduceEqDiff, Int.reduceToNat, eq_self, true_and, and_true, true_or, or_true, bI_0, bI_1, mm, rAm, mF_sF, mR_sR, false_and, and_false, if_false, if_true, false_or, or_false, not_true_eq_false, not_false_eq_true, and_self]
      refine ca_98 (by omega) (n_fnd (by omega) C (by unfold ky; omega) (fun M' q hT C' e14 kq e16 hpl hL hin => ?_))
      have fin := hQ M' hT C'
      simp (disch := first | (simp only [dd, dr]; done) | omega) only [W_33, I_lt, I_le, I_inj, inB_I, tc_I, Int.toNat_natCast, fkt, rf1, rf0, cq, Nat.reduceAdd, Nat.reduceEqDiff, Int.reduceToNat, eq_self, true_and, and_true, true_or, or_true, bI_0, bI_1, mm, rAm, mF_sF, mR_sR, false_and, and_false, if_false, if_true, false_or, or_false, not_true_eq_false, not_false_eq_true, and_self]
      refine ⟨fun h3 => ?_, fun h3 => ?_⟩
      · have hn : ¬ ky o 0 0 ∈ its T := of_decide_eq_false h3
        rw [show iso T (o : Int) = false from decide_eq_false (fun h' => hn h'.2.2)] at fin
        simp (disch := first | (simp only [dd, dr]; done) | omega) only [W_33, I_lt, I_le, I_inj, inB_I, tc_I, Int.toNat_natCast, fkt, rf1, rf0, cq, Nat.reduceAdd, Nat.reduceEqDiff, Int.reduceToNat, eq_self, true_and, and_true, true_or, or_true, bI_0, bI_1, mm, rAm, mF_sF, mR_sR, false_and, and_false, if_false, if_true, false_or, or_false, not_true_eq_false, not_false_eq_true, and_self]
        exact fin
      · have hn : ky o 0 0 ∈ its T := by simpa using h3
        rw [show iso T (o : Int) = true from decide_eq_true ⟨by omega, by omega, hn⟩] at fin
        simp (disch := first | (simp only [dd, dr]; done) | omega) only [W_33, I_lt, I_le, I_inj, inB_I, tc_I, Int.toNat_natCast, fkt, rf1, rf0, cq, Nat.reduceAdd, Nat.reduceEqDiff, Int.reduceToNat, eq_self, true_and, and_true, true_or, or_true, bI_0, bI_1, mm, rAm, mF_sF, mR_sR, false_and, and_false, if_false, if_true, false_or, or_false, not_true_eq_false, not_false_eq_true, and_self]
        exact fin
theorem n_stat (hd : 14 ≤ d) (C : CX M p m J A T X) {o k n : Nat} (ho : o ≤ 60) (hk : k + n ≤ 6) (hn : n ≤ 3) (hi : ky o 0 0 ∈ its T) (hK : oK X o ≤ 256) (hQ : ∀ M', Tw (p + 201) M M' → CX M' p m J A T X → Q (.returned (some (.int (I (nb (fun i => (stB (oK X o) (oL X o) (oS X o)).getD i 0) k n : Nat))))) M') : Wp d 34 0 [some (.ref p), some (.int (I (o : Nat))), some (.int (I (k : Nat))), some (.int (I (n : Nat))), none] [] M Q := by
  have k0 := C.1.1.1
  have k9 := C.1.1.2.2.2.2.2.2.2.2.1
  have kt := C.2.1.1.1.1
  simp (disch := first | (simp only [dd, dr]; done) | omega) only [W_34, k0, k9, I_lt, I_le, I_inj, inB_I, tc_I, Int.toNat_natCast, fkt, rf1, rf0, cq, Nat.reduceAdd, Nat.reduceEqDiff, Int.reduceToNat, eq_self, true_and, and_true, true_or, or_true, bI_0, bI_1, mm, rAm, mF_sF, mR_sR, false_and, and_false, if_false, if_true, false_or, or_false, not_true_eq_false, not_false_eq_true, and_self]
  refine ca_24 (by omega) (c_keyOf ?_)
  rw [show ((o : Int) * 4 + 0) * 1024 + 0 = ((ky o 0 0 : Nat) : Int) by unfold ky; omega]
  simp (disch := first | (simp only [dd, dr]; done) | omega) only [W_34, kt, I_lt, I_le, I_inj, inB_I, tc_I, Int.toNat_natCast, fkt, rf1, rf0, cq, Nat.reduceAdd, Nat.reduceEqDiff, Int.reduceToNat, eq_self, true_and, and_true, true_or, or_true, bI_0, bI_1, mm, rAm, mF_sF, mR_sR, false_and, and_false, if_false, if_true, false_or, or_false, not_true_eq_false, not_false_eq_true, and_self]
  refine ca_98 (by omega) (n_fnd (by omega) C (by unfold ky; omega) (fun M' q hT C' e14 kq e16 hpl hL hin => ?_))
  have k0' := C'.1.1.1
  have k9' := C'.1.1.2.2.2.2.2.2.2.2.1
  have kt' := C'.2.1.1.1.1
  obtain ⟨b1, b2⟩ := hL.body (hin hi)
  have hq3 := hL.1.2.2.2.2.2.2
  have hr35 := hL.1.2.2.2.1
  generalize hfr : ((List.take (pl (ky o 0 0) (tI T (lfT T (ky o 0 0)))) (tI T (lfT T (ky o 0 0)))).flatMap (pyO X)).length = fr at *
  simp (disch := first | (simp only [dd, dr]; done) | omega) only [W_34, k0', k9', kt', e14, kq, e16, hr35, I_lt, I_le, I_inj, inB_I, tc_I, Int.toNat_natCast, fkt, rf1, rf0, cq, Nat.reduceAdd, Nat.reduceEqDiff, Int.reduceToNat, eq_self, true_and, and_true, true_or, or_true, bI_0, bI_1, mm, rAm, mF_sF, mR_sR, false_and, and_false, if_false, if_true, false_or, or_false, not_true_eq_false, not_false_eq_true, and_self]
  refine ca_126 (by omega) (l_from hL hpl ?_)
  rw [hfr]
  simp (disch := first | (simp only [dd, dr]; done) | omega) only [W_34, I_lt, I_le, I_inj, inB_I, tc_I, Int.toNat_natCast, fkt, rf1, rf0, cq, Nat.reduceAdd, Nat.reduceEqDiff, Int.reduceToNat, eq_self, true_and, and_true, true_or, or_true, bI_0, bI_1, mm, rAm, mF_sF, mR_sR, false_and, and_false, if_false, if_true, false_or, or_false, not_true_eq_false, not_false_eq_true, and_self]
  rw [show ((fr : Int) + k) = ((fr + k : Nat) : Int) by omega]
  rw [pyO_0] at b1 b2
  have hl6 : (stB (oK X o) (oL X o) (oS X o)).length = 6 := rfl
  rw [hl6] at b1
  have hlt : ∀ i, (stB (oK X o) (oL X o) (oS X o)).getD i 0 < 256 := by
    intro i
    match i with
    | 0 => show oK X o - 1 < 256; omega
    | 1 => show oL X o / 256 % 256 < 256; omega
    | 2 => show oL X o % 256 < 256; omega
    | 3 => show oS X o / 256 % 256 < 256; omega
    | 4 => show oS X o % 256 < 256; omega
    | 5 => show 0 < 256; omega
    | i + 6 => show 0 < 256; omega
  have hnb : ∀ n', n' ≤ n → nb (fun i => (stB (oK X o) (oL X o) (oS X o)).getD (i - fr) 0) (fr + k) n' = nb (fun i => (stB (oK X o) (oL X o) (oS X o)).getD i 0) k n' := by
    intro n'
    induction n' with
    | zero => intro _; rfl
    | succ n' ih => intro h; rw [nb, nb, ih (by omega), show fr + k + n' - fr = k + n' by omega]
  refine cr_35 (by omega) (c_numberOf (n := 240) (u := fun i => (stB (oK X o) (oL X o) (oS X o)).getD (i - fr) 0) (by omega) hq3 (by omega) (by omega) hn (fun i => hlt _) (fun i hi' => ?_) ?_)
  · rw [show fr + k + i = fr + (k + i) by omega, Nat.add_sub_cancel_left]
    refine b2 (k + i) _ ?_
    rw [List.getD_eq_getElem?_getD, List.getElem?_eq_getElem (by omega)]
    rfl
  · rw [hnb n (Nat.le_refl _)]
    simp (disch := first | (simp only [dd, dr]; done) | omega) only [W_34, I_lt, I_le, I_inj, inB_I, tc_I, Int.toNat_natCast, fkt, rf1, rf0, cq, Nat.reduceAdd, Nat.reduceEqDiff, Int.reduceToNat, eq_self, true_and, and_true, true_or, or_true, bI_0, bI_1, mm, rAm, mF_sF, mR_sR, false_and, and_false, if_false, if_true, false_or, or_false, not_true_eq_false, not_false_eq_true, and_self]
    exact hQ M' hT C'
end Ri
