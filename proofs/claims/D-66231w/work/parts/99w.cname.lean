/-! ===== THE COMPONENT: name, about ===== -/
section Cnm
variable {d p m J : Nat} {M M' : Mem} {A A' : Ad} {T T' : Tr} {X X' : Ob} {Q : Outcome → Mem → Prop} {ok : Bool} {dt : Nat → Nat → Nat}
/-- a directory's entries -/
def ents (T : Tr) (o : Nat) : List Nat := (its T).filter (fun k => decide (k / 1024 = 4 * o + 1))
/-- all objects and their items -/
def OK3 (T : Tr) (X : Ob) : Prop := OK2 T X ∧ ∀ o, o ≤ 60 → ky o 0 0 ∈ its T → (oK X o = 2 ∧ FO T X o) ∨ (oK X o = 1 ∧ oD X o = [] ∧ oT X o = [] ∧ ky o 2 0 ∉ its T ∧ ky o 3 0 ∉ its T ∧ oS X o = (ents T o).length)
theorem OK3.fo (O : OK3 T X) : ∀ o, o ≤ 60 → ky o 0 0 ∈ its T → oK X o = 2 → FO T X o := fun o h1 h2 h3 => by
  rcases O.2 o h1 h2 with h | h
  · exact h.2
  · have := h.1; omega
theorem OK3.dir (O : OK3 T X) {o : Nat} (h1 : o ≤ 60) (h2 : ky o 0 0 ∈ its T) (h3 : oK X o = 1) : oS X o = (ents T o).length := by
  rcases O.2 o h1 h2 with h | h
  · have := h.1; omega
  · exact h.2.2.2.2.2
theorem OK3.any (O : OK3 T X) {o : Nat} (h1 : o ≤ 60) (h2 : ky o 0 0 ∈ its T) : (ky o 2 0 ∈ its T ↔ oD X o ≠ []) ∧ (ky o 3 0 ∈ its T ↔ oT X o ≠ []) ∧ BL T (oD X o) ∧ (oD X o).length ≤ 16 ∧ (oT X o).length ≤ 40 := by
  rcases O.2 o h1 h2 with h | h
  · obtain ⟨_, f1, f2, f3, f4, f5, f6⟩ := h
    exact ⟨f4, f5, f6, by rw [f2]; exact dtO_le f1, by rw [f3]; exact tlO_le _⟩
  · obtain ⟨_, h3, h4, h5, h6, _⟩ := h
    rw [h3, h4]
    exact ⟨by simp [h5], by simp [h6], ⟨List.nodup_nil, fun b hb => by cases hb⟩, by simp, by simp⟩
theorem n_fnd2 (hd : 13 ≤ d) (C : CX M p m J A T X) {key : Nat} (hkey : key < 1000000) (hQ : ∀ M' q, Tw (p + 201) M M' → CX M' p m J A T X → A.1 (lfT T key) = some q → mR M' 14 (p + 201) = some q → mF M' 16 (p + 201) = I (pl key (tI T (lfT T key)) : Nat) → Q (.returned (some (.int (I (bI (decide (key ∈ its T))))))) M') : Wp d 98 0 [some (.ref (p + 201)), some (.int (I (key : Nat)))] [] M Q := by
  obtain ⟨h1, h2, h3, h4, h5⟩ := id C
  refine n_find h2 h3.1 h3.2.2 hkey hd (fun M' q hq hM R' F' e14 e16 => ?_)
  have hT : Tw (p + 201) M M' := ⟨_, _, hM⟩
  exact hQ M' q hT (C.tw hT) hq e14 e16
/-- in a sorted list that begins at a, what lies below b is a beginning -/
theorem flt_pre {a b : Nat} : ∀ {l : List Nat}, l.Pairwise (· < ·) → (∀ k ∈ l, a ≤ k) → ∀ {n v : Nat}, (l.filter (fun k => decide (a ≤ k ∧ k < b)))[n]? = some v → l[n]? = some v
  | [], _, _, n, v, h => by simp at h
  | x :: l, hs, ha, n, v, h => by
    obtain ⟨h1, h2⟩ := List.pairwise_cons.mp hs
    by_cases c : a ≤ x ∧ x < b
    · rw [List.filter_cons_of_pos (by simpa using c)] at h
      cases n with
      | zero => exact h
      | succ n => exact flt_pre h2 (fun k hk => ha k (List.mem_cons_of_mem _ hk)) h
    · rw [List.filter_cons_of_neg (by simpa using c)] at h
      have hm := List.mem_of_getElem? h
      rw [List.mem_filter] at hm
      have h3 := h1 v hm.1
      have h4 := of_decide_eq_true hm.2
      have h5 := ha x (List.mem_cons_self ..)
      omega
/-- entries of a directory stand in a row -/
theorem ents_at {sz : Nat → Nat} (W : Wf m sz T) {o n v : Nat} (h : (ents T o)[n]? = some v) : ∃ i, (tW T 0)[i]? = some (lfT T (ky o 1 0)) ∧ ((tI T (lfT T (ky o 1 0))).drop (pl (ky o 1 0) (tI T (lfT T (ky o 1 0)))) ++ ((tW T 0).drop (i + 1)).flatMap (tI T))[n]? = some v := by
  obtain ⟨_, A, B, e1, e2, e3, e4, e5, _, _⟩ := lf_spec W (ky o 1 0)
  obtain ⟨p1, p2⟩ := pl_spec (ky o 1 0) _ e5
  have hs := W.2.2.2.1
  generalize lfT T (ky o 1 0) = x at *
  refine ⟨A.length, by rw [e1]; simp, ?_⟩
  rw [show (tW T 0).drop (A.length + 1) = B by rw [e1]; simp]
  have hx := List.take_append_drop (pl (ky o 1 0) (tI T x)) (tI T x)
  generalize (tI T x).take (pl (ky o 1 0) (tI T x)) = P at *
  generalize (tI T x).drop (pl (ky o 1 0) (tI T x)) = R at *
  rw [← hx] at e2
  have e2' : its T = (A.flatMap (tI T) ++ P) ++ (R ++ B.flatMap (tI T)) := by rw [e2]; simp
  unfold ents at h
  rw [e2', List.filter_append, show (A.flatMap (tI T) ++ P).filter (fun k => decide (k / 1024 = 4 * o + 1)) = [] from ?_, List.nil_append] at h
  · rw [e2'] at hs
    refine flt_pre (a := ky o 1 0) (b := ky o 1 0 + 1024) (List.pairwise_append.mp hs).2.1 (fun k hk => ?_) ?_
    · rcases List.mem_append.mp hk with hk | hk
      · exact p2 k hk
      · exact Nat.le_of_lt (e4 k hk)
    · rw [← h]
      congr 1
      apply List.filter_congr
      intro k _
      unfold ky
      apply decide_eq_decide.mpr
      omega
  · rw [List.filter_eq_nil_iff]
    intro k hk hc
    have hc := of_decide_eq_true hc
    rcases List.mem_append.mp hk with hk | hk
    · have := e3 k hk; unfold ky at this; omega
    · have := p1 k hk; unfold ky at this; omega
def nameC (off : Bool) (T : Tr) (X : Ob) (z n : Int) : Nat := if off = true then 1 else if isk T X z 0 = true ∧ 0 ≤ n ∧ n < oS X z.toNat then 0 else 2
set_option maxHeartbeats 1000000 in
theorem c_name (hd : 40 ≤ d) (C : CX M p m J A T X) (D : DR M p T dt) (O : OK3 T X) {off : Bool} (hoff : mF M 25 (p + 205) = I (bI off)) {z n : Int} (z0 : -2147483648 ≤ z) (z1 : z < 2147483648) (n0 : -2147483648 ≤ n) (n1 : n < 2147483648)
    (hX : Thr p m J A T X dt M Q (fun k => nameC off T X z n ≠ 0 ∧ k = 10 + nameC off T X z n))
    (hR : nameC off T X z n = 0 → ∀ M', CX M' p m J A T X → DR M' p T dt → CF p A A 0 M M' → Q (.returned (some (.int (I (((ents T z.toNat).getD n.toNat 0 % 1024 : Nat) : Int))))) M') :
    Wp d 74 0 [some (.ref p), some (.int (I z)), some (.int (I n)), none, none, none, none] [] M Q := by
  have k0 := C.1.1.1
  unfold nameC at hX hR
  simp (disch := first | (simp only [dd, dr]; done) | omega) only [W_74, k0, I_lt, I_le, I_inj, inB_I, tc_I, Int.toNat_natCast, fkt, rf1, rf0, cq, Nat.reduceAdd, Nat.reduceEqDiff, Int.reduceToNat, eq_self, true_and, and_true, true_or, or_true, bI_0, bI_1, mm, rAm, mF_sF, mR_sR, false_and, and_false, if_false, if_true, false_or, or_false, not_true_eq_false, not_false_eq_true, and_self]
  refine ca_30 (by omega) (c_on C.1 hoff (fun h1 => ?_) (fun h1 => ?_))
  rotate_left
  · simp (disch := first | (simp only [dd, dr]; done) | omega) only [W_74, I_lt, I_le, I_inj, inB_I, tc_I, Int.toNat_natCast, fkt, rf1, rf0, cq, Nat.reduceAdd, Nat.reduceEqDiff, Int.reduceToNat, eq_self, true_and, and_true, true_or, or_true, bI_0, bI_1, mm, rAm, mF_sF, mR_sR, false_and, and_false, if_false, if_true, false_or, or_false, not_true_eq_false, not_false_eq_true, and_self]
    rw [Th_out (nw_kO M 11 6) (by decide) (by decide +kernel)]
    rw [if_pos h1] at hX
    exact hX.sc D C (Sc.refl _ _) ⟨by omega, rfl⟩
  have h1' : ¬ off = true := by rw [h1]; simp
  rw [if_neg h1'] at hX hR
  simp (disch := first | (simp only [dd, dr]; done) | omega) only [W_74, k0, I_lt, I_le, I_inj, inB_I, tc_I, Int.toNat_natCast, fkt, rf1, rf0, cq, Nat.reduceAdd, Nat.reduceEqDiff, Int.reduceToNat, eq_self, true_and, and_true, true_or, or_true, bI_0, bI_1, mm, rAm, mF_sF, mR_sR, false_and, and_false, if_false, if_true, false_or, or_false, not_true_eq_false, not_false_eq_true, and_self]
  refine ca_31 (by omega) (n_isDirectory (by omega) C O.1.1 z0 z1 (fun M1 T1 C1 => ?_))
  have k01 := C1.1.1.1
  have go : ∀ (b : Bool) (M2 : Mem), CX M2 p m J A T X → Sc p M M2 → (b = true ↔ (isk T X z 0 = true ∧ 0 ≤ n ∧ n < oS X z.toNat)) → Ca d 74 30 [some (.ref p), some (.int (I z)), some (.int (I n)), none, none, none, none] 37 [.int (I (bI b))] [] M2 Q := by
    intro b M2 C2 F2 hb
    have k02 := C2.1.1.1
    have k92 := C2.1.1.2.2.2.2.2.2.2.2.1
    have kt2 := C2.2.1.1.1.1
    refine ca_37 (by omega) (c_there (fun h2 => ?_) (fun h2 => ?_))
    rotate_left
    · simp (disch := first | (simp only [dd, dr]; done) | omega) only [W_74, I_lt, I_le, I_inj, inB_I, tc_I, Int.toNat_natCast, fkt, rf1, rf0, cq, Nat.reduceAdd, Nat.reduceEqDiff, Int.reduceToNat, eq_self, true_and, and_true, true_or, or_true, bI_0, bI_1, mm, rAm, mF_sF, mR_sR, false_and, and_false, if_false, if_true, false_or, or_false, not_true_eq_false, not_false_eq_true, and_self]
      rw [Th_out (nw_kO M2 12 6) (by decide) (by decide +kernel)]
      rw [if_neg (fun h => by rw [hb.mpr h] at h2; cases h2)] at hX
      exact hX.sc D C2 F2 ⟨by omega, rfl⟩
    have h2 := hb.mp h2
    rw [if_pos h2] at hR
    obtain ⟨h2a, h2b, h2c⟩ := h2
    obtain ⟨o, rfl, o1, o2, o3, o4⟩ := isk_of h2a
    obtain ⟨n, rfl⟩ : ∃ n' : Nat, n = n' := ⟨n.toNat, by omega⟩
    simp only [Int.toNat_natCast] at hR h2c
    have hS := O.dir o2 o3 o4
    have hx : (ents T o)[n]? = some (ents T o)[n] := List.getElem?_eq_getElem (by omega)
    rw [List.getD_eq_getElem?_getD, hx, Option.getD_some] at hR
    generalize (ents T o)[n] = key at hx hR
    obtain ⟨i, hi1, hi2⟩ := ents_at C.2.2.1.1 hx
    have D2 := D.sc C.us F2
    simp (disch := first | (simp only [dd, dr]; done) | omega) only [W_74, k02, k92, I_lt, I_le, I_inj, inB_I, tc_I, Int.toNat_natCast, fkt, rf1, rf0, cq, Nat.reduceAdd, Nat.reduceEqDiff, Int.reduceToNat, eq_self, true_and, and_true, true_or, or_true, bI_0, bI_1, mm, rAm, mF_sF, mR_sR, false_and, and_false, if_false, if_true, false_or, or_false, not_true_eq_false, not_false_eq_true, and_self]
    refine ca_24 (by omega) (c_keyOf ?_)
    rw [show ((o : Int) * 4 + 1) * 1024 + 0 = ((ky o 1 0 : Nat) : Int) by unfold ky; omega]
    simp (disch := first | (simp only [dd, dr]; done) | omega) only [W_74, kt2, I_lt, I_le, I_inj, inB_I, tc_I, Int.toNat_natCast, fkt, rf1, rf0, cq, Nat.reduceAdd, Nat.reduceEqDiff, Int.reduceToNat, eq_self, true_and, and_true, true_or, or_true, bI_0, bI_1, mm, rAm, mF_sF, mR_sR, false_and, and_false, if_false, if_true, false_or, or_false, not_true_eq_false, not_false_eq_true, and_self]
    refine ca_98 (by omega) (n_fnd2 (by omega) C2 (by unfold ky; omega) (fun M3 q T3 C3 hq e14 e16 => ?_))
    have k03 := C3.1.1.1
    have k93 := C3.1.1.2.2.2.2.2.2.2.2.1
    have kt3 := C3.2.1.1.1.1
    have fin := hR trivial M3 C3 (D2.sc C2.us T3.sc) ((F2.trans T3.sc).cf A)
    have R := C3.2.1
    have W := C3.2.2.1.1
    simp (disch := first | (simp only [dd, dr]; done) | omega) only [W_74, k03, k93, kt3, e14, e16, I_lt, I_le, I_inj, inB_I, tc_I, Int.toNat_natCast, fkt, rf1, rf0, cq, Nat.reduceAdd, Nat.reduceEqDiff, Int.reduceToNat, eq_self, true_and, and_true, true_or, or_true, bI_0, bI_1, mm, rAm, mF_sF, mR_sR, false_and, and_false, if_false, if_true, false_or, or_false, not_true_eq_false, not_false_eq_true, and_self]
    generalize lfT T (ky o 1 0) = x at *
    have hpl := pl_le (ky o 1 0) (tI T x)
    generalize pl (ky o 1 0) (tI T x) = j at *
    generalize decide (ky o 1 0 ∈ its T) = bb
    clear hX e14 e16
    suffices H : ∀ N (i j k q x : Nat), k + ((tW T 0).length - i) ≤ N → k < 100000 → (tW T 0)[i]? = some x → A.1 x = some q → j ≤ (tI T x).length → ((tI T x).drop j ++ ((tW T 0).drop (i + 1)).flatMap (tI T))[k]? = some key → Wp d 74 68 [some (.ref p), some (.int (I (o : Nat))), some (.int (I (n : Nat))), some (.int (I (bI bb))), some (.ref q), some (.int (I (j : Nat))), some (.int (I (k : Nat)))] [] M3 Q from H _ i j n q x (Nat.le_refl _) (by have := (O.1.1 o o2 o3).2.2.2; omega) hi1 hq hpl hi2
    clear hi1 hi2 hq hpl i j q x
    intro N
    induction N with
    | zero =>
      intro i j k q x hN _ hx'
      have := (List.getElem?_eq_some_iff.mp hx').1
      omega
    | succ N ih =>
      intro i j k q x hN hk hx' hq hj hkey
      obtain ⟨q', a1, hL, a3, a4, a5, a6⟩ := R.lf W hx'
      rw [hq] at a1
      obtain rfl := Option.some.inj a1
      have hil := (List.getElem?_eq_some_iff.mp hx').1
      have h5 := hL.1.1
      have h36 := hL.1.2.1
      have hx1 := hL.1.2.2.2.2.1
      have e37 := hL.2.1
      have h24 := hL.2.2.2.1
      simp (disch := first | (simp only [dd, dr]; done) | omega) only [w_74_68, W_74, h5, e37, I_lt, I_le, I_inj, inB_I, tc_I, Int.toNat_natCast, fkt, rf1, rf0, cq, Nat.reduceAdd, Nat.reduceEqDiff, Int.reduceToNat, eq_self, true_and, and_true, true_or, or_true, bI_0, bI_1, mm, rAm, mF_sF, mR_sR, false_and, and_false, if_false, if_true, false_or, or_false, not_true_eq_false, not_false_eq_true, and_self]
      refine ⟨fun h => ?_, fun h => ?_⟩
      · have hlj : j < (tI T x).length := by omega
        have hjx : (tI T x)[j]? = some (tI T x)[j] := List.getElem?_eq_getElem hlj
        rw [drop_get hjx, List.cons_append] at hkey
        have hk1 := a3 _ (List.getElem_mem hlj)
        have eK := (hL.2.2.2.2.2.1 j _ hjx).1
        generalize (tI T x)[j] = kk at *
        simp (disch := first | (simp only [dd, dr]; done) | omega) only [W_74, I_lt, I_le, I_inj, inB_I, tc_I, Int.toNat_natCast, fkt, rf1, rf0, cq, Nat.reduceAdd, Nat.reduceEqDiff, Int.reduceToNat, eq_self, true_and, and_true, true_or, or_true, bI_0, bI_1, mm, rAm, mF_sF, mR_sR, false_and, and_false, if_false, if_true, false_or, or_false, not_true_eq_false, not_false_eq_true, and_self]
        refine ⟨fun h' => ?_, fun h' => ?_⟩
        · obtain rfl : k = 0 := by omega
          obtain rfl := Option.some.inj hkey
          simp (disch := first | (simp only [dd, dr]; done) | omega) only [W_74, h5, h36, hx1, eK, I_lt, I_le, I_inj, inB_I, tc_I, Int.toNat_natCast, fkt, rf1, rf0, cq, Nat.reduceAdd, Nat.reduceEqDiff, Int.reduceToNat, eq_self, true_and, and_true, true_or, or_true, bI_0, bI_1, mm, rAm, mF_sF, mR_sR, false_and, and_false, if_false, if_true, false_or, or_false, not_true_eq_false, not_false_eq_true, and_self]
          rw [show (kk : Int) % 1024 = ((kk % 1024 : Nat) : Int) by omega]
          exact fin
        · obtain ⟨k', rfl⟩ : ∃ k', k = k' + 1 := ⟨k - 1, by omega⟩
          simp (disch := first | (simp only [dd, dr]; done) | omega) only [W_74, I_lt, I_le, I_inj, inB_I, tc_I, Int.toNat_natCast, fkt, rf1, rf0, cq, Nat.reduceAdd, Nat.reduceEqDiff, Int.reduceToNat, eq_self, true_and, and_true, true_or, or_true, bI_0, bI_1, mm, rAm, mF_sF, mR_sR, false_and, and_false, if_false, if_true, false_or, or_false, not_true_eq_false, not_false_eq_true, and_self]
          rw [show ((k' + 1 : Nat) : Int) + -1 = (k' : Nat) by omega, show ((j : Int) + 1) = ((j + 1 : Nat) : Int) by omega]
          exact ih i (j + 1) k' q x (by omega) (by omega) hx' hq (by omega) hkey
      · rw [List.drop_eq_nil_of_le (by omega), List.nil_append] at hkey
        cases hy : (tW T 0)[i + 1]? with
        | none =>
          rw [List.drop_eq_nil_of_le (List.getElem?_eq_none_iff.mp hy)] at hkey
          cases hkey
        | some y =>
          obtain ⟨qy, hqy⟩ := a6 y hy
          have k5y := (R.1.2.2.1 y qy hqy).2.1.1
          rw [hy, Option.bind_some, hqy] at a5
          simp (disch := first | (simp only [dd, dr]; done) | omega) only [W_74, h5, a5, k5y, I_lt, I_le, I_inj, inB_I, tc_I, Int.toNat_natCast, fkt, rf1, rf0, cq, Nat.reduceAdd, Nat.reduceEqDiff, Int.reduceToNat, eq_self, true_and, and_true, true_or, or_true, bI_0, bI_1, mm, rAm, mF_sF, mR_sR, false_and, and_false, if_false, if_true, false_or, or_false, not_true_eq_false, not_false_eq_true, and_self]
          rw [drop_get hy, List.flatMap_cons] at hkey
          exact ih (i + 1) 0 k qy y (by omega) hk hy hqy (by omega) hkey
  simp (disch := first | (simp only [dd, dr]; done) | omega) only [W_74, I_lt, I_le, I_inj, inB_I, tc_I, Int.toNat_natCast, fkt, rf1, rf0, cq, Nat.reduceAdd, Nat.reduceEqDiff, Int.reduceToNat, eq_self, true_and, and_true, true_or, or_true, bI_0, bI_1, mm, rAm, mF_sF, mR_sR, false_and, and_false, if_false, if_true, false_or, or_false, not_true_eq_false, not_false_eq_true, and_self]
  refine ⟨fun h => ?_, fun h => ?_⟩
  · simp (disch := first | (simp only [dd, dr]; done) | omega) only [W_74, I_lt, I_le, I_inj, inB_I, tc_I, Int.toNat_natCast, fkt, rf1, rf0, cq, Nat.reduceAdd, Nat.reduceEqDiff, Int.reduceToNat, eq_self, true_and, and_true, true_or, or_true, bI_0, bI_1, mm, rAm, mF_sF, mR_sR, false_and, and_false, if_false, if_true, false_or, or_false, not_true_eq_false, not_false_eq_true, and_self]
    exact go false M1 C1 T1.sc (by simp [h])
  · have h : isk T X z 0 = true := by simpa using h
    simp (disch := first | (simp only [dd, dr]; done) | omega) only [W_74, I_lt, I_le, I_inj, inB_I, tc_I, Int.toNat_natCast, fkt, rf1, rf0, cq, Nat.reduceAdd, Nat.reduceEqDiff, Int.reduceToNat, eq_self, true_and, and_true, true_or, or_true, bI_0, bI_1, mm, rAm, mF_sF, mR_sR, false_and, and_false, if_false, if_true, false_or, or_false, not_true_eq_false, not_false_eq_true, and_self]
    refine ⟨fun h' => ?_, fun h' => ?_⟩
    · simp (disch := first | (simp only [dd, dr]; done) | omega) only [W_74, I_lt, I_le, I_inj, inB_I, tc_I, Int.toNat_natCast, fkt, rf1, rf0, cq, Nat.reduceAdd, Nat.reduceEqDiff, Int.reduceToNat, eq_self, true_and, and_true, true_or, or_true, bI_0, bI_1, mm, rAm, mF_sF, mR_sR, false_and, and_false, if_false, if_true, false_or, or_false, not_true_eq_false, not_false_eq_true, and_self]
      exact go false M1 C1 T1.sc (by simp; omega)
    · obtain ⟨o, rfl, o1, o2, o3, o4⟩ := isk_of h
      simp (disch := first | (simp only [dd, dr]; done) | omega) only [W_74, k01, I_lt, I_le, I_inj, inB_I, tc_I, Int.toNat_natCast, fkt, rf1, rf0, cq, Nat.reduceAdd, Nat.reduceEqDiff, Int.reduceToNat, eq_self, true_and, and_true, true_or, or_true, bI_0, bI_1, mm, rAm, mF_sF, mR_sR, false_and, and_false, if_false, if_true, false_or, or_false, not_true_eq_false, not_false_eq_true, and_self]
      refine ca_47 (by omega) (n_sizeOf (by omega) C1 O.1.1 o2 o3 (fun M2 T2 C2 => ?_))
      have hS := (O.1.1 o o2 o3).2.2.2
      simp only [Int.toNat_natCast] at *
      simp (disch := first | (simp only [dd, dr]; done) | omega) only [W_74, I_lt, I_le, I_inj, inB_I, tc_I, Int.toNat_natCast, fkt, rf1, rf0, cq, Nat.reduceAdd, Nat.reduceEqDiff, Int.reduceToNat, eq_self, true_and, and_true, true_or, or_true, bI_0, bI_1, mm, rAm, mF_sF, mR_sR, false_and, and_false, if_false, if_true, false_or, or_false, not_true_eq_false, not_false_eq_true, and_self]
      refine ⟨fun h'' => ?_, fun h'' => ?_⟩
      · simp (disch := first | (simp only [dd, dr]; done) | omega) only [W_74, I_lt, I_le, I_inj, inB_I, tc_I, Int.toNat_natCast, fkt, rf1, rf0, cq, Nat.reduceAdd, Nat.reduceEqDiff, Int.reduceToNat, eq_self, true_and, and_true, true_or, or_true, bI_0, bI_1, mm, rAm, mF_sF, mR_sR, false_and, and_false, if_false, if_true, false_or, or_false, not_true_eq_false, not_false_eq_true, and_self]
        exact go false M2 C2 (T1.trans T2).sc (by simp; omega)
      · simp (disch := first | (simp only [dd, dr]; done) | omega) only [W_74, I_lt, I_le, I_inj, inB_I, tc_I, Int.toNat_natCast, fkt, rf1, rf0, cq, Nat.reduceAdd, Nat.reduceEqDiff, Int.reduceToNat, eq_self, true_and, and_true, true_or, or_true, bI_0, bI_1, mm, rAm, mF_sF, mR_sR, false_and, and_false, if_false, if_true, false_or, or_false, not_true_eq_false, not_false_eq_true, and_self]
        exact go true M2 C2 (T1.trans T2).sc (by simp [h]; omega)
def abC (off : Bool) (T : Tr) (X : Ob) (z n : Int) : Nat := if off = true then 1 else if iso T z = true ∧ (n < 5 ∨ n - 5 < (oD X z.toNat).length) then (if 0 ≤ n then 0 else 3) else 2
def abV (X : Ob) (o n : Nat) : Nat := if n = 0 then oK X o - 1 else if n = 1 then oL X o else if n = 2 then oS X o else if n = 3 then (oD X o).length else if n = 4 then (oT X o).length else (oD X o).getD (n - 5) 0
theorem iso_of {z : Int} (h : iso T z = true) : ∃ o : Nat, z = o ∧ 1 ≤ o ∧ o ≤ 60 ∧ ky o 0 0 ∈ its T := by
  obtain ⟨b1, b2, b3⟩ := of_decide_eq_true h
  exact ⟨z.toNat, by omega, by omega, by omega, b3⟩
set_option maxHeartbeats 1000000 in
theorem c_about (hd : 40 ≤ d) (C : CX M p m J A T X) (D : DR M p T dt) (O : OK3 T X) {off : Bool} (hoff : mF M 25 (p + 205) = I (bI off)) {z n : Int} (z0 : -2147483648 ≤ z) (z1 : z < 2147483648) (n0 : -2147483648 ≤ n) (n1 : n < 2147483648)
    (hX : Thr p m J A T X dt M Q (fun k => abC off T X z n ≠ 0 ∧ k = 10 + abC off T X z n))
    (hR : abC off T X z n = 0 → ∀ M', CX M' p m J A T X → DR M' p T dt → CF p A A 0 M M' → Q (.returned (some (.int (I (abV X z.toNat n.toNat : Nat))))) M') :
    Wp d 75 0 [some (.ref p), some (.int (I z)), some (.int (I n)), none] [] M Q := by
  have k0 := C.1.1.1
  unfold abC at hX hR
  simp (disch := first | (simp only [dd, dr]; done) | omega) only [W_75, k0, I_lt, I_le, I_inj, inB_I, tc_I, Int.toNat_natCast, fkt, rf1, rf0, cq, Nat.reduceAdd, Nat.reduceEqDiff, Int.reduceToNat, eq_self, true_and, and_true, true_or, or_true, bI_0, bI_1, mm, rAm, mF_sF, mR_sR, false_and, and_false, if_false, if_true, false_or, or_false, not_true_eq_false, not_false_eq_true, and_self]
  refine ca_30 (by omega) (c_on C.1 hoff (fun h1 => ?_) (fun h1 => ?_))
  rotate_left
  · simp (disch := first | (simp only [dd, dr]; done) | omega) only [W_75, I_lt, I_le, I_inj, inB_I, tc_I, Int.toNat_natCast, fkt, rf1, rf0, cq, Nat.reduceAdd, Nat.reduceEqDiff, Int.reduceToNat, eq_self, true_and, and_true, true_or, or_true, bI_0, bI_1, mm, rAm, mF_sF, mR_sR, false_and, and_false, if_false, if_true, false_or, or_false, not_true_eq_false, not_false_eq_true, and_self]
    rw [Th_out (nw_kO M 11 6) (by decide) (by decide +kernel)]
    rw [if_pos h1] at hX
    exact hX.sc D C (Sc.refl _ _) ⟨by omega, rfl⟩
  have h1' : ¬ off = true := by rw [h1]; simp
  rw [if_neg h1'] at hX hR
  simp (disch := first | (simp only [dd, dr]; done) | omega) only [W_75, k0, I_lt, I_le, I_inj, inB_I, tc_I, Int.toNat_natCast, fkt, rf1, rf0, cq, Nat.reduceAdd, Nat.reduceEqDiff, Int.reduceToNat, eq_self, true_and, and_true, true_or, or_true, bI_0, bI_1, mm, rAm, mF_sF, mR_sR, false_and, and_false, if_false, if_true, false_or, or_false, not_true_eq_false, not_false_eq_true, and_self]
  refine ca_33 (by omega) (n_isObject (by omega) C z0 z1 (fun M1 T1 C1 => ?_))
  have k01 := C1.1.1.1
  have nP : ∀ {M2 : Mem} {o : Nat}, o ≤ 60 → ky o 0 0 ∈ its T → (if ky o 2 0 ∈ its T then (pyO X (ky o 2 0)).length else 0) = 2 * (oD X o).length := by
    intro M2 o ho hi
    have hD := (O.any ho hi).1
    by_cases h : ky o 2 0 ∈ its T
    · rw [if_pos h, pyO_2, (flat2 _).1]
    · rw [if_neg h]
      have : oD X o = [] := by
        apply Classical.byContradiction
        intro h'; exact h (hD.mpr h')
      rw [this]; rfl
  have go : ∀ (b : Bool) (M2 : Mem), CX M2 p m J A T X → Sc p M M2 → (b = true ↔ (iso T z = true ∧ (n < 5 ∨ n - 5 < (oD X z.toNat).length))) → Ca d 75 36 [some (.ref p), some (.int (I z)), some (.int (I n)), none] 37 [.int (I (bI b))] [] M2 Q := by
    intro b M2 C2 F2 hb
    have k02 := C2.1.1.1
    refine ca_37 (by omega) (c_there (fun h2 => ?_) (fun h2 => ?_))
    rotate_left
    · simp (disch := first | (simp only [dd, dr]; done) | omega) only [W_75, I_lt, I_le, I_inj, inB_I, tc_I, Int.toNat_natCast, fkt, rf1, rf0, cq, Nat.reduceAdd, Nat.reduceEqDiff, Int.reduceToNat, eq_self, true_and, and_true, true_or, or_true, bI_0, bI_1, mm, rAm, mF_sF, mR_sR, false_and, and_false, if_false, if_true, false_or, or_false, not_true_eq_false, not_false_eq_true, and_self]
      rw [Th_out (nw_kO M2 12 6) (by decide) (by decide +kernel)]
      rw [if_neg (fun h => by rw [hb.mpr h] at h2; cases h2)] at hX
      exact hX.sc D C2 F2 ⟨by omega, rfl⟩
    have h2 := hb.mp h2
    rw [if_pos h2] at hR hX
    obtain ⟨h2a, h2b⟩ := h2
    obtain ⟨o, rfl, o1, o2, o3⟩ := iso_of h2a
    simp only [Int.toNat_natCast] at hR h2b
    have D2 := D.sc C.us F2
    obtain ⟨hD, hT, hB, hl1, hl2⟩ := O.any o2 o3
    have go2 : ∀ (b : Bool), (b = true ↔ 0 ≤ n) → Ca d 75 48 [some (.ref p), some (.int (I (o : Nat))), some (.int (I n)), none] 39 [.int (I (bI b))] [] M2 Q := by
      intro b hb
      refine ca_39 (by omega) (c_proper (fun h3 => ?_) (fun h3 => ?_))
      rotate_left
      · simp (disch := first | (simp only [dd, dr]; done) | omega) only [W_75, I_lt, I_le, I_inj, inB_I, tc_I, Int.toNat_natCast, fkt, rf1, rf0, cq, Nat.reduceAdd, Nat.reduceEqDiff, Int.reduceToNat, eq_self, true_and, and_true, true_or, or_true, bI_0, bI_1, mm, rAm, mF_sF, mR_sR, false_and, and_false, if_false, if_true, false_or, or_false, not_true_eq_false, not_false_eq_true, and_self]
        rw [Th_out (nw_kO M2 13 6) (by decide) (by decide +kernel)]
        rw [if_neg (fun h => by rw [hb.mpr h] at h3; cases h3)] at hX
        exact hX.sc D C2 F2 ⟨by omega, rfl⟩
      have h3 := hb.mp h3
      rw [if_pos h3] at hR
      obtain ⟨n, rfl⟩ : ∃ n' : Nat, n = n' := ⟨n.toNat, by omega⟩
      simp only [Int.toNat_natCast] at hR
      obtain ⟨oo1, oo2, oo3, oo4⟩ := O.1.1 o o2 o3
      have fin : ∀ M3, Tw (p + 201) M2 M3 → CX M3 p m J A T X → Q (.returned (some (.int (I (abV X o n : Nat))))) M3 := fun M3 T3 C3 => hR trivial M3 C3 (D2.sc C2.us T3.sc) ((F2.trans T3.sc).cf A)
      unfold abV at fin
      simp (disch := first | (simp only [dd, dr]; done) | omega) only [W_75, I_lt, I_le, I_inj, inB_I, tc_I, Int.toNat_natCast, fkt, rf1, rf0, cq, Nat.reduceAdd, Nat.reduceEqDiff, Int.reduceToNat, eq_self, true_and, and_true, true_or, or_true, bI_0, bI_1, mm, rAm, mF_sF, mR_sR, false_and, and_false, if_false, if_true, false_or, or_false, not_true_eq_false, not_false_eq_true, and_self]
      by_cases e0 : n = 0
      · rw [if_pos e0] at fin
        rw [show ((n : Nat) : Int) = 0 by omega]
        simp (disch := first | (simp only [dd, dr]; done) | omega) only [W_75, k02, I_lt, I_le, I_inj, inB_I, tc_I, Int.toNat_natCast, fkt, rf1, rf0, cq, Nat.reduceAdd, Nat.reduceEqDiff, Int.reduceToNat, eq_self, true_and, and_true, true_or, or_true, bI_0, bI_1, mm, rAm, mF_sF, mR_sR, false_and, and_false, if_false, if_true, false_or, or_false, not_true_eq_false, not_false_eq_true, and_self]
        refine ca_34 (by omega) (n_stat (k := 0) (n := 1) (by omega) C2 o2 (by omega) (by omega) o3 (by omega) (fun M3 T3 C3 => ?_))
        rw [(nb_st oo3 oo4).1]
        simp (disch := first | (simp only [dd, dr]; done) | omega) only [W_75, I_lt, I_le, I_inj, inB_I, tc_I, Int.toNat_natCast, fkt, rf1, rf0, cq, Nat.reduceAdd, Nat.reduceEqDiff, Int.reduceToNat, eq_self, true_and, and_true, true_or, or_true, bI_0, bI_1, mm, rAm, mF_sF, mR_sR, false_and, and_false, if_false, if_true, false_or, or_false, not_true_eq_false, not_false_eq_true, and_self]
        exact fin M3 T3 C3
      rw [if_neg e0] at fin
      by_cases e1 : n = 1
      · rw [if_pos e1] at fin
        rw [show ((n : Nat) : Int) = 1 by omega]
        simp (disch := first | (simp only [dd, dr]; done) | omega) only [W_75, k02, I_lt, I_le, I_inj, inB_I, tc_I, Int.toNat_natCast, fkt, rf1, rf0, cq, Nat.reduceAdd, Nat.reduceEqDiff, Int.reduceToNat, eq_self, true_and, and_true, true_or, or_true, bI_0, bI_1, mm, rAm, mF_sF, mR_sR, false_and, and_false, if_false, if_true, false_or, or_false, not_true_eq_false, not_false_eq_true, and_self]
        refine ca_46 (by omega) (n_linksOf (by omega) C2 O.1.1 o2 o3 (fun M3 T3 C3 => ?_))
        simp (disch := first | (simp only [dd, dr]; done) | omega) only [W_75, I_lt, I_le, I_inj, inB_I, tc_I, Int.toNat_natCast, fkt, rf1, rf0, cq, Nat.reduceAdd, Nat.reduceEqDiff, Int.reduceToNat, eq_self, true_and, and_true, true_or, or_true, bI_0, bI_1, mm, rAm, mF_sF, mR_sR, false_and, and_false, if_false, if_true, false_or, or_false, not_true_eq_false, not_false_eq_true, and_self]
        exact fin M3 T3 C3
      rw [if_neg e1] at fin
      by_cases e2 : n = 2
      · rw [if_pos e2] at fin
        rw [show ((n : Nat) : Int) = 2 by omega]
        simp (disch := first | (simp only [dd, dr]; done) | omega) only [W_75, k02, I_lt, I_le, I_inj, inB_I, tc_I, Int.toNat_natCast, fkt, rf1, rf0, cq, Nat.reduceAdd, Nat.reduceEqDiff, Int.reduceToNat, eq_self, true_and, and_true, true_or, or_true, bI_0, bI_1, mm, rAm, mF_sF, mR_sR, false_and, and_false, if_false, if_true, false_or, or_false, not_true_eq_false, not_false_eq_true, and_self]
        refine ca_47 (by omega) (n_sizeOf (by omega) C2 O.1.1 o2 o3 (fun M3 T3 C3 => ?_))
        simp (disch := first | (simp only [dd, dr]; done) | omega) only [W_75, I_lt, I_le, I_inj, inB_I, tc_I, Int.toNat_natCast, fkt, rf1, rf0, cq, Nat.reduceAdd, Nat.reduceEqDiff, Int.reduceToNat, eq_self, true_and, and_true, true_or, or_true, bI_0, bI_1, mm, rAm, mF_sF, mR_sR, false_and, and_false, if_false, if_true, false_or, or_false, not_true_eq_false, not_false_eq_true, and_self]
        exact fin M3 T3 C3
      rw [if_neg e2] at fin
      by_cases e3 : n = 3
      · rw [if_pos e3] at fin
        rw [show ((n : Nat) : Int) = 3 by omega]
        simp (disch := first | (simp only [dd, dr]; done) | omega) only [W_75, k02, I_lt, I_le, I_inj, inB_I, tc_I, Int.toNat_natCast, fkt, rf1, rf0, cq, Nat.reduceAdd, Nat.reduceEqDiff, Int.reduceToNat, eq_self, true_and, and_true, true_or, or_true, bI_0, bI_1, mm, rAm, mF_sF, mR_sR, false_and, and_false, if_false, if_true, false_or, or_false, not_true_eq_false, not_false_eq_true, and_self]
        refine ca_57 (by omega) (n_bytesOf (k := 2) (by omega) C2 o2 (by omega) (fun M3 q T3 C3 _ _ _ _ _ _ => ?_))
        rw [nP (M2 := M) o2 o3]
        simp (disch := first | (simp only [dd, dr]; done) | omega) only [W_75, I_lt, I_le, I_inj, inB_I, tc_I, Int.toNat_natCast, fkt, rf1, rf0, cq, Nat.reduceAdd, Nat.reduceEqDiff, Int.reduceToNat, eq_self, true_and, and_true, true_or, or_true, bI_0, bI_1, mm, rAm, mF_sF, mR_sR, false_and, and_false, if_false, if_true, false_or, or_false, not_true_eq_false, not_false_eq_true, and_self]
        rw [show ((2 * (oD X o).length : Nat) : Int) / 2 = ((oD X o).length : Nat) by omega]
        exact fin M3 T3 C3
      rw [if_neg e3] at fin
      by_cases e4 : n = 4
      · rw [if_pos e4] at fin
        rw [show ((n : Nat) : Int) = 4 by omega]
        simp (disch := first | (simp only [dd, dr]; done) | omega) only [W_75, k02, I_lt, I_le, I_inj, inB_I, tc_I, Int.toNat_natCast, fkt, rf1, rf0, cq, Nat.reduceAdd, Nat.reduceEqDiff, Int.reduceToNat, eq_self, true_and, and_true, true_or, or_true, bI_0, bI_1, mm, rAm, mF_sF, mR_sR, false_and, and_false, if_false, if_true, false_or, or_false, not_true_eq_false, not_false_eq_true, and_self]
        refine ca_57 (by omega) (n_bytesOf (k := 3) (by omega) C2 o2 (by omega) (fun M3 q T3 C3 _ _ _ _ _ _ => ?_))
        have e : (if ky o 3 0 ∈ its T then (pyO X (ky o 3 0)).length else 0) = (oT X o).length := by
          by_cases h : ky o 3 0 ∈ its T
          · rw [if_pos h, pyO_3]
          · rw [if_neg h]
            have : oT X o = [] := by
              apply Classical.byContradiction
              intro h'; exact h (hT.mpr h')
            rw [this]; rfl
        rw [e]
        simp (disch := first | (simp only [dd, dr]; done) | omega) only [W_75, I_lt, I_le, I_inj, inB_I, tc_I, Int.toNat_natCast, fkt, rf1, rf0, cq, Nat.reduceAdd, Nat.reduceEqDiff, Int.reduceToNat, eq_self, true_and, and_true, true_or, or_true, bI_0, bI_1, mm, rAm, mF_sF, mR_sR, false_and, and_false, if_false, if_true, false_or, or_false, not_true_eq_false, not_false_eq_true, and_self]
        exact fin M3 T3 C3
      rw [if_neg e4] at fin
      have hx : (oD X o)[n - 5]? = some (oD X o)[n - 5] := List.getElem?_eq_getElem (by omega)
      simp (disch := first | (simp only [dd, dr]; done) | omega) only [W_75, k02, I_lt, I_le, I_inj, inB_I, tc_I, Int.toNat_natCast, fkt, rf1, rf0, cq, Nat.reduceAdd, Nat.reduceEqDiff, Int.reduceToNat, eq_self, true_and, and_true, true_or, or_true, bI_0, bI_1, mm, rAm, mF_sF, mR_sR, false_and, and_false, if_false, if_true, false_or, or_false, not_true_eq_false, not_false_eq_true, and_self]
      refine ca_56 (by omega) (n_readPointers (by omega) C2 o2 hD (fun b h => by have := (hB.2 b h).2.1; omega) hl1 (fun M3 g T3 C4 hg => ?_))
      have hg' := hg _ _ hx
      have hg'' : mA (rA M3 (p + 198) g) (p + 198) (n - 5) = I ((oD X o)[n - 5] : Nat) := by rw [mA_rA, if_pos rfl]; exact hg'
      have k04 := C4.1.1.1
      have k54 := C4.1.1.2.2.2.2.2.2.1
      have k198 := C4.1.2.2.2.1.2.2.2
      have F4 : Sc p M2 (rA M3 (p + 198) g) := T3.sc.trans (Sc.rA p M3 (w := p + 198) ⟨by omega, by omega⟩ g)
      have hsub : (n : Int) - 5 = ((n - 5 : Nat) : Int) := by omega
      have fin2 := hR trivial _ C4 (D2.sc C2.us F4) ((F2.trans F4).cf A)
      unfold abV at fin2
      rw [if_neg e0, if_neg e1, if_neg e2, if_neg e3, if_neg e4, List.getD_eq_getElem?_getD, hx, Option.getD_some] at fin2
      simp (disch := first | (simp only [dd, dr]; done) | omega) only [W_75, k04, k54, hsub, k198, hg'', I_lt, I_le, I_inj, inB_I, tc_I, Int.toNat_natCast, fkt, rf1, rf0, cq, Nat.reduceAdd, Nat.reduceEqDiff, Int.reduceToNat, eq_self, true_and, and_true, true_or, or_true, bI_0, bI_1, mm, rAm, mF_sF, mR_sR, false_and, and_false, if_false, if_true, false_or, or_false, not_true_eq_false, not_false_eq_true, and_self]
      exact fin2
    simp (disch := first | (simp only [dd, dr]; done) | omega) only [W_75, I_lt, I_le, I_inj, inB_I, tc_I, Int.toNat_natCast, fkt, rf1, rf0, cq, Nat.reduceAdd, Nat.reduceEqDiff, Int.reduceToNat, eq_self, true_and, and_true, true_or, or_true, bI_0, bI_1, mm, rAm, mF_sF, mR_sR, false_and, and_false, if_false, if_true, false_or, or_false, not_true_eq_false, not_false_eq_true, and_self]
    refine ⟨fun h => ?_, fun h => ?_⟩
    · simp (disch := first | (simp only [dd, dr]; done) | omega) only [W_75, I_lt, I_le, I_inj, inB_I, tc_I, Int.toNat_natCast, fkt, rf1, rf0, cq, Nat.reduceAdd, Nat.reduceEqDiff, Int.reduceToNat, eq_self, true_and, and_true, true_or, or_true, bI_0, bI_1, mm, rAm, mF_sF, mR_sR, false_and, and_false, if_false, if_true, false_or, or_false, not_true_eq_false, not_false_eq_true, and_self]
      exact go2 false (by simp; omega)
    · simp (disch := first | (simp only [dd, dr]; done) | omega) only [W_75, I_lt, I_le, I_inj, inB_I, tc_I, Int.toNat_natCast, fkt, rf1, rf0, cq, Nat.reduceAdd, Nat.reduceEqDiff, Int.reduceToNat, eq_self, true_and, and_true, true_or, or_true, bI_0, bI_1, mm, rAm, mF_sF, mR_sR, false_and, and_false, if_false, if_true, false_or, or_false, not_true_eq_false, not_false_eq_true, and_self]
      exact go2 true (by simp; omega)
  simp (disch := first | (simp only [dd, dr]; done) | omega) only [W_75, I_lt, I_le, I_inj, inB_I, tc_I, Int.toNat_natCast, fkt, rf1, rf0, cq, Nat.reduceAdd, Nat.reduceEqDiff, Int.reduceToNat, eq_self, true_and, and_true, true_or, or_true, bI_0, bI_1, mm, rAm, mF_sF, mR_sR, false_and, and_false, if_false, if_true, false_or, or_false, not_true_eq_false, not_false_eq_true, and_self]
  refine ⟨fun h => ?_, fun h => ?_⟩
  · simp (disch := first | (simp only [dd, dr]; done) | omega) only [W_75, I_lt, I_le, I_inj, inB_I, tc_I, Int.toNat_natCast, fkt, rf1, rf0, cq, Nat.reduceAdd, Nat.reduceEqDiff, Int.reduceToNat, eq_self, true_and, and_true, true_or, or_true, bI_0, bI_1, mm, rAm, mF_sF, mR_sR, false_and, and_false, if_false, if_true, false_or, or_false, not_true_eq_false, not_false_eq_true, and_self]
    exact go false M1 C1 T1.sc (by simp [h])
  · have h : iso T z = true := by simpa using h
    simp (disch := first | (simp only [dd, dr]; done) | omega) only [W_75, I_lt, I_le, I_inj, inB_I, tc_I, Int.toNat_natCast, fkt, rf1, rf0, cq, Nat.reduceAdd, Nat.reduceEqDiff, Int.reduceToNat, eq_self, true_and, and_true, true_or, or_true, bI_0, bI_1, mm, rAm, mF_sF, mR_sR, false_and, and_false, if_false, if_true, false_or, or_false, not_true_eq_false, not_false_eq_true, and_self]
    refine ⟨fun h' => ?_, fun h' => ?_⟩
    · simp (disch := first | (simp only [dd, dr]; done) | omega) only [W_75, I_lt, I_le, I_inj, inB_I, tc_I, Int.toNat_natCast, fkt, rf1, rf0, cq, Nat.reduceAdd, Nat.reduceEqDiff, Int.reduceToNat, eq_self, true_and, and_true, true_or, or_true, bI_0, bI_1, mm, rAm, mF_sF, mR_sR, false_and, and_false, if_false, if_true, false_or, or_false, not_true_eq_false, not_false_eq_true, and_self]
      exact go true M1 C1 T1.sc (by simp [h]; omega)
    · obtain ⟨o, rfl, o1, o2, o3⟩ := iso_of h
      simp (disch := first | (simp only [dd, dr]; done) | omega) only [W_75, k01, I_lt, I_le, I_inj, inB_I, tc_I, Int.toNat_natCast, fkt, rf1, rf0, cq, Nat.reduceAdd, Nat.reduceEqDiff, Int.reduceToNat, eq_self, true_and, and_true, true_or, or_true, bI_0, bI_1, mm, rAm, mF_sF, mR_sR, false_and, and_false, if_false, if_true, false_or, or_false, not_true_eq_false, not_false_eq_true, and_self]
      refine ca_57 (by omega) (n_bytesOf (k := 2) (by omega) C1 o2 (by omega) (fun M2 q T2 C2 _ _ _ _ _ _ => ?_))
      have hl := (O.any o2 o3).2.2.2.1
      rw [nP (M2 := M) o2 o3]
      simp only [Int.toNat_natCast] at *
      simp (disch := first | (simp only [dd, dr]; done) | omega) only [W_75, I_lt, I_le, I_inj, inB_I, tc_I, Int.toNat_natCast, fkt, rf1, rf0, cq, Nat.reduceAdd, Nat.reduceEqDiff, Int.reduceToNat, eq_self, true_and, and_true, true_or, or_true, bI_0, bI_1, mm, rAm, mF_sF, mR_sR, false_and, and_false, if_false, if_true, false_or, or_false, not_true_eq_false, not_false_eq_true, and_self]
      refine ⟨fun h'' => ?_, fun h'' => ?_⟩
      · simp (disch := first | (simp only [dd, dr]; done) | omega) only [W_75, I_lt, I_le, I_inj, inB_I, tc_I, Int.toNat_natCast, fkt, rf1, rf0, cq, Nat.reduceAdd, Nat.reduceEqDiff, Int.reduceToNat, eq_self, true_and, and_true, true_or, or_true, bI_0, bI_1, mm, rAm, mF_sF, mR_sR, false_and, and_false, if_false, if_true, false_or, or_false, not_true_eq_false, not_false_eq_true, and_self]
        exact go false M2 C2 (T1.trans T2).sc (by simp; omega)
      · simp (disch := first | (simp only [dd, dr]; done) | omega) only [W_75, I_lt, I_le, I_inj, inB_I, tc_I, Int.toNat_natCast, fkt, rf1, rf0, cq, Nat.reduceAdd, Nat.reduceEqDiff, Int.reduceToNat, eq_self, true_and, and_true, true_or, or_true, bI_0, bI_1, mm, rAm, mF_sF, mR_sR, false_and, and_false, if_false, if_true, false_or, or_false, not_true_eq_false, not_false_eq_true, and_self]
        exact go true M2 C2 (T1.trans T2).sc (by simp [h]; omega)
end Cnm
