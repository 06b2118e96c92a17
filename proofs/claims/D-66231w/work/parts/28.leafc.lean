/-! ===== CONTRACTS: the leaf's methods, as lists ===== -/
/-- nothing but the contents of the leaf at q is changed -/
def LfFr (q : Nat) (M M' : Mem) : Prop := ∃ m b g1 g2 g3, M' = lfW M q m b g1 g2 g3
theorem LfFr.refl (q : Nat) (M : Mem) : LfFr q M M := ⟨_, _, _, _, _, (lf_id M q).symm⟩
theorem LfFr.trans {q : Nat} {M M' M'' : Mem} (h : LfFr q M M') (h' : LfFr q M' M'') : LfFr q M M'' := by
  obtain ⟨m, b, g1, g2, g3, rfl⟩ := h
  obtain ⟨m', b', k1, k2, k3, rfl⟩ := h'
  exact ⟨m', b', k1, k2, k3, lf_lf ..⟩
theorem LfIs.far {M M' : Mem} {q q' : Nat} {ks : List Nat} {py : Nat → List Nat} (h : LfIs M q' ks py) (hf : LfFr q M M') (hq : q + 4 ≤ q' ∨ q' + 4 ≤ q) : LfIs M' q' ks py := by
  obtain ⟨m, b, g1, g2, g3, rfl⟩ := hf
  obtain ⟨h1, h2, h3, h4, h5, h6, h7⟩ := h
  refine ⟨h1, ?_, ?_, h4, h5, ?_, ?_⟩
  · rw [lf_F _ _ _ _ _ _ _ (by omega)]; exact h2
  · rw [lf_F _ _ _ _ _ _ _ (by omega)]; exact h3
  · intro i k hk
    rw [lf_A _ _ _ _ _ _ _ (by omega) (by omega) (by omega), lf_A _ _ _ _ _ _ _ (by omega) (by omega) (by omega)]
    exact h6 i k hk
  · intro j v hv
    rw [lf_A _ _ _ _ _ _ _ (by omega) (by omega) (by omega)]
    exact h7 j v hv
theorem LfIs.py {M : Mem} {q : Nat} {ks : List Nat} {py py' : Nat → List Nat} (h : LfIs M q ks py) (hp : ∀ x ∈ ks, py' x = py x) : LfIs M q ks py' := by
  have e : ks.flatMap py' = ks.flatMap py := by
    have e : ∀ l : List Nat, (∀ x ∈ l, x ∈ ks) → l.flatMap py' = l.flatMap py := by
      intro l hl
      induction l with
      | nil => rfl
      | cons a l ih => rw [List.flatMap_cons, List.flatMap_cons, hp a (hl a (List.mem_cons_self ..)), ih (fun x hx => hl x (List.mem_cons_of_mem _ hx))]
    exact e ks (fun _ h => h)
  obtain ⟨h1, h2, h3, h4, h5, h6, h7⟩ := h
  exact ⟨h1, h2, by rw [e]; exact h3, h4, by rw [e]; exact h5, fun i k hk => by rw [hp k (List.mem_of_getElem? hk)]; exact h6 i k hk, fun j v hv => h7 j v (by rw [← e]; exact hv)⟩
section LfC
variable {d : Nat} {M : Mem} {Q : Outcome → Mem → Prop} {q : Nat} {ks : List Nat} {py : Nat → List Nat}
theorem l_from (h : LfIs M q ks py) {k : Nat} (hk : k ≤ ks.length) (hQ : Q (.returned (some (.int (I (((ks.take k).flatMap py).length : Nat))))) M) : Wp d 126 0 [some (.ref q), some (.int (I (k : Nat))), none, none] [] M Q :=
  c_from (s := szf ks py) h.1 hk h.2.2.2.1 h.sz (by rw [sm_all]; exact h.2.2.2.2.1) (by rw [sm_take]; exact hQ)
theorem l_put (h : LfIs M q ks py) (hd : 1 ≤ d) {k key r rowAt n : Nat} {py' : Nat → List Nat} (hk : k ≤ ks.length) (hm : ks.length ≤ 23) (hb : (ks.flatMap py).length + (py' key).length ≤ 240) (hp : ∀ x ∈ ks, py' x = py x)
    (hr : kX M r = (1, n)) (hn : rowAt + (py' key).length ≤ n) (hn2 : n < 100000) (hrq : r ≠ q + 3) (hR : ∀ i v, (py' key)[i]? = some v → mA M r (rowAt + i) = bB (v : Nat))
    (hQ : ∀ M', LfFr q M M' → LfIs M' q (ks.take k ++ key :: ks.drop k) py' → Q (.returned none) M') :
    Wp d 127 0 [some (.ref q), some (.int (I (k : Nat))), some (.int (I (key : Nat))), some (.ref r), some (.int (I (rowAt : Nat))), some (.int (I ((py' key).length : Nat))), none, none] [] M Q :=
  c_put (s := szf ks py) hd h.1 h.2.1 h.2.2.1 hk hm h.sz (sm_all ks py) hb hr hn hn2 hrq h.by (fun i hi => ⟨_, hR i _ (List.getElem?_eq_getElem hi)⟩)
    (hQ _ ⟨_, _, _, _, _, rfl⟩ (h.ins hk hm hb hp hR))
theorem l_drop (h : LfIs M q ks py) (hd : 1 ≤ d) {k x : Nat} (hx : ks[k]? = some x) (hQ : ∀ M', LfFr q M M' → LfIs M' q (ks.take k ++ ks.drop (k + 1)) py → Q (.returned none) M') :
    Wp d 125 0 [some (.ref q), some (.int (I (k : Nat))), none, none, none] [] M Q :=
  c_drop (s := szf ks py) hd h.1 h.2.1 h.2.2.1 (List.getElem?_eq_some_iff.mp hx).1 h.2.2.2.1 h.sz (sm_all ks py) h.2.2.2.2.1 h.by
    (hQ _ ⟨_, _, _, _, _, rfl⟩ (h.del hx))
/-- what the items of a leaf take -/
def us (py : Nat → List Nat) (ks : List Nat) : Nat := 8 * ks.length + (ks.flatMap py).length
theorem l_used (h : LfIs M q ks py) (hQ : Q (.returned (some (.int (I (us py ks : Nat))))) M) : Wp d 129 0 [some (.ref q)] [] M Q :=
  c_used h.1.1 h.2.1 h.2.2.1 (by rw [show (8 * (ks.length : Int) + ((ks.flatMap py).length : Int)) = (us py ks : Nat) by unfold us; omega]; exact hQ)
theorem l_isOver (h : LfIs M q ks py) (hd : 1 ≤ d) (hQ : Q (.returned (some (.int (I (bI (decide (120 < us py ks))))))) M) : Wp d 128 0 [some (.ref q)] [] M Q := by
  have h4 := h.2.2.2.1
  have h5 := h.2.2.2.2.1
  refine c_isOver hd h.1.1 h.2.1 h.2.2.1 (by omega) (by omega) (by omega) (by omega) ?_
  rw [show decide (120 < 8 * (ks.length : Int) + ((ks.flatMap py).length : Int)) = decide (120 < us py ks) from decide_eq_decide.mpr (by unfold us; omega)]
  exact hQ
theorem l_cost (h : LfIs M q ks py) {k x : Nat} (hx : ks[k]? = some x) (hQ : Q (.returned (some (.int (I ((8 + (py x).length : Nat) : Int))))) M) : Wp d 130 0 [some (.ref q), some (.int (I (k : Nat)))] [] M Q := by
  have hk := (List.getElem?_eq_some_iff.mp hx).1
  have h4 := h.2.2.2.1
  refine c_cost (z := (py x).length) h.1 (by omega) (by omega) (by rw [Int.toNat_natCast]; exact (h.2.2.2.2.2.1 k x hx).2) ?_
  rw [show ((8 : Int) + ((py x).length : Int)) = ((8 + (py x).length : Nat) : Int) by omega]
  exact hQ
theorem l_fits (h : LfIs M q ks py) (hd : 1 ≤ d) {c : Nat} (hc : c ≤ 1000) (hQ : Q (.returned (some (.int (I (bI (decide (us py ks + c ≤ 120))))))) M) : Wp d 131 0 [some (.ref q), some (.int (I (c : Nat)))] [] M Q := by
  have h4 := h.2.2.2.1
  have h5 := h.2.2.2.2.1
  refine c_fits hd h.1.1 h.2.1 h.2.2.1 (by omega) (by omega) (by omega) (by omega) (by omega) (by omega) ?_
  rw [show decide (8 * (ks.length : Int) + ((ks.flatMap py).length : Int) + (c : Int) ≤ 120) = decide (us py ks + c ≤ 120) from decide_eq_decide.mpr (by unfold us; omega)]
  exact hQ
set_option maxHeartbeats 4000000 in
theorem l_give (h : LfIs M q ks py) (hd : 2 ≤ d) {q2 : Nat} {ks2 : List Nat} (h2 : LfIs M q2 ks2 py) (hqq : q + 4 ≤ q2 ∨ q2 + 4 ≤ q) {k x a2 : Nat} (hx : ks[k]? = some x) (hkey : x < 1000000) (ha : a2 ≤ ks2.length) (hm : ks2.length ≤ 23) (hb : (ks2.flatMap py).length + (py x).length ≤ 240)
    (hQ : ∀ M1 M', LfFr q2 M M1 → LfFr q M1 M' → LfIs M' q (ks.take k ++ ks.drop (k + 1)) py → LfIs M' q2 (ks2.take a2 ++ x :: ks2.drop a2) py → Q (.returned none) M') :
    Wp d 132 0 [some (.ref q), some (.int (I (k : Nat))), some (.ref q2), some (.int (I (a2 : Nat)))] [] M Q := by
  have hK := h.1
  obtain ⟨k0, k1, k2, k3, k4, k5, k6⟩ := hK
  have hk := (List.getElem?_eq_some_iff.mp hx).1
  have h4 := h.2.2.2.1
  have h5 := h.2.2.2.2.1
  obtain ⟨e1, e2⟩ := h.2.2.2.2.2.1 k x hx
  simp (disch := first | (simp only [dd, dr]; done) | omega) only [W_132, k0, k1, k4, e1, k3, I_lt, I_le, I_inj, inB_I, tc_I, Int.toNat_natCast, fkt, rf1, rf0, cq, Nat.reduceAdd, Nat.reduceEqDiff, Int.reduceToNat, eq_self, true_and, and_true, true_or, or_true, bI_0, bI_1, mm, rAm]
  refine ca_126 (by omega) (l_from h (Nat.le_of_lt hk) ?_)
  simp (disch := first | (simp only [dd, dr]; done) | omega) only [W_132, k0, k2, k5, e2, h2.1.1, I_lt, I_le, I_inj, inB_I, tc_I, Int.toNat_natCast, fkt, rf1, rf0, cq, Nat.reduceAdd, Nat.reduceEqDiff, Int.reduceToNat, eq_self, true_and, and_true, true_or, or_true, bI_0, bI_1, mm, rAm]
  have hs : ks.flatMap py = (ks.take k).flatMap py ++ (py x ++ (ks.drop (k + 1)).flatMap py) := by
    rw [flat_split ks py k, List.drop_eq_getElem_cons hk, (List.getElem?_eq_some_iff.mp hx).2, List.flatMap_cons]
  have hsl : (ks.flatMap py).length = ((ks.take k).flatMap py).length + ((py x).length + ((ks.drop (k + 1)).flatMap py).length) := by rw [hs]; simp only [List.length_append]
  refine cr_127 (by omega) (l_put (py' := py) (n := 240) h2 (by omega) ha hm hb (fun _ _ => rfl) k6 (by omega) (by omega) (by omega) (fun i v hv => ?_) ?_)
  · have hi := (List.getElem?_eq_some_iff.mp hv).1
    refine h.2.2.2.2.2.2 _ v ?_
    rw [hs, List.getElem?_append_right (by omega), Nat.add_sub_cancel_left, List.getElem?_append_left hi]
    exact hv
  · intro M1 f1 l1
    have h' := h.far f1 (by omega)
    have k0' := h'.1.1
    simp (disch := first | (simp only [dd, dr]; done) | omega) only [W_132, k0', I_lt, I_le, I_inj, inB_I, tc_I, Int.toNat_natCast, fkt, rf1, rf0, cq, Nat.reduceAdd, Nat.reduceEqDiff, Int.reduceToNat, eq_self, true_and, and_true, true_or, or_true, bI_0, bI_1, mm, rAm]
    refine ca_125 (by omega) (l_drop h' (by omega) hx ?_)
    intro M2 f2 l2
    simp (disch := first | (simp only [dd, dr]; done) | omega) only [W_132, I_lt, I_le, I_inj, inB_I, tc_I, Int.toNat_natCast, fkt, rf1, rf0, cq, Nat.reduceAdd, Nat.reduceEqDiff, Int.reduceToNat, eq_self, true_and, and_true, true_or, or_true, bI_0, bI_1, mm, rAm]
    exact hQ M1 M2 f1 f2 l2 (l1.far f2 (by omega))
end LfC
