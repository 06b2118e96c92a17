/-! ===== THE COMPONENT: set ===== -/
section CSt
variable {d t r m : Nat} {M : Mem} {A : Ad} {T T' : Tr} {py : Nat → List Nat} {Q : Outcome → Mem → Prop} {ok : Bool}
/-- a row of bytes has a body at its begin -/
def Row (M : Mem) (w n : Nat) (bs : List Nat) : Prop := kX M w = (1, n) ∧ n < 100000 ∧ n ≠ 240 ∧ bs.length ≤ n ∧ ∀ i v, bs[i]? = some v → mA M w i = bB (v : Nat)
theorem Row.fr {M' : Mem} {q w n : Nat} {bs : List Nat} (h : Row M w n bs) (K : LfK M q) (F : LfFr q M M') : Row M' w n bs := by
  obtain ⟨h1, h2, h3, h4, h5⟩ := h
  obtain ⟨k0, k1, k2, k3, k4, k5, k6⟩ := K
  have f := F.f1
  refine ⟨by rw [f.2.1]; exact h1, h2, h3, h4, fun i v hv => ?_⟩
  rw [f.2.2.2.1 _ _ (by intro e; rw [e, k4] at h1; cases h1) (by intro e; rw [e, k5] at h1; cases h1) (by intro e; rw [e, k6] at h1; exact h3 (Prod.mk.inj h1).2.symm)]
  exact h5 i v hv
theorem c_put0 {q k key w n : Nat} {ks bs : List Nat} (hd : 1 ≤ d) (h : LfIs M q ks py) (hk : k ≤ ks.length) (hm : ks.length ≤ 23) (hb : (ks.flatMap py).length + bs.length ≤ 240) (hp : key ∉ ks) (hr : Row M w n bs) (hQ : ∀ M', LfFr q M M' → LfIs M' q (ks.take k ++ key :: ks.drop k) (fu py key bs) → Q (.returned none) M') :
    Wp d 127 0 [some (.ref q), some (.int (I (k : Nat))), some (.int (I (key : Nat))), some (.ref w), some (.int (I 0)), some (.int (I (bs.length : Nat))), none, none] [] M Q := by
  obtain ⟨h1, h2, h3, h4, h5⟩ := hr
  have hq3 := h.1.2.2.2.2.2.2
  have := l_put (Q := Q) (py' := fu py key bs) (rowAt := 0) (r := w) (n := n) (key := key) h hd hk hm (by rw [fu_s]; exact hb) (fun x hx => fu_n _ _ (by intro e; rw [e] at hx; exact hp hx)) h1 (by rw [fu_s]; omega) h2 (by intro e; rw [e, hq3] at h1; exact h3 (Prod.mk.inj h1).2.symm) (fun i v hv => by rw [fu_s] at hv; rw [Nat.zero_add]; exact h5 i v hv) hQ
  rw [fu_s] at this
  exact this
set_option maxHeartbeats 8000000 in
theorem n_setA (hd : 22 ≤ d) (R : RM M t r m A T py none) (W : Wf m (fun k => (py k).length) T) (hk : ∀ k ∈ its T, k < 1000000) {key w n : Nat} {bs : List Nat} (hkey : key < 1000000) (hr : Row M w n bs) (hno : key ∉ its T) (hs : 1 ≤ bs.length) (hs2 : bs.length ≤ 40) (hg : sl m (fun k => (fu py key bs k).length) (insT T key) (lfT T key) = some (ok, T'))
    (hQt : ok = true → ∀ M' A', RM M' t r m A' T' (fu py key bs) none → Fr t r A A' 0 M M' → Q (.returned none) M') (hQf : ok = false → ∀ M' A' a, JT M' t r m A' → Fr t r A A' 1 M M' → kO M' a = 14 → Q (.threw a) M') :
    Wp d 97 0 [some (.ref t), some (.int (I (key : Nat))), some (.ref w), some (.int (I (bs.length : Nat))), none, none, none] [] M Q := by
  have t0 := R.1.1.1
  have Pins := (ins_ok (sz' := fun k => (fu py key bs k).length) W hno (fun k hk' => by show (fu py key bs k).length = (py k).length; rw [fu_n _ _ (by intro e; rw [e] at hk'; exact hno hk')]) (by show (fu py key bs key).length ≤ 40; rw [fu_s]; exact hs2)).1
  simp (disch := first | (simp only [dd, dr]; done) | omega) only [W_97, t0, I_lt, I_le, I_inj, inB_I, tc_I, Int.toNat_natCast, fkt, rf1, rf0, cq, Nat.reduceAdd, Nat.reduceEqDiff, Int.reduceToNat, eq_self, true_and, and_true, true_or, or_true, bI_0, bI_1, mm, rAm, mF_sF, mR_sR, false_and, and_false, if_false, if_true, false_or, or_false, not_true_eq_false, not_false_eq_true, and_self]
  refine ca_98 (by omega) (n_find R W hk hkey (by omega) (fun M1 q hq hM1 R1 F1 e14 e16 => ?_))
  have hr1 : Row M1 w n bs := by rw [hM1]; exact hr
  obtain ⟨hx, _, _, _, _, _, _, e5, _, _⟩ := lf_spec W key
  have hmem := lf_mem W key
  have hxH := (W.1.1 0 _ hx).2.1
  have hx96 := (W.1.1 0 _ hx).1
  have h120 := (W.2.2.1 _ hx (by simp)).1
  rw [← us_uz] at h120
  unfold insT at hg
  generalize lfT T key = x at *
  have hkx : key ∉ tI T x := fun h => hno (hmem.mpr h)
  have hpl := pl_le key (tI T x)
  obtain ⟨q', g1, Lx, bx⟩ := R1.2.2.1 x hxH
  rw [hq] at g1; cases g1
  have k5 := Lx.1.1
  have t01 := R1.1.1.1
  rw [decide_eq_false hno]
  simp (disch := first | (simp only [dd, dr]; done) | omega) only [W_97, t01, e14, e16, I_lt, I_le, I_inj, inB_I, tc_I, Int.toNat_natCast, fkt, rf1, rf0, cq, Nat.reduceAdd, Nat.reduceEqDiff, Int.reduceToNat, eq_self, true_and, and_true, true_or, or_true, bI_0, bI_1, mm, rAm, mF_sF, mR_sR, false_and, and_false, if_false, if_true, false_or, or_false, not_true_eq_false, not_false_eq_true, and_self]
  refine ⟨fun _ => ?_, (fun h => by first | exact False.elim h | exact absurd trivial h | (exfalso; omega) | exact absurd rfl h | cases h)⟩
  simp (disch := first | (simp only [dd, dr]; done) | omega) only [W_97, t01, e14, e16, I_lt, I_le, I_inj, inB_I, tc_I, Int.toNat_natCast, fkt, rf1, rf0, cq, Nat.reduceAdd, Nat.reduceEqDiff, Int.reduceToNat, eq_self, true_and, and_true, true_or, or_true, bI_0, bI_1, mm, rAm, mF_sF, mR_sR, false_and, and_false, if_false, if_true, false_or, or_false, not_true_eq_false, not_false_eq_true, and_self]
  refine ⟨fun _ => ?_, (fun h => by first | exact False.elim h | exact absurd trivial h | (exfalso; omega) | exact absurd rfl h | cases h)⟩
  simp (disch := first | (simp only [dd, dr]; done) | omega) only [W_97, t01, e14, e16, I_lt, I_le, I_inj, inB_I, tc_I, Int.toNat_natCast, fkt, rf1, rf0, cq, Nat.reduceAdd, Nat.reduceEqDiff, Int.reduceToNat, eq_self, true_and, and_true, true_or, or_true, bI_0, bI_1, mm, rAm, mF_sF, mR_sR, false_and, and_false, if_false, if_true, false_or, or_false, not_true_eq_false, not_false_eq_true, and_self]
  refine ⟨(fun h => by first | exact False.elim h | exact absurd trivial h | (exfalso; omega) | exact absurd rfl h | cases h), fun _ => ?_⟩
  simp (disch := first | (simp only [dd, dr]; done) | omega) only [W_97, t01, e14, e16, k5, I_lt, I_le, I_inj, inB_I, tc_I, Int.toNat_natCast, fkt, rf1, rf0, cq, Nat.reduceAdd, Nat.reduceEqDiff, Int.reduceToNat, eq_self, true_and, and_true, true_or, or_true, bI_0, bI_1, mm, rAm, mF_sF, mR_sR, false_and, and_false, if_false, if_true, false_or, or_false, not_true_eq_false, not_false_eq_true, and_self]
  have hul := h120
  unfold us at hul
  refine cr_127 (by omega) (c_put0 (by omega) Lx hpl (by omega) (by omega) hkx hr1 (fun M2 F2 L2 => ?_))
  have R2 := R1.itm (b := x) hq hxH F2 L2 (fun y hy => by
    rcases List.mem_append.mp hy with h | h
    · exact bx y (List.mem_of_mem_take h)
    · rcases List.mem_cons.mp h with h | h
      · rw [h]; exact hkey
      · exact bx y (List.mem_of_mem_drop h)) (fun b' hb' hbH y hy => fu_n _ _ (fun e => hno (by rw [← e]; exact W.mem hy)))
  simp (disch := first | (simp only [dd, dr]; done) | omega) only [W_97, I_lt, I_le, I_inj, inB_I, tc_I, Int.toNat_natCast, fkt, rf1, rf0, cq, Nat.reduceAdd, Nat.reduceEqDiff, Int.reduceToNat, eq_self, true_and, and_true, true_or, or_true, bI_0, bI_1, mm, rAm, mF_sF, mR_sR, false_and, and_false, if_false, if_true, false_or, or_false, not_true_eq_false, not_false_eq_true, and_self]
  refine ⟨(fun h => by first | exact False.elim h | exact absurd trivial h | (exfalso; omega) | exact absurd rfl h | cases h), fun _ => ?_⟩
  have t02 := R2.1.1.1
  simp (disch := first | (simp only [dd, dr]; done) | omega) only [W_97, t02, I_lt, I_le, I_inj, inB_I, tc_I, Int.toNat_natCast, fkt, rf1, rf0, cq, Nat.reduceAdd, Nat.reduceEqDiff, Int.reduceToNat, eq_self, true_and, and_true, true_or, or_true, bI_0, bI_1, mm, rAm, mF_sF, mR_sR, false_and, and_false, if_false, if_true, false_or, or_false, not_true_eq_false, not_false_eq_true, and_self]
  have hu := Pins.2.2.2.2.2.1
  rw [← us_uz] at hu
  refine cr_100 (by omega) (n_share (by omega) R2 (show SW _ from W.1.sw) (show Up0 _ from W.1.up0) hq hu hg (fun h M' A' R' S' F' => ?_) (fun h M' A' a J' F' k14 => ?_))
  · simp (disch := first | (simp only [dd, dr]; done) | omega) only [W_97, I_lt, I_le, I_inj, inB_I, tc_I, Int.toNat_natCast, fkt, rf1, rf0, cq, Nat.reduceAdd, Nat.reduceEqDiff, Int.reduceToNat, eq_self, true_and, and_true, true_or, or_true, bI_0, bI_1, mm, rAm, mF_sF, mR_sR, false_and, and_false, if_false, if_true, false_or, or_false, not_true_eq_false, not_false_eq_true, and_self]
    exact hQt h M' A' R' ((F1.trans (Fr.lf hq F2)).trans F')
  · simp (disch := first | (simp only [dd, dr]; done) | omega) only [W_97, I_lt, I_le, I_inj, inB_I, tc_I, Int.toNat_natCast, fkt, rf1, rf0, cq, Nat.reduceAdd, Nat.reduceEqDiff, Int.reduceToNat, eq_self, true_and, and_true, true_or, or_true, bI_0, bI_1, mm, rAm, mF_sF, mR_sR, false_and, and_false, if_false, if_true, false_or, or_false, not_true_eq_false, not_false_eq_true, and_self]
    rw [Th_out k14 (by decide) (by decide +kernel)]
    exact hQf h M' A' a J' ((F1.trans (Fr.lf hq F2)).trans F') k14
set_option maxHeartbeats 8000000 in
theorem n_setB (hd : 22 ≤ d) (R : RM M t r m A T py none) (W : Wf m (fun k => (py k).length) T) (hk : ∀ k ∈ its T, k < 1000000) {key w n : Nat} (hkey : key < 1000000) (hno : key ∈ its T) (hg : lkA (fun k => (py k).length) n (delT T key) (lfT T key) = some T')
    (hQ : ∀ M', RM M' t r m A T' py none → Fr t r A A 0 M M' → Q (.returned none) M') :
    Wp d 97 0 [some (.ref t), some (.int (I (key : Nat))), some (.ref w), some (.int (I 0)), none, none, none] [] M Q := by
  have t0 := R.1.1.1
  simp (disch := first | (simp only [dd, dr]; done) | omega) only [W_97, t0, I_lt, I_le, I_inj, inB_I, tc_I, Int.toNat_natCast, fkt, rf1, rf0, cq, Nat.reduceAdd, Nat.reduceEqDiff, Int.reduceToNat, eq_self, true_and, and_true, true_or, or_true, bI_0, bI_1, mm, rAm, mF_sF, mR_sR, false_and, and_false, if_false, if_true, false_or, or_false, not_true_eq_false, not_false_eq_true, and_self]
  refine ca_98 (by omega) (n_find R W hk hkey (by omega) (fun M1 q hq hM1 R1 F1 e14 e16 => ?_))
  obtain ⟨hx, _, _, _, _, _, _, e5, _, _⟩ := lf_spec W key
  have hmem := lf_mem W key
  have hxH := (W.1.1 0 _ hx).2.1
  have hsz : 1 ≤ (py key).length ∧ (py key).length ≤ 40 := W.2.2.2.2.1 key hno
  unfold delT at hg
  generalize lfT T key = x at *
  have hkx := hmem.mp hno
  have hp := (pl_has e5).mpr hkx
  have hpl := (List.getElem?_eq_some_iff.mp hp).1
  obtain ⟨q', g1, Lx, bx⟩ := R1.2.2.1 x hxH
  rw [hq] at g1; cases g1
  have k5 := Lx.1.1
  have k38 := Lx.1.2.2.1
  have kX2 := Lx.1.2.2.2.2.2.1
  have h24 := Lx.2.2.2.1
  have es := (Lx.2.2.2.2.2.1 _ key hp).2
  have t01 := R1.1.1.1
  rw [decide_eq_true hno]
  simp (disch := first | (simp only [dd, dr]; done) | omega) only [W_97, t01, e14, e16, I_lt, I_le, I_inj, inB_I, tc_I, Int.toNat_natCast, fkt, rf1, rf0, cq, Nat.reduceAdd, Nat.reduceEqDiff, Int.reduceToNat, eq_self, true_and, and_true, true_or, or_true, bI_0, bI_1, mm, rAm, mF_sF, mR_sR, false_and, and_false, if_false, if_true, false_or, or_false, not_true_eq_false, not_false_eq_true, and_self]
  refine ⟨(fun h => by first | exact False.elim h | exact absurd trivial h | (exfalso; omega) | exact absurd rfl h | cases h), fun _ => ?_⟩
  simp (disch := first | (simp only [dd, dr]; done) | omega) only [W_97, t01, e14, e16, k5, k38, kX2, es, I_lt, I_le, I_inj, inB_I, tc_I, Int.toNat_natCast, fkt, rf1, rf0, cq, Nat.reduceAdd, Nat.reduceEqDiff, Int.reduceToNat, eq_self, true_and, and_true, true_or, or_true, bI_0, bI_1, mm, rAm, mF_sF, mR_sR, false_and, and_false, if_false, if_true, false_or, or_false, not_true_eq_false, not_false_eq_true, and_self]
  refine ⟨(fun h => by first | exact False.elim h | exact absurd trivial h | (exfalso; omega) | exact absurd rfl h | cases h), fun _ => ?_⟩
  simp (disch := first | (simp only [dd, dr]; done) | omega) only [W_97, t01, e14, e16, k5, I_lt, I_le, I_inj, inB_I, tc_I, Int.toNat_natCast, fkt, rf1, rf0, cq, Nat.reduceAdd, Nat.reduceEqDiff, Int.reduceToNat, eq_self, true_and, and_true, true_or, or_true, bI_0, bI_1, mm, rAm, mF_sF, mR_sR, false_and, and_false, if_false, if_true, false_or, or_false, not_true_eq_false, not_false_eq_true, and_self]
  refine ca_125 (by omega) (l_drop Lx (by omega) hp (fun M2 F2 L2 => ?_))
  have R2 := R1.itm (b := x) hq hxH F2 L2 (fun y hy => by
    rcases List.mem_append.mp hy with h | h
    · exact bx y (List.mem_of_mem_take h)
    · exact bx y (List.mem_of_mem_drop h)) (fun b' hb' hbH y hy => rfl)
  simp (disch := first | (simp only [dd, dr]; done) | omega) only [W_97, I_lt, I_le, I_inj, inB_I, tc_I, Int.toNat_natCast, fkt, rf1, rf0, cq, Nat.reduceAdd, Nat.reduceEqDiff, Int.reduceToNat, eq_self, true_and, and_true, true_or, or_true, bI_0, bI_1, mm, rAm, mF_sF, mR_sR, false_and, and_false, if_false, if_true, false_or, or_false, not_true_eq_false, not_false_eq_true, and_self]
  refine ⟨fun _ => ?_, (fun h => by first | exact False.elim h | exact absurd trivial h | (exfalso; omega) | exact absurd rfl h | cases h)⟩
  simp (disch := first | (simp only [dd, dr]; done) | omega) only [W_97, I_lt, I_le, I_inj, inB_I, tc_I, Int.toNat_natCast, fkt, rf1, rf0, cq, Nat.reduceAdd, Nat.reduceEqDiff, Int.reduceToNat, eq_self, true_and, and_true, true_or, or_true, bI_0, bI_1, mm, rAm, mF_sF, mR_sR, false_and, and_false, if_false, if_true, false_or, or_false, not_true_eq_false, not_false_eq_true, and_self]
  refine ⟨fun _ => ?_, (fun h => by first | exact False.elim h | exact absurd trivial h | (exfalso; omega) | exact absurd rfl h | cases h)⟩
  simp (disch := first | (simp only [dd, dr]; done) | omega) only [W_97, I_lt, I_le, I_inj, inB_I, tc_I, Int.toNat_natCast, fkt, rf1, rf0, cq, Nat.reduceAdd, Nat.reduceEqDiff, Int.reduceToNat, eq_self, true_and, and_true, true_or, or_true, bI_0, bI_1, mm, rAm, mF_sF, mR_sR, false_and, and_false, if_false, if_true, false_or, or_false, not_true_eq_false, not_false_eq_true, and_self]
  refine ⟨(fun h => by first | exact False.elim h | exact absurd trivial h | (exfalso; omega) | exact absurd rfl h | cases h), fun _ => ?_⟩
  have t02 := R2.1.1.1
  simp (disch := first | (simp only [dd, dr]; done) | omega) only [W_97, t02, I_lt, I_le, I_inj, inB_I, tc_I, Int.toNat_natCast, fkt, rf1, rf0, cq, Nat.reduceAdd, Nat.reduceEqDiff, Int.reduceToNat, eq_self, true_and, and_true, true_or, or_true, bI_0, bI_1, mm, rAm, mF_sF, mR_sR, false_and, and_false, if_false, if_true, false_or, or_false, not_true_eq_false, not_false_eq_true, and_self]
  refine cr_103 (by omega) (n_join (by omega) R2 (show SW _ from W.1.sw) hq hg (fun M' R' S' F' => ?_))
  simp (disch := first | (simp only [dd, dr]; done) | omega) only [W_97, I_lt, I_le, I_inj, inB_I, tc_I, Int.toNat_natCast, fkt, rf1, rf0, cq, Nat.reduceAdd, Nat.reduceEqDiff, Int.reduceToNat, eq_self, true_and, and_true, true_or, or_true, bI_0, bI_1, mm, rAm, mF_sF, mR_sR, false_and, and_false, if_false, if_true, false_or, or_false, not_true_eq_false, not_false_eq_true, and_self]
  exact hQ M' R' ((F1.trans (Fr.lf hq F2)).trans F')
theorem n_setD (hd : 22 ≤ d) (R : RM M t r m A T py none) (W : Wf m (fun k => (py k).length) T) (hk : ∀ k ∈ its T, k < 1000000) {key w : Nat} (hkey : key < 1000000) (hno : key ∉ its T)
    (hQ : ∀ M', RM M' t r m A T py none → Fr t r A A 0 M M' → Q (.returned none) M') :
    Wp d 97 0 [some (.ref t), some (.int (I (key : Nat))), some (.ref w), some (.int (I 0)), none, none, none] [] M Q := by
  have t0 := R.1.1.1
  simp (disch := first | (simp only [dd, dr]; done) | omega) only [W_97, t0, I_lt, I_le, I_inj, inB_I, tc_I, Int.toNat_natCast, fkt, rf1, rf0, cq, Nat.reduceAdd, Nat.reduceEqDiff, Int.reduceToNat, eq_self, true_and, and_true, true_or, or_true, bI_0, bI_1, mm, rAm, mF_sF, mR_sR, false_and, and_false, if_false, if_true, false_or, or_false, not_true_eq_false, not_false_eq_true, and_self]
  refine ca_98 (by omega) (n_find R W hk hkey (by omega) (fun M1 q hq hM1 R1 F1 e14 e16 => ?_))
  have t01 := R1.1.1.1
  rw [decide_eq_false hno]
  simp (disch := first | (simp only [dd, dr]; done) | omega) only [W_97, t01, e14, e16, I_lt, I_le, I_inj, inB_I, tc_I, Int.toNat_natCast, fkt, rf1, rf0, cq, Nat.reduceAdd, Nat.reduceEqDiff, Int.reduceToNat, eq_self, true_and, and_true, true_or, or_true, bI_0, bI_1, mm, rAm, mF_sF, mR_sR, false_and, and_false, if_false, if_true, false_or, or_false, not_true_eq_false, not_false_eq_true, and_self]
  refine ⟨fun _ => ?_, (fun h => by first | exact False.elim h | exact absurd trivial h | (exfalso; omega) | exact absurd rfl h | cases h)⟩
  simp (disch := first | (simp only [dd, dr]; done) | omega) only [W_97, t01, e14, e16, I_lt, I_le, I_inj, inB_I, tc_I, Int.toNat_natCast, fkt, rf1, rf0, cq, Nat.reduceAdd, Nat.reduceEqDiff, Int.reduceToNat, eq_self, true_and, and_true, true_or, or_true, bI_0, bI_1, mm, rAm, mF_sF, mR_sR, false_and, and_false, if_false, if_true, false_or, or_false, not_true_eq_false, not_false_eq_true, and_self]
  refine ⟨fun _ => ?_, (fun h => by first | exact False.elim h | exact absurd trivial h | (exfalso; omega) | exact absurd rfl h | cases h)⟩
  simp (disch := first | (simp only [dd, dr]; done) | omega) only [W_97, I_lt, I_le, I_inj, inB_I, tc_I, Int.toNat_natCast, fkt, rf1, rf0, cq, Nat.reduceAdd, Nat.reduceEqDiff, Int.reduceToNat, eq_self, true_and, and_true, true_or, or_true, bI_0, bI_1, mm, rAm, mF_sF, mR_sR, false_and, and_false, if_false, if_true, false_or, or_false, not_true_eq_false, not_false_eq_true, and_self]
  refine ⟨fun _ => ?_, (fun h => by first | exact False.elim h | exact absurd trivial h | (exfalso; omega) | exact absurd rfl h | cases h)⟩
  simp (disch := first | (simp only [dd, dr]; done) | omega) only [W_97, I_lt, I_le, I_inj, inB_I, tc_I, Int.toNat_natCast, fkt, rf1, rf0, cq, Nat.reduceAdd, Nat.reduceEqDiff, Int.reduceToNat, eq_self, true_and, and_true, true_or, or_true, bI_0, bI_1, mm, rAm, mF_sF, mR_sR, false_and, and_false, if_false, if_true, false_or, or_false, not_true_eq_false, not_false_eq_true, and_self]
  refine ⟨fun _ => ?_, (fun h => by first | exact False.elim h | exact absurd trivial h | (exfalso; omega) | exact absurd rfl h | cases h)⟩
  simp (disch := first | (simp only [dd, dr]; done) | omega) only [W_97, I_lt, I_le, I_inj, inB_I, tc_I, Int.toNat_natCast, fkt, rf1, rf0, cq, Nat.reduceAdd, Nat.reduceEqDiff, Int.reduceToNat, eq_self, true_and, and_true, true_or, or_true, bI_0, bI_1, mm, rAm, mF_sF, mR_sR, false_and, and_false, if_false, if_true, false_or, or_false, not_true_eq_false, not_false_eq_true, and_self]
  refine ⟨fun _ => ?_, (fun h => by first | exact False.elim h | exact absurd trivial h | (exfalso; omega) | exact absurd rfl h | cases h)⟩
  simp (disch := first | (simp only [dd, dr]; done) | omega) only [W_97, I_lt, I_le, I_inj, inB_I, tc_I, Int.toNat_natCast, fkt, rf1, rf0, cq, Nat.reduceAdd, Nat.reduceEqDiff, Int.reduceToNat, eq_self, true_and, and_true, true_or, or_true, bI_0, bI_1, mm, rAm, mF_sF, mR_sR, false_and, and_false, if_false, if_true, false_or, or_false, not_true_eq_false, not_false_eq_true, and_self]
  exact hQ M1 R1 F1
theorem del_ins {l : List Nat} {p key : Nat} (hp : l[p]? = some key) : (l.take p ++ l.drop (p + 1)).take p ++ key :: (l.take p ++ l.drop (p + 1)).drop p = l := by
  obtain ⟨h1, h2⟩ := List.getElem?_eq_some_iff.mp hp
  have hlen : (l.take p).length = p := by rw [List.length_take]; omega
  have e1 : (l.take p ++ l.drop (p + 1)).take p = l.take p := by
    rw [List.take_append_of_le_length (by omega), List.take_of_length_le (by omega)]
  have e2 : (l.take p ++ l.drop (p + 1)).drop p = l.drop (p + 1) := by
    rw [List.drop_append_of_le_length (by omega), List.drop_eq_nil_of_le (by omega), List.nil_append]
  rw [e1, e2, ← h2, ← List.drop_eq_getElem_cons h1, List.take_append_drop]
set_option maxHeartbeats 8000000 in
theorem n_setC (hd : 22 ≤ d) (R : RM M t r m A T py none) (W : Wf m (fun k => (py k).length) T) (hk : ∀ k ∈ its T, k < 1000000) {key w n N : Nat} {bs : List Nat} (hkey : key < 1000000) (hr : Row M w n bs) (hno : key ∈ its T) (hs : 1 ≤ bs.length) (hs2 : bs.length ≤ 40)
    (hg : ((py key).length < bs.length ∧ sl m (fun k => (fu py key bs k).length) T (lfT T key) = some (ok, T')) ∨ (bs.length < (py key).length ∧ ok = true ∧ lkA (fun k => (fu py key bs k).length) N T (lfT T key) = some T') ∨ (bs.length = (py key).length ∧ ok = true ∧ T' = T))
    (hQt : ok = true → ∀ M' A', RM M' t r m A' T' (fu py key bs) none → Fr t r A A' 0 M M' → Q (.returned none) M') (hQf : ok = false → ∀ M' A' a, JT M' t r m A' → Fr t r A A' 1 M M' → kO M' a = 14 → Q (.threw a) M') :
    Wp d 97 0 [some (.ref t), some (.int (I (key : Nat))), some (.ref w), some (.int (I (bs.length : Nat))), none, none, none] [] M Q := by
  have t0 := R.1.1.1
  have hsz : 1 ≤ (py key).length ∧ (py key).length ≤ 40 := W.2.2.2.2.1 key hno
  have Pch := (chg_ok (sz' := fun k => (fu py key bs k).length) W hno (fun k hk' hne => by show (fu py key bs k).length = (py k).length; rw [fu_n _ _ hne]) (by show (fu py key bs key).length ≤ 40; rw [fu_s]; exact hs2)).1
  simp (disch := first | (simp only [dd, dr]; done) | omega) only [W_97, t0, I_lt, I_le, I_inj, inB_I, tc_I, Int.toNat_natCast, fkt, rf1, rf0, cq, Nat.reduceAdd, Nat.reduceEqDiff, Int.reduceToNat, eq_self, true_and, and_true, true_or, or_true, bI_0, bI_1, mm, rAm, mF_sF, mR_sR, false_and, and_false, if_false, if_true, false_or, or_false, not_true_eq_false, not_false_eq_true, and_self]
  refine ca_98 (by omega) (n_find R W hk hkey (by omega) (fun M1 q hq hM1 R1 F1 e14 e16 => ?_))
  have hr1 : Row M1 w n bs := by rw [hM1]; exact hr
  obtain ⟨hx, Aa, Bb, f1, f2, f3, f4, e5, f6, f7⟩ := lf_spec W key
  have hmem := lf_mem W key
  have hxH := (W.1.1 0 _ hx).2.1
  have h120 := (W.2.2.1 _ hx (by simp)).1
  rw [← us_uz] at h120
  generalize lfT T key = x at *
  have hkx := hmem.mp hno
  have hp := (pl_has e5).mpr hkx
  have hpl := (List.getElem?_eq_some_iff.mp hp).1
  obtain ⟨q', g1, Lx, bx⟩ := R1.2.2.1 x hxH
  rw [hq] at g1; cases g1
  have k5 := Lx.1.1
  have k38 := Lx.1.2.2.1
  have kX2 := Lx.1.2.2.2.2.2.1
  have h24 := Lx.2.2.2.1
  have es := (Lx.2.2.2.2.2.1 _ key hp).2
  have t01 := R1.1.1.1
  rw [decide_eq_true hno]
  simp (disch := first | (simp only [dd, dr]; done) | omega) only [W_97, t01, e14, e16, I_lt, I_le, I_inj, inB_I, tc_I, Int.toNat_natCast, fkt, rf1, rf0, cq, Nat.reduceAdd, Nat.reduceEqDiff, Int.reduceToNat, eq_self, true_and, and_true, true_or, or_true, bI_0, bI_1, mm, rAm, mF_sF, mR_sR, false_and, and_false, if_false, if_true, false_or, or_false, not_true_eq_false, not_false_eq_true, and_self]
  refine ⟨(fun h => by first | exact False.elim h | exact absurd trivial h | (exfalso; omega) | exact absurd rfl h | cases h), fun _ => ?_⟩
  simp (disch := first | (simp only [dd, dr]; done) | omega) only [W_97, t01, e14, e16, k5, k38, kX2, es, I_lt, I_le, I_inj, inB_I, tc_I, Int.toNat_natCast, fkt, rf1, rf0, cq, Nat.reduceAdd, Nat.reduceEqDiff, Int.reduceToNat, eq_self, true_and, and_true, true_or, or_true, bI_0, bI_1, mm, rAm, mF_sF, mR_sR, false_and, and_false, if_false, if_true, false_or, or_false, not_true_eq_false, not_false_eq_true, and_self]
  refine ⟨(fun h => by first | exact False.elim h | exact absurd trivial h | (exfalso; omega) | exact absurd rfl h | cases h), fun _ => ?_⟩
  simp (disch := first | (simp only [dd, dr]; done) | omega) only [W_97, t01, e14, e16, k5, I_lt, I_le, I_inj, inB_I, tc_I, Int.toNat_natCast, fkt, rf1, rf0, cq, Nat.reduceAdd, Nat.reduceEqDiff, Int.reduceToNat, eq_self, true_and, and_true, true_or, or_true, bI_0, bI_1, mm, rAm, mF_sF, mR_sR, false_and, and_false, if_false, if_true, false_or, or_false, not_true_eq_false, not_false_eq_true, and_self]
  refine ca_125 (by omega) (l_drop Lx (by omega) hp (fun M2 F2 L2 => ?_))
  have R2 := R1.itm (b := x) hq hxH F2 L2 (fun y hy => by
    rcases List.mem_append.mp hy with h | h
    · exact bx y (List.mem_of_mem_take h)
    · exact bx y (List.mem_of_mem_drop h)) (fun b' hb' hbH y hy => rfl)
  have t02 := R2.1.1.1
  have e142 : mR M2 14 t = some q := by rw [F2.f1.2.2.2.2.2.2.2.2.1]; exact e14
  have e162 : mF M2 16 t = I (pl key (tI T x) : Nat) := by rw [F2.f1.2.2.1 _ _ (by omega)]; exact e16
  have k52 := L2.1.1
  have hul := h120
  unfold us at hul
  have hcut : ((tI T x).take (pl key (tI T x)) ++ (tI T x).drop (pl key (tI T x) + 1)).length = (tI T x).length - 1 := by rw [List.length_append, List.length_take, List.length_drop]; omega
  have hflat : (((tI T x).take (pl key (tI T x)) ++ (tI T x).drop (pl key (tI T x) + 1)).flatMap py).length ≤ ((tI T x).flatMap py).length := by
    have e := pl_split e5 hkx
    have : (tI T x).flatMap py = ((tI T x).take (pl key (tI T x))).flatMap py ++ (py key ++ ((tI T x).drop (pl key (tI T x) + 1)).flatMap py) := by
      conv => lhs; rw [e]
      rw [List.flatMap_append, List.flatMap_cons]
    rw [this, List.flatMap_append, List.length_append, List.length_append, List.length_append]; omega
  have hnk : key ∉ (tI T x).take (pl key (tI T x)) ++ (tI T x).drop (pl key (tI T x) + 1) := by
    intro hm
    have e := pl_split e5 hkx
    have e5' := e5
    rw [e] at e5'
    obtain ⟨p1, p2, p3⟩ := List.pairwise_append.mp e5'
    obtain ⟨p4, p5⟩ := List.pairwise_cons.mp p2
    rcases List.mem_append.mp hm with h | h
    · have := p3 key h key (List.mem_cons_self ..); omega
    · have := p4 key h; omega
  simp (disch := first | (simp only [dd, dr]; done) | omega) only [W_97, I_lt, I_le, I_inj, inB_I, tc_I, Int.toNat_natCast, fkt, rf1, rf0, cq, Nat.reduceAdd, Nat.reduceEqDiff, Int.reduceToNat, eq_self, true_and, and_true, true_or, or_true, bI_0, bI_1, mm, rAm, mF_sF, mR_sR, false_and, and_false, if_false, if_true, false_or, or_false, not_true_eq_false, not_false_eq_true, and_self]
  refine ⟨(fun h => by first | exact False.elim h | exact absurd trivial h | (exfalso; omega) | exact absurd rfl h | cases h), fun _ => ?_⟩
  simp (disch := first | (simp only [dd, dr]; done) | omega) only [W_97, t02, e142, e162, k52, I_lt, I_le, I_inj, inB_I, tc_I, Int.toNat_natCast, fkt, rf1, rf0, cq, Nat.reduceAdd, Nat.reduceEqDiff, Int.reduceToNat, eq_self, true_and, and_true, true_or, or_true, bI_0, bI_1, mm, rAm, mF_sF, mR_sR, false_and, and_false, if_false, if_true, false_or, or_false, not_true_eq_false, not_false_eq_true, and_self]
  refine cr_127 (by omega) (c_put0 (by omega) L2 (by omega) (by omega) (by omega) hnk (hr1.fr Lx.1 F2) (fun M3 F3 L3 => ?_))
  rw [del_ins hp] at L3
  have R3 := R2.itm (b := x) hq (by simp only [ti]; exact hxH) F3 L3 bx (fun b' hb' hbH y hy => by
    simp only [ti] at hy
    rw [fu_n _ _ hb'] at hy
    refine fu_n _ _ (fun e => ?_)
    rw [e] at hy
    have hbm := W.1.2.2.1 0 b' hbH
    rw [f1] at hbm
    rcases List.mem_append.mp hbm with h | h
    · exact absurd (f3 key (List.mem_flatMap.mpr ⟨b', h, hy⟩)) (by omega)
    · rcases List.mem_cons.mp h with h | h
      · exact hb' h
      · exact absurd (f4 key (List.mem_flatMap.mpr ⟨b', h, hy⟩)) (by omega))
  have eT : uI (uI T x ((tI T x).take (pl key (tI T x)) ++ (tI T x).drop (pl key (tI T x) + 1))) x (tI T x) = T := by
    have h1 : uI (uI T x ((tI T x).take (pl key (tI T x)) ++ (tI T x).drop (pl key (tI T x) + 1))) x (tI T x) = uI T x (tI T x) := by
      unfold uI; simp only [fu_fu]
    rw [h1]; exact uI_id T x rfl
  rw [eT] at R3
  have F03 : Fr t r A A 0 M M3 := (F1.trans (Fr.lf hq F2)).trans (Fr.lf hq F3)
  have t03 := R3.1.1.1
  simp (disch := first | (simp only [dd, dr]; done) | omega) only [W_97, I_lt, I_le, I_inj, inB_I, tc_I, Int.toNat_natCast, fkt, rf1, rf0, cq, Nat.reduceAdd, Nat.reduceEqDiff, Int.reduceToNat, eq_self, true_and, and_true, true_or, or_true, bI_0, bI_1, mm, rAm, mF_sF, mR_sR, false_and, and_false, if_false, if_true, false_or, or_false, not_true_eq_false, not_false_eq_true, and_self]
  rcases hg with ⟨hlt, hg⟩ | ⟨hlt, hok, hg⟩ | ⟨hlt, hok, hg⟩
  · refine ⟨(fun h => by first | exact False.elim h | exact absurd trivial h | (exfalso; omega) | exact absurd rfl h | cases h), fun _ => ?_⟩
    simp (disch := first | (simp only [dd, dr]; done) | omega) only [W_97, t03, I_lt, I_le, I_inj, inB_I, tc_I, Int.toNat_natCast, fkt, rf1, rf0, cq, Nat.reduceAdd, Nat.reduceEqDiff, Int.reduceToNat, eq_self, true_and, and_true, true_or, or_true, bI_0, bI_1, mm, rAm, mF_sF, mR_sR, false_and, and_false, if_false, if_true, false_or, or_false, not_true_eq_false, not_false_eq_true, and_self]
    have Pc := Pch (by show (py key).length ≤ (fu py key bs key).length; rw [fu_s]; omega)
    have hu := Pc.2.2.2.2.2.1
    rw [← us_uz] at hu
    refine cr_100 (by omega) (n_share (by omega) R3 W.1.sw W.1.up0 hq hu hg (fun h M' A' R' S' F' => ?_) (fun h M' A' a J' F' k14 => ?_))
    · simp (disch := first | (simp only [dd, dr]; done) | omega) only [W_97, I_lt, I_le, I_inj, inB_I, tc_I, Int.toNat_natCast, fkt, rf1, rf0, cq, Nat.reduceAdd, Nat.reduceEqDiff, Int.reduceToNat, eq_self, true_and, and_true, true_or, or_true, bI_0, bI_1, mm, rAm, mF_sF, mR_sR, false_and, and_false, if_false, if_true, false_or, or_false, not_true_eq_false, not_false_eq_true, and_self]
      exact hQt h M' A' R' (F03.trans F')
    · simp (disch := first | (simp only [dd, dr]; done) | omega) only [W_97, I_lt, I_le, I_inj, inB_I, tc_I, Int.toNat_natCast, fkt, rf1, rf0, cq, Nat.reduceAdd, Nat.reduceEqDiff, Int.reduceToNat, eq_self, true_and, and_true, true_or, or_true, bI_0, bI_1, mm, rAm, mF_sF, mR_sR, false_and, and_false, if_false, if_true, false_or, or_false, not_true_eq_false, not_false_eq_true, and_self]
      rw [Th_out k14 (by decide) (by decide +kernel)]
      exact hQf h M' A' a J' (F03.trans F') k14
  · refine ⟨fun _ => ?_, (fun h => by first | exact False.elim h | exact absurd trivial h | (exfalso; omega) | exact absurd rfl h | cases h)⟩
    simp (disch := first | (simp only [dd, dr]; done) | omega) only [W_97, I_lt, I_le, I_inj, inB_I, tc_I, Int.toNat_natCast, fkt, rf1, rf0, cq, Nat.reduceAdd, Nat.reduceEqDiff, Int.reduceToNat, eq_self, true_and, and_true, true_or, or_true, bI_0, bI_1, mm, rAm, mF_sF, mR_sR, false_and, and_false, if_false, if_true, false_or, or_false, not_true_eq_false, not_false_eq_true, and_self]
    refine ⟨(fun h => by first | exact False.elim h | exact absurd trivial h | (exfalso; omega) | exact absurd rfl h | cases h), fun _ => ?_⟩
    simp (disch := first | (simp only [dd, dr]; done) | omega) only [W_97, t03, I_lt, I_le, I_inj, inB_I, tc_I, Int.toNat_natCast, fkt, rf1, rf0, cq, Nat.reduceAdd, Nat.reduceEqDiff, Int.reduceToNat, eq_self, true_and, and_true, true_or, or_true, bI_0, bI_1, mm, rAm, mF_sF, mR_sR, false_and, and_false, if_false, if_true, false_or, or_false, not_true_eq_false, not_false_eq_true, and_self]
    refine cr_103 (by omega) (n_join (by omega) R3 W.1.sw hq hg (fun M' R' S' F' => ?_))
    simp (disch := first | (simp only [dd, dr]; done) | omega) only [W_97, I_lt, I_le, I_inj, inB_I, tc_I, Int.toNat_natCast, fkt, rf1, rf0, cq, Nat.reduceAdd, Nat.reduceEqDiff, Int.reduceToNat, eq_self, true_and, and_true, true_or, or_true, bI_0, bI_1, mm, rAm, mF_sF, mR_sR, false_and, and_false, if_false, if_true, false_or, or_false, not_true_eq_false, not_false_eq_true, and_self]
    exact hQt hok M' A R' (F03.trans F')
  · refine ⟨fun _ => ?_, (fun h => by first | exact False.elim h | exact absurd trivial h | (exfalso; omega) | exact absurd rfl h | cases h)⟩
    simp (disch := first | (simp only [dd, dr]; done) | omega) only [W_97, I_lt, I_le, I_inj, inB_I, tc_I, Int.toNat_natCast, fkt, rf1, rf0, cq, Nat.reduceAdd, Nat.reduceEqDiff, Int.reduceToNat, eq_self, true_and, and_true, true_or, or_true, bI_0, bI_1, mm, rAm, mF_sF, mR_sR, false_and, and_false, if_false, if_true, false_or, or_false, not_true_eq_false, not_false_eq_true, and_self]
    refine ⟨fun _ => ?_, (fun h => by first | exact False.elim h | exact absurd trivial h | (exfalso; omega) | exact absurd rfl h | cases h)⟩
    simp (disch := first | (simp only [dd, dr]; done) | omega) only [W_97, I_lt, I_le, I_inj, inB_I, tc_I, Int.toNat_natCast, fkt, rf1, rf0, cq, Nat.reduceAdd, Nat.reduceEqDiff, Int.reduceToNat, eq_self, true_and, and_true, true_or, or_true, bI_0, bI_1, mm, rAm, mF_sF, mR_sR, false_and, and_false, if_false, if_true, false_or, or_false, not_true_eq_false, not_false_eq_true, and_self]
    subst hg
    exact hQt hok M3 A R3 F03
end CSt
