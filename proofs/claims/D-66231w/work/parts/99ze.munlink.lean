/-! ===== THE MODEL: unlink, move ===== -/
section Mul
variable {d : Nat} {M : Mem} {Q : Outcome → Mem → Prop} {o : Nat} {f : Nat → Int} {s s' b c w : Int → Int} {j : Nat → Bool} {T T' T1 T2 : Tr} {X X' : Ob} {dt : Nat → Nat → Nat} {m : Nat} {sz tl : Nat → Nat} {par : Nat → Nat}
theorem m_tailOf {n : Nat} (hn : n < 100000) (hQ : Q (.returned (some (.int (I (tlO n : Nat))))) M) : Wp d 192 0 [some (.int (I (n : Nat))), none] [] M Q := by
  simp (disch := first | (simp only [dd, dr]; done) | omega) only [W_192, I_lt, I_le, I_inj, inB_I, tc_I, Int.toNat_natCast, fkt, rf1, rf0, cq, Nat.reduceAdd, Nat.reduceEqDiff, Int.reduceToNat, eq_self, true_and, and_true, true_or, or_true, bI_0, bI_1, mm, rAm, mF_sF, mR_sR, false_and, and_false, if_false, if_true, false_or, or_false, not_true_eq_false, not_false_eq_true, and_self]
  unfold tlO at hQ
  refine ⟨fun h => ?_, fun h => ?_⟩
  · rw [if_neg (by omega)] at hQ; simp (disch := first | (simp only [dd, dr]; done) | omega) only [W_192, I_lt, I_le, I_inj, inB_I, tc_I, Int.toNat_natCast, fkt, rf1, rf0, cq, Nat.reduceAdd, Nat.reduceEqDiff, Int.reduceToNat, eq_self, true_and, and_true, true_or, or_true, bI_0, bI_1, mm, rAm, mF_sF, mR_sR, false_and, and_false, if_false, if_true, false_or, or_false, not_true_eq_false, not_false_eq_true, and_self]; exact hQ
  · simp (disch := first | (simp only [dd, dr]; done) | omega) only [W_192, I_lt, I_le, I_inj, inB_I, tc_I, Int.toNat_natCast, fkt, rf1, rf0, cq, Nat.reduceAdd, Nat.reduceEqDiff, Int.reduceToNat, eq_self, true_and, and_true, true_or, or_true, bI_0, bI_1, mm, rAm, mF_sF, mR_sR, false_and, and_false, if_false, if_true, false_or, or_false, not_true_eq_false, not_false_eq_true, and_self]
    refine ⟨fun h => ?_, fun h => ?_⟩
    · rw [if_neg (by omega)] at hQ; simp (disch := first | (simp only [dd, dr]; done) | omega) only [W_192, I_lt, I_le, I_inj, inB_I, tc_I, Int.toNat_natCast, fkt, rf1, rf0, cq, Nat.reduceAdd, Nat.reduceEqDiff, Int.reduceToNat, eq_self, true_and, and_true, true_or, or_true, bI_0, bI_1, mm, rAm, mF_sF, mR_sR, false_and, and_false, if_false, if_true, false_or, or_false, not_true_eq_false, not_false_eq_true, and_self]; exact hQ
    · rw [if_pos (by omega)] at hQ; simp (disch := first | (simp only [dd, dr]; done) | omega) only [W_192, I_lt, I_le, I_inj, inB_I, tc_I, Int.toNat_natCast, fkt, rf1, rf0, cq, Nat.reduceAdd, Nat.reduceEqDiff, Int.reduceToNat, eq_self, true_and, and_true, true_or, or_true, bI_0, bI_1, mm, rAm, mF_sF, mR_sR, false_and, and_false, if_false, if_true, false_or, or_false, not_true_eq_false, not_false_eq_true, and_self]; exact hQ
/-- an item goes, and objects are as they were -/
theorem t_del (hK : MK M o) (hm2 : m ≤ 96) (hd : 6 ≤ d) (t : MT s T (szO X) (tlX X)) (W : Wf m (szO X) T) {ob so na : Nat} (h1 : ob < 61) (h2 : so < 4) (h3 : na < 1024) (hk : ky ob so na ∈ its T) (hQ : ∀ s', MT s' (dlT m (szO X) T (ky ob so na)) (szO X) (tlX X) → Frz s s' → Q (.returned none) (ms M o f s' b c w j)) : Wp d 187 0 [some (.ref o), some (.int (I (ob : Nat))), some (.int (I (so : Nat))), some (.int (I (na : Nat))), none] [] (ms M o f s b c w j) Q := by
  obtain ⟨S1, W1⟩ := dlT_st (key := ky ob so na) hm2 W
  refine t_rem (ok := true) hK hm2 hd t W h1 h2 h3 hk (dlT_ok W) (fun _ s' m' F' => hQ s' (m'.szs (fun b _ k hk' => ⟨?_, rfl⟩)) F')
  rw [fu_n]
  rcases (S1.mem W k).mp (W1.mem hk') with ⟨_, h⟩ | ⟨h, _⟩
  · exact absurd rfl h
  · exact h
/-- an item goes if there is one -/
theorem t_del0 (hK : MK M o) (hm1 : 1 ≤ m) (hm2 : m ≤ 96) (f43 : f 43 = m) (f47 : f 47 = 0) (hd : 7 ≤ d) (t : MT s T (szO X) (tlX X)) (W : Wf m (szO X) T) {ob so had : Nat} (h1 : ob < 61) (h2 : so < 4) (h2' : so ≠ 1) (hh : had = if ky ob so 0 ∈ its T then szO X (ky ob so 0) else 0) (hQ : ∀ s', MT s' (dlT m (szO X) T (ky ob so 0)) (szO X) (tlX X) → Frz s s' → Q (.returned none) (ms M o f s' b c w j)) : Wp d 193 0 [some (.ref o), some (.int (I (ob : Nat))), some (.int (I (so : Nat))), some (.int (I (had : Nat))), some (.int (I 0)), none] [] (ms M o f s b c w j) Q := by
  obtain ⟨S1, W1⟩ := dlT_st (key := ky ob so 0) hm2 W
  refine t_res (ok := true) (has := 0) hK hm1 hm2 f43 f47 hd t W h1 h2 (by omega) (tlX_k X h2 h2') hh (dlT_ok W) (fun _ s' m' F' => hQ s' (m'.szs (fun b _ k hk' => ⟨?_, rfl⟩)) F') (fun h => by cases h)
  rw [fu_n]
  rcases (S1.mem W k).mp (W1.mem hk') with ⟨_, h⟩ | ⟨h, _⟩
  · exact absurd rfl h
  · exact h
/-- an object is no more -/
def clX (X : Ob) (v : Nat) : Ob := vT (vD (vS X v 0 0 0) v []) v []
def ulC (off : Bool) (T : Tr) (X : Ob) (z n : Int) : Nat := if off = true then 1 else if ¬ (isk T X z 0 = true ∧ tol T X z.toNat n ≠ -1) then 2 else if ¬ (oK X (tol T X z.toNat n).toNat = 2 ∨ oS X (tol T X z.toNat n).toNat = 0) then 3 else 0
theorem Wf.fes {l : List Nat} : ∀ {T : Tr}, Wf m sz T → (∀ b ∈ l, tH T b = 0 ∧ b ≠ 0) → Wf m sz (fes l T) := by
  induction l with
  | nil => intro T W _; exact W
  | cons a l ih =>
    intro T W h
    obtain ⟨h1, h2⟩ := h a (List.mem_cons_self ..)
    exact ih (W.uu h1 h2 (fun h => by cases h)) (fun b hb => h b (List.mem_cons_of_mem _ hb))
theorem szO_clX {v k : Nat} (h2 : k ≠ ky v 2 0) (h3 : k ≠ ky v 3 0) : szO (clX X v) k = szO X k := by
  unfold clX szO
  rw [pyO_vT, fu_n _ _ h3, pyO_vD, fu_n _ _ h2]
  exact congrFun (szO_vS X v 0 0 0) k
set_option maxHeartbeats 4000000 in
theorem m_unlink (hK : MK M o) (hd : 12 ≤ d) (S : MS s T X dt) (G : Gt m T (pyO X)) (hm1 : 1 ≤ m) (hm2 : m ≤ 96) (O : OK3 T X) (hn : ∀ k ∈ its T, k / 1024 % 4 = 1 → k % 1024 < 1000) (f43 : f 43 = m) {off : Bool} (f52 : f 52 = bI off) {z n : Int} (z0 : -2147483648 ≤ z) (z1 : z < 2147483648) (n0 : -2147483648 ≤ n) (n1 : n < 2147483648)
    (hE : ∀ o nn, nn < 1000 → ky o 1 nn ∈ its T → 2 ≤ oE X (ky o 1 nn) ∧ oE X (ky o 1 nn) ≤ 60 ∧ ky (oE X (ky o 1 nn)) 0 0 ∈ its T ∧ oE X (ky o 1 nn) ≠ o ∧ 1 ≤ oS X o ∧ 1 ≤ oL X (oE X (ky o 1 nn)))
    (hX : ulC off T X z n ≠ 0 → ∀ f' s' b', Fe f f' → f' 54 = ulC off T X z n → (∀ x, 0 ≤ x → x < 25366 → s' x = s x) → Q (.returned (some (.int (I 0)))) (ms M o f' s' b' c w j))
    (hR1 : ulC off T X z n = 0 → ∀ v, v = oE X (ky z.toNat 1 n.toNat) → 2 ≤ oL X v → ∀ f' s' b', Fe f f' → f' 54 = 0 → MS s' (dlT m (szO X) T (ky z.toNat 1 n.toNat)) (ulX X z.toNat v) dt → Q (.returned (some (.int (I ((oL X v - 1 : Nat) : Int))))) (ms M o f' s' b' c w j))
    (hR2 : ulC off T X z n = 0 → ∀ v, v = oE X (ky z.toNat 1 n.toNat) → oL X v = 1 → ∀ f' s' b', Fe f f' → f' 54 = 0 → MS s' (rmT m (lvX X z.toNat) (dlT m (szO X) T (ky z.toNat 1 n.toNat)) v) (clX (lvX X z.toNat) v) dt → Q (.returned (some (.int (I 0)))) (ms M o f' s' b' c w j)) :
    Wp d 186 0 [some (.ref o), some (.int (I z)), some (.int (I n)), none, none, none, none] [] (ms M o f s b c w j) Q := by
  have hK' := hK
  obtain ⟨k0, k1, k2, k3, k4, k5, k6, k7, k8, k9, k10⟩ := hK
  have W : Wf m (szO X) T := G.1
  have hl : ∀ o, o < 61 → ky o 0 0 ∈ its T → (oD X o).length ≤ 16 := fun o h1 h2 => (O.any (by omega) h2).2.2.2.1
  unfold ulC at hX hR1 hR2
  -- refused
  have ref : ∀ (k : Nat), 1 ≤ k → k ≤ 3 → (if off = true then 1 else if ¬ (isk T X z 0 = true ∧ tol T X z.toNat n ≠ -1) then 2 else if ¬ (oK X (tol T X z.toNat n).toNat = 2 ∨ oS X (tol T X z.toNat n).toNat = 0) then 3 else 0) = k → Q (.returned (some (.int (I 0)))) (ms M o (fu f 54 (k : Int)) s b c w j) := by
    intro k h1 h2 hk
    rw [hk] at hX
    have hf : fu f 54 (k : Int) 54 = k := fu_s _ _ _
    exact hX (by omega) _ s b (fun g _ h _ => fu_n _ _ h) hf (fun _ _ _ => rfl)
  by_cases h1 : off = true
  · rw [h1] at f52
    have f52 : f 52 = 1 := f52
    simp (disch := first | (simp only [dd, dr]; done) | omega) only [W_186, msK, msR, msF, ms1, msS1, k0, k1, k6, f52, I_lt, I_le, I_inj, inB_I, tc_I, Int.toNat_natCast, fkt, rf1, rf0, cq, Nat.reduceAdd, Nat.reduceEqDiff, Int.reduceToNat, eq_self, true_and, and_true, true_or, or_true, bI_0, bI_1, mm, rAm, mF_sF, mR_sR, false_and, and_false, if_false, if_true, false_or, or_false, not_true_eq_false, not_false_eq_true, and_self]
    refine ⟨fun _ => ?_, (fun h => by first | exact False.elim h | exact absurd trivial h | (exfalso; omega) | exact absurd rfl h | cases h)⟩
    simp (disch := first | (simp only [dd, dr]; done) | omega) only [W_186, msK, msR, msF, ms1, msS1, k0, k1, k6, f52, I_lt, I_le, I_inj, inB_I, tc_I, Int.toNat_natCast, fkt, rf1, rf0, cq, Nat.reduceAdd, Nat.reduceEqDiff, Int.reduceToNat, eq_self, true_and, and_true, true_or, or_true, bI_0, bI_1, mm, rAm, mF_sF, mR_sR, false_and, and_false, if_false, if_true, false_or, or_false, not_true_eq_false, not_false_eq_true, and_self]
    refine ⟨(fun h => by first | exact False.elim h | exact absurd trivial h | (exfalso; omega) | exact absurd rfl h | cases h), fun _ => ?_⟩
    have hf : fu f 54 (1 : Int) 54 = 1 := fu_s _ _ _
    simp (disch := first | (simp only [dd, dr]; done) | omega) only [W_186, msK, msR, msF, ms1, msS1, k0, k1, k6, msSF, hf, I_lt, I_le, I_inj, inB_I, tc_I, Int.toNat_natCast, fkt, rf1, rf0, cq, Nat.reduceAdd, Nat.reduceEqDiff, Int.reduceToNat, eq_self, true_and, and_true, true_or, or_true, bI_0, bI_1, mm, rAm, mF_sF, mR_sR, false_and, and_false, if_false, if_true, false_or, or_false, not_true_eq_false, not_false_eq_true, and_self]
    refine ⟨(fun h => by first | exact False.elim h | exact absurd trivial h | (exfalso; omega) | exact absurd rfl h | cases h), fun _ => ?_⟩
    simp (disch := first | (simp only [dd, dr]; done) | omega) only [W_186, I_lt, I_le, I_inj, inB_I, tc_I, Int.toNat_natCast, fkt, rf1, rf0, cq, Nat.reduceAdd, Nat.reduceEqDiff, Int.reduceToNat, eq_self, true_and, and_true, true_or, or_true, bI_0, bI_1, mm, rAm, mF_sF, mR_sR, false_and, and_false, if_false, if_true, false_or, or_false, not_true_eq_false, not_false_eq_true, and_self]
    exact ref 1 (by omega) (by omega) (by rw [if_pos h1])
  have f52 : f 52 = 0 := by
    have : off = false := by simpa using h1
    rw [this] at f52; exact f52
  simp (disch := first | (simp only [dd, dr]; done) | omega) only [W_186, msK, msR, msF, ms1, msS1, k0, k1, k6, f52, I_lt, I_le, I_inj, inB_I, tc_I, Int.toNat_natCast, fkt, rf1, rf0, cq, Nat.reduceAdd, Nat.reduceEqDiff, Int.reduceToNat, eq_self, true_and, and_true, true_or, or_true, bI_0, bI_1, mm, rAm, mF_sF, mR_sR, false_and, and_false, if_false, if_true, false_or, or_false, not_true_eq_false, not_false_eq_true, and_self]
  refine ⟨(fun h => by first | exact False.elim h | exact absurd trivial h | (exfalso; omega) | exact absurd rfl h | cases h), fun _ => ?_⟩
  simp (disch := first | (simp only [dd, dr]; done) | omega) only [W_186, msK, msR, msF, ms1, msS1, k0, k1, k6, I_lt, I_le, I_inj, inB_I, tc_I, Int.toNat_natCast, fkt, rf1, rf0, cq, Nat.reduceAdd, Nat.reduceEqDiff, Int.reduceToNat, eq_self, true_and, and_true, true_or, or_true, bI_0, bI_1, mm, rAm, mF_sF, mR_sR, false_and, and_false, if_false, if_true, false_or, or_false, not_true_eq_false, not_false_eq_true, and_self]
  refine ca_157 (by omega) (m_isDirectory hK' (by omega) S O.1.1 z0 z1 ?_)
  simp (disch := first | (simp only [dd, dr]; done) | omega) only [W_186, I_lt, I_le, I_inj, inB_I, tc_I, Int.toNat_natCast, fkt, rf1, rf0, cq, Nat.reduceAdd, Nat.reduceEqDiff, Int.reduceToNat, eq_self, true_and, and_true, true_or, or_true, bI_0, bI_1, mm, rAm, mF_sF, mR_sR, false_and, and_false, if_false, if_true, false_or, or_false, not_true_eq_false, not_false_eq_true, and_self]
  refine ⟨fun h2 => ?_, fun h2 => ?_⟩
  rotate_left
  · have h2 : isk T X z 0 = false := by simpa using h2
    simp (disch := first | (simp only [dd, dr]; done) | omega) only [W_186, msK, msR, msF, ms1, msS1, k0, k1, k6, f52, I_lt, I_le, I_inj, inB_I, tc_I, Int.toNat_natCast, fkt, rf1, rf0, cq, Nat.reduceAdd, Nat.reduceEqDiff, Int.reduceToNat, eq_self, true_and, and_true, true_or, or_true, bI_0, bI_1, mm, rAm, mF_sF, mR_sR, false_and, and_false, if_false, if_true, false_or, or_false, not_true_eq_false, not_false_eq_true, and_self]
    refine ⟨fun _ => ?_, (fun h => by first | exact False.elim h | exact absurd trivial h | (exfalso; omega) | exact absurd rfl h | cases h)⟩
    simp (disch := first | (simp only [dd, dr]; done) | omega) only [W_186, I_lt, I_le, I_inj, inB_I, tc_I, Int.toNat_natCast, fkt, rf1, rf0, cq, Nat.reduceAdd, Nat.reduceEqDiff, Int.reduceToNat, eq_self, true_and, and_true, true_or, or_true, bI_0, bI_1, mm, rAm, mF_sF, mR_sR, false_and, and_false, if_false, if_true, false_or, or_false, not_true_eq_false, not_false_eq_true, and_self]
    refine ⟨(fun h => by first | exact False.elim h | exact absurd trivial h | (exfalso; omega) | exact absurd rfl h | cases h), fun _ => ?_⟩
    have hf : fu f 54 (2 : Int) 54 = 2 := fu_s _ _ _
    simp (disch := first | (simp only [dd, dr]; done) | omega) only [W_186, msK, msR, msF, ms1, msS1, k0, k1, k6, msSF, hf, I_lt, I_le, I_inj, inB_I, tc_I, Int.toNat_natCast, fkt, rf1, rf0, cq, Nat.reduceAdd, Nat.reduceEqDiff, Int.reduceToNat, eq_self, true_and, and_true, true_or, or_true, bI_0, bI_1, mm, rAm, mF_sF, mR_sR, false_and, and_false, if_false, if_true, false_or, or_false, not_true_eq_false, not_false_eq_true, and_self]
    refine ⟨(fun h => by first | exact False.elim h | exact absurd trivial h | (exfalso; omega) | exact absurd rfl h | cases h), fun _ => ?_⟩
    simp (disch := first | (simp only [dd, dr]; done) | omega) only [W_186, I_lt, I_le, I_inj, inB_I, tc_I, Int.toNat_natCast, fkt, rf1, rf0, cq, Nat.reduceAdd, Nat.reduceEqDiff, Int.reduceToNat, eq_self, true_and, and_true, true_or, or_true, bI_0, bI_1, mm, rAm, mF_sF, mR_sR, false_and, and_false, if_false, if_true, false_or, or_false, not_true_eq_false, not_false_eq_true, and_self]
    exact ref 2 (by omega) (by omega) (by rw [if_neg h1, if_pos (fun h => by rw [h.1] at h2; cases h2)])
  have h2 : isk T X z 0 = true := by simpa using h2
  obtain ⟨zo, rfl, o1, o2, o3, o4⟩ := isk_of h2
  simp only [Int.toNat_natCast] at *
  simp (disch := first | (simp only [dd, dr]; done) | omega) only [W_186, msK, msR, msF, ms1, msS1, k0, k1, k6, I_lt, I_le, I_inj, inB_I, tc_I, Int.toNat_natCast, fkt, rf1, rf0, cq, Nat.reduceAdd, Nat.reduceEqDiff, Int.reduceToNat, eq_self, true_and, and_true, true_or, or_true, bI_0, bI_1, mm, rAm, mF_sF, mR_sR, false_and, and_false, if_false, if_true, false_or, or_false, not_true_eq_false, not_false_eq_true, and_self]
  refine ca_161 (by omega) (m_entry hK' (by omega) S W hn (by omega) n0 n1 ?_)
  have ht := tol_rng O.1 zo n
  by_cases h3 : tol T X zo n = -1
  · rw [h3]
    simp (disch := first | (simp only [dd, dr]; done) | omega) only [W_186, msK, msR, msF, ms1, msS1, k0, k1, k6, f52, I_lt, I_le, I_inj, inB_I, tc_I, Int.toNat_natCast, fkt, rf1, rf0, cq, Nat.reduceAdd, Nat.reduceEqDiff, Int.reduceToNat, eq_self, true_and, and_true, true_or, or_true, bI_0, bI_1, mm, rAm, mF_sF, mR_sR, false_and, and_false, if_false, if_true, false_or, or_false, not_true_eq_false, not_false_eq_true, and_self]
    refine ⟨fun _ => ?_, (fun h => by first | exact False.elim h | exact absurd trivial h | (exfalso; omega) | exact absurd rfl h | cases h)⟩
    simp (disch := first | (simp only [dd, dr]; done) | omega) only [W_186, I_lt, I_le, I_inj, inB_I, tc_I, Int.toNat_natCast, fkt, rf1, rf0, cq, Nat.reduceAdd, Nat.reduceEqDiff, Int.reduceToNat, eq_self, true_and, and_true, true_or, or_true, bI_0, bI_1, mm, rAm, mF_sF, mR_sR, false_and, and_false, if_false, if_true, false_or, or_false, not_true_eq_false, not_false_eq_true, and_self]
    refine ⟨(fun h => by first | exact False.elim h | exact absurd trivial h | (exfalso; omega) | exact absurd rfl h | cases h), fun _ => ?_⟩
    have hf : fu f 54 (2 : Int) 54 = 2 := fu_s _ _ _
    simp (disch := first | (simp only [dd, dr]; done) | omega) only [W_186, msK, msR, msF, ms1, msS1, k0, k1, k6, msSF, hf, I_lt, I_le, I_inj, inB_I, tc_I, Int.toNat_natCast, fkt, rf1, rf0, cq, Nat.reduceAdd, Nat.reduceEqDiff, Int.reduceToNat, eq_self, true_and, and_true, true_or, or_true, bI_0, bI_1, mm, rAm, mF_sF, mR_sR, false_and, and_false, if_false, if_true, false_or, or_false, not_true_eq_false, not_false_eq_true, and_self]
    refine ⟨(fun h => by first | exact False.elim h | exact absurd trivial h | (exfalso; omega) | exact absurd rfl h | cases h), fun _ => ?_⟩
    simp (disch := first | (simp only [dd, dr]; done) | omega) only [W_186, I_lt, I_le, I_inj, inB_I, tc_I, Int.toNat_natCast, fkt, rf1, rf0, cq, Nat.reduceAdd, Nat.reduceEqDiff, Int.reduceToNat, eq_self, true_and, and_true, true_or, or_true, bI_0, bI_1, mm, rAm, mF_sF, mR_sR, false_and, and_false, if_false, if_true, false_or, or_false, not_true_eq_false, not_false_eq_true, and_self]
    exact ref 2 (by omega) (by omega) (by rw [if_neg h1, if_pos (fun h => h.2 h3)])
  have hin : 0 ≤ n ∧ n < 1000 ∧ ky zo 1 n.toNat ∈ its T := by
    apply Classical.byContradiction
    intro h
    apply h3
    unfold tol
    rw [if_neg h]
  obtain ⟨nn, rfl⟩ : ∃ nn : Nat, n = nn := ⟨n.toNat, by omega⟩
  simp only [Int.toNat_natCast] at *
  obtain ⟨hi1, hi2, hi3⟩ := hin
  have etol : tol T X zo (nn : Int) = ((oE X (ky zo 1 nn) : Nat) : Int) := by
    unfold tol
    rw [Int.toNat_natCast, if_pos ⟨hi1, hi2, hi3⟩]
  obtain ⟨e1, e2, e3, e4, e5, e6⟩ := hE zo nn (by omega) hi3
  generalize hvv : oE X (ky zo 1 nn) = v at *
  rw [etol]
  simp only [etol, Int.toNat_natCast] at hX hR1 hR2 ref
  have hv1 := S.2.1 v (by omega)
  rw [if_pos e3] at hv1
  obtain ⟨vo1, vo2, vo3, vo4⟩ := O.1.1 v (by omega) e3
  obtain ⟨x1, x2, x3, x4, x5⟩ := S.2.2.1 v (by omega) e3
  obtain ⟨y1, y2, _⟩ := S.2.2.1 zo (by omega) o3
  obtain ⟨zo1, zo2, zo3, zo4⟩ := O.1.1 zo (by omega) o3
  have hne : ¬ ¬ (isk T X (zo : Int) 0 = true ∧ ((v : Nat) : Int) ≠ -1) := fun h => h ⟨h2, by omega⟩
  rw [if_neg h1, if_neg hne] at hX hR1 hR2
  -- the call goes on
  have rest : (oK X v = 2 ∨ oS X v = 0) → Wp d 186 76 [some (.ref o), some (.int (I (zo : Nat))), some (.int (I (nn : Nat))), some (.int (I (v : Nat))), none, none, none] [.ref o] (ms M o f s b c w j) Q := by
    intro h4
    rw [if_neg (fun h => h h4)] at hR1 hR2
    have hR1 := hR1 rfl v rfl
    have hR2 := hR2 rfl v rfl
    have hf0 : fu f 54 (0 : Int) 54 = 0 := fu_s _ _ _
    simp (disch := first | (simp only [dd, dr]; done) | omega) only [W_186, msK, msR, msF, ms1, msS1, k0, k1, k6, msSF, hf0, I_lt, I_le, I_inj, inB_I, tc_I, Int.toNat_natCast, fkt, rf1, rf0, cq, Nat.reduceAdd, Nat.reduceEqDiff, Int.reduceToNat, eq_self, true_and, and_true, true_or, or_true, bI_0, bI_1, mm, rAm, mF_sF, mR_sR, false_and, and_false, if_false, if_true, false_or, or_false, not_true_eq_false, not_false_eq_true, and_self]
    refine ⟨fun _ => ?_, (fun h => by first | exact False.elim h | exact absurd trivial h | (exfalso; omega) | exact absurd rfl h | cases h)⟩
    simp (disch := first | (simp only [dd, dr]; done) | omega) only [W_186, msK, msR, msF, ms1, msS1, k0, k1, k6, I_lt, I_le, I_inj, inB_I, tc_I, Int.toNat_natCast, fkt, rf1, rf0, cq, Nat.reduceAdd, Nat.reduceEqDiff, Int.reduceToNat, eq_self, true_and, and_true, true_or, or_true, bI_0, bI_1, mm, rAm, mF_sF, mR_sR, false_and, and_false, if_false, if_true, false_or, or_false, not_true_eq_false, not_false_eq_true, and_self]
    refine ca_166 (by omega) (m_begin hK' (by omega) ?_)
    simp (disch := first | (simp only [dd, dr]; done) | omega) only [W_186, msK, msR, msF, ms1, msS1, k0, k1, k6, I_lt, I_le, I_inj, inB_I, tc_I, Int.toNat_natCast, fkt, rf1, rf0, cq, Nat.reduceAdd, Nat.reduceEqDiff, Int.reduceToNat, eq_self, true_and, and_true, true_or, or_true, bI_0, bI_1, mm, rAm, mF_sF, mR_sR, false_and, and_false, if_false, if_true, false_or, or_false, not_true_eq_false, not_false_eq_true, and_self]
    generalize kp s b = b1
    generalize hf1 : fu (fu f 54 0) 47 0 = f1
    have g47 : f1 47 = 0 := by rw [← hf1, fu_s]
    have g54 : f1 54 = 0 := by rw [← hf1, fu_n _ _ (by omega), fu_s]
    have g43 : f1 43 = m := by rw [← hf1, fu_n _ _ (by omega), fu_n _ _ (by omega)]; exact f43
    have ge : Fe f f1 := fun g a1 a2 _ => by rw [← hf1, fu_n _ _ a1, fu_n _ _ a2]
    clear hf1 ref
    obtain ⟨S1, W1⟩ := dlT_st (key := ky zo 1 nn) hm2 W
    refine ca_187 (by omega) (t_del (so := 1) hK' hm2 (by omega) S.1 W (by omega) (by omega) (by omega) hi3 (fun s2 m2 F2 => ?_))
    have mem1 := S1.mem W
    have hi1' : ∀ o', o' < 61 → (ky o' 0 0 ∈ its (dlT m (szO X) T (ky zo 1 nn)) ↔ ky o' 0 0 ∈ its T) := by
      intro o' ho'
      rw [mem1]
      constructor
      · rintro (⟨_, h⟩ | ⟨_, h⟩)
        · exact absurd rfl h
        · exact h
      · intro h
        exact .inr ⟨fun e => by have := (ky_inj (by omega) (by omega) (by omega) (by omega) e).2.1; omega, h⟩
    have mo1 : MO s2 (dlT m (szO X) T (ky zo 1 nn)) X dt := S.2.tree F2 hl hi1' S1.2.1
    have hl1 : ∀ o', o' < 61 → ky o' 0 0 ∈ its (dlT m (szO X) T (ky zo 1 nn)) → (oD X o').length ≤ 16 := fun o' ho' h => hl o' ho' ((hi1' o' ho').mp h)
    generalize hT1 : dlT m (szO X) T (ky zo 1 nn) = T1 at *
    have y2' : s2 (218 + (zo : Int)) = oS X zo := by rw [F2 _ (by omega)]; exact y2
    have x1' : fz s2 (218 + (zo : Int)) ((oS X zo : Int) - 1) (157 + (v : Int)) = oL X v := by rw [fz_n _ _ (by omega), F2 _ (by omega)]; exact x1
    generalize hs3 : fz (fz s2 (218 + (zo : Int)) ((oS X zo : Int) - 1)) (157 + (v : Int)) ((oL X v : Int) - 1) = s3
    have l3 : s3 (157 + (v : Int)) = ((oL X v - 1 : Nat) : Int) := by rw [← hs3, fz_e _ _ rfl]; omega
    have t3 : MT s3 T1 (szO X) (tlX X) := m2.eqs (fun x hx => by rw [← hs3, fz_n _ _ (by omega), fz_n _ _ (by omega)])
    have mo2 : MO (fz s2 (218 + (zo : Int)) ((oS X zo : Int) - 1)) T1 (lvX X zo) dt := mo1.st (by omega) hl1 (by rw [fz_n _ _ (by omega), F2 _ (by omega)]; exact y1) (by rw [fz_e _ _ rfl]; omega) (fun x a1 a2 => fz_n _ _ a2)
    have k3 : oK (lvX X zo) v = oK X v ∧ oS (lvX X zo) v = oS X v ∧ oL (lvX X zo) v = oL X v := by
      unfold lvX
      rw [(vS_at _ _ _ _ _).1, (vS_at _ _ _ _ _).2.1, (vS_at _ _ _ _ _).2.2.1, fu_n _ _ e4, fu_n _ _ e4, fu_n _ _ e4]
      exact ⟨rfl, rfl, rfl⟩
    have mo3 : MO s3 T1 (vS (lvX X zo) v (oK (lvX X zo) v) (oL X v - 1) (oS X v)) dt := mo2.st (by omega) hl1 (by rw [l3]) (by rw [← hs3, fz_n _ _ (by omega), fz_n _ _ (by omega), F2 _ (by omega)]; exact x2) (fun x a1 a2 => by rw [← hs3]; exact fz_n _ _ a1)
    simp (disch := first | (simp only [dd, dr]; done) | omega) only [W_186, msK, msR, msF, ms1, msS1, k0, k1, k6, y2', x1', hs3, l3, I_lt, I_le, I_inj, inB_I, tc_I, Int.toNat_natCast, fkt, rf1, rf0, cq, Nat.reduceAdd, Nat.reduceEqDiff, Int.reduceToNat, eq_self, true_and, and_true, true_or, or_true, bI_0, bI_1, mm, rAm, mF_sF, mR_sR, false_and, and_false, if_false, if_true, false_or, or_false, not_true_eq_false, not_false_eq_true, and_self]
    refine ⟨fun h5 => ?_, fun h5 => ?_⟩
    rotate_left
    · simp (disch := first | (simp only [dd, dr]; done) | omega) only [W_186, msK, msR, msF, ms1, msS1, k0, k1, k6, l3, I_lt, I_le, I_inj, inB_I, tc_I, Int.toNat_natCast, fkt, rf1, rf0, cq, Nat.reduceAdd, Nat.reduceEqDiff, Int.reduceToNat, eq_self, true_and, and_true, true_or, or_true, bI_0, bI_1, mm, rAm, mF_sF, mR_sR, false_and, and_false, if_false, if_true, false_or, or_false, not_true_eq_false, not_false_eq_true, and_self]
      refine hR1 (by omega) f1 s3 b1 ge g54 ⟨?_, ?_⟩
      · unfold ulX
        rw [szO_vS, szO_vS, tlX_vS, tlX_vS]
        exact t3
      · rw [k3.1] at mo3
        exact mo3
    have hL1 : oL X v = 1 := by omega
    have hR2 := hR2 hL1
    clear hR1 hX
    -- the object goes
    have ek : s3 (96 + (v : Int)) = oK X v := by rw [← hs3, fz_n _ _ (by omega), fz_n _ _ (by omega), F2 _ (by omega)]; exact hv1
    have es : s3 (218 + (v : Int)) = oS X v := by rw [← hs3, fz_n _ _ (by omega), fz_n _ _ (by omega), F2 _ (by omega)]; exact x2
    have ed : s3 (279 + (v : Int)) = ((oD X v).length : Nat) := by rw [← hs3, fz_n _ _ (by omega), fz_n _ _ (by omega), F2 _ (by omega)]; exact x3
    have eD : La s3 (340 + 16 * (v : Int)) (oD X v) := x4.eqs (fun x a1 a2 => by have := hl v (by omega) e3; rw [← hs3, fz_n _ _ (by omega), fz_n _ _ (by omega), F2 _ (by omega)])
    obtain ⟨hD, hT, hB, hl1', hl2'⟩ := O.any (by omega) e3
    have k2m : ∀ k', k' ≠ 1 → k' < 4 → (ky v k' 0 ∈ its T1 ↔ ky v k' 0 ∈ its T) := by
      intro k' a1 a2
      rw [mem1]
      constructor
      · rintro (⟨_, h⟩ | ⟨_, h⟩)
        · exact absurd rfl h
        · exact h
      · intro h
        exact .inr ⟨fun e => by have := (ky_inj a2 (by omega) (by omega) (by omega) e).2.1; omega, h⟩
    suffices go : Wp d 186 202 [some (.ref o), some (.int (I (zo : Nat))), some (.int (I (nn : Nat))), some (.int (I (v : Nat))), some (.int (I ((oT X v).length : Nat))), some (.int (I ((oD X v).length : Nat))), some (.int (I (((oD X v).length : Int) - 1)))] [] (ms M o f1 s3 b1 c w j) Q by
      simp (disch := first | (simp only [dd, dr]; done) | omega) only [W_186, msK, msR, msF, ms1, msS1, k0, k1, k6, ek, I_lt, I_le, I_inj, inB_I, tc_I, Int.toNat_natCast, fkt, rf1, rf0, cq, Nat.reduceAdd, Nat.reduceEqDiff, Int.reduceToNat, eq_self, true_and, and_true, true_or, or_true, bI_0, bI_1, mm, rAm, mF_sF, mR_sR, false_and, and_false, if_false, if_true, false_or, or_false, not_true_eq_false, not_false_eq_true, and_self]
      refine ⟨fun h6 => ?_, fun h6 => ?_⟩
      · simp (disch := first | (simp only [dd, dr]; done) | omega) only [W_186, msK, msR, msF, ms1, msS1, k0, k1, k6, ed, I_lt, I_le, I_inj, inB_I, tc_I, Int.toNat_natCast, fkt, rf1, rf0, cq, Nat.reduceAdd, Nat.reduceEqDiff, Int.reduceToNat, eq_self, true_and, and_true, true_or, or_true, bI_0, bI_1, mm, rAm, mF_sF, mR_sR, false_and, and_false, if_false, if_true, false_or, or_false, not_true_eq_false, not_false_eq_true, and_self]
        have : (oT X v).length = 0 := by
          rcases O.2 v (by omega) e3 with h | h
          · have := h.1; omega
          · rw [h.2.2.1]; rfl
        rw [this] at go
        exact go
      · simp (disch := first | (simp only [dd, dr]; done) | omega) only [W_186, msK, msR, msF, ms1, msS1, k0, k1, k6, es, I_lt, I_le, I_inj, inB_I, tc_I, Int.toNat_natCast, fkt, rf1, rf0, cq, Nat.reduceAdd, Nat.reduceEqDiff, Int.reduceToNat, eq_self, true_and, and_true, true_or, or_true, bI_0, bI_1, mm, rAm, mF_sF, mR_sR, false_and, and_false, if_false, if_true, false_or, or_false, not_true_eq_false, not_false_eq_true, and_self]
        refine ca_192 (by omega) (m_tailOf (by omega) ?_)
        have : tlO (oS X v) = (oT X v).length := by
          have := (O.fo v (by omega) e3 (by omega)).2.2.1
          omega
        rw [this]
        simp (disch := first | (simp only [dd, dr]; done) | omega) only [W_186, msK, msR, msF, ms1, msS1, k0, k1, k6, ed, I_lt, I_le, I_inj, inB_I, tc_I, Int.toNat_natCast, fkt, rf1, rf0, cq, Nat.reduceAdd, Nat.reduceEqDiff, Int.reduceToNat, eq_self, true_and, and_true, true_or, or_true, bI_0, bI_1, mm, rAm, mF_sF, mR_sR, false_and, and_false, if_false, if_true, false_or, or_false, not_true_eq_false, not_false_eq_true, and_self]
        exact go
    have hW1T : ∀ i, Wf m (szO X) (fes ((oD X v).drop i).reverse T1) := fun i => W1.fes (fun b' hb' => by
      rw [List.mem_reverse] at hb'
      obtain ⟨a1, a2, a3, a4⟩ := hB.2 b' (List.mem_of_mem_drop hb')
      obtain ⟨d1, d2⟩ := S1.1 b' a3 a4
      exact ⟨d2, by omega⟩)
    have hH1 : ∀ b' ∈ oD X v, tH T1 b' = 0 ∧ b' < 96 := fun b' hb' => by
      obtain ⟨a1, a2, a3, a4⟩ := hB.2 b' hb'
      exact ⟨(S1.1 b' a3 a4).2, a2⟩
    suffices H : ∀ (i : Nat) (s4 : Int → Int), i ≤ (oD X v).length → MT s4 (fes ((oD X v).drop i).reverse T1) (szO X) (tlX X) → Frz s3 s4 → Wp d 186 202 [some (.ref o), some (.int (I (zo : Nat))), some (.int (I (nn : Nat))), some (.int (I (v : Nat))), some (.int (I ((oT X v).length : Nat))), some (.int (I ((oD X v).length : Nat))), some (.int (I ((i : Int) - 1)))] [] (ms M o f1 s4 b1 c w j) Q by
      exact H (oD X v).length s3 (Nat.le_refl _) (by rw [List.drop_length]; exact t3) (Frz.refl _)
    intro i
    induction i with
    | zero =>
      intro s4 hi t4 F4
      rw [List.drop_zero] at t4
      have W4 := hW1T 0
      rw [List.drop_zero] at W4
      have hits : its (fes (oD X v).reverse T1) = its T1 := fes_its _ _
      generalize hT4 : fes (oD X v).reverse T1 = T4 at *
      simp (disch := first | (simp only [dd, dr]; done) | omega) only [w_186_202, W_186, I_lt, I_le, I_inj, inB_I, tc_I, Int.toNat_natCast, fkt, rf1, rf0, cq, Nat.reduceAdd, Nat.reduceEqDiff, Int.reduceToNat, eq_self, true_and, and_true, true_or, or_true, bI_0, bI_1, mm, rAm, mF_sF, mR_sR, false_and, and_false, if_false, if_true, false_or, or_false, not_true_eq_false, not_false_eq_true, and_self]
      refine ⟨fun _ => ?_, (fun h => by first | exact False.elim h | exact absurd trivial h | (exfalso; omega) | exact absurd rfl h | cases h)⟩
      simp (disch := first | (simp only [dd, dr]; done) | omega) only [W_186, msK, msR, msF, ms1, msS1, k0, k1, k6, I_lt, I_le, I_inj, inB_I, tc_I, Int.toNat_natCast, fkt, rf1, rf0, cq, Nat.reduceAdd, Nat.reduceEqDiff, Int.reduceToNat, eq_self, true_and, and_true, true_or, or_true, bI_0, bI_1, mm, rAm, mF_sF, mR_sR, false_and, and_false, if_false, if_true, false_or, or_false, not_true_eq_false, not_false_eq_true, and_self]
      have h3e : (oT X v).length = if ky v 3 0 ∈ its T4 then szO X (ky v 3 0) else 0 := by
        rw [hits]
        by_cases h : ky v 3 0 ∈ its T1
        · rw [if_pos h]; unfold szO; rw [pyO_3]
        · rw [if_neg h]
          have : oT X v = [] := by
            apply Classical.byContradiction
            intro h'; exact h ((k2m 3 (by omega) (by omega)).mpr (hT.mpr h'))
          rw [this]; rfl
      obtain ⟨S5, W5⟩ := dlT_st (key := ky v 3 0) hm2 W4
      refine ca_193 (by omega) (t_del0 (so := 3) hK' hm1 hm2 g43 g47 (by omega) t4 W4 (by omega) (by omega) (by omega) h3e (fun s5 t5 F5 => ?_))
      have mem5 := S5.mem W4
      generalize hT5 : dlT m (szO X) T4 (ky v 3 0) = T5 at *
      simp (disch := first | (simp only [dd, dr]; done) | omega) only [W_186, msK, msR, msF, ms1, msS1, k0, k1, k6, I_lt, I_le, I_inj, inB_I, tc_I, Int.toNat_natCast, fkt, rf1, rf0, cq, Nat.reduceAdd, Nat.reduceEqDiff, Int.reduceToNat, eq_self, true_and, and_true, true_or, or_true, bI_0, bI_1, mm, rAm, mF_sF, mR_sR, false_and, and_false, if_false, if_true, false_or, or_false, not_true_eq_false, not_false_eq_true, and_self]
      have h2e : 2 * (oD X v).length = if ky v 2 0 ∈ its T5 then szO X (ky v 2 0) else 0 := by
        have hiff : ky v 2 0 ∈ its T5 ↔ ky v 2 0 ∈ its T := by
          rw [mem5, hits, k2m 2 (by omega) (by omega)]
          constructor
          · rintro (⟨_, h⟩ | ⟨_, h⟩)
            · exact absurd rfl h
            · exact h
          · intro h
            exact .inr ⟨fun e => by have := (ky_inj (by omega) (by omega) (by omega) (by omega) e).2.1; omega, h⟩
        by_cases h : ky v 2 0 ∈ its T5
        · rw [if_pos h]; unfold szO; rw [pyO_2, (flat2 _).1]
        · rw [if_neg h]
          have : oD X v = [] := by
            apply Classical.byContradiction
            intro h'; exact h (hiff.mpr (hD.mpr h'))
          rw [this]; rfl
      obtain ⟨S6, W6⟩ := dlT_st (key := ky v 2 0) hm2 W5
      rw [show (2 : Int) * ((oD X v).length : Int) = ((2 * (oD X v).length : Nat) : Int) by omega]
      refine ca_193 (by omega) (t_del0 (so := 2) hK' hm1 hm2 g43 g47 (by omega) t5 W5 (by omega) (by omega) (by omega) h2e (fun s6 t6 F6 => ?_))
      have mem6 := S6.mem W5
      generalize hT6 : dlT m (szO X) T5 (ky v 2 0) = T6 at *
      simp (disch := first | (simp only [dd, dr]; done) | omega) only [W_186, msK, msR, msF, ms1, msS1, k0, k1, k6, I_lt, I_le, I_inj, inB_I, tc_I, Int.toNat_natCast, fkt, rf1, rf0, cq, Nat.reduceAdd, Nat.reduceEqDiff, Int.reduceToNat, eq_self, true_and, and_true, true_or, or_true, bI_0, bI_1, mm, rAm, mF_sF, mR_sR, false_and, and_false, if_false, if_true, false_or, or_false, not_true_eq_false, not_false_eq_true, and_self]
      have hk0 : ky v 0 0 ∈ its T6 := by
        rw [mem6]
        refine .inr ⟨fun e => by have := (ky_inj (by omega) (by omega) (by omega) (by omega) e).2.1; omega, ?_⟩
        rw [mem5]
        refine .inr ⟨fun e => by have := (ky_inj (by omega) (by omega) (by omega) (by omega) e).2.1; omega, ?_⟩
        rw [hits]
        exact (k2m 0 (by omega) (by omega)).mpr e3
      obtain ⟨S7, W7⟩ := dlT_st (key := ky v 0 0) hm2 W6
      refine ca_187 (by omega) (t_del (so := 0) (na := 0) hK' hm2 (by omega) t6 W6 (by omega) (by omega) (by omega) hk0 (fun s7 t7 F7 => ?_))
      have mem7 := S7.mem W6
      have F37 : Frz s3 s7 := ((F4.trans F5).trans F6).trans F7
      have hrm : rmT m (lvX X zo) T1 v = dlT m (szO X) T6 (ky v 0 0) := by
        unfold rmT
        rw [show szO (lvX X zo) = szO X from szO_vS _ _ _ _ _, show oD (lvX X zo) v = oD X v from rfl, hT4, hT5, hT6]
      rw [hrm] at hR2
      simp (disch := first | (simp only [dd, dr]; done) | omega) only [W_186, msK, msR, msF, ms1, msS1, k0, k1, k6, I_lt, I_le, I_inj, inB_I, tc_I, Int.toNat_natCast, fkt, rf1, rf0, cq, Nat.reduceAdd, Nat.reduceEqDiff, Int.reduceToNat, eq_self, true_and, and_true, true_or, or_true, bI_0, bI_1, mm, rAm, mF_sF, mR_sR, false_and, and_false, if_false, if_true, false_or, or_false, not_true_eq_false, not_false_eq_true, and_self]
      refine hR2 f1 _ b1 ge g54 ⟨?_, ?_⟩
      · have t8 : MT (fz (fz (fz s7 (96 + (v : Int)) 0) (279 + (v : Int)) 0) (218 + (v : Int)) 0) (dlT m (szO X) T6 (ky v 0 0)) (szO X) (tlX X) := t7.eqs (fun x hx => by rw [fz_n _ _ (by omega), fz_n _ _ (by omega), fz_n _ _ (by omega)])
        refine t8.szs (fun b' hb' k' hk' => ⟨?_, rfl⟩)
        have hk'' : k' ∈ its (dlT m (szO X) T6 (ky v 0 0)) := W7.mem hk'
        rw [mem7] at hk''
        rcases hk'' with ⟨_, h⟩ | ⟨_, h⟩
        · exact absurd rfl h
        rw [mem6] at h
        rcases h with ⟨_, h⟩ | ⟨a2, h⟩
        · exact absurd rfl h
        rw [mem5] at h
        rcases h with ⟨_, h⟩ | ⟨a3, h⟩
        · exact absurd rfl h
        rw [szO_clX a2 a3]
        exact congrFun (szO_vS _ _ _ _ _) k'
      · have hst : ∀ o', o' < 61 → (ky o' 0 0 ∈ its (dlT m (szO X) T6 (ky v 0 0)) ↔ o' ≠ v ∧ ky o' 0 0 ∈ its T) := by
          intro o' ho'
          rw [mem7, mem6, mem5, hits, hi1' o' ho']
          constructor
          · rintro (⟨_, h⟩ | ⟨a, h⟩)
            · exact absurd rfl h
            rcases h with ⟨_, h⟩ | ⟨_, h⟩
            · exact absurd rfl h
            rcases h with ⟨_, h⟩ | ⟨_, h⟩
            · exact absurd rfl h
            exact ⟨fun e => a (by rw [e]), h⟩
          · rintro ⟨a, h⟩
            refine .inr ⟨fun e => a (ky_inj (by omega) (by omega) (by omega) (by omega) e).1, .inr ⟨fun e => by have := (ky_inj (by omega) (by omega) (by omega) (by omega) e).2.1; omega, .inr ⟨fun e => by have := (ky_inj (by omega) (by omega) (by omega) (by omega) e).2.1; omega, h⟩⟩⟩
        obtain ⟨n1', n2', n3'⟩ := mo3
        refine ⟨fun o' ho' => ?_, fun o' ho' h => ?_, fun b' hb' g1 g2 g3 i' hi' => ?_⟩
        · by_cases e : o' = v
          · rw [if_neg (fun h => ((hst o' ho').mp h).1 e), e, fz_n _ _ (by omega), fz_n _ _ (by omega), fz_e _ _ rfl]
          · rw [fz_n _ _ (by omega), fz_n _ _ (by omega), fz_n _ _ (by omega), F37 _ (by omega), n1' o' ho']
            have ek' : oK (clX (lvX X zo) v) o' = oK (vS (lvX X zo) v (oK (lvX X zo) v) (oL X v - 1) (oS X v)) o' := by
              show fu (oK (lvX X zo)) v 0 o' = fu (oK (lvX X zo)) v _ o'
              rw [fu_n _ _ e, fu_n _ _ e]
            rw [ek']
            by_cases e' : ky o' 0 0 ∈ its T
            · rw [if_pos ((hi1' o' ho').mpr e'), if_pos ((hst o' ho').mpr ⟨e, e'⟩)]
            · rw [if_neg (fun h => e' ((hi1' o' ho').mp h)), if_neg (fun h => e' ((hst o' ho').mp h).2)]
        · obtain ⟨e, e'⟩ := (hst o' ho').mp h
          obtain ⟨a1, a2, a3, a4, a5⟩ := n2' o' ho' ((hi1' o' ho').mpr e')
          have hlo := hl o' ho' e'
          have c1 : oL (clX (lvX X zo) v) o' = oL (vS (lvX X zo) v (oK (lvX X zo) v) (oL X v - 1) (oS X v)) o' := by
            show fu (oL (lvX X zo)) v 0 o' = fu (oL (lvX X zo)) v _ o'
            rw [fu_n _ _ e, fu_n _ _ e]
          have c2 : oS (clX (lvX X zo) v) o' = oS (vS (lvX X zo) v (oK (lvX X zo) v) (oL X v - 1) (oS X v)) o' := by
            show fu (oS (lvX X zo)) v 0 o' = fu (oS (lvX X zo)) v _ o'
            rw [fu_n _ _ e, fu_n _ _ e]
          have c3 : oD (clX (lvX X zo) v) o' = oD X o' := by
            show fu (oD X) v [] o' = _
            rw [fu_n _ _ e]
          have c4 : oT (clX (lvX X zo) v) o' = oT X o' := by
            show fu (oT X) v [] o' = _
            rw [fu_n _ _ e]
          rw [c1, c2, c3, c4]
          have g : ∀ x : Int, (96 ≤ x ∧ x < 3756) → x ≠ 96 + (v : Int) → x ≠ 279 + (v : Int) → x ≠ 218 + (v : Int) → fz (fz (fz s7 (96 + (v : Int)) 0) (279 + (v : Int)) 0) (218 + (v : Int)) 0 x = s3 x := fun x hx b1 b2 b3 => by rw [fz_n _ _ b3, fz_n _ _ b2, fz_n _ _ b1, F37 _ (.inl hx)]
          exact ⟨by rw [g _ (by omega) (by omega) (by omega) (by omega)]; exact a1, by rw [g _ (by omega) (by omega) (by omega) (by omega)]; exact a2, by rw [g _ (by omega) (by omega) (by omega) (by omega)]; exact a3, La.eqs (s := s3) a4 (fun x b1 b2 => g x (by omega) (by omega) (by omega) (by omega)), fun hT' k' hk' => by rw [g _ (by omega) (by omega) (by omega) (by omega)]; exact a5 hT' k' hk'⟩
        · have hp : Pv T1 (dlT m (szO X) T6 (ky v 0 0)) := by
            have p4 := fes_pv (oD X v).reverse T1
            rw [hT4] at p4
            exact ((p4.trans S5.2.1).trans S6.2.1).trans S7.2.1
          obtain ⟨v1, v2⟩ := hp b' g1 g2
          rw [fz_n _ _ (by omega), fz_n _ _ (by omega), fz_n _ _ (by omega), F37 _ (by omega)]
          exact n3' b' hb' v1 v2 g3 i' hi'
    | succ i ih =>
      intro s4 hi t4 F4
      have hx : (oD X v)[i]? = some (oD X v)[i] := List.getElem?_eq_getElem (by omega)
      generalize (oD X v)[i] = x at hx
      obtain ⟨hxH, hx96⟩ := hH1 x (List.mem_of_getElem? hx)
      have ex : s4 (340 + 16 * (v : Int) + (i : Int)) = x := by
        rw [F4 _ (by omega)]
        exact eD i x hx
      simp (disch := first | (simp only [dd, dr]; done) | omega) only [w_186_202, W_186, I_lt, I_le, I_inj, inB_I, tc_I, Int.toNat_natCast, fkt, rf1, rf0, cq, Nat.reduceAdd, Nat.reduceEqDiff, Int.reduceToNat, eq_self, true_and, and_true, true_or, or_true, bI_0, bI_1, mm, rAm, mF_sF, mR_sR, false_and, and_false, if_false, if_true, false_or, or_false, not_true_eq_false, not_false_eq_true, and_self]
      refine ⟨(fun h => by first | exact False.elim h | exact absurd trivial h | (exfalso; omega) | exact absurd rfl h | cases h), fun _ => ?_⟩
      rw [show ((i + 1 : Nat) : Int) - 1 = (i : Int) by omega]
      simp (disch := first | (simp only [dd, dr]; done) | omega) only [W_186, msK, msR, msF, ms1, msS1, k0, k1, k6, ex, I_lt, I_le, I_inj, inB_I, tc_I, Int.toNat_natCast, fkt, rf1, rf0, cq, Nat.reduceAdd, Nat.reduceEqDiff, Int.reduceToNat, eq_self, true_and, and_true, true_or, or_true, bI_0, bI_1, mm, rAm, mF_sF, mR_sR, false_and, and_false, if_false, if_true, false_or, or_false, not_true_eq_false, not_false_eq_true, and_self]
      refine ca_191 (by omega) (t_free hK' t4 hx96 (fun s5 t5 F5 => ?_))
      simp (disch := first | (simp only [dd, dr]; done) | omega) only [W_186, I_lt, I_le, I_inj, inB_I, tc_I, Int.toNat_natCast, fkt, rf1, rf0, cq, Nat.reduceAdd, Nat.reduceEqDiff, Int.reduceToNat, eq_self, true_and, and_true, true_or, or_true, bI_0, bI_1, mm, rAm, mF_sF, mR_sR, false_and, and_false, if_false, if_true, false_or, or_false, not_true_eq_false, not_false_eq_true, and_self]
      have hfe : fe (fes ((oD X v).drop (i + 1)).reverse T1) x = fes ((oD X v).drop i).reverse T1 := by
        have e1 := (fe_eq (hW1T (i + 1)).1 (b := x) (by rw [(fes_at _ T1).1]; exact hxH)).1
        rw [e1, drop_get hx, List.reverse_cons, fes_app]
        rfl
      rw [hfe] at t5
      rw [show (i : Int) + -1 = (i : Int) - 1 by omega]
      exact ih s5 (by omega) t5 (F4.trans F5)
  simp (disch := first | (simp only [dd, dr]; done) | omega) only [W_186, msK, msR, msF, ms1, msS1, k0, k1, k6, f52, I_lt, I_le, I_inj, inB_I, tc_I, Int.toNat_natCast, fkt, rf1, rf0, cq, Nat.reduceAdd, Nat.reduceEqDiff, Int.reduceToNat, eq_self, true_and, and_true, true_or, or_true, bI_0, bI_1, mm, rAm, mF_sF, mR_sR, false_and, and_false, if_false, if_true, false_or, or_false, not_true_eq_false, not_false_eq_true, and_self]
  refine ⟨fun _ => ?_, (fun h => by first | exact False.elim h | exact absurd trivial h | (exfalso; omega) | exact absurd rfl h | cases h)⟩
  simp (disch := first | (simp only [dd, dr]; done) | omega) only [W_186, I_lt, I_le, I_inj, inB_I, tc_I, Int.toNat_natCast, fkt, rf1, rf0, cq, Nat.reduceAdd, Nat.reduceEqDiff, Int.reduceToNat, eq_self, true_and, and_true, true_or, or_true, bI_0, bI_1, mm, rAm, mF_sF, mR_sR, false_and, and_false, if_false, if_true, false_or, or_false, not_true_eq_false, not_false_eq_true, and_self]
  refine ⟨fun _ => ?_, (fun h => by first | exact False.elim h | exact absurd trivial h | (exfalso; omega) | exact absurd rfl h | cases h)⟩
  simp (disch := first | (simp only [dd, dr]; done) | omega) only [W_186, msK, msR, msF, ms1, msS1, k0, k1, k6, hv1, I_lt, I_le, I_inj, inB_I, tc_I, Int.toNat_natCast, fkt, rf1, rf0, cq, Nat.reduceAdd, Nat.reduceEqDiff, Int.reduceToNat, eq_self, true_and, and_true, true_or, or_true, bI_0, bI_1, mm, rAm, mF_sF, mR_sR, false_and, and_false, if_false, if_true, false_or, or_false, not_true_eq_false, not_false_eq_true, and_self]
  refine ⟨fun h5 => ?_, fun h5 => ?_⟩
  · simp (disch := first | (simp only [dd, dr]; done) | omega) only [W_186, I_lt, I_le, I_inj, inB_I, tc_I, Int.toNat_natCast, fkt, rf1, rf0, cq, Nat.reduceAdd, Nat.reduceEqDiff, Int.reduceToNat, eq_self, true_and, and_true, true_or, or_true, bI_0, bI_1, mm, rAm, mF_sF, mR_sR, false_and, and_false, if_false, if_true, false_or, or_false, not_true_eq_false, not_false_eq_true, and_self]
    have := rest (.inl (by omega))
    simp (disch := first | (simp only [dd, dr]; done) | omega) only [W_186, I_lt, I_le, I_inj, inB_I, tc_I, Int.toNat_natCast, fkt, rf1, rf0, cq, Nat.reduceAdd, Nat.reduceEqDiff, Int.reduceToNat, eq_self, true_and, and_true, true_or, or_true, bI_0, bI_1, mm, rAm, mF_sF, mR_sR, false_and, and_false, if_false, if_true, false_or, or_false, not_true_eq_false, not_false_eq_true, and_self] at this
    exact this
  · simp (disch := first | (simp only [dd, dr]; done) | omega) only [W_186, msK, msR, msF, ms1, msS1, k0, k1, k6, x2, I_lt, I_le, I_inj, inB_I, tc_I, Int.toNat_natCast, fkt, rf1, rf0, cq, Nat.reduceAdd, Nat.reduceEqDiff, Int.reduceToNat, eq_self, true_and, and_true, true_or, or_true, bI_0, bI_1, mm, rAm, mF_sF, mR_sR, false_and, and_false, if_false, if_true, false_or, or_false, not_true_eq_false, not_false_eq_true, and_self]
    refine ⟨fun h6 => ?_, fun h6 => ?_⟩
    · have := rest (.inr (by omega))
      simp (disch := first | (simp only [dd, dr]; done) | omega) only [W_186, I_lt, I_le, I_inj, inB_I, tc_I, Int.toNat_natCast, fkt, rf1, rf0, cq, Nat.reduceAdd, Nat.reduceEqDiff, Int.reduceToNat, eq_self, true_and, and_true, true_or, or_true, bI_0, bI_1, mm, rAm, mF_sF, mR_sR, false_and, and_false, if_false, if_true, false_or, or_false, not_true_eq_false, not_false_eq_true, and_self] at this
      simp (disch := first | (simp only [dd, dr]; done) | omega) only [W_186, I_lt, I_le, I_inj, inB_I, tc_I, Int.toNat_natCast, fkt, rf1, rf0, cq, Nat.reduceAdd, Nat.reduceEqDiff, Int.reduceToNat, eq_self, true_and, and_true, true_or, or_true, bI_0, bI_1, mm, rAm, mF_sF, mR_sR, false_and, and_false, if_false, if_true, false_or, or_false, not_true_eq_false, not_false_eq_true, and_self]
      exact this
    · have hf : fu f 54 (3 : Int) 54 = 3 := fu_s _ _ _
      simp (disch := first | (simp only [dd, dr]; done) | omega) only [W_186, msK, msR, msF, ms1, msS1, k0, k1, k6, msSF, hf, I_lt, I_le, I_inj, inB_I, tc_I, Int.toNat_natCast, fkt, rf1, rf0, cq, Nat.reduceAdd, Nat.reduceEqDiff, Int.reduceToNat, eq_self, true_and, and_true, true_or, or_true, bI_0, bI_1, mm, rAm, mF_sF, mR_sR, false_and, and_false, if_false, if_true, false_or, or_false, not_true_eq_false, not_false_eq_true, and_self]
      refine ⟨(fun h => by first | exact False.elim h | exact absurd trivial h | (exfalso; omega) | exact absurd rfl h | cases h), fun _ => ?_⟩
      simp (disch := first | (simp only [dd, dr]; done) | omega) only [W_186, I_lt, I_le, I_inj, inB_I, tc_I, Int.toNat_natCast, fkt, rf1, rf0, cq, Nat.reduceAdd, Nat.reduceEqDiff, Int.reduceToNat, eq_self, true_and, and_true, true_or, or_true, bI_0, bI_1, mm, rAm, mF_sF, mR_sR, false_and, and_false, if_false, if_true, false_or, or_false, not_true_eq_false, not_false_eq_true, and_self]
      exact ref 3 (by omega) (by omega) (by rw [if_neg h1, if_neg hne, if_pos (by omega)])
end Mul
