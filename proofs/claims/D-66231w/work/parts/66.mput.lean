/-! ===== THE MODEL: put ===== -/
theorem pl_eq {key : Nat} : ∀ {l : List Nat} {k : Nat}, k ≤ l.length → (∀ x ∈ l.take k, x < key) → (∀ x ∈ l.drop k, key < x) → pl key l = k
  | [], k, hk, _, _ => by simp at hk; rw [pl]; omega
  | a :: l, 0, _, _, h => by
    have := h a (by rw [List.drop_zero]; exact List.mem_cons_self ..)
    rw [pl, if_neg (by omega)]
  | a :: l, k + 1, hk, h1, h2 => by
    have := h1 a (by rw [List.take_succ_cons]; exact List.mem_cons_self ..)
    rw [pl, if_pos this, pl_eq (k := k) (by simpa using hk) (fun x hx => h1 x (by rw [List.take_succ_cons]; exact List.mem_cons_of_mem _ hx)) (fun x hx => h2 x (by rw [List.drop_succ_cons]; exact hx))]
theorem uz_len1 {sz : Nat → Nat} : ∀ {l : List Nat}, (∀ k ∈ l, 1 ≤ sz k) → 9 * l.length ≤ uz sz l
  | [], _ => Nat.zero_le _
  | k :: l, h => by
    have h1 := uz_len1 (fun x hx => h x (List.mem_cons_of_mem _ hx))
    have h2 := h k (List.mem_cons_self ..)
    rw [uz, List.length_cons]; omega
section MPt
variable {M : Mem} {Q : Outcome → Mem → Prop} {o : Nat} {b c w : Int → Int} {j : Nat → Bool} {sz tl : Nat → Nat}
set_option maxHeartbeats 8000000 in
theorem t_put (hK : MK M o) {bk : Nat} (hm1 : 1 ≤ bk) (hm2 : bk ≤ 96) {f : Nat → Int} (hf43 : f 43 = bk) (hf47 : f 47 = 0) {d : Nat} {T T' : Tr} {ok : Bool} {s : Int → Int} {ob so na body told : Nat} (hd : 6 ≤ d) (m : MT s T sz tl) (W : Wf bk sz T) (h1 : ob < 61) (h2 : so < 4) (h3 : na < 1024) (h4 : body ≤ 40) (h5 : told < 100) (hk : ky ob so na ∉ its T)
    (hg : sl bk (fu sz (ky ob so na) body) (insT T (ky ob so na)) (lfT T (ky ob so na)) = some (ok, T')) (hQt : ok = true → ∀ s', MT s' T' (fu sz (ky ob so na) body) (fu tl (ky ob so na) told) → Frz s s' → Q (.returned none) (ms M o f s' b c w j)) (hQf : ok = false → ∀ s', Frz s s' → Q (.returned none) (ms M o (fu f 47 1) s' b c w j)) :
    Wp d 167 0 [some (.ref o), some (.int (I (ob : Nat))), some (.int (I (so : Nat))), some (.int (I (na : Nat))), some (.int (I (body : Nat))), some (.int (I (told : Nat))), none, none, none] [] (ms M o f s b c w j) Q := by
  have hK' := hK
  obtain ⟨k0, k1, k2, k3, k4, k5, k6, k7, k8, k9, k10⟩ := hK
  obtain ⟨hx, A, B, e1, e2, e3, e4, e5, e6, e7⟩ := lf_spec W (ky ob so na)
  have hx96 := (W.1.1 0 _ hx).1
  have hcx := W.1.2.2.2.2.1 _ hx
  have hkx : ky ob so na ∉ tI T (lfT T (ky ob so na)) := fun h => hk ((lf_mem W _).mpr h)
  have hlx : (tI T (lfT T (ky ob so na))).length ≤ 13 := by
    have h1 := (W.2.2.1 _ hx (by simp)).1
    have h2 := uz_len1 (sz := sz) (l := tI T (lfT T (ky ob so na))) (fun k hk => (W.2.2.2.2.1 k (W.mem hk)).1)
    omega
  simp (disch := first | (simp only [dd, dr]; done) | omega) only [W_167, msK, msR, msF, ms1, msS1, k0, k1, k6, I_lt, I_le, I_inj, inB_I, tc_I, Int.toNat_natCast, fkt, rf1, rf0, cq, Nat.reduceAdd, Nat.reduceEqDiff, Int.reduceToNat, eq_self, true_and, and_true, true_or, or_true, bI_0, bI_1, mm, rAm, mF_sF, mR_sR, false_and, and_false, if_false, if_true, false_or, or_false, not_true_eq_false, not_false_eq_true, and_self]
  refine ca_163 (by omega) (t_leafOf hK' (by omega) m W (by omega) h2 h3 ?_)
  unfold insT at hg
  generalize lfT T (ky ob so na) = x at *
  obtain ⟨a1, a2, a3⟩ := m.2.2.2.2.2.1 x hx96
  have hn : s (3852 + (x : Int)) = ((tI T x).length : Nat) := by have := m.2.2.1 x hx96; rw [hcx] at this; simpa using this
  simp (disch := first | (simp only [dd, dr]; done) | omega) only [W_167, msK, msR, msF, ms1, msS1, k0, k1, k6, hn, I_lt, I_le, I_inj, inB_I, tc_I, Int.toNat_natCast, fkt, rf1, rf0, cq, Nat.reduceAdd, Nat.reduceEqDiff, Int.reduceToNat, eq_self, true_and, and_true, true_or, or_true, bI_0, bI_1, mm, rAm, mF_sF, mR_sR, false_and, and_false, if_false, if_true, false_or, or_false, not_true_eq_false, not_false_eq_true, and_self]
  generalize hkey : ky ob so na = key at *
  have hkey2 : key < 249856 := by rw [← hkey]; unfold ky; omega
  suffices H : ∀ (k : Nat) (G : Int → Int), k ≤ (tI T x).length → (∀ y ∈ (tI T x).drop k, key < y) → (∀ a : Int, 0 ≤ a → a < 1536 → it5 G a = if 16 * (x : Int) + k < a ∧ a ≤ 16 * (x : Int) + (tI T x).length then it5 s (a - 1) else it5 s a) → (∀ z : Int, (z < 4620 ∨ 12300 ≤ z) → G z = s z) → Wp d 167 22 [some (.ref o), some (.int (I (ob : Nat))), some (.int (I (so : Nat))), some (.int (I (na : Nat))), some (.int (I (body : Nat))), some (.int (I (told : Nat))), some (.int (I (x : Nat))), some (.int (I (k : Nat))), none] [] (ms M o f G b c w j) Q by
    refine H (tI T x).length s (Nat.le_refl _) (fun y hy => by rw [List.drop_length] at hy; cases hy) (fun a _ _ => by rw [if_neg (by omega)]) (fun _ _ => rfl)
  -- the item comes to its place
  have fin : ∀ (k : Nat) (G : Int → Int), k ≤ (tI T x).length → (∀ y ∈ (tI T x).drop k, key < y) → (∀ y ∈ (tI T x).take k, y < key) → (∀ a : Int, 0 ≤ a → a < 1536 → it5 G a = if 16 * (x : Int) + k < a ∧ a ≤ 16 * (x : Int) + (tI T x).length then it5 s (a - 1) else it5 s a) → (∀ z : Int, (z < 4620 ∨ 12300 ≤ z) → G z = s z) → Wp d 167 71 [some (.ref o), some (.int (I (ob : Nat))), some (.int (I (so : Nat))), some (.int (I (na : Nat))), some (.int (I (body : Nat))), some (.int (I (told : Nat))), some (.int (I (x : Nat))), some (.int (I (k : Nat))), none] [] (ms M o f G b c w j) Q := by
    intro k G hkl hgt hlt hG hO
    have hpl := pl_eq hkl hlt hgt
    have hG1 : ∀ z : Int, (z < 4620 ∨ 12300 ≤ z) → st5 G (16 * (x : Int) + k) (rk (fu sz key body) (fu tl key told) key) z = s z := fun z hz => by rw [st5_o _ _ (by omega) (by omega) hz]; exact hO z hz
    have hr : rk (fu sz key body) (fu tl key told) key = ((ob : Int), (so : Int), (na : Int), (body : Int), (told : Int)) := by
      unfold rk
      rw [fu_s, fu_s, ← hkey]
      unfold ky
      rw [show ((ob * 4 + so) * 1024 + na) / 4096 = ob by omega, show ((ob * 4 + so) * 1024 + na) / 1024 % 4 = so by omega, show ((ob * 4 + so) * 1024 + na) % 1024 = na by omega]
    have hst : fz (fz (fz (fz (fz G (4620 + (16 * (x : Int) + k)) ob) (6156 + (16 * (x : Int) + k)) so) (7692 + (16 * (x : Int) + k)) na) (9228 + (16 * (x : Int) + k)) body) (10764 + (16 * (x : Int) + k)) told = st5 G (16 * (x : Int) + k) (rk (fu sz key body) (fu tl key told) key) := by rw [hr]; rfl
    simp (disch := first | (simp only [dd, dr]; done) | omega) only [W_167, msK, msR, msF, ms1, msS1, k0, k1, k6, I_lt, I_le, I_inj, inB_I, tc_I, Int.toNat_natCast, fkt, rf1, rf0, cq, Nat.reduceAdd, Nat.reduceEqDiff, Int.reduceToNat, eq_self, true_and, and_true, true_or, or_true, bI_0, bI_1, mm, rAm, mF_sF, mR_sR, false_and, and_false, if_false, if_true, false_or, or_false, not_true_eq_false, not_false_eq_true, and_self]
    rw [hst]
    have hcn : st5 G (16 * (x : Int) + k) (rk (fu sz key body) (fu tl key told) key) (3852 + (x : Int)) = ((tI T x).length : Nat) := by rw [hG1 _ (by omega)]; exact hn
    simp (disch := first | (simp only [dd, dr]; done) | omega) only [W_167, msK, msR, msF, ms1, msS1, k0, k1, k6, hcn, I_lt, I_le, I_inj, inB_I, tc_I, Int.toNat_natCast, fkt, rf1, rf0, cq, Nat.reduceAdd, Nat.reduceEqDiff, Int.reduceToNat, eq_self, true_and, and_true, true_or, or_true, bI_0, bI_1, mm, rAm, mF_sF, mR_sR, false_and, and_false, if_false, if_true, false_or, or_false, not_true_eq_false, not_false_eq_true, and_self]
    have mS : MT s T (fu sz key body) (fu tl key told) := m.szs (fun b' hb' y hy => by
      have : y ≠ key := by intro e; rw [e] at hy; exact hk (W.mem hy)
      exact ⟨fu_n _ _ this, fu_n _ _ this⟩)
    have mI : MT (fz (st5 G (16 * (x : Int) + k) (rk (fu sz key body) (fu tl key told) key)) (3852 + (x : Int)) (((tI T x).length : Int) + 1)) (uI T x ((tI T x).take k ++ key :: (tI T x).drop k)) (fu sz key body) (fu tl key told) := by
      refine MT.itm mS hx96 hcx ?_ ?_ ?_ ?_ ?_ ?_
      · rw [List.length_append, List.length_cons, List.length_take, List.length_drop]; omega
      · intro y hy
        rcases List.mem_append.mp hy with h | h
        · exact a3 y (List.mem_of_mem_take h)
        · rcases List.mem_cons.mp h with h | h
          · rw [h]; exact hkey2
          · exact a3 y (List.mem_of_mem_drop h)
      · intro i rr hrr
        rw [List.getElem?_map, ins_at _ _ hkl] at hrr
        rw [it5_fz _ _ (by omega) (by
          have : i < (tI T x).length + 1 := by
            by_cases e : i < (tI T x).length + 1
            · exact e
            · rw [if_neg (by omega), if_neg (by omega), List.getElem?_eq_none (by omega)] at hrr; cases hrr
          omega) (by omega)]
        obtain ⟨s1, _, _⟩ := mS.2.2.2.2.2.1 x hx96
        by_cases c1 : k < i ∧ i ≤ (tI T x).length
        · rw [if_pos c1] at hrr
          rw [st5_n _ _ (by omega) (by omega) (by omega) (by omega) (by omega), hG _ (by omega) (by omega), if_pos (by omega), show 16 * (x : Int) + (i : Int) - 1 = 16 * (x : Int) + ((i - 1 : Nat) : Int) by omega]
          exact s1 (i - 1) rr (by rw [List.getElem?_map]; exact hrr)
        · rw [if_neg c1] at hrr
          by_cases c2 : i = k
          · subst c2
            rw [if_pos rfl] at hrr
            rw [st5_e _ _ (by omega) (by omega)]
            exact Option.some.inj hrr
          · rw [if_neg c2] at hrr
            have hil : i < (tI T x).length := by
              by_cases e : i < (tI T x).length
              · exact e
              · rw [List.getElem?_eq_none (by omega)] at hrr; cases hrr
            rw [st5_n _ _ (by omega) (by omega) (by omega) (by omega) (by omega), hG _ (by omega) (by omega), if_neg (by omega)]
            exact s1 i rr (by rw [List.getElem?_map]; exact hrr)
      · rw [fz_e _ _ rfl, List.length_append, List.length_cons, List.length_take, List.length_drop]; omega
      · intro z hz hz2
        rw [fz_n _ _ hz2]; exact hG1 z hz
      · intro a a0 a1' ha
        rw [it5_fz _ _ a0 a1' (by omega), st5_n _ _ (by omega) (by omega) a0 a1' (by omega), hG _ a0 a1', if_neg (by omega)]
    have fI : Frz s (fz (st5 G (16 * (x : Int) + k) (rk (fu sz key body) (fu tl key told) key)) (3852 + (x : Int)) (((tI T x).length : Int) + 1)) := by
      intro z hz
      rw [fz_n _ _ (by omega)]; exact hG1 z (by omega)
    rw [hpl] at hg
    refine ca_169 (by omega) (t_settle hK' hm1 hm2 hf43 hf47 (by omega) mI hg (fun h s' m' fr' => ?_) (fun h s' fr' => ?_))
    · simp (disch := first | (simp only [dd, dr]; done) | omega) only [W_167, I_lt, I_le, I_inj, inB_I, tc_I, Int.toNat_natCast, fkt, rf1, rf0, cq, Nat.reduceAdd, Nat.reduceEqDiff, Int.reduceToNat, eq_self, true_and, and_true, true_or, or_true, bI_0, bI_1, mm, rAm, mF_sF, mR_sR, false_and, and_false, if_false, if_true, false_or, or_false, not_true_eq_false, not_false_eq_true, and_self]
      exact hQt h s' m' (fI.trans fr')
    · simp (disch := first | (simp only [dd, dr]; done) | omega) only [W_167, I_lt, I_le, I_inj, inB_I, tc_I, Int.toNat_natCast, fkt, rf1, rf0, cq, Nat.reduceAdd, Nat.reduceEqDiff, Int.reduceToNat, eq_self, true_and, and_true, true_or, or_true, bI_0, bI_1, mm, rAm, mF_sF, mR_sR, false_and, and_false, if_false, if_true, false_or, or_false, not_true_eq_false, not_false_eq_true, and_self]
      exact hQf h s' (fI.trans fr')
  intro k
  induction k with
  | zero =>
    intro G hkl hgt hG hO
    simp (disch := first | (simp only [dd, dr]; done) | omega) only [w_167_22, W_167, msK, msR, msF, ms1, msS1, k0, k1, k6, I_lt, I_le, I_inj, inB_I, tc_I, Int.toNat_natCast, fkt, rf1, rf0, cq, Nat.reduceAdd, Nat.reduceEqDiff, Int.reduceToNat, eq_self, true_and, and_true, true_or, or_true, bI_0, bI_1, mm, rAm, mF_sF, mR_sR, false_and, and_false, if_false, if_true, false_or, or_false, not_true_eq_false, not_false_eq_true, and_self]
    refine ⟨fun _ => fin 0 G hkl hgt (fun y hy => by simp at hy) hG hO, fun h => absurd (show ((0 : Nat) : Int) ≤ 0 by omega) h⟩
  | succ k ih =>
    intro G hkl hgt hG hO
    have hke : (tI T x)[k]? = some (tI T x)[k] := List.getElem?_eq_getElem (by omega)
    have hkm : (tI T x)[k] ∈ tI T x := List.getElem_mem _
    have hcm := cmp_ky (sz := sz) (tl := tl) (a3 _ hkm) (show ob < 100 by omega) h2 h3
    rw [hkey] at hcm
    have hIt : It G x (((tI T x).take (k + 1)).map (rk sz tl)) := by
      intro i rr hrr
      rw [List.getElem?_map] at hrr
      have hi : i < k + 1 := by
        by_cases e : i < k + 1
        · exact e
        · rw [List.getElem?_eq_none (by rw [List.length_take]; omega)] at hrr; cases hrr
      rw [List.getElem?_take_of_lt hi] at hrr
      rw [hG _ (by omega) (by omega), if_neg (by omega)]
      exact a1 i rr (by rw [List.getElem?_map]; exact hrr)
    simp (disch := first | (simp only [dd, dr]; done) | omega) only [w_167_22, W_167, msK, msR, msF, ms1, msS1, k0, k1, k6, I_lt, I_le, I_inj, inB_I, tc_I, Int.toNat_natCast, fkt, rf1, rf0, cq, Nat.reduceAdd, Nat.reduceEqDiff, Int.reduceToNat, eq_self, true_and, and_true, true_or, or_true, bI_0, bI_1, mm, rAm, mF_sF, mR_sR, false_and, and_false, if_false, if_true, false_or, or_false, not_true_eq_false, not_false_eq_true, and_self]
    refine ⟨fun h => absurd h (by omega), fun _ => ?_⟩
    simp (disch := first | (simp only [dd, dr]; done) | omega) only [W_167, msK, msR, msF, ms1, msS1, k0, k1, k6, I_lt, I_le, I_inj, inB_I, tc_I, Int.toNat_natCast, fkt, rf1, rf0, cq, Nat.reduceAdd, Nat.reduceEqDiff, Int.reduceToNat, eq_self, true_and, and_true, true_or, or_true, bI_0, bI_1, mm, rAm, mF_sF, mR_sR, false_and, and_false, if_false, if_true, false_or, or_false, not_true_eq_false, not_false_eq_true, and_self]
    rw [show (((k + 1 : Nat) : Int) - 1) = (k : Int) by omega]
    refine ca_164 (by omega) (m_compare (l := ((tI T x).take (k + 1)).map (rk sz tl)) (k := k) (r := rk sz tl (tI T x)[k]) hK' hx96 hIt (by rw [List.length_map, List.length_take]; omega) (by rw [List.getElem?_map, List.getElem?_take_of_lt (by omega), hke]; rfl) ?_ (by omega) (by omega) (by omega) (by omega) ?_)
    · have := a3 _ hkm
      unfold r5ok rk
      simp only []
      omega
    rw [hcm.1]
    have hb1 := cmp_ky (sz := sz) (tl := tl) (a3 _ hkm) (show ob < 100 by omega) h2 h3
    have bd1 := wr_lo (cmp5 (rk sz tl (tI T x)[k]) ob so na)
    have bd2 := wr_hi (cmp5 (rk sz tl (tI T x)[k]) ob so na)
    rw [hcm.1] at bd1 bd2
    simp (disch := first | (simp only [dd, dr]; done) | omega) only [W_167, msK, msR, msF, ms1, msS1, k0, k1, k6, I_lt, I_le, I_inj, inB_I, tc_I, Int.toNat_natCast, fkt, rf1, rf0, cq, Nat.reduceAdd, Nat.reduceEqDiff, Int.reduceToNat, eq_self, true_and, and_true, true_or, or_true, bI_0, bI_1, mm, rAm, mF_sF, mR_sR, false_and, and_false, if_false, if_true, false_or, or_false, not_true_eq_false, not_false_eq_true, and_self]
    have hne : (tI T x)[k] ≠ key := fun e => hkx (by rw [← e]; exact hkm)
    refine ⟨fun h => ?_, fun h => ?_⟩
    · have hlt : (tI T x)[k] < key := by have := hcm.2.1.mp h; omega
      refine fin (k + 1) G hkl hgt (fun y hy => ?_) hG hO
      rw [List.take_succ_eq_append_getElem (by omega)] at hy
      rcases List.mem_append.mp hy with hy | hy
      · have hp := e5
        rw [← List.take_append_drop k (tI T x), List.drop_eq_getElem_cons (by omega)] at hp
        have := (List.pairwise_append.mp hp).2.2 y hy (tI T x)[k] (List.mem_cons_self ..)
        omega
      · rw [List.mem_singleton.mp hy]; exact hlt
    · have hgt' : key < (tI T x)[k] := by
        have : ¬ (tI T x)[k] ≤ key := fun e => h (hcm.2.1.mpr e)
        omega
      simp (disch := first | (simp only [dd, dr]; done) | omega) only [W_167, msK, msR, msF, ms1, msS1, k0, k1, k6, I_lt, I_le, I_inj, inB_I, tc_I, Int.toNat_natCast, fkt, rf1, rf0, cq, Nat.reduceAdd, Nat.reduceEqDiff, Int.reduceToNat, eq_self, true_and, and_true, true_or, or_true, bI_0, bI_1, mm, rAm, mF_sF, mR_sR, false_and, and_false, if_false, if_true, false_or, or_false, not_true_eq_false, not_false_eq_true, and_self]
      refine ca_168 (by omega) (m_copy hK' (by omega) (by omega) (by omega) (by omega) ?_)
      simp (disch := first | (simp only [dd, dr]; done) | omega) only [W_167, msK, msR, msF, ms1, msS1, k0, k1, k6, I_lt, I_le, I_inj, inB_I, tc_I, Int.toNat_natCast, fkt, rf1, rf0, cq, Nat.reduceAdd, Nat.reduceEqDiff, Int.reduceToNat, eq_self, true_and, and_true, true_or, or_true, bI_0, bI_1, mm, rAm, mF_sF, mR_sR, false_and, and_false, if_false, if_true, false_or, or_false, not_true_eq_false, not_false_eq_true, and_self]
      rw [show (((k + 1 : Nat) : Int) + -1) = (k : Int) by omega]
      refine ih _ (by omega) (fun y hy => ?_) (fun a a0 a1' => ?_) (fun z hz => ?_)
      · rw [List.drop_eq_getElem_cons (by omega)] at hy
        rcases List.mem_cons.mp hy with h | h
        · rw [h]; exact hgt'
        · exact hgt y h
      · by_cases ea : a = 16 * (x : Int) + ((k + 1 : Nat) : Int)
        · rw [ea, st5_e _ _ (by omega) (by omega), hG _ (by omega) (by omega), if_neg (by omega), if_pos (by omega)]
        · rw [st5_n _ _ (by omega) (by omega) a0 a1' ea, hG a a0 a1']
          by_cases c1 : 16 * (x : Int) + ((k + 1 : Nat) : Int) < a ∧ a ≤ 16 * (x : Int) + (tI T x).length
          · rw [if_pos c1, if_pos (by omega)]
          · rw [if_neg c1, if_neg (by omega)]
      · rw [st5_o _ _ (by omega) (by omega) hz]; exact hO z hz
end MPt
