/-! ===== THE LAW: its entry ===== -/
section Len
variable {d a n : Nat} {M : Mem} {Q : Outcome → Mem → Prop} {sc : Nat → Int}
def cl9 (n : Nat) (sc : Nat → Int) (i : Nat) : Int := if i < n then sc i else 0
theorem cl9_i (hsc : ∀ i, i32 (sc i)) (i : Nat) : -2147483648 ≤ cl9 n sc i ∧ cl9 n sc i < 2147483648 := by
  unfold cl9
  split
  · exact hsc i
  · omega
theorem c_cell (hk : kX M a = (8, n)) (hn : n ≤ 3074) (hs : ∀ i, i < n → mA M a i = I (sc i)) {i : Nat} {z : Int} (hz : z = i) (hi : i < 10) (hQ : Q (.returned (some (.int (I (cl9 n sc i))))) M) : Wp d 0 0 [some (.ref a), some (.int (I z))] [] M Q := by
  subst hz
  simp (disch := first | (simp only [dd, dr]; done) | omega) only [W_0, hk, I_lt, I_le, I_inj, inB_I, tc_I, Int.toNat_natCast, fkt, rf1, rf0, cq, Nat.reduceAdd, Nat.reduceEqDiff, Int.reduceToNat, eq_self, true_and, and_true, true_or, or_true, bI_0, bI_1, mm, rAm, mF_sF, mR_sR, false_and, and_false, if_false, if_true, false_or, or_false, not_true_eq_false, not_false_eq_true, and_self]
  refine ⟨fun h => ?_, fun h => ?_⟩
  · have e : cl9 n sc i = 0 := if_neg (by omega)
    rw [e] at hQ
    simp (disch := first | (simp only [dd, dr]; done) | omega) only [W_0, I_lt, I_le, I_inj, inB_I, tc_I, Int.toNat_natCast, fkt, rf1, rf0, cq, Nat.reduceAdd, Nat.reduceEqDiff, Int.reduceToNat, eq_self, true_and, and_true, true_or, or_true, bI_0, bI_1, mm, rAm, mF_sF, mR_sR, false_and, and_false, if_false, if_true, false_or, or_false, not_true_eq_false, not_false_eq_true, and_self]
    exact hQ
  · have e : cl9 n sc i = sc i := if_pos (by omega)
    have e2 := hs i (by omega)
    rw [e] at hQ
    simp (disch := first | (simp only [dd, dr]; done) | omega) only [W_0, hk, e2, I_lt, I_le, I_inj, inB_I, tc_I, Int.toNat_natCast, fkt, rf1, rf0, cq, Nat.reduceAdd, Nat.reduceEqDiff, Int.reduceToNat, eq_self, true_and, and_true, true_or, or_true, bI_0, bI_1, mm, rAm, mF_sF, mR_sR, false_and, and_false, if_false, if_true, false_or, or_false, not_true_eq_false, not_false_eq_true, and_self]
    exact hQ
theorem Cs_lt {p m J x : Nat} {A : Ad} {T : Tr} {X : Ob} (C : CX M p m J A T X) (h : Cs p J A x) : x < mN M := by
  have h5 := C.2.2.2.2
  rcases h with h | ⟨b, q, h, h1, h2⟩ | ⟨b, q, h, h1, h2⟩
  · omega
  · have k := (C.2.1.1.2.2.1 b q h).2.1
    have := lt_kX C.2.1.1.2.2.2.2 k.2.2.2.2.2.2 (by decide)
    omega
  · have k := (C.2.1.1.2.2.2.1 b q h).2.1
    have := lt_kX C.2.1.1.2.2.2.2 k.2.2 (by decide)
    omega
theorem clamp9 (z lo hi : Int) (h0 : 0 ≤ lo) (h1 : lo ≤ hi) : ∃ m : Nat, (m : Int) = if z < lo then lo else if hi < z then hi else z := by
  refine ⟨(if z < lo then lo else if hi < z then hi else z).toNat, ?_⟩
  split
  · omega
  · split <;> omega
set_option maxHeartbeats 4000000 in
theorem law_entry (hd : 200 ≤ d) (hn : n ≤ 3074) (hk : kX M a = (8, n)) (hs : ∀ i, i < n → mA M a i = I (sc i)) (hsc : ∀ i, i32 (sc i)) (hE : ∀ x, mN M ≤ x → mK M x = none) (hQ : ∀ M', mN M' ≤ mN M + 1600 → mS M' ≤ mS M + 180000 → Q (.returned (some (.int (I 1)))) M') : Wp d 233 0 [some (.ref a), none, none, none, none, none, none] [] M Q := by
  have la : a < mN M := lt_kX hE hk (by decide)
  obtain ⟨m, hm⟩ := clamp9 (cl9 n sc 0) 16 96 (by omega) (by omega)
  obtain ⟨J, hJ⟩ := clamp9 (cl9 n sc 1) 6 64 (by omega) (by omega)
  have hm2 : 16 ≤ m ∧ m ≤ 96 := by split at hm <;> (try split at hm) <;> omega
  have hJ2 : 6 ≤ J ∧ J ≤ 64 := by split at hJ <;> (try split at hJ) <;> omega
  obtain ⟨z0, z1⟩ := cl9_i (n := n) hsc 0
  obtain ⟨y0, y1⟩ := cl9_i (n := n) hsc 1
  simp (disch := first | (simp only [dd, dr]; done) | omega) only [W_233_0, I_lt, I_le, I_inj, inB_I, tc_I, Int.toNat_natCast, fkt, rf1, rf0, cq, Nat.reduceAdd, Nat.reduceEqDiff, Int.reduceToNat, eq_self, true_and, and_true, true_or, or_true, bI_0, bI_1, mm, rAm, mF_sF, mR_sR, false_and, and_false, if_false, if_true, false_or, or_false, not_true_eq_false, not_false_eq_true, and_self]
  have c1 : kX (nw M (.inl 1) (cSz 1)) a = (8, n) := by rw [o1_kX la]; exact hk
  have c2 : ∀ i, i < n → mA (nw M (.inl 1) (cSz 1)) a i = I (sc i) := fun i hi => by rw [o1_mA la]; exact hs i hi
  have c3 : mK (nw M (.inl 1) (cSz 1)) (mN M) = some (.inl 1) := by rw [mK_nw, if_pos rfl]
  have c4 : mN (nw M (.inl 1) (cSz 1)) = mN M + 1 := rfl
  have c5 : ∀ x, mN (nw M (.inl 1) (cSz 1)) ≤ x → mK (nw M (.inl 1) (cSz 1)) x = none := fun x hx => by rw [c4] at hx; rw [mK_nw, if_neg (by omega)]; exact hE x (by omega)
  have c6 : mS (nw M (.inl 1) (cSz 1)) = mS M + 10 := rfl
  generalize nw M (.inl 1) (cSz 1) = M1 at *
  generalize mN M = p at *
  refine cr_0 (by omega) (c_cell c1 hn c2 (i := 0) rfl (by omega) ?_)
  simp (disch := first | (simp only [dd, dr]; done) | omega) only [W_233_0, I_lt, I_le, I_inj, inB_I, tc_I, Int.toNat_natCast, fkt, rf1, rf0, cq, Nat.reduceAdd, Nat.reduceEqDiff, Int.reduceToNat, eq_self, true_and, and_true, true_or, or_true, bI_0, bI_1, mm, rAm, mF_sF, mR_sR, false_and, and_false, if_false, if_true, false_or, or_false, not_true_eq_false, not_false_eq_true, and_self]
  refine cr_0 (by omega) (c_cell c1 hn c2 (i := 1) rfl (by omega) ?_)
  simp (disch := first | (simp only [dd, dr]; done) | omega) only [W_233_0, I_lt, I_le, I_inj, inB_I, tc_I, Int.toNat_natCast, fkt, rf1, rf0, cq, Nat.reduceAdd, Nat.reduceEqDiff, Int.reduceToNat, eq_self, true_and, and_true, true_or, or_true, bI_0, bI_1, mm, rAm, mF_sF, mR_sR, false_and, and_false, if_false, if_true, false_or, or_false, not_true_eq_false, not_false_eq_true, and_self]
  refine ca_20 (by omega) (c_comp (by omega) c3 c4 z0 z1 y0 y1 hm hJ c5 (fun M2 A la2 C2 D2 V2 K2 L2 n2 s2 => ?_))
  simp (disch := first | (simp only [dd, dr]; done) | omega) only [W_233_0, I_lt, I_le, I_inj, inB_I, tc_I, Int.toNat_natCast, fkt, rf1, rf0, cq, Nat.reduceAdd, Nat.reduceEqDiff, Int.reduceToNat, eq_self, true_and, and_true, true_or, or_true, bI_0, bI_1, mm, rAm, mF_sF, mR_sR, false_and, and_false, if_false, if_true, false_or, or_false, not_true_eq_false, not_false_eq_true, and_self]
  have e1 : kX M2 a = (8, n) := by
    have := (L2 a la).1
    unfold kX at c1 ⊢; rw [this]; exact c1
  have e2 : ∀ i, i < n → mA M2 a i = I (sc i) := fun i hi => by rw [(L2 a la).2.2.2.1]; exact c2 i hi
  have b5 := C2.2.2.2.2
  have lt2 : ∀ x, Cs p J A x → x < mN M2 := fun x hx => Cs_lt C2 hx
  have E2 := C2.2.1.1.2.2.2.2
  have c1' : kX (nw M2 (.inl 8) (cSz 8)) a = (8, n) := by rw [o1_kX (by omega)]; exact e1
  have c2' : ∀ i, i < n → mA (nw M2 (.inl 8) (cSz 8)) a i = I (sc i) := fun i hi => by rw [o1_mA (by omega)]; exact e2 i hi
  have c3' : mK (nw M2 (.inl 8) (cSz 8)) (mN M2) = some (.inl 8) := by rw [mK_nw, if_pos rfl]
  have c4' : mN (nw M2 (.inl 8) (cSz 8)) = mN M2 + 1 := rfl
  have c5' : ∀ x, mN (nw M2 (.inl 8) (cSz 8)) ≤ x → mK (nw M2 (.inl 8) (cSz 8)) x = none := fun x hx => by rw [c4'] at hx; rw [mK_nw, if_neg (by omega)]; exact E2 x (by omega)
  have c6' : mS (nw M2 (.inl 8) (cSz 8)) = mS M2 + 15 := rfl
  have c7' : ∀ g, mF (nw M2 (.inl 8) (cSz 8)) g (mN M2) = 0 := fun g => by rw [mF_nw, if_pos rfl]
  have c8' : ∀ x, x < mN M2 → mK (nw M2 (.inl 8) (cSz 8)) x = mK M2 x ∧ Sm M2 (nw M2 (.inl 8) (cSz 8)) x := fun x hx => ⟨o1_mK hx, fun f => o1_mF hx, fun f => o1_mR hx, fun i => o1_mA hx, fun i => o1_mQ hx, fun i => o1_mL hx⟩
  generalize nw M2 (.inl 8) (cSz 8) = M3 at *
  generalize ho : mN M2 = o at *
  refine cr_0 (by omega) (c_cell c1' hn c2' (i := 0) rfl (by omega) ?_)
  simp (disch := first | (simp only [dd, dr]; done) | omega) only [W_233_0, I_lt, I_le, I_inj, inB_I, tc_I, Int.toNat_natCast, fkt, rf1, rf0, cq, Nat.reduceAdd, Nat.reduceEqDiff, Int.reduceToNat, eq_self, true_and, and_true, true_or, or_true, bI_0, bI_1, mm, rAm, mF_sF, mR_sR, false_and, and_false, if_false, if_true, false_or, or_false, not_true_eq_false, not_false_eq_true, and_self]
  refine cr_0 (by omega) (c_cell c1' hn c2' (i := 1) rfl (by omega) ?_)
  simp (disch := first | (simp only [dd, dr]; done) | omega) only [W_233_0, I_lt, I_le, I_inj, inB_I, tc_I, Int.toNat_natCast, fkt, rf1, rf0, cq, Nat.reduceAdd, Nat.reduceEqDiff, Int.reduceToNat, eq_self, true_and, and_true, true_or, or_true, bI_0, bI_1, mm, rAm, mF_sF, mR_sR, false_and, and_false, if_false, if_true, false_or, or_false, not_true_eq_false, not_false_eq_true, and_self]
  refine ca_153 (by omega) (m_comp (by omega) c3' c4' c7' c5' z0 z1 y0 y1 hm hJ (fun M4 D4 L4 E4 n4 s4 => ?_))
  simp (disch := first | (simp only [dd, dr]; done) | omega | (simp only [mm, mN_nw, nw2_N]; omega)) only [W_233_0, I_lt, I_le, I_inj, inB_I, tc_I, Int.toNat_natCast, fkt, rf1, rf0, cq, Nat.reduceAdd, Nat.reduceEqDiff, Int.reduceToNat, eq_self, true_and, and_true, true_or, or_true, bI_0, bI_1, mm, rAm, mF_sF, mR_sR, false_and, and_false, if_false, if_true, false_or, or_false, not_true_eq_false, not_false_eq_true, and_self]
  have k4 : ∀ x, x < o → mK M4 x = mK M2 x ∧ Sm M2 M4 x := fun x hx => ⟨(L4 x hx).1.trans (c8' x hx).1, (c8' x hx).2.trans (L4 x hx).2⟩
  have k5 : ∀ x, x < o + 6 → mK (nw M4 (.inr (3, 1)) 1) x = mK M4 x ∧ Sm M4 (nw M4 (.inr (3, 1)) 1) x := fun x hx => ⟨o1_mK (by omega), fun f => o1_mF (by omega), fun f => o1_mR (by omega), fun i => o1_mA (by omega), fun i => o1_mQ (by omega), fun i => o1_mL (by omega)⟩
  have q5 : kX (nw M4 (.inr (3, 1)) 1) (o + 6) = (3, 1) := h1_kX n4.symm
  have n5 : mN (nw M4 (.inr (3, 1)) 1) = o + 7 := by show mN M4 + 1 = _; omega
  have s5 : mS (nw M4 (.inr (3, 1)) 1) = mS M4 + 1 := rfl
  have E5 : ∀ x, mN (nw M4 (.inr (3, 1)) 1) ≤ x → mK (nw M4 (.inr (3, 1)) 1) x = none := fun x hx => by rw [mK_nw, if_neg (by omega)]; exact E4 x (by omega)
  rw [n4]
  generalize nw M4 (.inr (3, 1)) 1 = M5 at *
  have Ap5 : Ap p J A M2 M5 := ⟨fun x hx => by rw [(k5 x (by omega)).1]; exact (k4 x (by omega)).1, by omega, E5, fun x hx => (k4 x (by have := lt2 x hx; omega)).2.trans (k5 x (by have := lt2 x hx; omega)).2⟩
  obtain ⟨N0, hN0⟩ : ∃ N0, N0 = p + 403 + J + 7 := ⟨_, rfl⟩
  obtain ⟨S0, hS0⟩ : ∃ S0, S0 = mS M + 139780 := ⟨_, rfl⟩
  have hLW : LWs M5 p o (o + 6) a m J n sc N0 S0 A (T9 [4096]) X9 (fun _ _ => 0) (fun _ => 1) (T9 [4096]) X9 (fun _ _ => 0) (fun _ => 1) la2 v9d 0 := by
    refine ⟨⟨C2.ap Ap5, D2.ap C2 Ap5, V2.ap C2 Ap5, K2⟩, ⟨f9 m J, s9, fun _ => 0, s9, fun _ => 0, fun _ => false, D4.sm (fun x h1 h2 => (k5 x (by omega)).1) (fun x h1 h2 => (k5 x (by omega)).2), f9_FV, s9_MS _, s9_MS _⟩, ⟨X9_wo (by omega) _, X9_wo (by omega) _, DvO.first hJ2.2⟩, ⟨q5, ?_, fun i hi => ?_⟩, fun x hx => ⟨?_, fun hc => ?_⟩, .inr (by omega), .inl (by omega), by omega, by omega, by omega⟩
    · unfold kX at e1 ⊢; rw [Ap5.1 a (by omega)]; exact e1
    · rw [(k5 a (by omega)).2.2.2.1, (k4 a (by omega)).2.2.2.1]; exact e2 i hi
    · rcases hx with hx | hx | hx <;> omega
    · have := lt2 x hc
      rcases hx with hx | hx | hx
      · omega
      · omega
      · subst hx
        rcases hc with h | ⟨b, q, h, h1, h2⟩ | ⟨b, q, h, h1, h2⟩
        · omega
        · have := C2.2.2.2.1 b q (.inl h); omega
        · have := C2.2.2.2.1 b q (.inr h); omega
  have hl := law_loop (d := d) (Q := Q) (by omega) hn hsc (fun M' h1 h2 => hQ M' (by omega) (by omega)) (n + 6) 0 (by omega) (.inl rfl) M5 A (T9 [4096]) X9 (fun _ _ => 0) (fun _ => 1) (T9 [4096]) X9 (fun _ _ => 0) (fun _ => 1) la2 v9d none none hLW
  exact hl
end Len
