/-! ===== THE COMPONENT: link, look; blocks are given back; remove ===== -/
section Lnk
variable {d p m J : Nat} {M M' : Mem} {A A' : Ad} {T T' : Tr} {X X' : Ob} {Q : Outcome → Mem → Prop} {ok : Bool} {dt : Nat → Nat → Nat}
/-- a call throws: all is as it was -/
def Thr (p m J : Nat) (A : Ad) (T : Tr) (X : Ob) (dt : Nat → Nat → Nat) (M : Mem) (Q : Outcome → Mem → Prop) (P : Nat → Prop) : Prop := ∀ k M' A' a, kO M' a = k → P k → CX M' p m J A' T X → DR M' p T dt → CF p A A' 1 M M' → Q (.threw a) M'
theorem Thr.sc {P : Nat → Prop} (h : Thr p m J A T X dt M Q P) (D : DR M p T dt) {M1 : Mem} (C1 : CX M1 p m J A T X) (F1 : Sc p M M1) {k : Nat} (hk : P k) : Q (.threw (mN M1)) (nw M1 (.inl k) 6) :=
  h k _ A _ (nw_kO M1 k 6) hk (C1.exc k) ((D.sc C1.us F1).exc (J := J) C1.us C1.2.2.2.2 k) ((F1.cf A).trans (CF.exc p A M1 k))
theorem isk_of {z : Int} {k : Nat} (h : isk T X z k = true) : ∃ o : Nat, z = o ∧ 1 ≤ o ∧ o ≤ 60 ∧ ky o 0 0 ∈ its T ∧ oK X o = k + 1 := by
  unfold isk at h
  rw [Bool.and_eq_true] at h
  obtain ⟨a1, a2⟩ := h
  obtain ⟨b1, b2, b3⟩ := of_decide_eq_true a1
  exact ⟨z.toNat, by omega, by omega, by omega, b3, of_decide_eq_true a2⟩
theorem tol_rng (O : OK2 T X) (o : Nat) (z : Int) : -1 ≤ tol T X o z ∧ tol T X o z < 256 := by
  unfold tol
  split
  · rename_i h; have := O.2 _ h.2.2; omega
  · omega
theorem c_look (hd : 30 ≤ d) (C : CX M p m J A T X) (D : DR M p T dt) (O : OK2 T X) {off : Bool} (hoff : mF M 25 (p + 205) = I (bI off)) {z n : Int} (z0 : -2147483648 ≤ z) (z1 : z < 2147483648) (n0 : -2147483648 ≤ n) (n1 : n < 2147483648)
    (hX : Thr p m J A T X dt M Q (fun k => (k = 11 ∧ off = true) ∨ (off = false ∧ k = 12 ∧ isk T X z 0 = false)))
    (hR : off = false → isk T X z 0 = true → ∀ M', CX M' p m J A T X → DR M' p T dt → CF p A A 0 M M' → Q (.returned (some (.int (I (tol T X z.toNat n))))) M') :
    Wp d 73 0 [some (.ref p), some (.int (I z)), some (.int (I n))] [] M Q := by
  have k0 := C.1.1.1
  simp (disch := first | (simp only [dd, dr]; done) | omega) only [W_73, k0, I_lt, I_le, I_inj, inB_I, tc_I, Int.toNat_natCast, fkt, rf1, rf0, cq, Nat.reduceAdd, Nat.reduceEqDiff, Int.reduceToNat, eq_self, true_and, and_true, true_or, or_true, bI_0, bI_1, mm, rAm, mF_sF, mR_sR, false_and, and_false, if_false, if_true, false_or, or_false, not_true_eq_false, not_false_eq_true, and_self]
  refine ca_30 (by omega) (c_on C.1 hoff (fun h1 => ?_) (fun h1 => ?_))
  rotate_left
  · simp (disch := first | (simp only [dd, dr]; done) | omega) only [W_73, I_lt, I_le, I_inj, inB_I, tc_I, Int.toNat_natCast, fkt, rf1, rf0, cq, Nat.reduceAdd, Nat.reduceEqDiff, Int.reduceToNat, eq_self, true_and, and_true, true_or, or_true, bI_0, bI_1, mm, rAm, mF_sF, mR_sR, false_and, and_false, if_false, if_true, false_or, or_false, not_true_eq_false, not_false_eq_true, and_self]
    rw [Th_out (nw_kO M 11 6) (by decide) (by decide +kernel)]
    exact hX.sc D C (Sc.refl _ _) (.inl ⟨rfl, h1⟩)
  simp (disch := first | (simp only [dd, dr]; done) | omega) only [W_73, k0, I_lt, I_le, I_inj, inB_I, tc_I, Int.toNat_natCast, fkt, rf1, rf0, cq, Nat.reduceAdd, Nat.reduceEqDiff, Int.reduceToNat, eq_self, true_and, and_true, true_or, or_true, bI_0, bI_1, mm, rAm, mF_sF, mR_sR, false_and, and_false, if_false, if_true, false_or, or_false, not_true_eq_false, not_false_eq_true, and_self]
  refine ca_31 (by omega) (n_isDirectory (by omega) C O.1 z0 z1 (fun M1 T1 C1 => ?_))
  have k01 := C1.1.1.1
  simp (disch := first | (simp only [dd, dr]; done) | omega) only [W_73, I_lt, I_le, I_inj, inB_I, tc_I, Int.toNat_natCast, fkt, rf1, rf0, cq, Nat.reduceAdd, Nat.reduceEqDiff, Int.reduceToNat, eq_self, true_and, and_true, true_or, or_true, bI_0, bI_1, mm, rAm, mF_sF, mR_sR, false_and, and_false, if_false, if_true, false_or, or_false, not_true_eq_false, not_false_eq_true, and_self]
  refine ca_37 (by omega) (c_there (fun h2 => ?_) (fun h2 => ?_))
  rotate_left
  · simp (disch := first | (simp only [dd, dr]; done) | omega) only [W_73, I_lt, I_le, I_inj, inB_I, tc_I, Int.toNat_natCast, fkt, rf1, rf0, cq, Nat.reduceAdd, Nat.reduceEqDiff, Int.reduceToNat, eq_self, true_and, and_true, true_or, or_true, bI_0, bI_1, mm, rAm, mF_sF, mR_sR, false_and, and_false, if_false, if_true, false_or, or_false, not_true_eq_false, not_false_eq_true, and_self]
    rw [Th_out (nw_kO M1 12 6) (by decide) (by decide +kernel)]
    exact hX.sc D C1 T1.sc (.inr ⟨h1, rfl, h2⟩)
  obtain ⟨o, rfl, o1, o2, o3, o4⟩ := isk_of h2
  simp (disch := first | (simp only [dd, dr]; done) | omega) only [W_73, k01, I_lt, I_le, I_inj, inB_I, tc_I, Int.toNat_natCast, fkt, rf1, rf0, cq, Nat.reduceAdd, Nat.reduceEqDiff, Int.reduceToNat, eq_self, true_and, and_true, true_or, or_true, bI_0, bI_1, mm, rAm, mF_sF, mR_sR, false_and, and_false, if_false, if_true, false_or, or_false, not_true_eq_false, not_false_eq_true, and_self]
  refine ca_41 (by omega) (n_told (by omega) C1 (by omega) n0 n1 O.2 (fun M2 T2 C2 => ?_))
  simp (disch := first | (simp only [dd, dr]; done) | omega) only [W_73, I_lt, I_le, I_inj, inB_I, tc_I, Int.toNat_natCast, fkt, rf1, rf0, cq, Nat.reduceAdd, Nat.reduceEqDiff, Int.reduceToNat, eq_self, true_and, and_true, true_or, or_true, bI_0, bI_1, mm, rAm, mF_sF, mR_sR, false_and, and_false, if_false, if_true, false_or, or_false, not_true_eq_false, not_false_eq_true, and_self]
  exact hR h1 h2 M2 C2 (D.sc C.us (T1.trans T2).sc) ((T1.trans T2).sc.cf A)
/-- an entry of a file more -/
def lkX (X : Ob) (o n v : Nat) : Ob := vS (vS (vE X (ky o 1 n) v) o (oK X o) (oL X o) (oS X o + 1)) v (oK X v) (oL X v + 1) (oS X v)
theorem OK1.st {o k l n : Nat} (O : OK1 T X) (h1 : 1 ≤ k ∧ k ≤ 2) (h2 : l < 65536) (h3 : n < 65536) : OK1 T (vS X o k l n) := by
  intro o' ho' h'
  obtain ⟨e1, e2, e3, _⟩ := vS_at X o k l n
  rw [e1, e2, e3]
  by_cases e : o' = o
  · rw [e, fu_s, fu_s, fu_s]; omega
  · rw [fu_n _ _ e, fu_n _ _ e, fu_n _ _ e]; exact O o' ho' h'
set_option maxHeartbeats 4000000 in
theorem c_link (hd : 60 ≤ d) (C : CX M p m J A T X) (D : DR M p T dt) (O : OK2 T X) {off : Bool} (hoff : mF M 25 (p + 205) = I (bI off)) {z n w : Int} (z0 : -2147483648 ≤ z) (z1 : z < 2147483648) (n0 : -2147483648 ≤ n) (n1 : n < 2147483648) (w0 : -2147483648 ≤ w) (w1 : w < 2147483648) (hs : ∀ o, oS X o + 1 < 65536) (hl : ∀ o, oL X o + 1 < 65536)
    (hX : Thr p m J A T X dt M Q (fun k => (k = 11 ∧ off = true) ∨ (off = false ∧ k = 12 ∧ ¬ (isk T X z 0 = true ∧ isk T X w 1 = true)) ∨ (off = false ∧ (isk T X z 0 = true ∧ isk T X w 1 = true) ∧ k = 13 ∧ ¬ (0 ≤ n ∧ n < 1000)) ∨ (off = false ∧ (isk T X z 0 = true ∧ isk T X w 1 = true) ∧ (0 ≤ n ∧ n < 1000) ∧ k = 14 ∧ tol T X z.toNat n ≠ -1) ∨
        (off = false ∧ (isk T X z 0 = true ∧ isk T X w 1 = true) ∧ (0 ≤ n ∧ n < 1000) ∧ k = 14 ∧ tol T X z.toNat n = -1 ∧ ∃ T1, stT m (szO X) T (ky z.toNat 1 n.toNat) 3 = some (false, T1))))
    (hR : off = false → isk T X z 0 = true → isk T X w 1 = true → (0 ≤ n ∧ n < 1000) → tol T X z.toNat n = -1 → ∀ T1, stT m (szO X) T (ky z.toNat 1 n.toNat) 3 = some (true, T1) → StF T T1 (ky z.toNat 1 n.toNat) 3 → ∀ M' A', CX M' p m J A' T1 (lkX X z.toNat n.toNat w.toNat) → DR M' p T1 dt → CF p A A' 0 M M' → Q (.returned (some (.int (I ((oL X w.toNat + 1 : Nat) : Int))))) M') :
    Wp d 51 0 [some (.ref p), some (.int (I z)), some (.int (I n)), some (.int (I w)), none] [] M Q := by
  have k0 := C.1.1.1
  have hm := C.1.2.2.2.2.2.2.2.2.2.2.2.1
  simp (disch := first | (simp only [dd, dr]; done) | omega) only [W_51, k0, I_lt, I_le, I_inj, inB_I, tc_I, Int.toNat_natCast, fkt, rf1, rf0, cq, Nat.reduceAdd, Nat.reduceEqDiff, Int.reduceToNat, eq_self, true_and, and_true, true_or, or_true, bI_0, bI_1, mm, rAm, mF_sF, mR_sR, false_and, and_false, if_false, if_true, false_or, or_false, not_true_eq_false, not_false_eq_true, and_self]
  refine ca_30 (by omega) (c_on C.1 hoff (fun h1 => ?_) (fun h1 => ?_))
  rotate_left
  · simp (disch := first | (simp only [dd, dr]; done) | omega) only [W_51, I_lt, I_le, I_inj, inB_I, tc_I, Int.toNat_natCast, fkt, rf1, rf0, cq, Nat.reduceAdd, Nat.reduceEqDiff, Int.reduceToNat, eq_self, true_and, and_true, true_or, or_true, bI_0, bI_1, mm, rAm, mF_sF, mR_sR, false_and, and_false, if_false, if_true, false_or, or_false, not_true_eq_false, not_false_eq_true, and_self]
    rw [Th_out (nw_kO M 11 6) (by decide) (by decide +kernel)]
    exact hX.sc D C (Sc.refl _ _) (.inl ⟨rfl, h1⟩)
  simp (disch := first | (simp only [dd, dr]; done) | omega) only [W_51, k0, I_lt, I_le, I_inj, inB_I, tc_I, Int.toNat_natCast, fkt, rf1, rf0, cq, Nat.reduceAdd, Nat.reduceEqDiff, Int.reduceToNat, eq_self, true_and, and_true, true_or, or_true, bI_0, bI_1, mm, rAm, mF_sF, mR_sR, false_and, and_false, if_false, if_true, false_or, or_false, not_true_eq_false, not_false_eq_true, and_self]
  suffices go : ∀ (M2 : Mem) (b : Bool), Tw (p + 201) M M2 → CX M2 p m J A T X → (b = true ↔ (isk T X z 0 = true ∧ isk T X w 1 = true)) → Ca d 51 25 [some (.ref p), some (.int (I z)), some (.int (I n)), some (.int (I w)), none] 37 [.int (I (bI b))] [] M2 Q by
    refine ca_31 (by omega) (n_isDirectory (by omega) C O.1 z0 z1 (fun M1 T1 C1 => ?_))
    have k01 := C1.1.1.1
    simp (disch := first | (simp only [dd, dr]; done) | omega) only [W_51, I_lt, I_le, I_inj, inB_I, tc_I, Int.toNat_natCast, fkt, rf1, rf0, cq, Nat.reduceAdd, Nat.reduceEqDiff, Int.reduceToNat, eq_self, true_and, and_true, true_or, or_true, bI_0, bI_1, mm, rAm, mF_sF, mR_sR, false_and, and_false, if_false, if_true, false_or, or_false, not_true_eq_false, not_false_eq_true, and_self]
    refine ⟨fun h => ?_, fun h => ?_⟩
    · simp (disch := first | (simp only [dd, dr]; done) | omega) only [W_51, I_lt, I_le, I_inj, inB_I, tc_I, Int.toNat_natCast, fkt, rf1, rf0, cq, Nat.reduceAdd, Nat.reduceEqDiff, Int.reduceToNat, eq_self, true_and, and_true, true_or, or_true, bI_0, bI_1, mm, rAm, mF_sF, mR_sR, false_and, and_false, if_false, if_true, false_or, or_false, not_true_eq_false, not_false_eq_true, and_self]
      exact go M1 false T1 C1 (by simp [h])
    · have h : isk T X z 0 = true := by simpa using h
      simp (disch := first | (simp only [dd, dr]; done) | omega) only [W_51, k01, I_lt, I_le, I_inj, inB_I, tc_I, Int.toNat_natCast, fkt, rf1, rf0, cq, Nat.reduceAdd, Nat.reduceEqDiff, Int.reduceToNat, eq_self, true_and, and_true, true_or, or_true, bI_0, bI_1, mm, rAm, mF_sF, mR_sR, false_and, and_false, if_false, if_true, false_or, or_false, not_true_eq_false, not_false_eq_true, and_self]
      refine ca_52 (by omega) (n_isFile (by omega) C1 O.1 w0 w1 (fun M2 T2 C2 => ?_))
      simp (disch := first | (simp only [dd, dr]; done) | omega) only [W_51, I_lt, I_le, I_inj, inB_I, tc_I, Int.toNat_natCast, fkt, rf1, rf0, cq, Nat.reduceAdd, Nat.reduceEqDiff, Int.reduceToNat, eq_self, true_and, and_true, true_or, or_true, bI_0, bI_1, mm, rAm, mF_sF, mR_sR, false_and, and_false, if_false, if_true, false_or, or_false, not_true_eq_false, not_false_eq_true, and_self]
      refine ⟨fun h' => ?_, fun h' => ?_⟩
      · simp (disch := first | (simp only [dd, dr]; done) | omega) only [W_51, I_lt, I_le, I_inj, inB_I, tc_I, Int.toNat_natCast, fkt, rf1, rf0, cq, Nat.reduceAdd, Nat.reduceEqDiff, Int.reduceToNat, eq_self, true_and, and_true, true_or, or_true, bI_0, bI_1, mm, rAm, mF_sF, mR_sR, false_and, and_false, if_false, if_true, false_or, or_false, not_true_eq_false, not_false_eq_true, and_self]
        exact go M2 false (T1.trans T2) C2 (by simp [h'])
      · have h' : isk T X w 1 = true := by simpa using h'
        simp (disch := first | (simp only [dd, dr]; done) | omega) only [W_51, I_lt, I_le, I_inj, inB_I, tc_I, Int.toNat_natCast, fkt, rf1, rf0, cq, Nat.reduceAdd, Nat.reduceEqDiff, Int.reduceToNat, eq_self, true_and, and_true, true_or, or_true, bI_0, bI_1, mm, rAm, mF_sF, mR_sR, false_and, and_false, if_false, if_true, false_or, or_false, not_true_eq_false, not_false_eq_true, and_self]
        exact go M2 true (T1.trans T2) C2 (by simp [h, h'])
  intro M2 b T2 C2 hb
  refine ca_37 (by omega) (c_there (fun h2 => ?_) (fun h2 => ?_))
  rotate_left
  · simp (disch := first | (simp only [dd, dr]; done) | omega) only [W_51, I_lt, I_le, I_inj, inB_I, tc_I, Int.toNat_natCast, fkt, rf1, rf0, cq, Nat.reduceAdd, Nat.reduceEqDiff, Int.reduceToNat, eq_self, true_and, and_true, true_or, or_true, bI_0, bI_1, mm, rAm, mF_sF, mR_sR, false_and, and_false, if_false, if_true, false_or, or_false, not_true_eq_false, not_false_eq_true, and_self]
    rw [Th_out (nw_kO M2 12 6) (by decide) (by decide +kernel)]
    exact hX.sc D C2 T2.sc (.inr (.inl ⟨h1, rfl, fun h => by rw [hb.mpr h] at h2; cases h2⟩))
  have h2' := hb.mp h2
  have h2z := h2'.1
  have h2w := h2'.2
  simp (disch := first | (simp only [dd, dr]; done) | omega) only [W_51, I_lt, I_le, I_inj, inB_I, tc_I, Int.toNat_natCast, fkt, rf1, rf0, cq, Nat.reduceAdd, Nat.reduceEqDiff, Int.reduceToNat, eq_self, true_and, and_true, true_or, or_true, bI_0, bI_1, mm, rAm, mF_sF, mR_sR, false_and, and_false, if_false, if_true, false_or, or_false, not_true_eq_false, not_false_eq_true, and_self]
  refine ca_38 (by omega) (c_isName n0 n1 ?_)
  simp (disch := first | (simp only [dd, dr]; done) | omega) only [W_51, I_lt, I_le, I_inj, inB_I, tc_I, Int.toNat_natCast, fkt, rf1, rf0, cq, Nat.reduceAdd, Nat.reduceEqDiff, Int.reduceToNat, eq_self, true_and, and_true, true_or, or_true, bI_0, bI_1, mm, rAm, mF_sF, mR_sR, false_and, and_false, if_false, if_true, false_or, or_false, not_true_eq_false, not_false_eq_true, and_self]
  refine ca_39 (by omega) (c_proper (fun h3 => ?_) (fun h3 => ?_))
  rotate_left
  · simp (disch := first | (simp only [dd, dr]; done) | omega) only [W_51, I_lt, I_le, I_inj, inB_I, tc_I, Int.toNat_natCast, fkt, rf1, rf0, cq, Nat.reduceAdd, Nat.reduceEqDiff, Int.reduceToNat, eq_self, true_and, and_true, true_or, or_true, bI_0, bI_1, mm, rAm, mF_sF, mR_sR, false_and, and_false, if_false, if_true, false_or, or_false, not_true_eq_false, not_false_eq_true, and_self]
    rw [Th_out (nw_kO M2 13 6) (by decide) (by decide +kernel)]
    exact hX.sc D C2 T2.sc (.inr (.inr (.inl ⟨h1, h2', rfl, of_decide_eq_false h3⟩)))
  have h3 := of_decide_eq_true h3
  obtain ⟨zo, rfl, zz1, zz2, zz3, zz4⟩ := isk_of h2z
  obtain ⟨v, rfl, vv1, vv2, vv3, vv4⟩ := isk_of h2w
  obtain ⟨nn, rfl⟩ : ∃ nn : Nat, n = nn := ⟨n.toNat, by omega⟩
  simp only [Int.toNat_natCast] at *
  have k02 := C2.1.1.1
  simp (disch := first | (simp only [dd, dr]; done) | omega) only [W_51, k02, I_lt, I_le, I_inj, inB_I, tc_I, Int.toNat_natCast, fkt, rf1, rf0, cq, Nat.reduceAdd, Nat.reduceEqDiff, Int.reduceToNat, eq_self, true_and, and_true, true_or, or_true, bI_0, bI_1, mm, rAm, mF_sF, mR_sR, false_and, and_false, if_false, if_true, false_or, or_false, not_true_eq_false, not_false_eq_true, and_self]
  refine ca_41 (by omega) (n_told (by omega) C2 (by omega) n0 n1 O.2 (fun M3 T3 C3 => ?_))
  have k03 := C3.1.1.1
  have F3 := T2.trans T3
  have ht := tol_rng O zo nn
  suffices go : ∀ (b : Bool), (b = true ↔ tol T X zo nn = -1) → Ca d 51 50 [some (.ref p), some (.int (I (zo : Nat))), some (.int (I (nn : Nat))), some (.int (I (v : Nat))), none] 42 [.int (I (bI b))] [] M3 Q by
    simp (disch := first | (simp only [dd, dr]; done) | omega) only [W_51, I_lt, I_le, I_inj, inB_I, tc_I, Int.toNat_natCast, fkt, rf1, rf0, cq, Nat.reduceAdd, Nat.reduceEqDiff, Int.reduceToNat, eq_self, true_and, and_true, true_or, or_true, bI_0, bI_1, mm, rAm, mF_sF, mR_sR, false_and, and_false, if_false, if_true, false_or, or_false, not_true_eq_false, not_false_eq_true, and_self]
    refine ⟨fun h => ?_, fun h => ?_⟩
    · simp (disch := first | (simp only [dd, dr]; done) | omega) only [W_51, I_lt, I_le, I_inj, inB_I, tc_I, Int.toNat_natCast, fkt, rf1, rf0, cq, Nat.reduceAdd, Nat.reduceEqDiff, Int.reduceToNat, eq_self, true_and, and_true, true_or, or_true, bI_0, bI_1, mm, rAm, mF_sF, mR_sR, false_and, and_false, if_false, if_true, false_or, or_false, not_true_eq_false, not_false_eq_true, and_self]
      exact go false (by simp; omega)
    · simp (disch := first | (simp only [dd, dr]; done) | omega) only [W_51, I_lt, I_le, I_inj, inB_I, tc_I, Int.toNat_natCast, fkt, rf1, rf0, cq, Nat.reduceAdd, Nat.reduceEqDiff, Int.reduceToNat, eq_self, true_and, and_true, true_or, or_true, bI_0, bI_1, mm, rAm, mF_sF, mR_sR, false_and, and_false, if_false, if_true, false_or, or_false, not_true_eq_false, not_false_eq_true, and_self]
      exact go true (by simp; omega)
  intro b hb
  refine ca_42 (by omega) (c_can (fun h4 => ?_) (fun h4 => ?_))
  rotate_left
  · simp (disch := first | (simp only [dd, dr]; done) | omega) only [W_51, I_lt, I_le, I_inj, inB_I, tc_I, Int.toNat_natCast, fkt, rf1, rf0, cq, Nat.reduceAdd, Nat.reduceEqDiff, Int.reduceToNat, eq_self, true_and, and_true, true_or, or_true, bI_0, bI_1, mm, rAm, mF_sF, mR_sR, false_and, and_false, if_false, if_true, false_or, or_false, not_true_eq_false, not_false_eq_true, and_self]
    rw [Th_out (nw_kO M3 14 6) (by decide) (by decide +kernel)]
    exact hX.sc D C3 F3.sc (.inr (.inr (.inr (.inl ⟨h1, h2', h3, rfl, fun h => by rw [hb.mpr h] at h4; cases h4⟩))))
  have h4 := hb.mp h4
  simp (disch := first | (simp only [dd, dr]; done) | omega) only [W_51, k03, I_lt, I_le, I_inj, inB_I, tc_I, Int.toNat_natCast, fkt, rf1, rf0, cq, Nat.reduceAdd, Nat.reduceEqDiff, Int.reduceToNat, eq_self, true_and, and_true, true_or, or_true, bI_0, bI_1, mm, rAm, mF_sF, mR_sR, false_and, and_false, if_false, if_true, false_or, or_false, not_true_eq_false, not_false_eq_true, and_self]
  refine ca_43 (by omega) (n_keep1 (by omega) C3 (D.sc C.us F3.sc) (fun M4 C4 D4 S4 F4 o4 => ?_))
  have k04 := C4.1.1.1
  have F04 : CF p A A 0 M M4 := (F3.sc.cf A).trans F4
  have hzv : zo ≠ v := by intro e; rw [e] at zz4; omega
  obtain ⟨ok2, T2', hg2, hgo2⟩ := stT_ok (key := ky zo 1 nn) (n := 3) hm C.2.2.1.1 (by omega)
  have hg2 : stT m (szO X) T (ky zo 1 nn) 3 = some (ok2, T2') := hg2
  simp (disch := first | (simp only [dd, dr]; done) | omega) only [W_51, k04, I_lt, I_le, I_inj, inB_I, tc_I, Int.toNat_natCast, fkt, rf1, rf0, cq, Nat.reduceAdd, Nat.reduceEqDiff, Int.reduceToNat, eq_self, true_and, and_true, true_or, or_true, bI_0, bI_1, mm, rAm, mF_sF, mR_sR, false_and, and_false, if_false, if_true, false_or, or_false, not_true_eq_false, not_false_eq_true, and_self]
  refine ca_44 (by omega) (n_enter (by omega) C4 O.1 (by omega) zz3 (by omega) (by omega) (hs zo) hg2 (fun hok M7 A7 C7 S7 F7 => ?_) (fun hok M7 A7 a P7 N7 J7 F7 ka => ?_))
  · subst hok
    have k07 := C7.1.1.1
    have vv3' : ky v 0 0 ∈ its T2' := (S7.mem C.2.2.1.1 _).mpr (.inr ⟨fun h => by have := (ky_inj (by omega) (by omega) (by omega) (by omega) h).2.1; omega, vv3⟩)
    have O7 : OK1 T2' (vS (vE X (ky zo 1 nn) v) zo (oK X zo) (oL X zo) (oS X zo + 1)) := by
      have a1 : OK1 T2' (vE X (ky zo 1 nn) v) := O.1.ent (by omega) (fun k hk => ((S7.mem C.2.2.1.1 k).mp hk).elim (fun h => .inl h.1) (fun h => .inr h.2))
      obtain ⟨x1, x2, x3, x4⟩ := O.1 zo zz2 zz3
      exact a1.st ⟨x1, x2⟩ x3 (hs zo)
    have eL : oL (vS (vE X (ky zo 1 nn) v) zo (oK X zo) (oL X zo) (oS X zo + 1)) v = oL X v := by rw [(vS_at _ _ _ _ _).2.1, fu_n _ _ (Ne.symm hzv)]; rfl
    have eS : oS (vS (vE X (ky zo 1 nn) v) zo (oK X zo) (oL X zo) (oS X zo + 1)) v = oS X v := by rw [(vS_at _ _ _ _ _).2.2.1, fu_n _ _ (Ne.symm hzv)]; rfl
    have eK : oK (vS (vE X (ky zo 1 nn) v) zo (oK X zo) (oL X zo) (oS X zo + 1)) v = oK X v := by rw [(vS_at _ _ _ _ _).1, fu_n _ _ (Ne.symm hzv)]; rfl
    simp (disch := first | (simp only [dd, dr]; done) | omega) only [W_51, k07, I_lt, I_le, I_inj, inB_I, tc_I, Int.toNat_natCast, fkt, rf1, rf0, cq, Nat.reduceAdd, Nat.reduceEqDiff, Int.reduceToNat, eq_self, true_and, and_true, true_or, or_true, bI_0, bI_1, mm, rAm, mF_sF, mR_sR, false_and, and_false, if_false, if_true, false_or, or_false, not_true_eq_false, not_false_eq_true, and_self]
    refine ca_46 (by omega) (n_linksOf (by omega) C7 O7 (by omega) vv3' (fun M8 T8 C8 => ?_))
    rw [eL]
    have k08 := C8.1.1.1
    simp (disch := first | (simp only [dd, dr]; done) | omega) only [W_51, k08, I_lt, I_le, I_inj, inB_I, tc_I, Int.toNat_natCast, fkt, rf1, rf0, cq, Nat.reduceAdd, Nat.reduceEqDiff, Int.reduceToNat, eq_self, true_and, and_true, true_or, or_true, bI_0, bI_1, mm, rAm, mF_sF, mR_sR, false_and, and_false, if_false, if_true, false_or, or_false, not_true_eq_false, not_false_eq_true, and_self]
    refine ca_47 (by omega) (n_sizeOf (by omega) C8 O7 (by omega) vv3' (fun M9 T9 C9 => ?_))
    rw [eS]
    have k09 := C9.1.1.1
    simp (disch := first | (simp only [dd, dr]; done) | omega) only [W_51, k09, I_lt, I_le, I_inj, inB_I, tc_I, Int.toNat_natCast, fkt, rf1, rf0, cq, Nat.reduceAdd, Nat.reduceEqDiff, Int.reduceToNat, eq_self, true_and, and_true, true_or, or_true, bI_0, bI_1, mm, rAm, mF_sF, mR_sR, false_and, and_false, if_false, if_true, false_or, or_false, not_true_eq_false, not_false_eq_true, and_self]
    obtain ⟨y1, y2, y3, y4⟩ := O.1 v vv2 vv3
    rw [show ((oL X v : Nat) : Int) + 1 = ((oL X v + 1 : Nat) : Int) by omega]
    refine ca_48 (by omega) (n_change (by omega) C9 O7 (by omega) vv3' (hl v) y4 (fun Ma Aa Ca Fa => ?_))
    rw [eK] at Ca
    have k0a := Ca.1.1.1
    simp (disch := first | (simp only [dd, dr]; done) | omega) only [W_51, k0a, I_lt, I_le, I_inj, inB_I, tc_I, Int.toNat_natCast, fkt, rf1, rf0, cq, Nat.reduceAdd, Nat.reduceEqDiff, Int.reduceToNat, eq_self, true_and, and_true, true_or, or_true, bI_0, bI_1, mm, rAm, mF_sF, mR_sR, false_and, and_false, if_false, if_true, false_or, or_false, not_true_eq_false, not_false_eq_true, and_self]
    have Oa : OK1 T2' (vS (vS (vE X (ky zo 1 nn) v) zo (oK X zo) (oL X zo) (oS X zo + 1)) v (oK X v) (oL X v + 1) (oS X v)) := O7.st ⟨y1, y2⟩ (hl v) y4
    refine ca_46 (by omega) (n_linksOf (by omega) Ca Oa (by omega) vv3' (fun Mb Tb Cb' => ?_))
    rw [(vS_at _ _ _ _ _).2.1, fu_s]
    simp (disch := first | (simp only [dd, dr]; done) | omega) only [W_51, I_lt, I_le, I_inj, inB_I, tc_I, Int.toNat_natCast, fkt, rf1, rf0, cq, Nat.reduceAdd, Nat.reduceEqDiff, Int.reduceToNat, eq_self, true_and, and_true, true_or, or_true, bI_0, bI_1, mm, rAm, mF_sF, mR_sR, false_and, and_false, if_false, if_true, false_or, or_false, not_true_eq_false, not_false_eq_true, and_self]
    have Fz := (((F7.trans (T8.cb A7)).trans (T9.cb A7)).trans Fa).trans (Tb.cb Aa)
    refine hR h1 h2z h2w h3 h4 T2' hg2 S7 Mb Aa Cb' ?_ (F04.trans Fz.1)
    exact D4.cb (J := J) C4.us C4.2.2.2.2 Fz S7.2.1
  · subst hok
    simp (disch := first | (simp only [dd, dr]; done) | omega) only [W_51, I_lt, I_le, I_inj, inB_I, tc_I, Int.toNat_natCast, fkt, rf1, rf0, cq, Nat.reduceAdd, Nat.reduceEqDiff, Int.reduceToNat, eq_self, true_and, and_true, true_or, or_true, bI_0, bI_1, mm, rAm, mF_sF, mR_sR, false_and, and_false, if_false, if_true, false_or, or_false, not_true_eq_false, not_false_eq_true, and_self]
    rw [Th_in (t := 84) ka (by decide) (by decide +kernel)]
    have k07 := P7.1.1
    simp (disch := first | (simp only [dd, dr]; done) | omega) only [W_51, k07, I_lt, I_le, I_inj, inB_I, tc_I, Int.toNat_natCast, fkt, rf1, rf0, cq, Nat.reduceAdd, Nat.reduceEqDiff, Int.reduceToNat, eq_self, true_and, and_true, true_or, or_true, bI_0, bI_1, mm, rAm, mF_sF, mR_sR, false_and, and_false, if_false, if_true, false_or, or_false, not_true_eq_false, not_false_eq_true, and_self]
    refine ca_49 (by omega) (n_undo (by omega) C4 S4 P7 N7 J7 F7 (fun M8 A8 C8 D8 F8 K8 => ?_))
    simp (disch := first | (simp only [dd, dr]; done) | omega) only [W_51, I_lt, I_le, I_inj, inB_I, tc_I, Int.toNat_natCast, fkt, rf1, rf0, cq, Nat.reduceAdd, Nat.reduceEqDiff, Int.reduceToNat, eq_self, true_and, and_true, true_or, or_true, bI_0, bI_1, mm, rAm, mF_sF, mR_sR, false_and, and_false, if_false, if_true, false_or, or_false, not_true_eq_false, not_false_eq_true, and_self]
    have ka8 : kO M8 a = 14 := by
      have := K8 a (kO_lt J7.1 ka (by omega))
      unfold kO at ka ⊢
      rw [this]; exact ka
    rw [Th_out ka8 (by decide) (by decide +kernel)]
    exact hX 14 M8 A8 a ka8 (.inr (.inr (.inr (.inr ⟨h1, h2', h3, rfl, h4, T2', hg2⟩)))) C8 D8 (F04.trans F8)
/-- blocks are taken and given back for data -/
theorem fe_eq {R : Nat → List Nat} (S : Sh T R) {b : Nat} (hb : tH T b = 0) : fe T b = uU T b false ∧ tk T b = uU T b true := by
  obtain ⟨h1, h2⟩ := S.2.2.2.2.2.2.2.2.2 b hb
  have e1 : fu (tH T) b 0 = tH T := by rw [← hb]; funext x; unfold fu; split <;> simp_all
  have e2 : fu (tI T) b [] = tI T := by rw [← h2]; funext x; unfold fu; split <;> simp_all
  have e3 : fu (tC T) b [] = tC T := by rw [← h1]; funext x; unfold fu; split <;> simp_all
  refine ⟨?_, ?_⟩
  · show (fu T.1 b false, fu (tH T) b 0, fu (tI T) b [], fu (tC T) b [], T.2.2.2.2) = _
    rw [e1, e2, e3]; rfl
  · show (fu T.1 b true, fu (tH T) b 0, fu (tI T) b [], fu (tC T) b [], T.2.2.2.2) = _
    rw [e1, e2, e3]; rfl
theorem Wf.uu {sz : Nat → Nat} (W : Wf m sz T) {b : Nat} {u : Bool} (hb : tH T b = 0) (h0 : b ≠ 0) (hm : u = true → b < m) : Wf m sz (uU T b u) := by
  obtain ⟨⟨s1, s2, s3, s4, s5, s6, s7, s8, s9, s10⟩, w2, w3, w4, w5, w6⟩ := W
  refine ⟨⟨fun h x hx => ?_, s2, s3, s4, s5, s6, s7, s8, ⟨?_, s9.2⟩, s10⟩, w2, w3, w4, w5, fun x hx => ?_⟩
  · obtain ⟨a1, a2, a3⟩ := s1 h x hx
    refine ⟨a1, a2, ?_⟩
    show fu (tU T) b u x = true
    rw [fu_n]
    · exact a3
    · intro e; rw [e, hb] at a2; omega
  · show fu (tU T) b u 0 = true
    rw [fu_n _ _ (by omega)]; exact s9.1
  · have hx : fu (tU T) b u x = true := hx
    by_cases e : x = b
    · rw [e, fu_s] at hx; rw [e]; exact hm hx
    · rw [fu_n _ _ e] at hx; exact w6 x hx
theorem CX.uu (C : CX M p m J A T X) {b : Nat} {u : Bool} (hb : tH T b = 0) (h0 : b ≠ 0) (hm : u = true → b < m) : CX (sA M (p + 200) b (I (bI u))) p m J A (uU T b u) X := by
  obtain ⟨h1, h2, h3, h4, h5⟩ := C
  exact ⟨h1.of (fun _ _ => rfl) (fun _ _ _ => rfl) (fun _ _ _ => rfl) rfl rfl, h2.use u, ⟨h3.1.uu hb h0 hm, h3.2.1, h3.2.2⟩, h4, h5⟩
theorem sA_cb (p : Nat) (M : Mem) (A : Ad) (i : Nat) (v : Int32) : Cb p A A 0 M (sA M (p + 200) i v) := by
  refine ⟨⟨fun _ _ => rfl, fun a _ hn => ⟨fun _ => rfl, fun _ => rfl, fun j => ?_, fun _ => rfl, fun _ => rfl⟩, fun _ _ h => h, fun _ _ h => h, fun _ _ h => .inl h, fun _ _ h => .inl h, Nat.le_refl _, Nat.le_refl _, Nat.le_refl _⟩, fun a j h1 h2 h3 => ?_⟩
  · rw [mA_sA, if_neg (fun e => hn (.inl ⟨by omega, by omega⟩))]
  · rw [mA_sA, if_neg (fun e => by omega)]
/-- blocks of a list are given back -/
def fes : List Nat → Tr → Tr
  | [], T => T
  | b :: l, T => fes l (uU T b false)
theorem fes_app : ∀ (l l' : List Nat) (T : Tr), fes (l ++ l') T = fes l' (fes l T)
  | [], l', T => rfl
  | b :: l, l', T => by rw [List.cons_append, fes, fes, fes_app l l']
theorem fes_at : ∀ (l : List Nat) (T : Tr), tH (fes l T) = tH T ∧ tI (fes l T) = tI T ∧ tC (fes l T) = tC T ∧ tP (fes l T) = tP T ∧ tW (fes l T) = tW T ∧ tR (fes l T) = tR T ∧ tN (fes l T) = tN T ∧ ∀ b, tU (fes l T) b = (tU T b && !decide (b ∈ l))
  | [], T => ⟨rfl, rfl, rfl, rfl, rfl, rfl, rfl, fun b => by simp [fes]⟩
  | a :: l, T => by
    obtain ⟨h1, h2, h3, h4, h5, h6, h7, h8⟩ := fes_at l (uU T a false)
    refine ⟨h1, h2, h3, h4, h5, h6, h7, fun b => ?_⟩
    rw [fes, h8]
    show (fu (tU T) a false b && _) = _
    by_cases e : b = a
    · rw [e, fu_s]; simp
    · rw [fu_n _ _ e]; simp [e]
end Lnk
