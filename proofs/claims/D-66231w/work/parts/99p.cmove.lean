/-! ===== THE COMPONENT: isWithin, move ===== -/
section Mov
variable {d p m J : Nat} {M M' : Mem} {A A' : Ad} {T T' : Tr} {X X' : Ob} {Q : Outcome → Mem → Prop} {ok : Bool} {dt : Nat → Nat → Nat} {par : Nat → Nat}
def itr (par : Nat → Nat) : Nat → Nat → Nat
  | 0, d => d
  | n + 1, d => itr par n (par d)
def wth (par : Nat → Nat) (o : Nat) : Nat → Nat → Bool
  | 0, d => decide (d = o)
  | n + 1, d => if d = o then true else if d = 1 then false else wth par o n (par d)
theorem szO_vS (X : Ob) (o k l n : Nat) : szO (vS X o k l n) = szO X := by
  funext key
  unfold szO
  rw [pyO_vS]
  by_cases e : key = ky o 0 0
  · rw [e, fu_s, pyO_0]; rfl
  · rw [fu_n _ _ e]
theorem szO_vE (X : Ob) (o v : Nat) {n : Nat} (hn : n < 1024) : szO (vE X (ky o 1 n) v) = szO X := by
  funext key
  unfold szO
  rw [pyO_vE _ _ _ hn]
  by_cases e : key = ky o 1 n
  · rw [e, fu_s, pyO_1 _ _ hn]; rfl
  · rw [fu_n _ _ e]
/-- parents of directories -/
def Par (T : Tr) (X : Ob) (par : Nat → Nat) : Prop := (∀ d, oK X d = 1 → d ≠ 1 → fpL X d (its T) = par d ∧ oK X (par d) = 1) ∧ (∀ d, oK X d = 1 → d ≤ 60 ∧ ∃ n, itr par n d = 1) ∧ fpL X 1 (its T) = -1
theorem n_isWithin (hd : 4 ≤ d) (C : CX M p m J A T X) (O : OK2 T X) (Pa : Par T X par) {o : Nat} (ho : o < 256) : ∀ (n x : Nat), itr par n x = 1 → oK X x = 1 → Q (.returned (some (.int (I (bI (wth par o n x)))))) M → ∀ z, Wp d 59 2 [some (.ref p), some z, some (.int (I (o : Nat))), some (.int (I (x : Nat)))] [] M Q := by
  have k0 := C.1.1.1
  intro n
  induction n with
  | zero =>
    intro x hx hk hQ z
    have hx : x = 1 := hx
    rw [wth] at hQ
    simp (disch := first | (simp only [dd, dr]; done) | omega) only [w_59_2, W_59, I_lt, I_le, I_inj, inB_I, tc_I, Int.toNat_natCast, fkt, rf1, rf0, cq, Nat.reduceAdd, Nat.reduceEqDiff, Int.reduceToNat, eq_self, true_and, and_true, true_or, or_true, bI_0, bI_1, mm, rAm, mF_sF, mR_sR, false_and, and_false, if_false, if_true, false_or, or_false, not_true_eq_false, not_false_eq_true, and_self]
    refine ⟨fun h => ?_, fun h => ?_⟩
    · simp (disch := first | (simp only [dd, dr]; done) | omega) only [W_59, I_lt, I_le, I_inj, inB_I, tc_I, Int.toNat_natCast, fkt, rf1, rf0, cq, Nat.reduceAdd, Nat.reduceEqDiff, Int.reduceToNat, eq_self, true_and, and_true, true_or, or_true, bI_0, bI_1, mm, rAm, mF_sF, mR_sR, false_and, and_false, if_false, if_true, false_or, or_false, not_true_eq_false, not_false_eq_true, and_self]
      refine ⟨(fun h => by first | exact False.elim h | exact absurd trivial h | (exfalso; omega) | exact absurd rfl h | cases h), fun _ => ?_⟩
      rw [decide_eq_true (by omega)] at hQ
      simp (disch := first | (simp only [dd, dr]; done) | omega) only [W_59, I_lt, I_le, I_inj, inB_I, tc_I, Int.toNat_natCast, fkt, rf1, rf0, cq, Nat.reduceAdd, Nat.reduceEqDiff, Int.reduceToNat, eq_self, true_and, and_true, true_or, or_true, bI_0, bI_1, mm, rAm, mF_sF, mR_sR, false_and, and_false, if_false, if_true, false_or, or_false, not_true_eq_false, not_false_eq_true, and_self]
      exact hQ
    · simp (disch := first | (simp only [dd, dr]; done) | omega) only [W_59, I_lt, I_le, I_inj, inB_I, tc_I, Int.toNat_natCast, fkt, rf1, rf0, cq, Nat.reduceAdd, Nat.reduceEqDiff, Int.reduceToNat, eq_self, true_and, and_true, true_or, or_true, bI_0, bI_1, mm, rAm, mF_sF, mR_sR, false_and, and_false, if_false, if_true, false_or, or_false, not_true_eq_false, not_false_eq_true, and_self]
      refine ⟨fun _ => ?_, (fun h => by first | exact False.elim h | exact absurd trivial h | (exfalso; omega) | exact absurd rfl h | cases h)⟩
      simp (disch := first | (simp only [dd, dr]; done) | omega) only [W_59, I_lt, I_le, I_inj, inB_I, tc_I, Int.toNat_natCast, fkt, rf1, rf0, cq, Nat.reduceAdd, Nat.reduceEqDiff, Int.reduceToNat, eq_self, true_and, and_true, true_or, or_true, bI_0, bI_1, mm, rAm, mF_sF, mR_sR, false_and, and_false, if_false, if_true, false_or, or_false, not_true_eq_false, not_false_eq_true, and_self]
      refine ⟨fun _ => ?_, (fun h => by first | exact False.elim h | exact absurd trivial h | (exfalso; omega) | exact absurd rfl h | cases h)⟩
      rw [decide_eq_false (by omega)] at hQ
      simp (disch := first | (simp only [dd, dr]; done) | omega) only [W_59, I_lt, I_le, I_inj, inB_I, tc_I, Int.toNat_natCast, fkt, rf1, rf0, cq, Nat.reduceAdd, Nat.reduceEqDiff, Int.reduceToNat, eq_self, true_and, and_true, true_or, or_true, bI_0, bI_1, mm, rAm, mF_sF, mR_sR, false_and, and_false, if_false, if_true, false_or, or_false, not_true_eq_false, not_false_eq_true, and_self]
      exact hQ
  | succ n ih =>
    intro x hx hk hQ z
    have hx60 := (Pa.2.1 x hk).1
    rw [wth] at hQ
    simp (disch := first | (simp only [dd, dr]; done) | omega) only [w_59_2, W_59, I_lt, I_le, I_inj, inB_I, tc_I, Int.toNat_natCast, fkt, rf1, rf0, cq, Nat.reduceAdd, Nat.reduceEqDiff, Int.reduceToNat, eq_self, true_and, and_true, true_or, or_true, bI_0, bI_1, mm, rAm, mF_sF, mR_sR, false_and, and_false, if_false, if_true, false_or, or_false, not_true_eq_false, not_false_eq_true, and_self]
    refine ⟨fun h => ?_, fun h => ?_⟩
    · simp (disch := first | (simp only [dd, dr]; done) | omega) only [W_59, I_lt, I_le, I_inj, inB_I, tc_I, Int.toNat_natCast, fkt, rf1, rf0, cq, Nat.reduceAdd, Nat.reduceEqDiff, Int.reduceToNat, eq_self, true_and, and_true, true_or, or_true, bI_0, bI_1, mm, rAm, mF_sF, mR_sR, false_and, and_false, if_false, if_true, false_or, or_false, not_true_eq_false, not_false_eq_true, and_self]
      refine ⟨(fun h => by first | exact False.elim h | exact absurd trivial h | (exfalso; omega) | exact absurd rfl h | cases h), fun _ => ?_⟩
      rw [if_pos (by omega)] at hQ
      simp (disch := first | (simp only [dd, dr]; done) | omega) only [W_59, I_lt, I_le, I_inj, inB_I, tc_I, Int.toNat_natCast, fkt, rf1, rf0, cq, Nat.reduceAdd, Nat.reduceEqDiff, Int.reduceToNat, eq_self, true_and, and_true, true_or, or_true, bI_0, bI_1, mm, rAm, mF_sF, mR_sR, false_and, and_false, if_false, if_true, false_or, or_false, not_true_eq_false, not_false_eq_true, and_self]
      exact hQ
    · rw [if_neg (by omega)] at hQ
      simp (disch := first | (simp only [dd, dr]; done) | omega) only [W_59, I_lt, I_le, I_inj, inB_I, tc_I, Int.toNat_natCast, fkt, rf1, rf0, cq, Nat.reduceAdd, Nat.reduceEqDiff, Int.reduceToNat, eq_self, true_and, and_true, true_or, or_true, bI_0, bI_1, mm, rAm, mF_sF, mR_sR, false_and, and_false, if_false, if_true, false_or, or_false, not_true_eq_false, not_false_eq_true, and_self]
      refine ⟨fun h' => ?_, fun h' => ?_⟩
      · rw [if_pos (by omega)] at hQ
        simp (disch := first | (simp only [dd, dr]; done) | omega) only [W_59, I_lt, I_le, I_inj, inB_I, tc_I, Int.toNat_natCast, fkt, rf1, rf0, cq, Nat.reduceAdd, Nat.reduceEqDiff, Int.reduceToNat, eq_self, true_and, and_true, true_or, or_true, bI_0, bI_1, mm, rAm, mF_sF, mR_sR, false_and, and_false, if_false, if_true, false_or, or_false, not_true_eq_false, not_false_eq_true, and_self]
        refine ⟨fun _ => ?_, (fun h => by first | exact False.elim h | exact absurd trivial h | (exfalso; omega) | exact absurd rfl h | cases h)⟩
        simp (disch := first | (simp only [dd, dr]; done) | omega) only [W_59, I_lt, I_le, I_inj, inB_I, tc_I, Int.toNat_natCast, fkt, rf1, rf0, cq, Nat.reduceAdd, Nat.reduceEqDiff, Int.reduceToNat, eq_self, true_and, and_true, true_or, or_true, bI_0, bI_1, mm, rAm, mF_sF, mR_sR, false_and, and_false, if_false, if_true, false_or, or_false, not_true_eq_false, not_false_eq_true, and_self]
        exact hQ
      · rw [if_neg (by omega)] at hQ
        obtain ⟨p1, p2⟩ := Pa.1 x hk (by omega)
        simp (disch := first | (simp only [dd, dr]; done) | omega) only [W_59, k0, I_lt, I_le, I_inj, inB_I, tc_I, Int.toNat_natCast, fkt, rf1, rf0, cq, Nat.reduceAdd, Nat.reduceEqDiff, Int.reduceToNat, eq_self, true_and, and_true, true_or, or_true, bI_0, bI_1, mm, rAm, mF_sF, mR_sR, false_and, and_false, if_false, if_true, false_or, or_false, not_true_eq_false, not_false_eq_true, and_self]
        refine ca_60 (by omega) (n_parentOf (by omega) C O (by omega) ?_)
        rw [p1]
        simp (disch := first | (simp only [dd, dr]; done) | omega) only [W_59, I_lt, I_le, I_inj, inB_I, tc_I, Int.toNat_natCast, fkt, rf1, rf0, cq, Nat.reduceAdd, Nat.reduceEqDiff, Int.reduceToNat, eq_self, true_and, and_true, true_or, or_true, bI_0, bI_1, mm, rAm, mF_sF, mR_sR, false_and, and_false, if_false, if_true, false_or, or_false, not_true_eq_false, not_false_eq_true, and_self]
        exact ih (par x) hx p2 hQ z
/-- an entry goes elsewhere -/
def lvX (X : Ob) (o : Nat) : Ob := vS X o (oK X o) (oL X o) (oS X o - 1)
def enX (X : Ob) (o n v : Nat) : Ob := vS (vE X (ky o 1 n) v) o (oK X o) (oL X o) (oS X o + 1)
set_option maxHeartbeats 8000000 in
theorem c_move (hd : 60 ≤ d) (C : CX M p m J A T X) (D : DR M p T dt) (O : OK2 T X) (Pa : Par T X par) {off : Bool} (hoff : mF M 25 (p + 205) = I (bI off)) {z n w a : Int} (z0 : -2147483648 ≤ z) (z1 : z < 2147483648) (n0 : -2147483648 ≤ n) (n1 : n < 2147483648) (w0 : -2147483648 ≤ w) (w1 : w < 2147483648) (a0 : -2147483648 ≤ a) (a1 : a < 2147483648) (hs : ∀ o, oS X o + 1 < 65536)
    (hE : ∀ o nn, nn < 1000 → ky o 1 nn ∈ its T → 2 ≤ oE X (ky o 1 nn) ∧ oE X (ky o 1 nn) ≤ 60 ∧ ky (oE X (ky o 1 nn)) 0 0 ∈ its T ∧ 1 ≤ oS X o)
    (hX : Thr p m J A T X dt M Q (fun k => (k = 11 ∧ off = true) ∨ (off = false ∧ k = 12 ∧ ¬ ((isk T X z 0 = true ∧ isk T X w 0 = true) ∧ tol T X z.toNat n ≠ -1)) ∨ (off = false ∧ ((isk T X z 0 = true ∧ isk T X w 0 = true) ∧ tol T X z.toNat n ≠ -1) ∧ k = 13 ∧ ¬ (0 ≤ a ∧ a < 1000)) ∨
        (off = false ∧ ((isk T X z 0 = true ∧ isk T X w 0 = true) ∧ tol T X z.toNat n ≠ -1) ∧ (0 ≤ a ∧ a < 1000) ∧ k = 14 ∧ ¬ (tol T X w.toNat a = -1 ∧ (oK X (tol T X z.toNat n).toNat = 2 ∨ ∀ nw, itr par nw w.toNat = 1 → wth par (tol T X z.toNat n).toNat nw w.toNat = false))) ∨
        (off = false ∧ ((isk T X z 0 = true ∧ isk T X w 0 = true) ∧ tol T X z.toNat n ≠ -1) ∧ (0 ≤ a ∧ a < 1000) ∧ k = 14 ∧ (tol T X w.toNat a = -1 ∧ (oK X (tol T X z.toNat n).toNat = 2 ∨ ∀ nw, itr par nw w.toNat = 1 → wth par (tol T X z.toNat n).toNat nw w.toNat = false)) ∧ ∃ T2, stT m (szO X) (dlT m (szO X) T (ky z.toNat 1 n.toNat)) (ky w.toNat 1 a.toNat) 3 = some (false, T2))))
    (hR : off = false → isk T X z 0 = true → isk T X w 0 = true → (0 ≤ n ∧ n < 1000 ∧ ky z.toNat 1 n.toNat ∈ its T) → (0 ≤ a ∧ a < 1000) → ∀ v, v = oE X (ky z.toNat 1 n.toNat) → tol T X w.toNat a = -1 → (oK X v = 2 ∨ ∀ nw, itr par nw w.toNat = 1 → wth par v nw w.toNat = false) → ∀ T1 T2, T1 = dlT m (szO X) T (ky z.toNat 1 n.toNat) → stT m (szO X) T1 (ky w.toNat 1 a.toNat) 3 = some (true, T2) → StF T T1 (ky z.toNat 1 n.toNat) 0 → StF T1 T2 (ky w.toNat 1 a.toNat) 3 → ∀ M' A', CX M' p m J A' T2 (enX (lvX X z.toNat) w.toNat a.toNat v) → DR M' p T2 dt → CF p A A' 0 M M' → Q (.returned (some (.int (I (v : Nat))))) M') :
    Wp d 58 0 [some (.ref p), some (.int (I z)), some (.int (I n)), some (.int (I w)), some (.int (I a)), none, none] [] M Q := by
  have k0 := C.1.1.1
  have hm := C.1.2.2.2.2.2.2.2.2.2.2.2.1
  simp (disch := first | (simp only [dd, dr]; done) | omega) only [W_58, k0, I_lt, I_le, I_inj, inB_I, tc_I, Int.toNat_natCast, fkt, rf1, rf0, cq, Nat.reduceAdd, Nat.reduceEqDiff, Int.reduceToNat, eq_self, true_and, and_true, true_or, or_true, bI_0, bI_1, mm, rAm, mF_sF, mR_sR, false_and, and_false, if_false, if_true, false_or, or_false, not_true_eq_false, not_false_eq_true, and_self]
  refine ca_30 (by omega) (c_on C.1 hoff (fun h1 => ?_) (fun h1 => ?_))
  rotate_left
  · simp (disch := first | (simp only [dd, dr]; done) | omega) only [W_58, I_lt, I_le, I_inj, inB_I, tc_I, Int.toNat_natCast, fkt, rf1, rf0, cq, Nat.reduceAdd, Nat.reduceEqDiff, Int.reduceToNat, eq_self, true_and, and_true, true_or, or_true, bI_0, bI_1, mm, rAm, mF_sF, mR_sR, false_and, and_false, if_false, if_true, false_or, or_false, not_true_eq_false, not_false_eq_true, and_self]
    rw [Th_out (nw_kO M 11 6) (by decide) (by decide +kernel)]
    exact hX.sc D C (Sc.refl _ _) (.inl ⟨rfl, h1⟩)
  simp (disch := first | (simp only [dd, dr]; done) | omega) only [W_58, k0, I_lt, I_le, I_inj, inB_I, tc_I, Int.toNat_natCast, fkt, rf1, rf0, cq, Nat.reduceAdd, Nat.reduceEqDiff, Int.reduceToNat, eq_self, true_and, and_true, true_or, or_true, bI_0, bI_1, mm, rAm, mF_sF, mR_sR, false_and, and_false, if_false, if_true, false_or, or_false, not_true_eq_false, not_false_eq_true, and_self]
  suffices go : ∀ (M2 : Mem) (b : Bool), Tw (p + 201) M M2 → CX M2 p m J A T X → (b = true ↔ (isk T X z 0 = true ∧ isk T X w 0 = true)) → Ca d 58 25 [some (.ref p), some (.int (I z)), some (.int (I n)), some (.int (I w)), some (.int (I a)), none, none] 37 [.int (I (bI b))] [] M2 Q by
    refine ca_31 (by omega) (n_isDirectory (by omega) C O.1 z0 z1 (fun M1 T1 C1 => ?_))
    have k01 := C1.1.1.1
    simp (disch := first | (simp only [dd, dr]; done) | omega) only [W_58, I_lt, I_le, I_inj, inB_I, tc_I, Int.toNat_natCast, fkt, rf1, rf0, cq, Nat.reduceAdd, Nat.reduceEqDiff, Int.reduceToNat, eq_self, true_and, and_true, true_or, or_true, bI_0, bI_1, mm, rAm, mF_sF, mR_sR, false_and, and_false, if_false, if_true, false_or, or_false, not_true_eq_false, not_false_eq_true, and_self]
    refine ⟨fun h => ?_, fun h => ?_⟩
    · simp (disch := first | (simp only [dd, dr]; done) | omega) only [W_58, I_lt, I_le, I_inj, inB_I, tc_I, Int.toNat_natCast, fkt, rf1, rf0, cq, Nat.reduceAdd, Nat.reduceEqDiff, Int.reduceToNat, eq_self, true_and, and_true, true_or, or_true, bI_0, bI_1, mm, rAm, mF_sF, mR_sR, false_and, and_false, if_false, if_true, false_or, or_false, not_true_eq_false, not_false_eq_true, and_self]
      exact go M1 false T1 C1 (by simp [h])
    · have h : isk T X z 0 = true := by simpa using h
      simp (disch := first | (simp only [dd, dr]; done) | omega) only [W_58, k01, I_lt, I_le, I_inj, inB_I, tc_I, Int.toNat_natCast, fkt, rf1, rf0, cq, Nat.reduceAdd, Nat.reduceEqDiff, Int.reduceToNat, eq_self, true_and, and_true, true_or, or_true, bI_0, bI_1, mm, rAm, mF_sF, mR_sR, false_and, and_false, if_false, if_true, false_or, or_false, not_true_eq_false, not_false_eq_true, and_self]
      refine ca_31 (by omega) (n_isDirectory (by omega) C1 O.1 w0 w1 (fun M2 T2 C2 => ?_))
      simp (disch := first | (simp only [dd, dr]; done) | omega) only [W_58, I_lt, I_le, I_inj, inB_I, tc_I, Int.toNat_natCast, fkt, rf1, rf0, cq, Nat.reduceAdd, Nat.reduceEqDiff, Int.reduceToNat, eq_self, true_and, and_true, true_or, or_true, bI_0, bI_1, mm, rAm, mF_sF, mR_sR, false_and, and_false, if_false, if_true, false_or, or_false, not_true_eq_false, not_false_eq_true, and_self]
      refine ⟨fun h' => ?_, fun h' => ?_⟩
      · simp (disch := first | (simp only [dd, dr]; done) | omega) only [W_58, I_lt, I_le, I_inj, inB_I, tc_I, Int.toNat_natCast, fkt, rf1, rf0, cq, Nat.reduceAdd, Nat.reduceEqDiff, Int.reduceToNat, eq_self, true_and, and_true, true_or, or_true, bI_0, bI_1, mm, rAm, mF_sF, mR_sR, false_and, and_false, if_false, if_true, false_or, or_false, not_true_eq_false, not_false_eq_true, and_self]
        exact go M2 false (T1.trans T2) C2 (by simp [h'])
      · have h' : isk T X w 0 = true := by simpa using h'
        simp (disch := first | (simp only [dd, dr]; done) | omega) only [W_58, I_lt, I_le, I_inj, inB_I, tc_I, Int.toNat_natCast, fkt, rf1, rf0, cq, Nat.reduceAdd, Nat.reduceEqDiff, Int.reduceToNat, eq_self, true_and, and_true, true_or, or_true, bI_0, bI_1, mm, rAm, mF_sF, mR_sR, false_and, and_false, if_false, if_true, false_or, or_false, not_true_eq_false, not_false_eq_true, and_self]
        exact go M2 true (T1.trans T2) C2 (by simp [h, h'])
  intro M2 b T2 C2 hb
  refine ca_37 (by omega) (c_there (fun h2 => ?_) (fun h2 => ?_))
  rotate_left
  · simp (disch := first | (simp only [dd, dr]; done) | omega) only [W_58, I_lt, I_le, I_inj, inB_I, tc_I, Int.toNat_natCast, fkt, rf1, rf0, cq, Nat.reduceAdd, Nat.reduceEqDiff, Int.reduceToNat, eq_self, true_and, and_true, true_or, or_true, bI_0, bI_1, mm, rAm, mF_sF, mR_sR, false_and, and_false, if_false, if_true, false_or, or_false, not_true_eq_false, not_false_eq_true, and_self]
    rw [Th_out (nw_kO M2 12 6) (by decide) (by decide +kernel)]
    exact hX.sc D C2 T2.sc (.inr (.inl ⟨h1, rfl, fun h => by rw [hb.mpr h.1] at h2; cases h2⟩))
  have h2' := hb.mp h2
  have h2z := h2'.1
  have h2w := h2'.2
  obtain ⟨zo, rfl, zz1, zz2, zz3, zz4⟩ := isk_of h2z
  obtain ⟨wo, rfl, ww1, ww2, ww3, ww4⟩ := isk_of h2w
  simp only [Int.toNat_natCast] at *
  have k02 := C2.1.1.1
  simp (disch := first | (simp only [dd, dr]; done) | omega) only [W_58, k02, I_lt, I_le, I_inj, inB_I, tc_I, Int.toNat_natCast, fkt, rf1, rf0, cq, Nat.reduceAdd, Nat.reduceEqDiff, Int.reduceToNat, eq_self, true_and, and_true, true_or, or_true, bI_0, bI_1, mm, rAm, mF_sF, mR_sR, false_and, and_false, if_false, if_true, false_or, or_false, not_true_eq_false, not_false_eq_true, and_self]
  refine ca_41 (by omega) (n_told (by omega) C2 (by omega) n0 n1 O.2 (fun M3 T3 C3 => ?_))
  have k03 := C3.1.1.1
  have F3 := T2.trans T3
  have ht := tol_rng O zo n
  suffices go : ∀ (b : Bool), (b = true ↔ tol T X zo n ≠ -1) → Ca d 58 47 [some (.ref p), some (.int (I (zo : Nat))), some (.int (I n)), some (.int (I (wo : Nat))), some (.int (I a)), some (.int (I (tol T X zo n))), none] 37 [.int (I (bI b))] [] M3 Q by
    simp (disch := first | (simp only [dd, dr]; done) | omega) only [W_58, I_lt, I_le, I_inj, inB_I, tc_I, Int.toNat_natCast, fkt, rf1, rf0, cq, Nat.reduceAdd, Nat.reduceEqDiff, Int.reduceToNat, eq_self, true_and, and_true, true_or, or_true, bI_0, bI_1, mm, rAm, mF_sF, mR_sR, false_and, and_false, if_false, if_true, false_or, or_false, not_true_eq_false, not_false_eq_true, and_self]
    refine ⟨fun h => ?_, fun h => ?_⟩
    · simp (disch := first | (simp only [dd, dr]; done) | omega) only [W_58, I_lt, I_le, I_inj, inB_I, tc_I, Int.toNat_natCast, fkt, rf1, rf0, cq, Nat.reduceAdd, Nat.reduceEqDiff, Int.reduceToNat, eq_self, true_and, and_true, true_or, or_true, bI_0, bI_1, mm, rAm, mF_sF, mR_sR, false_and, and_false, if_false, if_true, false_or, or_false, not_true_eq_false, not_false_eq_true, and_self]
      exact go false (by simp; omega)
    · simp (disch := first | (simp only [dd, dr]; done) | omega) only [W_58, I_lt, I_le, I_inj, inB_I, tc_I, Int.toNat_natCast, fkt, rf1, rf0, cq, Nat.reduceAdd, Nat.reduceEqDiff, Int.reduceToNat, eq_self, true_and, and_true, true_or, or_true, bI_0, bI_1, mm, rAm, mF_sF, mR_sR, false_and, and_false, if_false, if_true, false_or, or_false, not_true_eq_false, not_false_eq_true, and_self]
      exact go true (by simp; omega)
  intro b hb
  refine ca_37 (by omega) (c_there (fun h3 => ?_) (fun h3 => ?_))
  rotate_left
  · simp (disch := first | (simp only [dd, dr]; done) | omega) only [W_58, I_lt, I_le, I_inj, inB_I, tc_I, Int.toNat_natCast, fkt, rf1, rf0, cq, Nat.reduceAdd, Nat.reduceEqDiff, Int.reduceToNat, eq_self, true_and, and_true, true_or, or_true, bI_0, bI_1, mm, rAm, mF_sF, mR_sR, false_and, and_false, if_false, if_true, false_or, or_false, not_true_eq_false, not_false_eq_true, and_self]
    rw [Th_out (nw_kO M3 12 6) (by decide) (by decide +kernel)]
    exact hX.sc D C3 F3.sc (.inr (.inl ⟨h1, rfl, fun h => by rw [hb.mpr h.2] at h3; cases h3⟩))
  have h3 := hb.mp h3
  simp (disch := first | (simp only [dd, dr]; done) | omega) only [W_58, I_lt, I_le, I_inj, inB_I, tc_I, Int.toNat_natCast, fkt, rf1, rf0, cq, Nat.reduceAdd, Nat.reduceEqDiff, Int.reduceToNat, eq_self, true_and, and_true, true_or, or_true, bI_0, bI_1, mm, rAm, mF_sF, mR_sR, false_and, and_false, if_false, if_true, false_or, or_false, not_true_eq_false, not_false_eq_true, and_self]
  refine ca_38 (by omega) (c_isName a0 a1 ?_)
  simp (disch := first | (simp only [dd, dr]; done) | omega) only [W_58, I_lt, I_le, I_inj, inB_I, tc_I, Int.toNat_natCast, fkt, rf1, rf0, cq, Nat.reduceAdd, Nat.reduceEqDiff, Int.reduceToNat, eq_self, true_and, and_true, true_or, or_true, bI_0, bI_1, mm, rAm, mF_sF, mR_sR, false_and, and_false, if_false, if_true, false_or, or_false, not_true_eq_false, not_false_eq_true, and_self]
  refine ca_39 (by omega) (c_proper (fun h4 => ?_) (fun h4 => ?_))
  rotate_left
  · simp (disch := first | (simp only [dd, dr]; done) | omega) only [W_58, I_lt, I_le, I_inj, inB_I, tc_I, Int.toNat_natCast, fkt, rf1, rf0, cq, Nat.reduceAdd, Nat.reduceEqDiff, Int.reduceToNat, eq_self, true_and, and_true, true_or, or_true, bI_0, bI_1, mm, rAm, mF_sF, mR_sR, false_and, and_false, if_false, if_true, false_or, or_false, not_true_eq_false, not_false_eq_true, and_self]
    rw [Th_out (nw_kO M3 13 6) (by decide) (by decide +kernel)]
    exact hX.sc D C3 F3.sc (.inr (.inr (.inl ⟨h1, ⟨h2', h3⟩, rfl, of_decide_eq_false h4⟩)))
  have h4 := of_decide_eq_true h4
  have hin : 0 ≤ n ∧ n < 1000 ∧ ky zo 1 n.toNat ∈ its T := by
    apply Classical.byContradiction
    intro hc
    apply h3
    unfold tol
    rw [if_neg hc]
  have hnn : n < 1000 := hin.2.1
  obtain ⟨nn, rfl⟩ : ∃ nn : Nat, n = nn := ⟨n.toNat, by omega⟩
  obtain ⟨aa, rfl⟩ : ∃ aa : Nat, a = aa := ⟨a.toNat, by omega⟩
  have hin2 : ky zo 1 nn ∈ its T := hin.2.2
  have etol : tol T X zo nn = ((oE X (ky zo 1 nn) : Nat) : Int) := by unfold tol; rw [if_pos hin]; rfl
  obtain ⟨v1, v2, v3, v5⟩ := hE zo nn (by omega) hin2
  generalize hv : oE X (ky zo 1 nn) = v at *
  obtain ⟨y1, y2, y3, y4⟩ := O.1 v v2 v3
  obtain ⟨x1, x2, x3, x4⟩ := O.1 zo zz2 zz3
  rw [etol]
  rw [etol] at hX h3
  simp only [Int.toNat_natCast] at hX hR
  have hisk : isk T X (v : Int) 1 = decide (oK X v = 2) := by
    unfold isk
    rw [show iso T (v : Int) = true from decide_eq_true ⟨by omega, by omega, v3⟩, Bool.true_and]
    rfl
  obtain ⟨nw0, hnw0⟩ := (Pa.2.1 wo ww4).2
  have wth_all : ∀ (o n n' x : Nat), itr par n x = 1 → itr par n' x = 1 → par 1 = par 1 → True := fun _ _ _ _ _ _ _ => trivial
  simp (disch := first | (simp only [dd, dr]; done) | omega) only [W_58, k03, I_lt, I_le, I_inj, inB_I, tc_I, Int.toNat_natCast, fkt, rf1, rf0, cq, Nat.reduceAdd, Nat.reduceEqDiff, Int.reduceToNat, eq_self, true_and, and_true, true_or, or_true, bI_0, bI_1, mm, rAm, mF_sF, mR_sR, false_and, and_false, if_false, if_true, false_or, or_false, not_true_eq_false, not_false_eq_true, and_self]
  refine ca_41 (by omega) (n_told (by omega) C3 (by omega) a0 a1 O.2 (fun M4 T4 C4 => ?_))
  have k04 := C4.1.1.1
  have F4 := F3.trans T4
  have ht2 := tol_rng O wo aa
  have wun : ∀ (n n' x : Nat), itr par n x = 1 → itr par n' x = 1 → oK X x = 1 → wth par v n x = wth par v n' x := by
    intro n
    induction n with
    | zero =>
      intro n' x h1 h2 h3
      have h1 : x = 1 := h1
      cases n' with
      | zero => rfl
      | succ n' =>
        rw [wth, wth]
        by_cases e : x = v
        · rw [if_pos e, decide_eq_true e]
        · rw [if_neg e, if_pos h1, decide_eq_false e]
    | succ n ih =>
      intro n' x h1 h2 h3
      cases n' with
      | zero =>
        have h2 : x = 1 := h2
        rw [wth, wth]
        by_cases e : x = v
        · rw [if_pos e, decide_eq_true e]
        · rw [if_neg e, if_pos h2, decide_eq_false e]
      | succ n' =>
        rw [wth, wth]
        by_cases e : x = v
        · rw [if_pos e, if_pos e]
        · rw [if_neg e, if_neg e]
          by_cases e1 : x = 1
          · rw [if_pos e1, if_pos e1]
          · rw [if_neg e1, if_neg e1]
            exact ih n' (par x) h1 h2 (Pa.1 x h3 e1).2
  suffices go : ∀ (M5 : Mem) (b : Bool), Tw (p + 201) M M5 → CX M5 p m J A T X → (b = true ↔ (tol T X wo aa = -1 ∧ (oK X v = 2 ∨ ∀ nw, itr par nw wo = 1 → wth par v nw wo = false))) → Ca d 58 93 [some (.ref p), some (.int (I (zo : Nat))), some (.int (I (nn : Nat))), some (.int (I (wo : Nat))), some (.int (I (aa : Nat))), some (.int (I (v : Nat))), none] 42 [.int (I (bI b))] [] M5 Q by
    simp (disch := first | (simp only [dd, dr]; done) | omega) only [W_58, I_lt, I_le, I_inj, inB_I, tc_I, Int.toNat_natCast, fkt, rf1, rf0, cq, Nat.reduceAdd, Nat.reduceEqDiff, Int.reduceToNat, eq_self, true_and, and_true, true_or, or_true, bI_0, bI_1, mm, rAm, mF_sF, mR_sR, false_and, and_false, if_false, if_true, false_or, or_false, not_true_eq_false, not_false_eq_true, and_self]
    refine ⟨fun h => ?_, fun h => ?_⟩
    · simp (disch := first | (simp only [dd, dr]; done) | omega) only [W_58, I_lt, I_le, I_inj, inB_I, tc_I, Int.toNat_natCast, fkt, rf1, rf0, cq, Nat.reduceAdd, Nat.reduceEqDiff, Int.reduceToNat, eq_self, true_and, and_true, true_or, or_true, bI_0, bI_1, mm, rAm, mF_sF, mR_sR, false_and, and_false, if_false, if_true, false_or, or_false, not_true_eq_false, not_false_eq_true, and_self]
      exact go M4 false F4 C4 (by simp; omega)
    · have h : tol T X wo aa = -1 := by omega
      simp (disch := first | (simp only [dd, dr]; done) | omega) only [W_58, k04, I_lt, I_le, I_inj, inB_I, tc_I, Int.toNat_natCast, fkt, rf1, rf0, cq, Nat.reduceAdd, Nat.reduceEqDiff, Int.reduceToNat, eq_self, true_and, and_true, true_or, or_true, bI_0, bI_1, mm, rAm, mF_sF, mR_sR, false_and, and_false, if_false, if_true, false_or, or_false, not_true_eq_false, not_false_eq_true, and_self]
      refine ca_52 (by omega) (n_isFile (by omega) C4 O.1 (by omega) (by omega) (fun M5 T5 C5 => ?_))
      rw [hisk]
      have k05 := C5.1.1.1
      simp (disch := first | (simp only [dd, dr]; done) | omega) only [W_58, I_lt, I_le, I_inj, inB_I, tc_I, Int.toNat_natCast, fkt, rf1, rf0, cq, Nat.reduceAdd, Nat.reduceEqDiff, Int.reduceToNat, eq_self, true_and, and_true, true_or, or_true, bI_0, bI_1, mm, rAm, mF_sF, mR_sR, false_and, and_false, if_false, if_true, false_or, or_false, not_true_eq_false, not_false_eq_true, and_self]
      refine ⟨fun h' => ?_, fun h' => ?_⟩
      · have h' : oK X v = 2 := by simpa using h'
        simp (disch := first | (simp only [dd, dr]; done) | omega) only [W_58, I_lt, I_le, I_inj, inB_I, tc_I, Int.toNat_natCast, fkt, rf1, rf0, cq, Nat.reduceAdd, Nat.reduceEqDiff, Int.reduceToNat, eq_self, true_and, and_true, true_or, or_true, bI_0, bI_1, mm, rAm, mF_sF, mR_sR, false_and, and_false, if_false, if_true, false_or, or_false, not_true_eq_false, not_false_eq_true, and_self]
        exact go M5 true (F4.trans T5) C5 (by simp [h, h'])
      · have h' : ¬ oK X v = 2 := by simpa using h'
        simp (disch := first | (simp only [dd, dr]; done) | omega) only [W_58, k05, I_lt, I_le, I_inj, inB_I, tc_I, Int.toNat_natCast, fkt, rf1, rf0, cq, Nat.reduceAdd, Nat.reduceEqDiff, Int.reduceToNat, eq_self, true_and, and_true, true_or, or_true, bI_0, bI_1, mm, rAm, mF_sF, mR_sR, false_and, and_false, if_false, if_true, false_or, or_false, not_true_eq_false, not_false_eq_true, and_self]
        refine ca_59 (by omega) ?_
        simp (disch := first | (simp only [dd, dr]; done) | omega) only [W_59, I_lt, I_le, I_inj, inB_I, tc_I, Int.toNat_natCast, fkt, rf1, rf0, cq, Nat.reduceAdd, Nat.reduceEqDiff, Int.reduceToNat, eq_self, true_and, and_true, true_or, or_true, bI_0, bI_1, mm, rAm, mF_sF, mR_sR, false_and, and_false, if_false, if_true, false_or, or_false, not_true_eq_false, not_false_eq_true, and_self]
        refine n_isWithin (par := par) (by omega) C5 O Pa (by omega) nw0 wo hnw0 ww4 ?_ _
        simp (disch := first | (simp only [dd, dr]; done) | omega) only [W_58, I_lt, I_le, I_inj, inB_I, tc_I, Int.toNat_natCast, fkt, rf1, rf0, cq, Nat.reduceAdd, Nat.reduceEqDiff, Int.reduceToNat, eq_self, true_and, and_true, true_or, or_true, bI_0, bI_1, mm, rAm, mF_sF, mR_sR, false_and, and_false, if_false, if_true, false_or, or_false, not_true_eq_false, not_false_eq_true, and_self]
        refine ⟨fun h6 => ?_, fun h6 => ?_⟩
        · simp (disch := first | (simp only [dd, dr]; done) | omega) only [W_58, I_lt, I_le, I_inj, inB_I, tc_I, Int.toNat_natCast, fkt, rf1, rf0, cq, Nat.reduceAdd, Nat.reduceEqDiff, Int.reduceToNat, eq_self, true_and, and_true, true_or, or_true, bI_0, bI_1, mm, rAm, mF_sF, mR_sR, false_and, and_false, if_false, if_true, false_or, or_false, not_true_eq_false, not_false_eq_true, and_self]
          refine go M5 false (F4.trans T5) C5 ?_
          have h6 : wth par v nw0 wo = true := by simpa using h6
          simp only [Bool.false_eq_true, false_iff]
          rintro ⟨_, h7 | h7⟩
          · exact h' h7
          · rw [h7 nw0 hnw0] at h6; cases h6
        · simp (disch := first | (simp only [dd, dr]; done) | omega) only [W_58, I_lt, I_le, I_inj, inB_I, tc_I, Int.toNat_natCast, fkt, rf1, rf0, cq, Nat.reduceAdd, Nat.reduceEqDiff, Int.reduceToNat, eq_self, true_and, and_true, true_or, or_true, bI_0, bI_1, mm, rAm, mF_sF, mR_sR, false_and, and_false, if_false, if_true, false_or, or_false, not_true_eq_false, not_false_eq_true, and_self]
          refine go M5 true (F4.trans T5) C5 ?_
          have h6 : wth par v nw0 wo = false := by simpa using h6
          simp only [true_iff]
          exact ⟨h, .inr (fun n' hn' => by rw [← wun nw0 n' wo hnw0 hn' ww4]; exact h6)⟩
  intro M5 b F5 C5 hb
  have k05 := C5.1.1.1
  refine ca_42 (by omega) (c_can (fun h5 => ?_) (fun h5 => ?_))
  rotate_left
  · simp (disch := first | (simp only [dd, dr]; done) | omega) only [W_58, I_lt, I_le, I_inj, inB_I, tc_I, Int.toNat_natCast, fkt, rf1, rf0, cq, Nat.reduceAdd, Nat.reduceEqDiff, Int.reduceToNat, eq_self, true_and, and_true, true_or, or_true, bI_0, bI_1, mm, rAm, mF_sF, mR_sR, false_and, and_false, if_false, if_true, false_or, or_false, not_true_eq_false, not_false_eq_true, and_self]
    rw [Th_out (nw_kO M5 14 6) (by decide) (by decide +kernel)]
    exact hX.sc D C5 F5.sc (.inr (.inr (.inr (.inl ⟨h1, ⟨h2', h3⟩, h4, rfl, fun h => by rw [hb.mpr h] at h5; cases h5⟩))))
  have h5 := hb.mp h5
  simp (disch := first | (simp only [dd, dr]; done) | omega) only [W_58, k05, I_lt, I_le, I_inj, inB_I, tc_I, Int.toNat_natCast, fkt, rf1, rf0, cq, Nat.reduceAdd, Nat.reduceEqDiff, Int.reduceToNat, eq_self, true_and, and_true, true_or, or_true, bI_0, bI_1, mm, rAm, mF_sF, mR_sR, false_and, and_false, if_false, if_true, false_or, or_false, not_true_eq_false, not_false_eq_true, and_self]
  refine ca_43 (by omega) (n_keep1 (by omega) C5 (D.sc C.us F5.sc) (fun M6 C6 D6 S6 F6 o6 => ?_))
  have k06 := C6.1.1.1
  have F06 : CF p A A 0 M M6 := (F5.sc.cf A).trans F6
  simp (disch := first | (simp only [dd, dr]; done) | omega) only [W_58, k06, I_lt, I_le, I_inj, inB_I, tc_I, Int.toNat_natCast, fkt, rf1, rf0, cq, Nat.reduceAdd, Nat.reduceEqDiff, Int.reduceToNat, eq_self, true_and, and_true, true_or, or_true, bI_0, bI_1, mm, rAm, mF_sF, mR_sR, false_and, and_false, if_false, if_true, false_or, or_false, not_true_eq_false, not_false_eq_true, and_self]
  refine ca_54 (by omega) (n_leave (by omega) C6 O.1 (by omega) zz3 (by omega) hin2 v5 (dlT_ok C6.2.2.1.1) (fun _ M7 A7 C7 S7 F7 => ?_))
  have k07 := C7.1.1.1
  have O7 : OK1 (dlT m (szO X) T (ky zo 1 nn)) (vS X zo (oK X zo) (oL X zo) (oS X zo - 1)) := by
    refine OK1.st ?_ ⟨x1, x2⟩ x3 (by omega)
    intro o' ho' h'
    rcases (S7.mem C.2.2.1.1 _).mp h' with ⟨_, h⟩ | ⟨_, h⟩
    · exact absurd rfl h
    · exact O.1 o' ho' h
  have ww3' : ky wo 0 0 ∈ its (dlT m (szO X) T (ky zo 1 nn)) := (S7.mem C.2.2.1.1 _).mpr (.inr ⟨fun h => by have := (ky_inj (by omega) (by omega) (by omega) (by omega) h).2.1; omega, ww3⟩)
  obtain ⟨ok2, T2', hg2, hgo2⟩ := stT_ok (key := ky wo 1 aa) (n := 3) hm C7.2.2.1.1 (by omega)
  have hg2 : stT m (szO (vS X zo (oK X zo) (oL X zo) (oS X zo - 1))) (dlT m (szO X) T (ky zo 1 nn)) (ky wo 1 aa) 3 = some (ok2, T2') := hg2
  have hg3 := hg2
  rw [szO_vS] at hg3
  have hsw : oS (vS X zo (oK X zo) (oL X zo) (oS X zo - 1)) wo + 1 < 65536 := by
    rw [(vS_at _ _ _ _ _).2.2.1]
    by_cases e : wo = zo
    · rw [e, fu_s]; omega
    · rw [fu_n _ _ e]; exact hs wo
  simp (disch := first | (simp only [dd, dr]; done) | omega) only [W_58, k07, I_lt, I_le, I_inj, inB_I, tc_I, Int.toNat_natCast, fkt, rf1, rf0, cq, Nat.reduceAdd, Nat.reduceEqDiff, Int.reduceToNat, eq_self, true_and, and_true, true_or, or_true, bI_0, bI_1, mm, rAm, mF_sF, mR_sR, false_and, and_false, if_false, if_true, false_or, or_false, not_true_eq_false, not_false_eq_true, and_self]
  refine ca_44 (by omega) (n_enter (by omega) C7 O7 (by omega) ww3' (by omega) (by omega) hsw hg2 (fun hok M8 A8 C8 S8 F8 => ?_) (fun hok M8 A8 a P8 N8 J8 F8 ka => ?_))
  · subst hok
    simp (disch := first | (simp only [dd, dr]; done) | omega) only [W_58, I_lt, I_le, I_inj, inB_I, tc_I, Int.toNat_natCast, fkt, rf1, rf0, cq, Nat.reduceAdd, Nat.reduceEqDiff, Int.reduceToNat, eq_self, true_and, and_true, true_or, or_true, bI_0, bI_1, mm, rAm, mF_sF, mR_sR, false_and, and_false, if_false, if_true, false_or, or_false, not_true_eq_false, not_false_eq_true, and_self]
    refine hR h1 h2z h2w hin h4 v hv.symm h5.1 h5.2 _ T2' rfl hg3 S7 S8 M8 A8 C8 ?_ ((F06.trans F7.1).trans F8.1)
    exact D6.cb (J := J) C6.us C6.2.2.2.2 (F7.trans F8) (S7.2.1.trans S8.2.1)
  · subst hok
    simp (disch := first | (simp only [dd, dr]; done) | omega) only [W_58, I_lt, I_le, I_inj, inB_I, tc_I, Int.toNat_natCast, fkt, rf1, rf0, cq, Nat.reduceAdd, Nat.reduceEqDiff, Int.reduceToNat, eq_self, true_and, and_true, true_or, or_true, bI_0, bI_1, mm, rAm, mF_sF, mR_sR, false_and, and_false, if_false, if_true, false_or, or_false, not_true_eq_false, not_false_eq_true, and_self]
    rw [Th_in (t := 118) ka (by decide) (by decide +kernel)]
    have k08 := P8.1.1
    simp (disch := first | (simp only [dd, dr]; done) | omega) only [W_58, k08, I_lt, I_le, I_inj, inB_I, tc_I, Int.toNat_natCast, fkt, rf1, rf0, cq, Nat.reduceAdd, Nat.reduceEqDiff, Int.reduceToNat, eq_self, true_and, and_true, true_or, or_true, bI_0, bI_1, mm, rAm, mF_sF, mR_sR, false_and, and_false, if_false, if_true, false_or, or_false, not_true_eq_false, not_false_eq_true, and_self]
    refine ca_49 (by omega) (n_undo (by omega) C6 S6 P8 N8 J8 (F7.trans F8) (fun M9 A9 C9 D9 F9 K9 => ?_))
    simp (disch := first | (simp only [dd, dr]; done) | omega) only [W_58, I_lt, I_le, I_inj, inB_I, tc_I, Int.toNat_natCast, fkt, rf1, rf0, cq, Nat.reduceAdd, Nat.reduceEqDiff, Int.reduceToNat, eq_self, true_and, and_true, true_or, or_true, bI_0, bI_1, mm, rAm, mF_sF, mR_sR, false_and, and_false, if_false, if_true, false_or, or_false, not_true_eq_false, not_false_eq_true, and_self]
    have ka9 : kO M9 a = 14 := by
      have := K9 a (kO_lt J8.1 ka (by omega))
      unfold kO at ka ⊢
      rw [this]; exact ka
    rw [Th_out ka9 (by decide) (by decide +kernel)]
    exact hX 14 M9 A9 a ka9 (.inr (.inr (.inr (.inr ⟨h1, ⟨h2', h3⟩, h4, rfl, h5, T2', hg3⟩)))) C9 D9 (F06.trans F9)
end Mov
