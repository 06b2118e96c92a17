/-! ===== LEAVES, AS THEY ARE MEANT: settle and lookAt ===== -/
/-- first items go to the left leaf; last items go to the right one; last items go to a fresh one -/
def mvL (sz : Nat → Nat) : List Nat → List Nat → List Nat × List Nat
  | [], a => ([], a)
  | k :: l, a => if 120 < uz sz (k :: l) ∧ uz sz a + (8 + sz k) ≤ 120 then mvL sz l (a ++ [k]) else (k :: l, a)
def mvR (sz : Nat → Nat) : Nat → List Nat → List Nat → List Nat × List Nat
  | 0, l, a => (l, a)
  | n + 1, l, a => match l[l.length - 1]? with
    | some k => if 120 < uz sz l ∧ uz sz a + (8 + sz k) ≤ 120 then mvR sz n (l.take (l.length - 1)) (k :: a) else (l, a)
    | none => (l, a)
def mvF (sz : Nat → Nat) : Nat → List Nat → List Nat → List Nat × List Nat
  | 0, l, a => (l, a)
  | n + 1, l, a => match l[l.length - 1]? with
    | some k => if 120 < uz sz l then mvF sz n (l.take (l.length - 1)) (k :: a) else (l, a)
    | none => (l, a)
theorem uz_app (sz : Nat → Nat) : ∀ l l' : List Nat, uz sz (l ++ l') = uz sz l + uz sz l'
  | [], l' => by rw [List.nil_append, uz]; omega
  | k :: l, l' => by rw [List.cons_append, uz, uz, uz_app sz l l']; omega
theorem uz_len (sz : Nat → Nat) : ∀ l : List Nat, 8 * l.length ≤ uz sz l
  | [] => Nat.zero_le _
  | k :: l => by have := uz_len sz l; rw [uz, List.length_cons]; omega
/-- a neighbour of a leaf is a leaf of its own, with room for one more -/
def okL (sz : Nat → Nat) (T : Tr) (x : Nat) : Option Nat → Bool
  | none => true
  | some a => decide (a ≠ x ∧ a < 96 ∧ tC T a = [] ∧ uz sz (tI T a) ≤ 120)
theorem fu_id {α : Type} (g : Nat → α) (x : Nat) : fu g x (g x) = g := by
  funext y
  unfold fu
  by_cases e : y = x
  · rw [if_pos e, e]
  · rw [if_neg e]
theorem uI_id (T : Tr) (x : Nat) {l : List Nat} (h : tI T x = l) : uI T x l = T := by
  subst h
  unfold uI
  rw [show fu T.2.2.1 x (tI T x) = T.2.2.1 from fu_id T.2.2.1 x]
section ML
variable {d : Nat} {M : Mem} {Q : Outcome → Mem → Prop} {o : Nat} {f : Nat → Int} {b c w : Int → Int} {j : Nat → Bool} {sz tl : Nat → Nat}
set_option maxHeartbeats 8000000 in
theorem t_left (hK : MK M o) (hd : 3 ≤ d) {x a : Nat} {v3 v4 : Option Value} (h3 : lo v3 = false) (h4 : lo v4 = false) (hx : x < 96) (ha : a < 96) (hxa : x ≠ a) : ∀ (l : List Nat) (T : Tr) (s : Int → Int), tI T x = l → MT s T sz tl → tC T x = [] → tC T a = [] → uz sz (tI T a) ≤ 120 → uz sz (tI T x) < 10000 → (∀ s', MT s' (uI (uI T x (mvL sz l (tI T a)).1) a (mvL sz l (tI T a)).2) sz tl → Frz s s' → Wp d 169 59 [some (.ref o), some (.int (I (x : Nat))), some (.int (I (a : Nat))), v3, v4] [] (ms M o f s' b c w j) Q) →
    Wp d 169 7 [some (.ref o), some (.int (I (x : Nat))), some (.int (I (a : Nat))), v3, v4] [] (ms M o f s b c w j) Q := by
  have hK' := hK
  obtain ⟨k0, k1, k2, k3, k4, k5, k6, k7, k8, k9, k10⟩ := hK
  intro l
  induction l with
  | nil =>
    intro T s hl m hcx hca hua hux hQ
    simp (disch := first | (simp only [dd, dr]; done) | omega) only [w_169_7, W_169, msK, msR, msF, ms1, msS1, k0, k1, k6, I_lt, I_le, I_inj, inB_I, tc_I, Int.toNat_natCast, fkt, rf1, rf0, cq, Nat.reduceAdd, Nat.reduceEqDiff, Int.reduceToNat, eq_self, true_and, and_true, true_or, or_true, bI_0, bI_1, mm, rAm, mF_sF, mR_sR, false_and, and_false, if_false, if_true, false_or, or_false, not_true_eq_false, not_false_eq_true, and_self]
    refine ca_173 (by omega) (t_used hK' m hx hcx ?_)
    rw [hl, uz]
    simp (disch := first | (simp only [dd, dr]; done) | omega) only [W_169, msK, msR, msF, ms1, msS1, k0, k1, k6, I_lt, I_le, I_inj, inB_I, tc_I, Int.toNat_natCast, fkt, rf1, rf0, cq, Nat.reduceAdd, Nat.reduceEqDiff, Int.reduceToNat, eq_self, true_and, and_true, true_or, or_true, bI_0, bI_1, mm, rAm, mF_sF, mR_sR, false_and, and_false, if_false, if_true, false_or, or_false, not_true_eq_false, not_false_eq_true, and_self]
    refine ⟨fun _ => ?_, fun h => absurd (show (((0 : Nat) : Int)) ≤ 120 by omega) h⟩
    have := hQ s
    rw [mvL, uI_id T x hl, uI_id T a rfl] at this
    exact this m (Frz.refl s)
  | cons k l ih =>
    intro T s hl m hcx hca hua hux hQ
    have stop : ¬ (120 < uz sz (k :: l) ∧ uz sz (tI T a) + (8 + sz k) ≤ 120) → Wp d 169 59 [some (.ref o), some (.int (I (x : Nat))), some (.int (I (a : Nat))), v3, v4] [] (ms M o f s b c w j) Q := by
      intro hn
      have := hQ s
      rw [mvL, if_neg hn, uI_id T x hl, uI_id T a rfl] at this
      exact this m (Frz.refl s)
    have hk : (tI T x)[0]? = some k := by rw [hl]; rfl
    have hlen := uz_len sz (tI T a)
    rw [hl] at hux
    have hka : uz sz (k :: l) = 8 + sz k + uz sz l := rfl
    simp (disch := first | (simp only [dd, dr]; done) | omega) only [w_169_7, W_169, msK, msR, msF, ms1, msS1, k0, k1, k6, I_lt, I_le, I_inj, inB_I, tc_I, Int.toNat_natCast, fkt, rf1, rf0, cq, Nat.reduceAdd, Nat.reduceEqDiff, Int.reduceToNat, eq_self, true_and, and_true, true_or, or_true, bI_0, bI_1, mm, rAm, mF_sF, mR_sR, false_and, and_false, if_false, if_true, false_or, or_false, not_true_eq_false, not_false_eq_true, and_self]
    refine ca_173 (by omega) (t_used hK' m hx hcx ?_)
    rw [hl]
    simp (disch := first | (simp only [dd, dr]; done) | omega) only [W_169, msK, msR, msF, ms1, msS1, k0, k1, k6, I_lt, I_le, I_inj, inB_I, tc_I, Int.toNat_natCast, fkt, rf1, rf0, cq, Nat.reduceAdd, Nat.reduceEqDiff, Int.reduceToNat, eq_self, true_and, and_true, true_or, or_true, bI_0, bI_1, mm, rAm, mF_sF, mR_sR, false_and, and_false, if_false, if_true, false_or, or_false, not_true_eq_false, not_false_eq_true, and_self]
    refine ⟨fun h => stop (by omega), fun h1 => ?_⟩
    simp (disch := first | (simp only [dd, dr]; done) | omega) only [W_169, msK, msR, msF, ms1, msS1, k0, k1, k6, I_lt, I_le, I_inj, inB_I, tc_I, Int.toNat_natCast, fkt, rf1, rf0, cq, Nat.reduceAdd, Nat.reduceEqDiff, Int.reduceToNat, eq_self, true_and, and_true, true_or, or_true, bI_0, bI_1, mm, rAm, mF_sF, mR_sR, false_and, and_false, if_false, if_true, false_or, or_false, not_true_eq_false, not_false_eq_true, and_self]
    refine ⟨fun h => absurd h (by omega), fun _ => ?_⟩
    simp (disch := first | (simp only [dd, dr]; done) | omega) only [W_169, msK, msR, msF, ms1, msS1, k0, k1, k6, I_lt, I_le, I_inj, inB_I, tc_I, Int.toNat_natCast, fkt, rf1, rf0, cq, Nat.reduceAdd, Nat.reduceEqDiff, Int.reduceToNat, eq_self, true_and, and_true, true_or, or_true, bI_0, bI_1, mm, rAm, mF_sF, mR_sR, false_and, and_false, if_false, if_true, false_or, or_false, not_true_eq_false, not_false_eq_true, and_self]
    refine ca_173 (by omega) (t_used hK' m ha hca ?_)
    simp (disch := first | (simp only [dd, dr]; done) | omega) only [W_169, msK, msR, msF, ms1, msS1, k0, k1, k6, I_lt, I_le, I_inj, inB_I, tc_I, Int.toNat_natCast, fkt, rf1, rf0, cq, Nat.reduceAdd, Nat.reduceEqDiff, Int.reduceToNat, eq_self, true_and, and_true, true_or, or_true, bI_0, bI_1, mm, rAm, mF_sF, mR_sR, false_and, and_false, if_false, if_true, false_or, or_false, not_true_eq_false, not_false_eq_true, and_self]
    refine ca_174 (by omega) (t_cost (k := 0) hK' m hx hk ?_)
    simp (disch := first | (simp only [dd, dr]; done) | omega) only [W_169, msK, msR, msF, ms1, msS1, k0, k1, k6, I_lt, I_le, I_inj, inB_I, tc_I, Int.toNat_natCast, fkt, rf1, rf0, cq, Nat.reduceAdd, Nat.reduceEqDiff, Int.reduceToNat, eq_self, true_and, and_true, true_or, or_true, bI_0, bI_1, mm, rAm, mF_sF, mR_sR, false_and, and_false, if_false, if_true, false_or, or_false, not_true_eq_false, not_false_eq_true, and_self]
    refine ⟨fun h => stop (by omega), fun h2 => ?_⟩
    have hn : s (3852 + (a : Int)) = ((tI T a).length : Nat) := by have := m.2.2.1 a ha; rw [hca] at this; simpa using this
    simp (disch := first | (simp only [dd, dr]; done) | omega) only [W_169, msK, msR, msF, ms1, msS1, k0, k1, k6, hn, I_lt, I_le, I_inj, inB_I, tc_I, Int.toNat_natCast, fkt, rf1, rf0, cq, Nat.reduceAdd, Nat.reduceEqDiff, Int.reduceToNat, eq_self, true_and, and_true, true_or, or_true, bI_0, bI_1, mm, rAm, mF_sF, mR_sR, false_and, and_false, if_false, if_true, false_or, or_false, not_true_eq_false, not_false_eq_true, and_self]
    refine ca_175 (by omega) (t_carry (k := 0) hK' (by omega) m hx ha hxa hcx hca hk (Nat.le_refl _) (by omega) ?_)
    intro s1 m1 fr1
    simp (disch := first | (simp only [dd, dr]; done) | omega) only [W_169, msK, msR, msF, ms1, msS1, k0, k1, k6, I_lt, I_le, I_inj, inB_I, tc_I, Int.toNat_natCast, fkt, rf1, rf0, cq, Nat.reduceAdd, Nat.reduceEqDiff, Int.reduceToNat, eq_self, true_and, and_true, true_or, or_true, bI_0, bI_1, mm, rAm, mF_sF, mR_sR, false_and, and_false, if_false, if_true, false_or, or_false, not_true_eq_false, not_false_eq_true, and_self]
    rw [hl, List.take_length, List.drop_length] at m1
    have t1 : tI (uI (uI T x (List.take 0 (k :: l) ++ List.drop (0 + 1) (k :: l))) a (tI T a ++ [k])) x = l := by simp only [ti]; rw [fu_n _ _ hxa, fu_s]; rfl
    have t2 : tI (uI (uI T x (List.take 0 (k :: l) ++ List.drop (0 + 1) (k :: l))) a (tI T a ++ [k])) a = tI T a ++ [k] := by simp only [ti]; rw [fu_s]
    refine ih _ s1 t1 m1 (by simp only [ti]; exact hcx) (by simp only [ti]; exact hca) (by rw [t2, uz_app]; simp only [uz]; omega) (by rw [t1]; omega) (fun s' m' fr' => ?_)
    have := hQ s'
    rw [mvL, if_pos (by omega)] at this
    rw [t2] at m'
    have e : uI (uI (uI (uI T x (List.take 0 (k :: l) ++ List.drop (0 + 1) (k :: l))) a (tI T a ++ [k])) x (mvL sz l (tI T a ++ [k])).1) a (mvL sz l (tI T a ++ [k])).2 = uI (uI T x (mvL sz l (tI T a ++ [k])).1) a (mvL sz l (tI T a ++ [k])).2 := by
      unfold uI
      simp only []
      congr 3
      funext y
      unfold fu
      by_cases e1 : y = a <;> by_cases e2 : y = x <;> simp [e1, e2]
    rw [e] at m'
    exact this m' (fr1.trans fr')
end ML
