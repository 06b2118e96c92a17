/-! ===== THE MODEL: how rows follow objects; make ===== -/
section Mmk
variable {d : Nat} {M : Mem} {Q : Outcome → Mem → Prop} {o : Nat} {f : Nat → Int} {s s' b c w : Int → Int} {j : Nat → Bool} {T T' T1 T2 : Tr} {X X' : Ob} {dt : Nat → Nat → Nat} {m : Nat} {sz tl : Nat → Nat}
theorem tlX_vS (X : Ob) (o k l n : Nat) : tlX (vS X o k l n) = tlX X := rfl
theorem tlX_vD (X : Ob) (o : Nat) (l : List Nat) : tlX (vD X o l) = tlX X := rfl
theorem tlX_vT (X : Ob) (o : Nat) (l : List Nat) : tlX (vT X o l) = tlX X := rfl
theorem tlX_vE (X : Ob) (o v : Nat) {n : Nat} (hn : n < 1024) : tlX (vE X (ky o 1 n) v) = fu (tlX X) (ky o 1 n) v := by
  have hp := ky_parts (o := o) (k := 1) (n := n) (by omega) hn
  funext k
  unfold tlX
  by_cases e : k = ky o 1 n
  · rw [e, fu_s, if_pos hp.1]
    show fu (oE X) (ky o 1 n) v (ky o 1 n) = v
    rw [fu_s]
  · rw [fu_n _ _ e]
    show (if k / 1024 % 4 = 1 then fu (oE X) (ky o 1 n) v k else 0) = _
    rw [fu_n _ _ e]
theorem fu_idv {α : Type} {g : Nat → α} {k : Nat} {v : α} (h : g k = v) : fu g k v = g := by
  subst h
  funext x
  by_cases e : x = k
  · rw [e, fu_s]
  · rw [fu_n _ _ e]
theorem szO_0 (X : Ob) (o : Nat) : szO X (ky o 0 0) = 6 := by unfold szO; rw [pyO_0]; rfl
theorem szO_1 (X : Ob) (o : Nat) {n : Nat} (hn : n < 1024) : szO X (ky o 1 n) = 3 := by unfold szO; rw [pyO_1 _ _ hn]; rfl
theorem tlX_k (X : Ob) {o k : Nat} (hk : k < 4) (h1 : k ≠ 1) : tlX X (ky o k 0) = 0 := by
  have hp := ky_parts (o := o) (k := k) (n := 0) hk (by omega)
  unfold tlX
  rw [if_neg (by omega)]
/-- the tree changes, and no object comes or goes -/
theorem MO.tree (t : MO s T X dt) (F : Frz s s') (hl : ∀ o, o < 61 → ky o 0 0 ∈ its T → (oD X o).length ≤ 16) (hi : ∀ o, o < 61 → (ky o 0 0 ∈ its T' ↔ ky o 0 0 ∈ its T)) (hp : Pv T T') : MO s' T' X dt := by
  obtain ⟨m1, m2, m3⟩ := t
  refine ⟨fun o ho => ?_, fun o ho h => ?_, fun b hb h1 h2 h3 i hi' => ?_⟩
  · rw [F _ (by omega), m1 o ho]
    by_cases e : ky o 0 0 ∈ its T
    · rw [if_pos e, if_pos ((hi o ho).mpr e)]
    · rw [if_neg e, if_neg (fun h => e ((hi o ho).mp h))]
  · have h' := (hi o ho).mp h
    obtain ⟨a1, a2, a3, a4, a5⟩ := m2 o ho h'
    have := hl o ho h'
    exact ⟨by rw [F _ (by omega)]; exact a1, by rw [F _ (by omega)]; exact a2, by rw [F _ (by omega)]; exact a3, a4.eqs (fun z z1 z2 => F z (by omega)), fun hT k hk => by rw [F _ (by omega)]; exact a5 hT k hk⟩
  · obtain ⟨v1, v2⟩ := hp b h1 h2
    rw [F _ (by omega)]; exact m3 b hb v1 v2 h3 i hi'
/-- an object's links and size change -/
theorem MO.st (t : MO s T X dt) {v l n : Nat} (hv : v < 61) (hl : ∀ o, o < 61 → ky o 0 0 ∈ its T → (oD X o).length ≤ 16) (h1 : s' (157 + v) = l) (h2 : s' (218 + v) = n) (h3 : ∀ x, x ≠ 157 + (v : Int) → x ≠ 218 + (v : Int) → s' x = s x) : MO s' T (vS X v (oK X v) l n) dt := by
  obtain ⟨m1, m2, m3⟩ := t
  obtain ⟨e1, e2, e3, e4, e5, e6⟩ := vS_at X v (oK X v) l n
  refine ⟨fun o ho => ?_, fun o ho h => ?_, fun b hb g1 g2 g3 i hi' => ?_⟩
  · rw [h3 _ (by omega) (by omega), m1 o ho, e1, fu_idv rfl]
  · obtain ⟨a1, a2, a3, a4, a5⟩ := m2 o ho h
    have := hl o ho h
    rw [e2, e3, e4, e5]
    refine ⟨?_, ?_, by rw [h3 _ (by omega) (by omega)]; exact a3, a4.eqs (fun z z1 z2 => h3 z (by omega) (by omega)), fun hT k hk => by rw [h3 _ (by omega) (by omega)]; exact a5 hT k hk⟩
    · by_cases e : o = v
      · rw [e, fu_s, h1]
      · rw [fu_n _ _ e, h3 _ (by omega) (by omega)]; exact a1
    · by_cases e : o = v
      · rw [e, fu_s, h2]
      · rw [fu_n _ _ e, h3 _ (by omega) (by omega)]; exact a2
  · rw [h3 _ (by omega) (by omega)]; exact m3 b hb g1 g2 g3 i hi'
/-- one more object -/
theorem MO.new (t : MO s T X dt) {v k : Nat} (hv : v < 61) (hl : ∀ o, o < 61 → ky o 0 0 ∈ its T → (oD X o).length ≤ 16) (h0 : oD X v = [] ∧ oT X v = []) (h1 : s' (96 + v) = k) (h2 : s' (157 + v) = 1) (h3 : s' (218 + v) = 0) (h4 : s' (279 + v) = 0) (h5 : ∀ x, ((96 ≤ x ∧ x < 3756) ∨ 13078 ≤ x) → x ≠ 96 + (v : Int) → x ≠ 157 + (v : Int) → x ≠ 218 + (v : Int) → x ≠ 279 + (v : Int) → s' x = s x) (hi : ∀ o, o < 61 → (ky o 0 0 ∈ its T' ↔ o = v ∨ ky o 0 0 ∈ its T)) (hp : Pv T T') : MO s' T' (vS X v k 1 0) dt := by
  obtain ⟨m1, m2, m3⟩ := t
  obtain ⟨e1, e2, e3, e4, e5, e6⟩ := vS_at X v k 1 0
  refine ⟨fun o ho => ?_, fun o ho h => ?_, fun b hb g1 g2 g3 i hi' => ?_⟩
  · rw [e1]
    by_cases e : o = v
    · rw [if_pos ((hi o ho).mpr (.inl e)), e, fu_s, h1]
    · rw [h5 _ (by omega) (by omega) (by omega) (by omega) (by omega), m1 o ho, fu_n _ _ e]
      by_cases e2 : ky o 0 0 ∈ its T
      · rw [if_pos e2, if_pos ((hi o ho).mpr (.inr e2))]
      · rw [if_neg e2, if_neg (fun h => ((hi o ho).mp h).elim e e2)]
  · rw [e2, e3, e4, e5]
    by_cases e : o = v
    · rw [e, fu_s, fu_s, h0.1, h0.2]
      exact ⟨h2, h3, h4, (fun i x hx => by cases hx), fun h => absurd rfl h⟩
    · have h' := ((hi o ho).mp h).resolve_left e
      obtain ⟨a1, a2, a3, a4, a5⟩ := m2 o ho h'
      have := hl o ho h'
      rw [fu_n _ _ e, fu_n _ _ e]
      exact ⟨by rw [h5 _ (by omega) (by omega) (by omega) (by omega) (by omega)]; exact a1, by rw [h5 _ (by omega) (by omega) (by omega) (by omega) (by omega)]; exact a2, by rw [h5 _ (by omega) (by omega) (by omega) (by omega) (by omega)]; exact a3, a4.eqs (fun z z1 z2 => h5 z (by omega) (by omega) (by omega) (by omega) (by omega)), fun hT k hk => by rw [h5 _ (by omega) (by omega) (by omega) (by omega) (by omega)]; exact a5 hT k hk⟩
  · obtain ⟨v1, v2⟩ := hp b g1 g2
    rw [h5 _ (by omega) (by omega) (by omega) (by omega) (by omega)]; exact m3 b hb v1 v2 g3 i hi'
theorem fro_cn (u : Nat → Bool) : ∀ (n i : Nat), (fro u n i ≤ i + n ∧ (fro u n i < i + n → u (fro u n i) = false) ∧ i ≤ fro u n i ∧ ∀ k, i ≤ k → k < fro u n i → u k = true)
  | 0, i => ⟨Nat.le_refl _, fun h => absurd h (by rw [fro]; omega), Nat.le_refl _, fun k h1 h2 => by rw [fro] at h2; omega⟩
  | n + 1, i => by
    rw [fro]
    by_cases e : u i = true
    · rw [if_pos e]
      obtain ⟨h1, h2, h3, h4⟩ := fro_cn u n (i + 1)
      refine ⟨by omega, fun h => h2 (by omega), by omega, fun k k1 k2 => ?_⟩
      by_cases e' : k = i
      · rw [e']; exact e
      · exact h4 k (by omega) k2
    · rw [if_neg e]
      exact ⟨by omega, fun _ => by simpa using e, Nat.le_refl _, fun k k1 k2 => by omega⟩
theorem cn_full (u : Nat → Bool) : ∀ n, (cn u n = n ↔ ∀ i, i < n → u i = true)
  | 0 => ⟨fun _ i hi => by omega, fun _ => rfl⟩
  | n + 1 => by
    have h := cn_full u n
    have hle := cn_le u n
    rw [cn]
    constructor
    · intro he i hi
      by_cases e : u n = true
      · rw [if_pos e] at he
        by_cases e' : i = n
        · rw [e']; exact e
        · exact h.mp (by omega) i (by omega)
      · rw [if_neg e] at he; omega
    · intro ha
      rw [if_pos (ha n (by omega)), h.mpr (fun i hi => ha i (by omega))]
/-- whether all numbers of objects are in use -/
theorem fro_full (T : Tr) : (cn (fun i => iso T ((i : Int) + 1)) 60 = 60) ↔ ¬ fro (fun o => iso T o) 60 1 ≤ 60 := by
  obtain ⟨h1, h2, h3, h4⟩ := fro_cn (fun o => iso T o) 60 1
  rw [cn_full]
  constructor
  · intro ha hle
    have := h2 (by omega)
    have hb := ha (fro (fun o => iso T o) 60 1 - 1) (by omega)
    rw [show (((fro (fun o => iso T o) 60 1 - 1 : Nat) : Int) + 1) = ((fro (fun o => iso T o) 60 1 : Nat) : Int) by omega] at hb
    rw [hb] at this; cases this
  · intro hg i hi
    have := h4 (i + 1) (by omega) (by omega)
    rw [show ((i : Int) + 1) = ((i + 1 : Nat) : Int) by omega]
    exact this
/-- make: the code of the exception -/
def mkC (m : Nat) (off : Bool) (T : Tr) (X : Ob) (z n : Int) (dir : Bool) : Nat :=
  if off = true then 1 else if isk T X z 0 = false then 2 else if ¬ (0 ≤ n ∧ n < 1000) then 3 else if ¬ (tol T X z.toNat n = -1 ∧ fro (fun o => iso T o) 60 1 ≤ 60) then 4 else
  match stT m (szO X) T (ky (fro (fun o => iso T o) 60 1) 0 0) 6 with
  | some (true, T1) => (match stT m (szO (vS X (fro (fun o => iso T o) 60 1) (if dir = true then 1 else 2) 1 0)) T1 (ky z.toNat 1 n.toNat) 3 with
    | some (true, _) => 0
    | _ => 4)
  | _ => 4
/-- fields but those of the last call -/
def Fe (f f' : Nat → Int) : Prop := ∀ g, g ≠ 47 → g ≠ 54 → g ≠ 56 → f' g = f g
set_option maxHeartbeats 2000000 in
theorem m_make (hK : MK M o) (hd : 10 ≤ d) (S : MS s T X dt) (G : Gt m T (pyO X)) (hm1 : 1 ≤ m) (hm2 : m ≤ 96) (O : OK2 T X) (hn : ∀ k ∈ its T, k / 1024 % 4 = 1 → k % 1024 < 1000) (hA : ∀ v, ky v 0 0 ∉ its T → oD X v = [] ∧ oT X v = []) (hl : ∀ o, o < 61 → ky o 0 0 ∈ its T → (oD X o).length ≤ 16) (f43 : f 43 = m) {off : Bool} (f52 : f 52 = bI off) {z n : Int} (z0 : -2147483648 ≤ z) (z1 : z < 2147483648) (n0 : -2147483648 ≤ n) (n1 : n < 2147483648) {dir : Bool} {v : Nat} (hv : v = fro (fun o => iso T o) 60 1) (h100 : ∀ k ∈ its T, oE X k < 100)
    (hX : mkC m off T X z n dir ≠ 0 → ∀ f' s' b', Fe f f' → f' 54 = mkC m off T X z n dir → (∀ x, 0 ≤ x → x < 25366 → s' x = s x) → Q (.returned (some (.int (I 0)))) (ms M o f' s' b' c w j))
    (hR : mkC m off T X z n dir = 0 → ∀ T1 T2, stT m (szO X) T (ky v 0 0) 6 = some (true, T1) → stT m (szO (vS X v (if dir = true then 1 else 2) 1 0)) T1 (ky z.toNat 1 n.toNat) 3 = some (true, T2) → ∀ f' s' b', Fe f f' → f' 54 = 0 → MS s' T2 (mkX X z.toNat n.toNat v (if dir = true then 1 else 2)) dt → Q (.returned (some (.int (I (v : Nat))))) (ms M o f' s' b' c w j)) :
    Wp d 156 0 [some (.ref o), some (.int (I z)), some (.int (I n)), some (.int (I (bI dir))), none] [] (ms M o f s b c w j) Q := by
  have hK' := hK
  obtain ⟨k0, k1, k2, k3, k4, k5, k6, k7, k8, k9, k10⟩ := hK
  have W := G.1
  unfold mkC at hX hR
  rw [← hv] at hX hR
  -- a call that is refused
  have ref : ∀ (k : Nat), 1 ≤ k → k ≤ 4 → (if off = true then 1 else if isk T X z 0 = false then 2 else if ¬ (0 ≤ n ∧ n < 1000) then 3 else if ¬ (tol T X z.toNat n = -1 ∧ v ≤ 60) then 4 else 0) = k → Q (.returned (some (.int (I 0)))) (ms M o (fu f 54 (k : Int)) s b c w j) := by
    intro k h1 h2 hk
    have hx : ∀ f' s' b', Fe f f' → f' 54 = k → (∀ x, 0 ≤ x → x < 25366 → s' x = s x) → Q (.returned (some (.int (I 0)))) (ms M o f' s' b' c w j) := by
      by_cases a1 : off = true
      · rw [if_pos a1] at hk hX
        subst hk
        exact hX (by omega)
      rw [if_neg a1] at hk hX
      by_cases a2 : isk T X z 0 = false
      · rw [if_pos a2] at hk hX
        subst hk
        exact hX (by omega)
      rw [if_neg a2] at hk hX
      by_cases a3 : ¬ (0 ≤ n ∧ n < 1000)
      · rw [if_pos a3] at hk hX
        subst hk
        exact hX (by omega)
      rw [if_neg a3] at hk hX
      by_cases a4 : ¬ (tol T X z.toNat n = -1 ∧ v ≤ 60)
      · rw [if_pos a4] at hk hX
        subst hk
        exact hX (by omega)
      rw [if_neg a4] at hk
      omega
    have hf : fu f 54 (k : Int) 54 = k := fu_s _ _ _
    exact hx _ s b (fun g _ h _ => fu_n _ _ h) hf (fun _ _ _ => rfl)
  simp (disch := first | (simp only [dd, dr]; done) | omega) only [W_156, msK, msR, msF, ms1, msS1, k0, k1, k6, f52, I_lt, I_le, I_inj, inB_I, tc_I, Int.toNat_natCast, fkt, rf1, rf0, cq, Nat.reduceAdd, Nat.reduceEqDiff, Int.reduceToNat, eq_self, true_and, and_true, true_or, or_true, bI_0, bI_1, mm, rAm, mF_sF, mR_sR, false_and, and_false, if_false, if_true, false_or, or_false, not_true_eq_false, not_false_eq_true, and_self]
  refine ⟨fun h1 => ?_, fun h1 => ?_⟩
  rotate_left
  · have h1 : off = true := by simpa using h1
    have hf : fu f 54 (1 : Int) 54 = 1 := fu_s _ _ _
    simp (disch := first | (simp only [dd, dr]; done) | omega) only [W_156, msK, msR, msF, ms1, msS1, k0, k1, k6, msSF, hf, I_lt, I_le, I_inj, inB_I, tc_I, Int.toNat_natCast, fkt, rf1, rf0, cq, Nat.reduceAdd, Nat.reduceEqDiff, Int.reduceToNat, eq_self, true_and, and_true, true_or, or_true, bI_0, bI_1, mm, rAm, mF_sF, mR_sR, false_and, and_false, if_false, if_true, false_or, or_false, not_true_eq_false, not_false_eq_true, and_self]
    refine ⟨(fun h => by first | exact False.elim h | exact absurd trivial h | (exfalso; omega) | exact absurd rfl h | cases h), fun _ => ?_⟩
    simp (disch := first | (simp only [dd, dr]; done) | omega) only [W_156, I_lt, I_le, I_inj, inB_I, tc_I, Int.toNat_natCast, fkt, rf1, rf0, cq, Nat.reduceAdd, Nat.reduceEqDiff, Int.reduceToNat, eq_self, true_and, and_true, true_or, or_true, bI_0, bI_1, mm, rAm, mF_sF, mR_sR, false_and, and_false, if_false, if_true, false_or, or_false, not_true_eq_false, not_false_eq_true, and_self]
    exact ref 1 (by omega) (by omega) (by rw [if_pos h1])
  have h1' : ¬ off = true := by rw [h1]; simp
  simp (disch := first | (simp only [dd, dr]; done) | omega) only [W_156, msK, msR, msF, ms1, msS1, k0, k1, k6, I_lt, I_le, I_inj, inB_I, tc_I, Int.toNat_natCast, fkt, rf1, rf0, cq, Nat.reduceAdd, Nat.reduceEqDiff, Int.reduceToNat, eq_self, true_and, and_true, true_or, or_true, bI_0, bI_1, mm, rAm, mF_sF, mR_sR, false_and, and_false, if_false, if_true, false_or, or_false, not_true_eq_false, not_false_eq_true, and_self]
  refine ca_157 (by omega) (m_isDirectory hK' (by omega) S O.1 z0 z1 ?_)
  simp (disch := first | (simp only [dd, dr]; done) | omega) only [W_156, I_lt, I_le, I_inj, inB_I, tc_I, Int.toNat_natCast, fkt, rf1, rf0, cq, Nat.reduceAdd, Nat.reduceEqDiff, Int.reduceToNat, eq_self, true_and, and_true, true_or, or_true, bI_0, bI_1, mm, rAm, mF_sF, mR_sR, false_and, and_false, if_false, if_true, false_or, or_false, not_true_eq_false, not_false_eq_true, and_self]
  refine ⟨fun h2 => ?_, fun h2 => ?_⟩
  rotate_left
  · have h2 : isk T X z 0 = false := by simpa using h2
    have hf : fu f 54 (2 : Int) 54 = 2 := fu_s _ _ _
    simp (disch := first | (simp only [dd, dr]; done) | omega) only [W_156, msK, msR, msF, ms1, msS1, k0, k1, k6, msSF, hf, I_lt, I_le, I_inj, inB_I, tc_I, Int.toNat_natCast, fkt, rf1, rf0, cq, Nat.reduceAdd, Nat.reduceEqDiff, Int.reduceToNat, eq_self, true_and, and_true, true_or, or_true, bI_0, bI_1, mm, rAm, mF_sF, mR_sR, false_and, and_false, if_false, if_true, false_or, or_false, not_true_eq_false, not_false_eq_true, and_self]
    refine ⟨(fun h => by first | exact False.elim h | exact absurd trivial h | (exfalso; omega) | exact absurd rfl h | cases h), fun _ => ?_⟩
    simp (disch := first | (simp only [dd, dr]; done) | omega) only [W_156, I_lt, I_le, I_inj, inB_I, tc_I, Int.toNat_natCast, fkt, rf1, rf0, cq, Nat.reduceAdd, Nat.reduceEqDiff, Int.reduceToNat, eq_self, true_and, and_true, true_or, or_true, bI_0, bI_1, mm, rAm, mF_sF, mR_sR, false_and, and_false, if_false, if_true, false_or, or_false, not_true_eq_false, not_false_eq_true, and_self]
    exact ref 2 (by omega) (by omega) (by rw [if_neg h1', if_pos h2])
  have h2 : isk T X z 0 = true := by simpa using h2
  have h2' : ¬ isk T X z 0 = false := by rw [h2]; simp
  obtain ⟨zo, rfl, o1, o2, o3, o4⟩ := isk_of h2
  simp only [Int.toNat_natCast] at *
  simp (disch := first | (simp only [dd, dr]; done) | omega) only [W_156, msK, msR, msF, ms1, msS1, k0, k1, k6, I_lt, I_le, I_inj, inB_I, tc_I, Int.toNat_natCast, fkt, rf1, rf0, cq, Nat.reduceAdd, Nat.reduceEqDiff, Int.reduceToNat, eq_self, true_and, and_true, true_or, or_true, bI_0, bI_1, mm, rAm, mF_sF, mR_sR, false_and, and_false, if_false, if_true, false_or, or_false, not_true_eq_false, not_false_eq_true, and_self]
  refine ca_160 (by omega) (m_isName hK' (by omega) n0 n1 ?_)
  simp (disch := first | (simp only [dd, dr]; done) | omega) only [W_156, I_lt, I_le, I_inj, inB_I, tc_I, Int.toNat_natCast, fkt, rf1, rf0, cq, Nat.reduceAdd, Nat.reduceEqDiff, Int.reduceToNat, eq_self, true_and, and_true, true_or, or_true, bI_0, bI_1, mm, rAm, mF_sF, mR_sR, false_and, and_false, if_false, if_true, false_or, or_false, not_true_eq_false, not_false_eq_true, and_self]
  refine ⟨fun h3 => ?_, fun h3 => ?_⟩
  rotate_left
  · have h3 : ¬ (0 ≤ n ∧ n < 1000) := by simpa using h3
    have hf : fu f 54 (3 : Int) 54 = 3 := fu_s _ _ _
    simp (disch := first | (simp only [dd, dr]; done) | omega) only [W_156, msK, msR, msF, ms1, msS1, k0, k1, k6, msSF, hf, I_lt, I_le, I_inj, inB_I, tc_I, Int.toNat_natCast, fkt, rf1, rf0, cq, Nat.reduceAdd, Nat.reduceEqDiff, Int.reduceToNat, eq_self, true_and, and_true, true_or, or_true, bI_0, bI_1, mm, rAm, mF_sF, mR_sR, false_and, and_false, if_false, if_true, false_or, or_false, not_true_eq_false, not_false_eq_true, and_self]
    refine ⟨(fun h => by first | exact False.elim h | exact absurd trivial h | (exfalso; omega) | exact absurd rfl h | cases h), fun _ => ?_⟩
    simp (disch := first | (simp only [dd, dr]; done) | omega) only [W_156, I_lt, I_le, I_inj, inB_I, tc_I, Int.toNat_natCast, fkt, rf1, rf0, cq, Nat.reduceAdd, Nat.reduceEqDiff, Int.reduceToNat, eq_self, true_and, and_true, true_or, or_true, bI_0, bI_1, mm, rAm, mF_sF, mR_sR, false_and, and_false, if_false, if_true, false_or, or_false, not_true_eq_false, not_false_eq_true, and_self]
    exact ref 3 (by omega) (by omega) (by rw [if_neg h1', if_neg h2', if_pos h3])
  have h3 : 0 ≤ n ∧ n < 1000 := by simpa using h3
  have h3' : ¬ ¬ (0 ≤ n ∧ n < 1000) := fun h => h h3
  obtain ⟨nn, rfl⟩ : ∃ nn : Nat, n = nn := ⟨n.toNat, by omega⟩
  simp only [Int.toNat_natCast] at *
  simp (disch := first | (simp only [dd, dr]; done) | omega) only [W_156, msK, msR, msF, ms1, msS1, k0, k1, k6, I_lt, I_le, I_inj, inB_I, tc_I, Int.toNat_natCast, fkt, rf1, rf0, cq, Nat.reduceAdd, Nat.reduceEqDiff, Int.reduceToNat, eq_self, true_and, and_true, true_or, or_true, bI_0, bI_1, mm, rAm, mF_sF, mR_sR, false_and, and_false, if_false, if_true, false_or, or_false, not_true_eq_false, not_false_eq_true, and_self]
  refine ca_161 (by omega) (m_entry hK' (by omega) S W hn (by omega) n0 n1 ?_)
  have ht := tol_rng O zo (nn : Int)
  simp (disch := first | (simp only [dd, dr]; done) | omega) only [W_156, I_lt, I_le, I_inj, inB_I, tc_I, Int.toNat_natCast, fkt, rf1, rf0, cq, Nat.reduceAdd, Nat.reduceEqDiff, Int.reduceToNat, eq_self, true_and, and_true, true_or, or_true, bI_0, bI_1, mm, rAm, mF_sF, mR_sR, false_and, and_false, if_false, if_true, false_or, or_false, not_true_eq_false, not_false_eq_true, and_self]
  refine ⟨fun h4 => ?_, fun h4 => ?_⟩
  · have hf : fu f 54 (4 : Int) 54 = 4 := fu_s _ _ _
    simp (disch := first | (simp only [dd, dr]; done) | omega) only [W_156, msK, msR, msF, ms1, msS1, k0, k1, k6, msSF, hf, I_lt, I_le, I_inj, inB_I, tc_I, Int.toNat_natCast, fkt, rf1, rf0, cq, Nat.reduceAdd, Nat.reduceEqDiff, Int.reduceToNat, eq_self, true_and, and_true, true_or, or_true, bI_0, bI_1, mm, rAm, mF_sF, mR_sR, false_and, and_false, if_false, if_true, false_or, or_false, not_true_eq_false, not_false_eq_true, and_self]
    refine ⟨(fun h => by first | exact False.elim h | exact absurd trivial h | (exfalso; omega) | exact absurd rfl h | cases h), fun _ => ?_⟩
    simp (disch := first | (simp only [dd, dr]; done) | omega) only [W_156, I_lt, I_le, I_inj, inB_I, tc_I, Int.toNat_natCast, fkt, rf1, rf0, cq, Nat.reduceAdd, Nat.reduceEqDiff, Int.reduceToNat, eq_self, true_and, and_true, true_or, or_true, bI_0, bI_1, mm, rAm, mF_sF, mR_sR, false_and, and_false, if_false, if_true, false_or, or_false, not_true_eq_false, not_false_eq_true, and_self]
    exact ref 4 (by omega) (by omega) (by rw [if_neg h1', if_neg h2', if_neg h3', if_pos (by omega)])
  simp (disch := first | (simp only [dd, dr]; done) | omega) only [W_156, msK, msR, msF, ms1, msS1, k0, k1, k6, I_lt, I_le, I_inj, inB_I, tc_I, Int.toNat_natCast, fkt, rf1, rf0, cq, Nat.reduceAdd, Nat.reduceEqDiff, Int.reduceToNat, eq_self, true_and, and_true, true_or, or_true, bI_0, bI_1, mm, rAm, mF_sF, mR_sR, false_and, and_false, if_false, if_true, false_or, or_false, not_true_eq_false, not_false_eq_true, and_self]
  refine ca_165 (by omega) (m_objects hK' S O.1 ?_)
  have hcf := fro_full T
  rw [← hv] at hcf
  have hcn := cn_le (fun i => iso T ((i : Int) + 1)) 60
  generalize hcv : cn (fun i => iso T ((i : Int) + 1)) 60 = cv at *
  simp (disch := first | (simp only [dd, dr]; done) | omega) only [W_156, I_lt, I_le, I_inj, inB_I, tc_I, Int.toNat_natCast, fkt, rf1, rf0, cq, Nat.reduceAdd, Nat.reduceEqDiff, Int.reduceToNat, eq_self, true_and, and_true, true_or, or_true, bI_0, bI_1, mm, rAm, mF_sF, mR_sR, false_and, and_false, if_false, if_true, false_or, or_false, not_true_eq_false, not_false_eq_true, and_self]
  refine ⟨fun h5 => ?_, fun h5 => ?_⟩
  rotate_left
  · have hf : fu f 54 (4 : Int) 54 = 4 := fu_s _ _ _
    simp (disch := first | (simp only [dd, dr]; done) | omega) only [W_156, msK, msR, msF, ms1, msS1, k0, k1, k6, msSF, hf, I_lt, I_le, I_inj, inB_I, tc_I, Int.toNat_natCast, fkt, rf1, rf0, cq, Nat.reduceAdd, Nat.reduceEqDiff, Int.reduceToNat, eq_self, true_and, and_true, true_or, or_true, bI_0, bI_1, mm, rAm, mF_sF, mR_sR, false_and, and_false, if_false, if_true, false_or, or_false, not_true_eq_false, not_false_eq_true, and_self]
    refine ⟨(fun h => by first | exact False.elim h | exact absurd trivial h | (exfalso; omega) | exact absurd rfl h | cases h), fun _ => ?_⟩
    simp (disch := first | (simp only [dd, dr]; done) | omega) only [W_156, I_lt, I_le, I_inj, inB_I, tc_I, Int.toNat_natCast, fkt, rf1, rf0, cq, Nat.reduceAdd, Nat.reduceEqDiff, Int.reduceToNat, eq_self, true_and, and_true, true_or, or_true, bI_0, bI_1, mm, rAm, mF_sF, mR_sR, false_and, and_false, if_false, if_true, false_or, or_false, not_true_eq_false, not_false_eq_true, and_self]
    exact ref 4 (by omega) (by omega) (by rw [if_neg h1', if_neg h2', if_neg h3', if_pos (by have := hcf.mp (by omega); omega)])
  have hv60 : v ≤ 60 := by
    apply Classical.byContradiction
    intro h
    have := hcf.mpr h
    omega
  have h45 : tol T X zo (nn : Int) = -1 ∧ v ≤ 60 := ⟨by omega, hv60⟩
  rw [if_neg h1', if_neg h2', if_neg h3', if_neg (fun h => h h45)] at hX hR
  obtain ⟨v1, v2, v3, v4⟩ := fro_cn (fun o => iso T o) 60 1
  rw [← hv] at v1 v2 v3 v4
  have hvn : ky v 0 0 ∉ its T := by
    intro h
    have := v2 (by omega)
    rw [show iso T (v : Int) = true from decide_eq_true ⟨by omega, by omega, by rw [Int.toNat_natCast]; exact h⟩] at this
    cases this
  have hzv : zo ≠ v := fun e => by rw [e] at o3; exact hvn o3
  have hf0 : fu f 54 (0 : Int) 54 = 0 := fu_s _ _ _
  simp (disch := first | (simp only [dd, dr]; done) | omega) only [W_156, msK, msR, msF, ms1, msS1, k0, k1, k6, msSF, hf0, I_lt, I_le, I_inj, inB_I, tc_I, Int.toNat_natCast, fkt, rf1, rf0, cq, Nat.reduceAdd, Nat.reduceEqDiff, Int.reduceToNat, eq_self, true_and, and_true, true_or, or_true, bI_0, bI_1, mm, rAm, mF_sF, mR_sR, false_and, and_false, if_false, if_true, false_or, or_false, not_true_eq_false, not_false_eq_true, and_self]
  refine ⟨fun _ => ?_, (fun h => by first | exact False.elim h | exact absurd trivial h | (exfalso; omega) | exact absurd rfl h | cases h)⟩
  simp (disch := first | (simp only [dd, dr]; done) | omega) only [W_156, msK, msR, msF, ms1, msS1, k0, k1, k6, I_lt, I_le, I_inj, inB_I, tc_I, Int.toNat_natCast, fkt, rf1, rf0, cq, Nat.reduceAdd, Nat.reduceEqDiff, Int.reduceToNat, eq_self, true_and, and_true, true_or, or_true, bI_0, bI_1, mm, rAm, mF_sF, mR_sR, false_and, and_false, if_false, if_true, false_or, or_false, not_true_eq_false, not_false_eq_true, and_self]
  refine ca_166 (by omega) (m_begin hK' (by omega) ?_)
  simp (disch := first | (simp only [dd, dr]; done) | omega) only [W_156, I_lt, I_le, I_inj, inB_I, tc_I, Int.toNat_natCast, fkt, rf1, rf0, cq, Nat.reduceAdd, Nat.reduceEqDiff, Int.reduceToNat, eq_self, true_and, and_true, true_or, or_true, bI_0, bI_1, mm, rAm, mF_sF, mR_sR, false_and, and_false, if_false, if_true, false_or, or_false, not_true_eq_false, not_false_eq_true, and_self]
  generalize hb1 : kp s b = b1
  have hb1x : ∀ x, 0 ≤ x → x < 25366 → b1 x = s x := fun x _ h => by rw [← hb1]; unfold kp; rw [if_pos h]
  generalize hf1 : fu (fu f 54 0) 47 0 = f1
  have g47 : f1 47 = 0 := by rw [← hf1, fu_s]
  have g54 : f1 54 = 0 := by rw [← hf1, fu_n _ _ (by omega), fu_s]
  have g43 : f1 43 = m := by rw [← hf1, fu_n _ _ (by omega), fu_n _ _ (by omega)]; exact f43
  have ge : Fe f f1 := fun g a1 a2 _ => by rw [← hf1, fu_n _ _ a1, fu_n _ _ a2]
  clear hf1 hb1 ref
  -- the first number that isn't in use
  have fnd : ∀ N i, i + N = v → 1 ≤ i → Wp d 156 78 [some (.ref o), some (.int (I (zo : Nat))), some (.int (I (nn : Nat))), some (.int (I (bI dir))), some (.int (I (v : Nat)))] [] (ms M o f1 s b1 c w j) Q → Wp d 156 78 [some (.ref o), some (.int (I (zo : Nat))), some (.int (I (nn : Nat))), some (.int (I (bI dir))), some (.int (I (i : Nat)))] [] (ms M o f1 s b1 c w j) Q := by
    intro N
    induction N with
    | zero => intro i hi _ h; rw [show i = v by omega]; exact h
    | succ N ih =>
      intro i hi h1 h
      have hu := v4 i h1 (by omega)
      have hs := S.2.1 i (by omega)
      have hki := (of_decide_eq_true hu).2.2
      rw [Int.toNat_natCast] at hki
      rw [if_pos hki] at hs
      have oo := O.1 i (by omega) hki
      simp (disch := first | (simp only [dd, dr]; done) | omega) only [w_156_78, W_156, msK, msR, msF, ms1, msS1, k0, k1, k6, hs, I_lt, I_le, I_inj, inB_I, tc_I, Int.toNat_natCast, fkt, rf1, rf0, cq, Nat.reduceAdd, Nat.reduceEqDiff, Int.reduceToNat, eq_self, true_and, and_true, true_or, or_true, bI_0, bI_1, mm, rAm, mF_sF, mR_sR, false_and, and_false, if_false, if_true, false_or, or_false, not_true_eq_false, not_false_eq_true, and_self]
      refine ⟨(fun h => by first | exact False.elim h | exact absurd trivial h | (exfalso; omega) | exact absurd rfl h | cases h), fun _ => ?_⟩
      simp (disch := first | (simp only [dd, dr]; done) | omega) only [W_156, I_lt, I_le, I_inj, inB_I, tc_I, Int.toNat_natCast, fkt, rf1, rf0, cq, Nat.reduceAdd, Nat.reduceEqDiff, Int.reduceToNat, eq_self, true_and, and_true, true_or, or_true, bI_0, bI_1, mm, rAm, mF_sF, mR_sR, false_and, and_false, if_false, if_true, false_or, or_false, not_true_eq_false, not_false_eq_true, and_self]
      rw [show ((i : Int) + 1) = ((i + 1 : Nat) : Int) by omega]
      exact ih (i + 1) (by omega) (by omega) h
  refine fnd (v - 1) 1 (by omega) (by omega) ?_
  clear fnd
  have hsv := S.2.1 v (by omega)
  rw [if_neg hvn] at hsv
  simp (disch := first | (simp only [dd, dr]; done) | omega) only [w_156_78, W_156, msK, msR, msF, ms1, msS1, k0, k1, k6, hsv, I_lt, I_le, I_inj, inB_I, tc_I, Int.toNat_natCast, fkt, rf1, rf0, cq, Nat.reduceAdd, Nat.reduceEqDiff, Int.reduceToNat, eq_self, true_and, and_true, true_or, or_true, bI_0, bI_1, mm, rAm, mF_sF, mR_sR, false_and, and_false, if_false, if_true, false_or, or_false, not_true_eq_false, not_false_eq_true, and_self]
  refine ⟨fun _ => ?_, (fun h => by first | exact False.elim h | exact absurd trivial h | (exfalso; omega) | exact absurd rfl h | cases h)⟩
  suffices go : ∀ (kk : Nat) (kz : Int), kz = kk → kk = (if dir = true then 1 else 2) → Ca d 156 160 [some (.ref o), some (.int (I (zo : Nat))), some (.int (I (nn : Nat))), some (.int (I (bI dir))), some (.int (I (v : Nat)))] 167 [.ref o, .int (I (v : Nat)), .int (I 0), .int (I 0), .int (I 6), .int (I 0)] [] (ms M o f1 (fz (fz (fz (fz s (96 + (v : Int)) kz) (157 + (v : Int)) 1) (218 + (v : Int)) 0) (279 + (v : Int)) 0) b1 c w j) Q by
    simp (disch := first | (simp only [dd, dr]; done) | omega) only [W_156, msK, msR, msF, ms1, msS1, k0, k1, k6, I_lt, I_le, I_inj, inB_I, tc_I, Int.toNat_natCast, fkt, rf1, rf0, cq, Nat.reduceAdd, Nat.reduceEqDiff, Int.reduceToNat, eq_self, true_and, and_true, true_or, or_true, bI_0, bI_1, mm, rAm, mF_sF, mR_sR, false_and, and_false, if_false, if_true, false_or, or_false, not_true_eq_false, not_false_eq_true, and_self]
    refine ⟨fun h => ?_, fun h => ?_⟩
    · simp (disch := first | (simp only [dd, dr]; done) | omega) only [W_156, msK, msR, msF, ms1, msS1, k0, k1, k6, I_lt, I_le, I_inj, inB_I, tc_I, Int.toNat_natCast, fkt, rf1, rf0, cq, Nat.reduceAdd, Nat.reduceEqDiff, Int.reduceToNat, eq_self, true_and, and_true, true_or, or_true, bI_0, bI_1, mm, rAm, mF_sF, mR_sR, false_and, and_false, if_false, if_true, false_or, or_false, not_true_eq_false, not_false_eq_true, and_self]
      exact go 2 2 rfl (by rw [h]; rfl)
    · have h : dir = true := by simpa using h
      simp (disch := first | (simp only [dd, dr]; done) | omega) only [W_156, msK, msR, msF, ms1, msS1, k0, k1, k6, I_lt, I_le, I_inj, inB_I, tc_I, Int.toNat_natCast, fkt, rf1, rf0, cq, Nat.reduceAdd, Nat.reduceEqDiff, Int.reduceToNat, eq_self, true_and, and_true, true_or, or_true, bI_0, bI_1, mm, rAm, mF_sF, mR_sR, false_and, and_false, if_false, if_true, false_or, or_false, not_true_eq_false, not_false_eq_true, and_self]
      exact go 1 1 rfl (by rw [h]; rfl)
  intro kk kz hkz hkk
  subst hkz
  have hkk2 : 1 ≤ kk ∧ kk ≤ 2 := by rw [hkk]; split <;> omega
  rw [← hkk] at hX hR
  clear hkk
  generalize hs1 : fz (fz (fz (fz s (96 + (v : Int)) (kk : Int)) (157 + (v : Int)) 1) (218 + (v : Int)) 0) (279 + (v : Int)) 0 = s1
  have q1 : s1 (96 + v) = kk := by rw [← hs1, fz_n _ _ (by omega), fz_n _ _ (by omega), fz_n _ _ (by omega), fz_e _ _ rfl]
  have q2 : s1 (157 + v) = 1 := by rw [← hs1, fz_n _ _ (by omega), fz_n _ _ (by omega), fz_e _ _ rfl]
  have q3 : s1 (218 + v) = 0 := by rw [← hs1, fz_n _ _ (by omega), fz_e _ _ rfl]
  have q4 : s1 (279 + v) = 0 := by rw [← hs1, fz_e _ _ rfl]
  have q5 : ∀ x, x ≠ 96 + (v : Int) → x ≠ 157 + (v : Int) → x ≠ 218 + (v : Int) → x ≠ 279 + (v : Int) → s1 x = s x := fun x a1 a2 a3 a4 => by rw [← hs1, fz_n _ _ a4, fz_n _ _ a3, fz_n _ _ a2, fz_n _ _ a1]
  clear hs1
  have t1 : MT s1 T (szO X) (tlX X) := S.1.eqs (fun x hx => q5 x (by omega) (by omega) (by omega) (by omega))
  generalize hcd : (match stT m (szO X) T (ky v 0 0) 6 with
    | some (true, T1) => (match stT m (szO (vS X v kk 1 0)) T1 (ky zo 1 nn) 3 with
      | some (true, _) => 0
      | _ => 4)
    | _ => 4 : Nat) = cd at hX hR
  -- the end, when there was no room
  have bad : cd = 4 → ∀ (s2 : Int → Int), Wp d 156 180 [some (.ref o), some (.int (I (zo : Nat))), some (.int (I (nn : Nat))), some (.int (I (bI dir))), some (.int (I (v : Nat)))] [] (ms M o (fu f1 47 1) s2 b1 c w j) Q := by
    intro h4 s2
    simp (disch := first | (simp only [dd, dr]; done) | omega) only [W_156, msK, msR, msF, ms1, msS1, k0, k1, k6, I_lt, I_le, I_inj, inB_I, tc_I, Int.toNat_natCast, fkt, rf1, rf0, cq, Nat.reduceAdd, Nat.reduceEqDiff, Int.reduceToNat, eq_self, true_and, and_true, true_or, or_true, bI_0, bI_1, mm, rAm, mF_sF, mR_sR, false_and, and_false, if_false, if_true, false_or, or_false, not_true_eq_false, not_false_eq_true, and_self]
    refine ca_183 (by omega) (m_ended hK' (by omega) (fun h => ?_) (fun h => ?_) (.inr (fu_s _ _ _)))
    · rw [fu_s] at h; cases h
    · simp (disch := first | (simp only [dd, dr]; done) | omega) only [W_156, I_lt, I_le, I_inj, inB_I, tc_I, Int.toNat_natCast, fkt, rf1, rf0, cq, Nat.reduceAdd, Nat.reduceEqDiff, Int.reduceToNat, eq_self, true_and, and_true, true_or, or_true, bI_0, bI_1, mm, rAm, mF_sF, mR_sR, false_and, and_false, if_false, if_true, false_or, or_false, not_true_eq_false, not_false_eq_true, and_self]
      refine ⟨fun _ => ?_, (fun h => by first | exact False.elim h | exact absurd trivial h | (exfalso; omega) | exact absurd rfl h | cases h)⟩
      simp (disch := first | (simp only [dd, dr]; done) | omega) only [W_156, I_lt, I_le, I_inj, inB_I, tc_I, Int.toNat_natCast, fkt, rf1, rf0, cq, Nat.reduceAdd, Nat.reduceEqDiff, Int.reduceToNat, eq_self, true_and, and_true, true_or, or_true, bI_0, bI_1, mm, rAm, mF_sF, mR_sR, false_and, and_false, if_false, if_true, false_or, or_false, not_true_eq_false, not_false_eq_true, and_self]
      refine hX (by omega) _ _ b1 (fun g a1 a2 a3 => ?_) ?_ (fun x a1 a2 => ?_)
      · rw [fu_n _ _ a2, fu_n _ _ a1]; exact ge g a1 a2 a3
      · rw [fu_s, h4]; rfl
      · unfold kp; rw [if_pos a2]; exact hb1x x a1 a2
  obtain ⟨ok1, T1, hg1, hgo1⟩ := stT_ok (key := ky v 0 0) (n := 6) hm2 W (by omega)
  have hg1 : stT m (szO X) T (ky v 0 0) 6 = some (ok1, T1) := hg1
  rw [hg1] at hcd
  refine ca_167 (by omega) (t_put1 hK' hm1 hm2 g43 g47 (ob := v) (so := 0) (na := 0) (body := 6) (told := 0) (by omega) t1 W (by omega) (by omega) (by omega) (by omega) (by omega) (by omega) hvn hg1 (fun hok s2 m2 F2 => ?_) (fun hok s2 F2 => ?_))
  rotate_left
  · subst hok
    have hf : fu f1 47 1 47 = 1 := fu_s _ _ _
    simp (disch := first | (simp only [dd, dr]; done) | omega) only [W_156, msK, msR, msF, ms1, msS1, k0, k1, k6, hf, I_lt, I_le, I_inj, inB_I, tc_I, Int.toNat_natCast, fkt, rf1, rf0, cq, Nat.reduceAdd, Nat.reduceEqDiff, Int.reduceToNat, eq_self, true_and, and_true, true_or, or_true, bI_0, bI_1, mm, rAm, mF_sF, mR_sR, false_and, and_false, if_false, if_true, false_or, or_false, not_true_eq_false, not_false_eq_true, and_self]
    refine ⟨fun _ => ?_, (fun h => by first | exact False.elim h | exact absurd trivial h | (exfalso; omega) | exact absurd rfl h | cases h)⟩
    exact bad hcd.symm s2
  subst hok
  simp only [] at hcd
  rw [fu_idv (szO_0 X v), fu_idv (tlX_k X (o := v) (k := 0) (by omega) (by omega))] at m2
  obtain ⟨W1, SF1⟩ := hgo1 rfl
  have W1 : Wf m (szO X) T1 := by
    have := W1
    rw [show (fu (fun k => (pyO X k).length) (ky v 0 0) 6) = szO X from fu_idv (szO_0 X v)] at this
    exact this
  have mem1 := SF1.mem W
  obtain ⟨ok2, T2, hg2, hgo2⟩ := stT_ok (key := ky zo 1 nn) (n := 3) hm2 W1 (by omega)
  rw [szO_vS] at hcd hR
  rw [hg2] at hcd
  have hkn : ky zo 1 nn ∉ its T1 := by
    intro h
    rcases (mem1 _).mp h with ⟨h, _⟩ | ⟨_, h⟩
    · have := (ky_inj (by omega) (by omega) (by omega) (by omega) h).2.1; omega
    · have := h45.1
      unfold tol at this
      rw [Int.toNat_natCast, if_pos ⟨by omega, by omega, h⟩] at this
      omega
  simp (disch := first | (simp only [dd, dr]; done) | omega) only [W_156, msK, msR, msF, ms1, msS1, k0, k1, k6, g47, I_lt, I_le, I_inj, inB_I, tc_I, Int.toNat_natCast, fkt, rf1, rf0, cq, Nat.reduceAdd, Nat.reduceEqDiff, Int.reduceToNat, eq_self, true_and, and_true, true_or, or_true, bI_0, bI_1, mm, rAm, mF_sF, mR_sR, false_and, and_false, if_false, if_true, false_or, or_false, not_true_eq_false, not_false_eq_true, and_self]
  refine ⟨(fun h => by first | exact False.elim h | exact absurd trivial h | (exfalso; omega) | exact absurd rfl h | cases h), fun _ => ?_⟩
  simp (disch := first | (simp only [dd, dr]; done) | omega) only [W_156, msK, msR, msF, ms1, msS1, k0, k1, k6, I_lt, I_le, I_inj, inB_I, tc_I, Int.toNat_natCast, fkt, rf1, rf0, cq, Nat.reduceAdd, Nat.reduceEqDiff, Int.reduceToNat, eq_self, true_and, and_true, true_or, or_true, bI_0, bI_1, mm, rAm, mF_sF, mR_sR, false_and, and_false, if_false, if_true, false_or, or_false, not_true_eq_false, not_false_eq_true, and_self]
  refine ca_167 (by omega) (t_put1 hK' hm1 hm2 g43 g47 (ob := zo) (so := 1) (na := nn) (body := 3) (told := v) (by omega) m2 W1 (by omega) (by omega) (by omega) (by omega) (by omega) (by omega) hkn hg2 (fun hok s3 m3 F3 => ?_) (fun hok s3 F3 => ?_))
  rotate_left
  · subst hok
    simp (disch := first | (simp only [dd, dr]; done) | omega) only [I_lt, I_le, I_inj, inB_I, tc_I, Int.toNat_natCast, fkt, rf1, rf0, cq, Nat.reduceAdd, Nat.reduceEqDiff, Int.reduceToNat, eq_self, true_and, and_true, true_or, or_true, bI_0, bI_1, mm, rAm, mF_sF, mR_sR, false_and, and_false, if_false, if_true, false_or, or_false, not_true_eq_false, not_false_eq_true, and_self]
    exact bad hcd.symm s3
  subst hok
  simp only [] at hcd
  rw [fu_idv (szO_1 X zo (by omega))] at m3
  have SF2 := (hgo2 rfl).2
  have mem2 := SF2.mem W1
  have e218 : s3 (218 + zo) = oS X zo := by
    rw [F3 _ (by omega), F2 _ (by omega), q5 _ (by omega) (by omega) (by omega) (by omega)]
    exact (S.2.2.1 zo (by omega) o3).2.1
  simp (disch := first | (simp only [dd, dr]; done) | omega) only [W_156, msK, msR, msF, ms1, msS1, k0, k1, k6, e218, I_lt, I_le, I_inj, inB_I, tc_I, Int.toNat_natCast, fkt, rf1, rf0, cq, Nat.reduceAdd, Nat.reduceEqDiff, Int.reduceToNat, eq_self, true_and, and_true, true_or, or_true, bI_0, bI_1, mm, rAm, mF_sF, mR_sR, false_and, and_false, if_false, if_true, false_or, or_false, not_true_eq_false, not_false_eq_true, and_self]
  refine ca_183 (by omega) (m_ended hK' (by omega) (fun h => ?_) (fun h => ?_) (.inl g47))
  rotate_left
  · rw [g47] at h; cases h
  simp (disch := first | (simp only [dd, dr]; done) | omega) only [W_156, I_lt, I_le, I_inj, inB_I, tc_I, Int.toNat_natCast, fkt, rf1, rf0, cq, Nat.reduceAdd, Nat.reduceEqDiff, Int.reduceToNat, eq_self, true_and, and_true, true_or, or_true, bI_0, bI_1, mm, rAm, mF_sF, mR_sR, false_and, and_false, if_false, if_true, false_or, or_false, not_true_eq_false, not_false_eq_true, and_self]
  refine ⟨(fun h => by first | exact False.elim h | exact absurd trivial h | (exfalso; omega) | exact absurd rfl h | cases h), fun _ => ?_⟩
  simp (disch := first | (simp only [dd, dr]; done) | omega) only [W_156, I_lt, I_le, I_inj, inB_I, tc_I, Int.toNat_natCast, fkt, rf1, rf0, cq, Nat.reduceAdd, Nat.reduceEqDiff, Int.reduceToNat, eq_self, true_and, and_true, true_or, or_true, bI_0, bI_1, mm, rAm, mF_sF, mR_sR, false_and, and_false, if_false, if_true, false_or, or_false, not_true_eq_false, not_false_eq_true, and_self]
  refine hR hcd.symm T1 T2 hg1 hg2 f1 _ b1 ge g54 ⟨?_, ?_⟩
  · have t3 : MT (fz s3 (218 + (zo : Int)) ((oS X zo : Int) + 1)) T2 (szO X) (fu (tlX X) (ky zo 1 nn) v) := m3.eqs (fun x hx => fz_n _ _ (by omega))
    unfold mkX
    rw [szO_vS, szO_vE _ _ _ (by omega), szO_vS, tlX_vS, tlX_vE _ _ _ (by omega), tlX_vS]
    exact t3
  · have mo1 : MO s2 T1 (vS X v kk 1 0) dt := S.2.new (by omega) hl (hA v hvn) (by rw [F2 _ (by omega)]; exact q1) (by rw [F2 _ (by omega)]; exact q2) (by rw [F2 _ (by omega)]; exact q3) (by rw [F2 _ (by omega)]; exact q4) (fun x hx a1 a2 a3 a4 => by rw [F2 _ (by omega)]; exact q5 x a1 a2 a3 a4) (fun o' ho' => by
      rw [mem1]
      constructor
      · rintro (⟨h, _⟩ | ⟨_, h⟩)
        · exact .inl (ky_inj (by omega) (by omega) (by omega) (by omega) h).1
        · exact .inr h
      · rintro (h | h)
        · left; rw [h]; exact ⟨rfl, by omega⟩
        · by_cases e : ky o' 0 0 = ky v 0 0
          · exact .inl ⟨e, by omega⟩
          · exact .inr ⟨e, h⟩) SF1.2.1
    have hl1 : ∀ o', o' < 61 → ky o' 0 0 ∈ its T1 → (oD (vS X v kk 1 0) o').length ≤ 16 := by
      intro o' ho' h
      show (oD X o').length ≤ 16
      rcases (mem1 _).mp h with ⟨h, _⟩ | ⟨_, h⟩
      · have e := (ky_inj (by omega) (by omega) (by omega) (by omega) h).1
        rw [e, (hA v hvn).1]; simp
      · exact hl o' ho' h
    have hi2 : ∀ o', o' < 61 → (ky o' 0 0 ∈ its T2 ↔ ky o' 0 0 ∈ its T1) := by
      intro o' ho'
      rw [mem2]
      constructor
      · rintro (⟨h, _⟩ | ⟨_, h⟩)
        · have := (ky_inj (by omega) (by omega) (by omega) (by omega) h).2.1; omega
        · exact h
      · intro h
        exact .inr ⟨fun e => by have := (ky_inj (by omega) (by omega) (by omega) (by omega) e).2.1; omega, h⟩
    have mo2 : MO s3 T2 (vS X v kk 1 0) dt := mo1.tree F3 hl1 hi2 SF2.2.1
    have mo3 : MO s3 T2 (vE (vS X v kk 1 0) (ky zo 1 nn) v) dt := mo2
    have o3' : ky zo 0 0 ∈ its T2 := (hi2 zo (by omega)).mpr ((mem1 _).mpr (.inr ⟨fun e => hzv (ky_inj (by omega) (by omega) (by omega) (by omega) e).1, o3⟩))
    have eL : s3 (157 + zo) = oL (vS X v kk 1 0) zo := (mo2.2.1 zo (by omega) o3').1
    have eS : oS (vS X v kk 1 0) zo = oS X zo := by rw [(vS_at X v kk 1 0).2.2.1, fu_n _ _ hzv]
    refine mo3.st (by omega) (fun o' ho' h => hl1 o' ho' ((hi2 o' ho').mp h)) ?_ ?_ (fun x a1 a2 => fz_n _ _ a2)
    · rw [fz_n _ _ (by omega)]; exact eL
    · rw [fz_e _ _ rfl, eS]; rfl
end Mmk
