/-! ===== THE COMPONENT: remove, unlink ===== -/
section Unl
variable {d p m J : Nat} {M M' : Mem} {A A' : Ad} {T T' : Tr} {X X' : Ob} {Q : Outcome → Mem → Prop} {ok : Bool} {dt : Nat → Nat → Nat}
/-- an item goes -/
def dlT (m : Nat) (sz : Nat → Nat) (T : Tr) (key : Nat) : Tr := match stT m sz T key 0 with
  | some (_, T') => T'
  | none => T
theorem dlT_ok {sz : Nat → Nat} {key : Nat} (W : Wf m sz T) : stT m sz T key 0 = some (true, dlT m sz T key) := by
  unfold dlT stT
  by_cases h : key ∈ its T
  · obtain ⟨T', a1, _⟩ := set_del W h
    simp only [if_pos h, a1, if_true]
    rfl
  · simp only [if_neg h, if_true]
theorem dlT_st {sz : Nat → Nat} {key : Nat} (hm : m ≤ 96) (W : Wf m sz T) : StF T (dlT m sz T key) key 0 ∧ Wf m sz (dlT m sz T key) := by
  obtain ⟨ok2, T2, hg2, hgo⟩ := stT_ok (key := key) (n := 0) hm W (by omega)
  rw [dlT_ok W] at hg2
  obtain ⟨e1, e2⟩ := Prod.mk.inj (Option.some.inj hg2)
  have h := hgo e1.symm
  rw [← e2] at h
  refine ⟨h.2, h.1.szs (fun k hk => ?_)⟩
  rcases (h.2.mem W k).mp hk with ⟨_, h'⟩ | ⟨h', _⟩
  · exact absurd rfl h'
  · rw [fu_n _ _ h']
/-- frames that keep rows -/
def Cr (p : Nat) (A A' : Ad) (x : Nat) (M M' : Mem) : Prop := CF p A A' x M M' ∧ ∀ a i, p ≤ a → a ≤ p + 194 → mA M' a i = mA M a i
theorem Cr.trans {x x' : Nat} {A'' : Ad} {M'' : Mem} (h : Cr p A A' x M M') (h' : Cr p A' A'' x' M' M'') : Cr p A A'' (x + x') M M'' := ⟨h.1.trans h'.1, fun a i h1 h2 => (h'.2 a i h1 h2).trans (h.2 a i h1 h2)⟩
theorem Cb.cr {x : Nat} (h : Cb p A A' x M M') : Cr p A A' x M M' := ⟨h.1, fun a i h1 h2 => h.2 a i h1 (by omega) (by omega)⟩
theorem Sc.cr (h : Sc p M M') (A : Ad) : Cr p A A 0 M M' := ⟨h.cf A, fun a i h1 h2 => h.2.2.2.2 a i (by omega)⟩
theorem DR.cr {x : Nat} (D : DR M p T dt) (hu : ∀ b, tU T b = true → b < 96) (h5 : p + 403 + J ≤ mN M) (F : Cr p A A' x M M') (V : Pv T T') : DR M' p T' dt := by
  intro b h1 h2 h3
  obtain ⟨v1, v2⟩ := V b h1 h2
  have r := D b v1 v2 h3
  have hb := hu b v1
  refine ⟨?_, fun i hi => by rw [F.2 _ _ (by omega) (by omega)]; exact r.2 i hi⟩
  have := r.1
  unfold kX at this ⊢
  rw [F.1.1 _ (by omega)]; exact this
theorem fes_pv (l : List Nat) (T : Tr) : Pv T (fes l T) := by
  obtain ⟨h1, _, _, _, _, _, _, h8⟩ := fes_at l T
  intro b a1 a2
  rw [h8, Bool.and_eq_true] at a1
  rw [h1] at a2
  exact ⟨a1.1, a2⟩
theorem fes_its (l : List Nat) (T : Tr) : its (fes l T) = its T := by
  obtain ⟨h1, h2, h3, h4, h5, _⟩ := fes_at l T
  unfold its; rw [h2, h5]
theorem x_del (hd : 22 ≤ d) (C : CX M p m J A T X) {key : Nat} (hkey : key < 1000000) (hne : its (dlT m (szO X) T key) ≠ []) (hQ : ∀ M' A', CX M' p m J A' (dlT m (szO X) T key) X → StF T (dlT m (szO X) T key) key 0 → Cb p A A' 0 M M' → Q (.returned none) M') :
    Wp d 97 0 [some (.ref (p + 201)), some (.int (I (key : Nat))), some (.ref (p + 196)), some (.int (I 0)), none, none, none] [] M Q := by
  have hm := C.1.2.2.2.2.2.2.2.2.2.2.2.1
  have S := (dlT_st (key := key) hm C.2.2.1.1).1
  refine x_set (ok := true) (bs := []) (X' := X) hd C hkey (fun i w hw => by cases hw) (by show (0 : Nat) ≤ 40; omega) (dlT_ok C.2.2.1.1) (fun _ k hk => ?_) (fun _ => hne) (fun _ M' A' C' S' F' => hQ M' A' C' S (F'.cb (J := J) C.2.2.2.1 C.2.2.2.2)) (fun h => by cases h)
  rcases (S.mem C.2.2.1.1 k).mp hk with ⟨_, h'⟩ | ⟨h', _⟩
  · exact absurd rfl h'
  · rw [fu_n _ _ h']
def rmT (m : Nat) (X : Ob) (T : Tr) (o : Nat) : Tr := dlT m (szO X) (dlT m (szO X) (dlT m (szO X) (fes (oD X o).reverse T) (ky o 3 0)) (ky o 2 0)) (ky o 0 0)
set_option maxHeartbeats 2000000 in
theorem n_remove (hd : 24 ≤ d) (C : CX M p m J A T X) {o : Nat} (ho1 : 2 ≤ o) (ho : o ≤ 60) (hD : ky o 2 0 ∈ its T ↔ oD X o ≠ []) (hdb : ∀ b ∈ oD X o, 1 ≤ b ∧ b < 96 ∧ tH T b = 0) (hl : (oD X o).length ≤ 16) (h1 : ky 1 0 0 ∈ its T)
    (hQ : ∀ M' A', CX M' p m J A' (rmT m X T o) X → Cr p A A' 0 M M' → Pv T (rmT m X T o) → Q (.returned none) M') : Wp d 55 0 [some (.ref p), some (.int (I (o : Nat))), none] [] M Q := by
  have k0 := C.1.1.1
  have hm := C.1.2.2.2.2.2.2.2.2.2.2.2.1
  simp (disch := first | (simp only [dd, dr]; done) | omega) only [W_55, k0, I_lt, I_le, I_inj, inB_I, tc_I, Int.toNat_natCast, fkt, rf1, rf0, cq, Nat.reduceAdd, Nat.reduceEqDiff, Int.reduceToNat, eq_self, true_and, and_true, true_or, or_true, bI_0, bI_1, mm, rAm, mF_sF, mR_sR, false_and, and_false, if_false, if_true, false_or, or_false, not_true_eq_false, not_false_eq_true, and_self]
  refine ca_56 (by omega) (n_readPointers (by omega) C ho hD (fun b hb => by have := hdb b hb; omega) hl (fun M1 g T1 C1 hg => ?_))
  have F1 : Cr p A A 0 M (rA M1 (p + 198) g) := (T1.sc.trans (Sc.rA p M1 (w := p + 198) ⟨by omega, by omega⟩ g)).cr A
  have hg' : ∀ k v, (oD X o)[k]? = some v → mA (rA M1 (p + 198) g) (p + 198) k = I (v : Nat) := fun k v hv => by rw [mA_rA, if_pos rfl]; exact hg k v hv
  generalize rA M1 (p + 198) g = M2 at *
  clear hg T1 M1
  simp (disch := first | (simp only [dd, dr]; done) | omega) only [W_55, I_lt, I_le, I_inj, inB_I, tc_I, Int.toNat_natCast, fkt, rf1, rf0, cq, Nat.reduceAdd, Nat.reduceEqDiff, Int.reduceToNat, eq_self, true_and, and_true, true_or, or_true, bI_0, bI_1, mm, rAm, mF_sF, mR_sR, false_and, and_false, if_false, if_true, false_or, or_false, not_true_eq_false, not_false_eq_true, and_self]
  suffices H : ∀ (i : Nat) (M3 : Mem), i ≤ (oD X o).length → CX M3 p m J A (fes ((oD X o).drop i).reverse T) X → Cr p A A 0 M M3 → (∀ k v, (oD X o)[k]? = some v → mA M3 (p + 198) k = I (v : Nat)) → Wp d 55 8 [some (.ref p), some (.int (I (o : Nat))), some (.int (I ((i : Int) - 1)))] [] M3 Q by
    refine H (oD X o).length M2 (Nat.le_refl _) ?_ F1 hg'
    rw [List.drop_length]; exact C1
  intro i
  induction i with
  | zero =>
    intro M3 hi C3 F3 hp
    rw [List.drop_zero] at C3
    have k03 := C3.1.1.1
    have k93 := C3.1.1.2.2.2.2.2.2.2.2.1
    have kb3 := C3.1.1.2.2.2.2.1
    have kt3 := C3.2.1.1.1.1
    simp (disch := first | (simp only [dd, dr]; done) | omega) only [w_55_8, W_55, I_lt, I_le, I_inj, inB_I, tc_I, Int.toNat_natCast, fkt, rf1, rf0, cq, Nat.reduceAdd, Nat.reduceEqDiff, Int.reduceToNat, eq_self, true_and, and_true, true_or, or_true, bI_0, bI_1, mm, rAm, mF_sF, mR_sR, false_and, and_false, if_false, if_true, false_or, or_false, not_true_eq_false, not_false_eq_true, and_self]
    refine ⟨fun _ => ?_, (fun h => by first | exact False.elim h | exact absurd trivial h | (exfalso; omega) | exact absurd rfl h | cases h)⟩
    simp (disch := first | (simp only [dd, dr]; done) | omega) only [W_55, k03, k93, I_lt, I_le, I_inj, inB_I, tc_I, Int.toNat_natCast, fkt, rf1, rf0, cq, Nat.reduceAdd, Nat.reduceEqDiff, Int.reduceToNat, eq_self, true_and, and_true, true_or, or_true, bI_0, bI_1, mm, rAm, mF_sF, mR_sR, false_and, and_false, if_false, if_true, false_or, or_false, not_true_eq_false, not_false_eq_true, and_self]
    refine ca_24 (by omega) (c_keyOf ?_)
    rw [show ((o : Int) * 4 + 3) * 1024 + 0 = ((ky o 3 0 : Nat) : Int) by unfold ky; omega]
    simp (disch := first | (simp only [dd, dr]; done) | omega) only [W_55, k03, kb3, kt3, I_lt, I_le, I_inj, inB_I, tc_I, Int.toNat_natCast, fkt, rf1, rf0, cq, Nat.reduceAdd, Nat.reduceEqDiff, Int.reduceToNat, eq_self, true_and, and_true, true_or, or_true, bI_0, bI_1, mm, rAm, mF_sF, mR_sR, false_and, and_false, if_false, if_true, false_or, or_false, not_true_eq_false, not_false_eq_true, and_self]
    have W3 := C3.2.2.1.1
    have S4 := (dlT_st (key := ky o 3 0) hm W3)
    have S5 := (dlT_st (key := ky o 2 0) hm S4.2)
    have S6 := (dlT_st (key := ky o 0 0) hm S5.2)
    have n3 : ky 1 0 0 ∈ its (fes (oD X o).reverse T) := by rw [fes_its]; exact h1
    have n4 : ky 1 0 0 ∈ its (dlT m (szO X) (fes (oD X o).reverse T) (ky o 3 0)) := (S4.1.mem W3 _).mpr (.inr ⟨by unfold ky; omega, n3⟩)
    have n5 := (S5.1.mem S4.2 (ky 1 0 0)).mpr (.inr ⟨by unfold ky; omega, n4⟩)
    have n6 := (S6.1.mem S5.2 (ky 1 0 0)).mpr (.inr ⟨by unfold ky; omega, n5⟩)
    refine cr_97 (by omega) (x_del (by omega) C3 (by unfold ky; omega) (ne_nil n4) (fun M4 A4 C4 _ F4 => ?_))
    have k04 := C4.1.1.1
    have k94 := C4.1.1.2.2.2.2.2.2.2.2.1
    have kb4 := C4.1.1.2.2.2.2.1
    have kt4 := C4.2.1.1.1.1
    simp (disch := first | (simp only [dd, dr]; done) | omega) only [W_55, k04, k94, I_lt, I_le, I_inj, inB_I, tc_I, Int.toNat_natCast, fkt, rf1, rf0, cq, Nat.reduceAdd, Nat.reduceEqDiff, Int.reduceToNat, eq_self, true_and, and_true, true_or, or_true, bI_0, bI_1, mm, rAm, mF_sF, mR_sR, false_and, and_false, if_false, if_true, false_or, or_false, not_true_eq_false, not_false_eq_true, and_self]
    refine ca_24 (by omega) (c_keyOf ?_)
    rw [show ((o : Int) * 4 + 2) * 1024 + 0 = ((ky o 2 0 : Nat) : Int) by unfold ky; omega]
    simp (disch := first | (simp only [dd, dr]; done) | omega) only [W_55, k04, kb4, kt4, I_lt, I_le, I_inj, inB_I, tc_I, Int.toNat_natCast, fkt, rf1, rf0, cq, Nat.reduceAdd, Nat.reduceEqDiff, Int.reduceToNat, eq_self, true_and, and_true, true_or, or_true, bI_0, bI_1, mm, rAm, mF_sF, mR_sR, false_and, and_false, if_false, if_true, false_or, or_false, not_true_eq_false, not_false_eq_true, and_self]
    refine cr_97 (by omega) (x_del (by omega) C4 (by unfold ky; omega) (ne_nil n5) (fun M5 A5 C5 _ F5 => ?_))
    have k05 := C5.1.1.1
    have k95 := C5.1.1.2.2.2.2.2.2.2.2.1
    have kb5 := C5.1.1.2.2.2.2.1
    have kt5 := C5.2.1.1.1.1
    simp (disch := first | (simp only [dd, dr]; done) | omega) only [W_55, k05, k95, I_lt, I_le, I_inj, inB_I, tc_I, Int.toNat_natCast, fkt, rf1, rf0, cq, Nat.reduceAdd, Nat.reduceEqDiff, Int.reduceToNat, eq_self, true_and, and_true, true_or, or_true, bI_0, bI_1, mm, rAm, mF_sF, mR_sR, false_and, and_false, if_false, if_true, false_or, or_false, not_true_eq_false, not_false_eq_true, and_self]
    refine ca_24 (by omega) (c_keyOf ?_)
    rw [show ((o : Int) * 4 + 0) * 1024 + 0 = ((ky o 0 0 : Nat) : Int) by unfold ky; omega]
    simp (disch := first | (simp only [dd, dr]; done) | omega) only [W_55, k05, kb5, kt5, I_lt, I_le, I_inj, inB_I, tc_I, Int.toNat_natCast, fkt, rf1, rf0, cq, Nat.reduceAdd, Nat.reduceEqDiff, Int.reduceToNat, eq_self, true_and, and_true, true_or, or_true, bI_0, bI_1, mm, rAm, mF_sF, mR_sR, false_and, and_false, if_false, if_true, false_or, or_false, not_true_eq_false, not_false_eq_true, and_self]
    refine cr_97 (by omega) (x_del (by omega) C5 (by unfold ky; omega) (ne_nil n6) (fun M6 A6 C6 _ F6 => ?_))
    simp (disch := first | (simp only [dd, dr]; done) | omega) only [W_55, I_lt, I_le, I_inj, inB_I, tc_I, Int.toNat_natCast, fkt, rf1, rf0, cq, Nat.reduceAdd, Nat.reduceEqDiff, Int.reduceToNat, eq_self, true_and, and_true, true_or, or_true, bI_0, bI_1, mm, rAm, mF_sF, mR_sR, false_and, and_false, if_false, if_true, false_or, or_false, not_true_eq_false, not_false_eq_true, and_self]
    exact hQ M6 A6 C6 (((F3.trans F4.cr).trans F5.cr).trans F6.cr) ((((fes_pv _ T).trans S4.1.2.1).trans S5.1.2.1).trans S6.1.2.1)
  | succ i ih =>
    intro M3 hi C3 F3 hp
    have hx : (oD X o)[i]? = some (oD X o)[i] := List.getElem?_eq_getElem (by omega)
    have hb := hdb _ (List.getElem_mem (h := show i < (oD X o).length by omega))
    have k03 := C3.1.1.1
    have k63 := C3.1.1.2.2.2.2.2.2.2.1
    have k53 := C3.1.1.2.2.2.2.2.2.1
    have k198 := C3.1.2.2.2.1.2.2.2
    have kr := C3.2.1.2.1.1
    have hpi := hp i _ hx
    simp (disch := first | (simp only [dd, dr]; done) | omega) only [w_55_8, W_55, I_lt, I_le, I_inj, inB_I, tc_I, Int.toNat_natCast, fkt, rf1, rf0, cq, Nat.reduceAdd, Nat.reduceEqDiff, Int.reduceToNat, eq_self, true_and, and_true, true_or, or_true, bI_0, bI_1, mm, rAm, mF_sF, mR_sR, false_and, and_false, if_false, if_true, false_or, or_false, not_true_eq_false, not_false_eq_true, and_self]
    refine ⟨(fun h => by first | exact False.elim h | exact absurd trivial h | (exfalso; omega) | exact absurd rfl h | cases h), fun _ => ?_⟩
    rw [show (((i + 1 : Nat) : Int) - 1) = (i : Int) by omega]
    simp (disch := first | (simp only [dd, dr]; done) | omega) only [W_55, k03, k63, k53, k198, hpi, kr, I_lt, I_le, I_inj, inB_I, tc_I, Int.toNat_natCast, fkt, rf1, rf0, cq, Nat.reduceAdd, Nat.reduceEqDiff, Int.reduceToNat, eq_self, true_and, and_true, true_or, or_true, bI_0, bI_1, mm, rAm, mF_sF, mR_sR, false_and, and_false, if_false, if_true, false_or, or_false, not_true_eq_false, not_false_eq_true, and_self]
    refine ca_89 (by omega) (r_free C3.2.1.2.1 hb.2.1 ?_)
    simp (disch := first | (simp only [dd, dr]; done) | omega) only [W_55, I_lt, I_le, I_inj, inB_I, tc_I, Int.toNat_natCast, fkt, rf1, rf0, cq, Nat.reduceAdd, Nat.reduceEqDiff, Int.reduceToNat, eq_self, true_and, and_true, true_or, or_true, bI_0, bI_1, mm, rAm, mF_sF, mR_sR, false_and, and_false, if_false, if_true, false_or, or_false, not_true_eq_false, not_false_eq_true, and_self]
    have hH : tH (fes ((oD X o).drop (i + 1)).reverse T) (oD X o)[i] = 0 := by rw [(fes_at _ T).1]; exact hb.2.2
    have C4 := C3.uu (b := (oD X o)[i]) (u := false) hH (by omega) (by intro h; cases h)
    have e : uU (fes ((oD X o).drop (i + 1)).reverse T) (oD X o)[i] false = fes ((oD X o).drop i).reverse T := by
      rw [List.drop_eq_getElem_cons (show i < (oD X o).length by omega), List.reverse_cons, fes_app]
      rfl
    rw [e] at C4
    refine ih _ (by omega) C4 (F3.trans (sA_cb p M3 A _ _).cr) (fun k v hv => ?_)
    rw [mA_sA, if_neg (by omega)]; exact hp k v hv
def ulX (X : Ob) (o v : Nat) : Ob := vS (vS X o (oK X o) (oL X o) (oS X o - 1)) v (oK X v) (oL X v - 1) (oS X v)
set_option maxHeartbeats 4000000 in
theorem c_unlink (hd : 60 ≤ d) (C : CX M p m J A T X) (D : DR M p T dt) (O : OK2 T X) {off : Bool} (hoff : mF M 25 (p + 205) = I (bI off)) {z n : Int} (z0 : -2147483648 ≤ z) (z1 : z < 2147483648) (n0 : -2147483648 ≤ n) (n1 : n < 2147483648)
    (hE : ∀ o nn, nn < 1000 → ky o 1 nn ∈ its T → 2 ≤ oE X (ky o 1 nn) ∧ oE X (ky o 1 nn) ≤ 60 ∧ ky (oE X (ky o 1 nn)) 0 0 ∈ its T ∧ oE X (ky o 1 nn) ≠ o ∧ 1 ≤ oS X o ∧ 1 ≤ oL X (oE X (ky o 1 nn))) (h100 : ky 1 0 0 ∈ its T)
    (hDt : ∀ v, (ky v 2 0 ∈ its T ↔ oD X v ≠ []) ∧ (∀ b ∈ oD X v, 1 ≤ b ∧ b < 96 ∧ tU T b = true ∧ tH T b = 0) ∧ (oD X v).length ≤ 16)
    (hX : Thr p m J A T X dt M Q (fun k => (k = 11 ∧ off = true) ∨ (off = false ∧ k = 12 ∧ ¬ (isk T X z 0 = true ∧ tol T X z.toNat n ≠ -1)) ∨ (off = false ∧ (isk T X z 0 = true ∧ tol T X z.toNat n ≠ -1) ∧ k = 14 ∧ ¬ (oK X (tol T X z.toNat n).toNat = 2 ∨ oS X (tol T X z.toNat n).toNat = 0))))
    (hR1 : off = false → isk T X z 0 = true → (0 ≤ n ∧ n < 1000 ∧ ky z.toNat 1 n.toNat ∈ its T) → ∀ v, v = oE X (ky z.toNat 1 n.toNat) → (oK X v = 2 ∨ oS X v = 0) → 2 ≤ oL X v → ∀ M' A', CX M' p m J A' (dlT m (szO X) T (ky z.toNat 1 n.toNat)) (ulX X z.toNat v) → DR M' p (dlT m (szO X) T (ky z.toNat 1 n.toNat)) dt → CF p A A' 0 M M' → Q (.returned (some (.int (I ((oL X v - 1 : Nat) : Int))))) M')
    (hR2 : off = false → isk T X z 0 = true → (0 ≤ n ∧ n < 1000 ∧ ky z.toNat 1 n.toNat ∈ its T) → ∀ v, v = oE X (ky z.toNat 1 n.toNat) → (oK X v = 2 ∨ oS X v = 0) → oL X v = 1 → ∀ M' A' X1 T1, X1 = vS X z.toNat (oK X z.toNat) (oL X z.toNat) (oS X z.toNat - 1) → T1 = rmT m X1 (dlT m (szO X) T (ky z.toNat 1 n.toNat)) v → CX M' p m J A' T1 X1 → DR M' p T1 dt → CF p A A' 0 M M' → Q (.returned (some (.int (I 0)))) M') :
    Wp d 53 0 [some (.ref p), some (.int (I z)), some (.int (I n)), none, none] [] M Q := by
  have k0 := C.1.1.1
  have hm := C.1.2.2.2.2.2.2.2.2.2.2.2.1
  simp (disch := first | (simp only [dd, dr]; done) | omega) only [W_53, k0, I_lt, I_le, I_inj, inB_I, tc_I, Int.toNat_natCast, fkt, rf1, rf0, cq, Nat.reduceAdd, Nat.reduceEqDiff, Int.reduceToNat, eq_self, true_and, and_true, true_or, or_true, bI_0, bI_1, mm, rAm, mF_sF, mR_sR, false_and, and_false, if_false, if_true, false_or, or_false, not_true_eq_false, not_false_eq_true, and_self]
  refine ca_30 (by omega) (c_on C.1 hoff (fun h1 => ?_) (fun h1 => ?_))
  rotate_left
  · simp (disch := first | (simp only [dd, dr]; done) | omega) only [W_53, I_lt, I_le, I_inj, inB_I, tc_I, Int.toNat_natCast, fkt, rf1, rf0, cq, Nat.reduceAdd, Nat.reduceEqDiff, Int.reduceToNat, eq_self, true_and, and_true, true_or, or_true, bI_0, bI_1, mm, rAm, mF_sF, mR_sR, false_and, and_false, if_false, if_true, false_or, or_false, not_true_eq_false, not_false_eq_true, and_self]
    rw [Th_out (nw_kO M 11 6) (by decide) (by decide +kernel)]
    exact hX.sc D C (Sc.refl _ _) (.inl ⟨rfl, h1⟩)
  simp (disch := first | (simp only [dd, dr]; done) | omega) only [W_53, k0, I_lt, I_le, I_inj, inB_I, tc_I, Int.toNat_natCast, fkt, rf1, rf0, cq, Nat.reduceAdd, Nat.reduceEqDiff, Int.reduceToNat, eq_self, true_and, and_true, true_or, or_true, bI_0, bI_1, mm, rAm, mF_sF, mR_sR, false_and, and_false, if_false, if_true, false_or, or_false, not_true_eq_false, not_false_eq_true, and_self]
  refine ca_31 (by omega) (n_isDirectory (by omega) C O.1 z0 z1 (fun M1 T1 C1 => ?_))
  have k01 := C1.1.1.1
  simp (disch := first | (simp only [dd, dr]; done) | omega) only [W_53, I_lt, I_le, I_inj, inB_I, tc_I, Int.toNat_natCast, fkt, rf1, rf0, cq, Nat.reduceAdd, Nat.reduceEqDiff, Int.reduceToNat, eq_self, true_and, and_true, true_or, or_true, bI_0, bI_1, mm, rAm, mF_sF, mR_sR, false_and, and_false, if_false, if_true, false_or, or_false, not_true_eq_false, not_false_eq_true, and_self]
  refine ca_37 (by omega) (c_there (fun h2 => ?_) (fun h2 => ?_))
  rotate_left
  · simp (disch := first | (simp only [dd, dr]; done) | omega) only [W_53, I_lt, I_le, I_inj, inB_I, tc_I, Int.toNat_natCast, fkt, rf1, rf0, cq, Nat.reduceAdd, Nat.reduceEqDiff, Int.reduceToNat, eq_self, true_and, and_true, true_or, or_true, bI_0, bI_1, mm, rAm, mF_sF, mR_sR, false_and, and_false, if_false, if_true, false_or, or_false, not_true_eq_false, not_false_eq_true, and_self]
    rw [Th_out (nw_kO M1 12 6) (by decide) (by decide +kernel)]
    exact hX.sc D C1 T1.sc (.inr (.inl ⟨h1, rfl, fun h => by rw [h.1] at h2; cases h2⟩))
  obtain ⟨zo, rfl, zz1, zz2, zz3, zz4⟩ := isk_of h2
  simp only [Int.toNat_natCast] at *
  simp (disch := first | (simp only [dd, dr]; done) | omega) only [W_53, k01, I_lt, I_le, I_inj, inB_I, tc_I, Int.toNat_natCast, fkt, rf1, rf0, cq, Nat.reduceAdd, Nat.reduceEqDiff, Int.reduceToNat, eq_self, true_and, and_true, true_or, or_true, bI_0, bI_1, mm, rAm, mF_sF, mR_sR, false_and, and_false, if_false, if_true, false_or, or_false, not_true_eq_false, not_false_eq_true, and_self]
  refine ca_41 (by omega) (n_told (by omega) C1 (by omega) n0 n1 O.2 (fun M2 T2 C2 => ?_))
  have k02 := C2.1.1.1
  have F2 := T1.trans T2
  have ht := tol_rng O zo n
  suffices go : ∀ (b : Bool), (b = true ↔ tol T X zo n ≠ -1) → Ca d 53 29 [some (.ref p), some (.int (I (zo : Nat))), some (.int (I n)), some (.int (I (tol T X zo n))), none] 37 [.int (I (bI b))] [] M2 Q by
    simp (disch := first | (simp only [dd, dr]; done) | omega) only [W_53, I_lt, I_le, I_inj, inB_I, tc_I, Int.toNat_natCast, fkt, rf1, rf0, cq, Nat.reduceAdd, Nat.reduceEqDiff, Int.reduceToNat, eq_self, true_and, and_true, true_or, or_true, bI_0, bI_1, mm, rAm, mF_sF, mR_sR, false_and, and_false, if_false, if_true, false_or, or_false, not_true_eq_false, not_false_eq_true, and_self]
    refine ⟨fun h => ?_, fun h => ?_⟩
    · simp (disch := first | (simp only [dd, dr]; done) | omega) only [W_53, I_lt, I_le, I_inj, inB_I, tc_I, Int.toNat_natCast, fkt, rf1, rf0, cq, Nat.reduceAdd, Nat.reduceEqDiff, Int.reduceToNat, eq_self, true_and, and_true, true_or, or_true, bI_0, bI_1, mm, rAm, mF_sF, mR_sR, false_and, and_false, if_false, if_true, false_or, or_false, not_true_eq_false, not_false_eq_true, and_self]
      exact go false (by simp; omega)
    · simp (disch := first | (simp only [dd, dr]; done) | omega) only [W_53, I_lt, I_le, I_inj, inB_I, tc_I, Int.toNat_natCast, fkt, rf1, rf0, cq, Nat.reduceAdd, Nat.reduceEqDiff, Int.reduceToNat, eq_self, true_and, and_true, true_or, or_true, bI_0, bI_1, mm, rAm, mF_sF, mR_sR, false_and, and_false, if_false, if_true, false_or, or_false, not_true_eq_false, not_false_eq_true, and_self]
      exact go true (by simp; omega)
  intro b hb
  refine ca_37 (by omega) (c_there (fun h3 => ?_) (fun h3 => ?_))
  rotate_left
  · simp (disch := first | (simp only [dd, dr]; done) | omega) only [W_53, I_lt, I_le, I_inj, inB_I, tc_I, Int.toNat_natCast, fkt, rf1, rf0, cq, Nat.reduceAdd, Nat.reduceEqDiff, Int.reduceToNat, eq_self, true_and, and_true, true_or, or_true, bI_0, bI_1, mm, rAm, mF_sF, mR_sR, false_and, and_false, if_false, if_true, false_or, or_false, not_true_eq_false, not_false_eq_true, and_self]
    rw [Th_out (nw_kO M2 12 6) (by decide) (by decide +kernel)]
    exact hX.sc D C2 F2.sc (.inr (.inl ⟨h1, rfl, fun h => by rw [hb.mpr h.2] at h3; cases h3⟩))
  have h3 := hb.mp h3
  have hin : 0 ≤ n ∧ n < 1000 ∧ ky zo 1 n.toNat ∈ its T := by
    apply Classical.byContradiction
    intro hc
    apply h3
    unfold tol
    rw [if_neg hc]
  have hnn : n < 1000 := hin.2.1
  obtain ⟨nn, rfl⟩ : ∃ nn : Nat, n = nn := ⟨n.toNat, by omega⟩
  have hin2 : ky zo 1 nn ∈ its T := hin.2.2
  have etol : tol T X zo nn = ((oE X (ky zo 1 nn) : Nat) : Int) := by unfold tol; rw [if_pos hin]; rfl
  obtain ⟨v1, v2, v3, v4, v5, v6⟩ := hE zo nn (by omega) hin2
  generalize hv : oE X (ky zo 1 nn) = v at *
  obtain ⟨y1, y2, y3, y4⟩ := O.1 v v2 v3
  obtain ⟨x1, x2, x3, x4⟩ := O.1 zo zz2 zz3
  rw [etol]
  rw [etol] at hX h3
  simp only [Int.toNat_natCast] at hX hR1 hR2
  simp (disch := first | (simp only [dd, dr]; done) | omega) only [W_53, k02, I_lt, I_le, I_inj, inB_I, tc_I, Int.toNat_natCast, fkt, rf1, rf0, cq, Nat.reduceAdd, Nat.reduceEqDiff, Int.reduceToNat, eq_self, true_and, and_true, true_or, or_true, bI_0, bI_1, mm, rAm, mF_sF, mR_sR, false_and, and_false, if_false, if_true, false_or, or_false, not_true_eq_false, not_false_eq_true, and_self]
  have hisk : isk T X (v : Int) 1 = decide (oK X v = 2) := by
    unfold isk
    rw [show iso T (v : Int) = true from decide_eq_true ⟨by omega, by omega, v3⟩, Bool.true_and]
    rfl
  suffices go : ∀ (M3 : Mem) (b : Bool), Tw (p + 201) M M3 → CX M3 p m J A T X → (b = true ↔ (oK X v = 2 ∨ oS X v = 0)) → Ca d 53 53 [some (.ref p), some (.int (I (zo : Nat))), some (.int (I (nn : Nat))), some (.int (I (v : Nat))), none] 42 [.int (I (bI b))] [] M3 Q by
    refine ca_52 (by omega) (n_isFile (by omega) C2 O.1 (by omega) (by omega) (fun M3 T3 C3 => ?_))
    rw [hisk]
    have k03 := C3.1.1.1
    simp (disch := first | (simp only [dd, dr]; done) | omega) only [W_53, I_lt, I_le, I_inj, inB_I, tc_I, Int.toNat_natCast, fkt, rf1, rf0, cq, Nat.reduceAdd, Nat.reduceEqDiff, Int.reduceToNat, eq_self, true_and, and_true, true_or, or_true, bI_0, bI_1, mm, rAm, mF_sF, mR_sR, false_and, and_false, if_false, if_true, false_or, or_false, not_true_eq_false, not_false_eq_true, and_self]
    refine ⟨fun h => ?_, fun h => ?_⟩
    · have h : oK X v = 2 := by simpa using h
      simp (disch := first | (simp only [dd, dr]; done) | omega) only [W_53, I_lt, I_le, I_inj, inB_I, tc_I, Int.toNat_natCast, fkt, rf1, rf0, cq, Nat.reduceAdd, Nat.reduceEqDiff, Int.reduceToNat, eq_self, true_and, and_true, true_or, or_true, bI_0, bI_1, mm, rAm, mF_sF, mR_sR, false_and, and_false, if_false, if_true, false_or, or_false, not_true_eq_false, not_false_eq_true, and_self]
      exact go M3 true (F2.trans T3) C3 (by simp [h])
    · have h : ¬ oK X v = 2 := by simpa using h
      simp (disch := first | (simp only [dd, dr]; done) | omega) only [W_53, k03, I_lt, I_le, I_inj, inB_I, tc_I, Int.toNat_natCast, fkt, rf1, rf0, cq, Nat.reduceAdd, Nat.reduceEqDiff, Int.reduceToNat, eq_self, true_and, and_true, true_or, or_true, bI_0, bI_1, mm, rAm, mF_sF, mR_sR, false_and, and_false, if_false, if_true, false_or, or_false, not_true_eq_false, not_false_eq_true, and_self]
      refine ca_47 (by omega) (n_sizeOf (by omega) C3 O.1 (by omega) v3 (fun M4 T4 C4 => ?_))
      simp (disch := first | (simp only [dd, dr]; done) | omega) only [W_53, I_lt, I_le, I_inj, inB_I, tc_I, Int.toNat_natCast, fkt, rf1, rf0, cq, Nat.reduceAdd, Nat.reduceEqDiff, Int.reduceToNat, eq_self, true_and, and_true, true_or, or_true, bI_0, bI_1, mm, rAm, mF_sF, mR_sR, false_and, and_false, if_false, if_true, false_or, or_false, not_true_eq_false, not_false_eq_true, and_self]
      refine ⟨fun h' => ?_, fun h' => ?_⟩
      · simp (disch := first | (simp only [dd, dr]; done) | omega) only [W_53, I_lt, I_le, I_inj, inB_I, tc_I, Int.toNat_natCast, fkt, rf1, rf0, cq, Nat.reduceAdd, Nat.reduceEqDiff, Int.reduceToNat, eq_self, true_and, and_true, true_or, or_true, bI_0, bI_1, mm, rAm, mF_sF, mR_sR, false_and, and_false, if_false, if_true, false_or, or_false, not_true_eq_false, not_false_eq_true, and_self]
        exact go M4 false ((F2.trans T3).trans T4) C4 (by simp [h]; omega)
      · simp (disch := first | (simp only [dd, dr]; done) | omega) only [W_53, I_lt, I_le, I_inj, inB_I, tc_I, Int.toNat_natCast, fkt, rf1, rf0, cq, Nat.reduceAdd, Nat.reduceEqDiff, Int.reduceToNat, eq_self, true_and, and_true, true_or, or_true, bI_0, bI_1, mm, rAm, mF_sF, mR_sR, false_and, and_false, if_false, if_true, false_or, or_false, not_true_eq_false, not_false_eq_true, and_self]
        exact go M4 true ((F2.trans T3).trans T4) C4 (by simp [h]; omega)
  intro M3 b F3 C3 hb
  have k03 := C3.1.1.1
  refine ca_42 (by omega) (c_can (fun h4 => ?_) (fun h4 => ?_))
  rotate_left
  · simp (disch := first | (simp only [dd, dr]; done) | omega) only [W_53, I_lt, I_le, I_inj, inB_I, tc_I, Int.toNat_natCast, fkt, rf1, rf0, cq, Nat.reduceAdd, Nat.reduceEqDiff, Int.reduceToNat, eq_self, true_and, and_true, true_or, or_true, bI_0, bI_1, mm, rAm, mF_sF, mR_sR, false_and, and_false, if_false, if_true, false_or, or_false, not_true_eq_false, not_false_eq_true, and_self]
    rw [Th_out (nw_kO M3 14 6) (by decide) (by decide +kernel)]
    exact hX.sc D C3 F3.sc (.inr (.inr ⟨h1, ⟨h2, h3⟩, rfl, fun h => by rw [hb.mpr h] at h4; cases h4⟩))
  have h4 := hb.mp h4
  simp (disch := first | (simp only [dd, dr]; done) | omega) only [W_53, k03, I_lt, I_le, I_inj, inB_I, tc_I, Int.toNat_natCast, fkt, rf1, rf0, cq, Nat.reduceAdd, Nat.reduceEqDiff, Int.reduceToNat, eq_self, true_and, and_true, true_or, or_true, bI_0, bI_1, mm, rAm, mF_sF, mR_sR, false_and, and_false, if_false, if_true, false_or, or_false, not_true_eq_false, not_false_eq_true, and_self]
  refine ca_54 (by omega) (n_leave (by omega) C3 O.1 (by omega) zz3 (by omega) hin2 v5 (dlT_ok C3.2.2.1.1) (fun _ M4 A4 C4 S4 F4 => ?_))
  have k04 := C4.1.1.1
  have F34 : Cr p A A4 0 M M4 := (F3.sc.cr A).trans F4.cr
  have O4 : OK1 (dlT m (szO X) T (ky zo 1 nn)) (vS X zo (oK X zo) (oL X zo) (oS X zo - 1)) := by
    refine OK1.st ?_ ⟨x1, x2⟩ x3 (by omega)
    intro o' ho' h'
    rcases (S4.mem C.2.2.1.1 _).mp h' with ⟨_, h⟩ | ⟨_, h⟩
    · exact absurd rfl h
    · exact O.1 o' ho' h
  have m4 : ∀ k, k / 1024 % 4 ≠ 1 → (k ∈ its (dlT m (szO X) T (ky zo 1 nn)) ↔ k ∈ its T) := by
    intro k hk
    have hne : k ≠ ky zo 1 nn := by intro e; rw [e] at hk; exact hk (ky_parts (by omega) (by omega)).1
    rw [S4.mem C.2.2.1.1]
    constructor
    · rintro (⟨_, h⟩ | ⟨_, h⟩)
      · exact absurd rfl h
      · exact h
    · exact fun h => .inr ⟨hne, h⟩
  have v3' : ky v 0 0 ∈ its (dlT m (szO X) T (ky zo 1 nn)) := (m4 _ (by unfold ky; omega)).mpr v3
  obtain ⟨e1, e2, e3, e4, e5, e6⟩ := vS_at X zo (oK X zo) (oL X zo) (oS X zo - 1)
  have eL : oL (vS X zo (oK X zo) (oL X zo) (oS X zo - 1)) v = oL X v := by rw [e2, fu_n _ _ v4]
  have eS : oS (vS X zo (oK X zo) (oL X zo) (oS X zo - 1)) v = oS X v := by rw [e3, fu_n _ _ v4]
  have eK : oK (vS X zo (oK X zo) (oL X zo) (oS X zo - 1)) v = oK X v := by rw [e1, fu_n _ _ v4]
  simp (disch := first | (simp only [dd, dr]; done) | omega) only [W_53, k04, I_lt, I_le, I_inj, inB_I, tc_I, Int.toNat_natCast, fkt, rf1, rf0, cq, Nat.reduceAdd, Nat.reduceEqDiff, Int.reduceToNat, eq_self, true_and, and_true, true_or, or_true, bI_0, bI_1, mm, rAm, mF_sF, mR_sR, false_and, and_false, if_false, if_true, false_or, or_false, not_true_eq_false, not_false_eq_true, and_self]
  refine ca_46 (by omega) (n_linksOf (by omega) C4 O4 (by omega) v3' (fun M5 T5 C5 => ?_))
  rw [eL]
  have k05 := C5.1.1.1
  rw [show ((oL X v : Nat) : Int) = ((oL X v - 1 : Nat) : Int) + 1 by omega]
  simp (disch := first | (simp only [dd, dr]; done) | omega) only [W_53, k05, I_lt, I_le, I_inj, inB_I, tc_I, Int.toNat_natCast, fkt, rf1, rf0, cq, Nat.reduceAdd, Nat.reduceEqDiff, Int.reduceToNat, eq_self, true_and, and_true, true_or, or_true, bI_0, bI_1, mm, rAm, mF_sF, mR_sR, false_and, and_false, if_false, if_true, false_or, or_false, not_true_eq_false, not_false_eq_true, and_self]
  refine ⟨fun h5 => ?_, fun h5 => ?_⟩
  · have hL : oL X v = 1 := by omega
    simp (disch := first | (simp only [dd, dr]; done) | omega) only [W_53, k05, I_lt, I_le, I_inj, inB_I, tc_I, Int.toNat_natCast, fkt, rf1, rf0, cq, Nat.reduceAdd, Nat.reduceEqDiff, Int.reduceToNat, eq_self, true_and, and_true, true_or, or_true, bI_0, bI_1, mm, rAm, mF_sF, mR_sR, false_and, and_false, if_false, if_true, false_or, or_false, not_true_eq_false, not_false_eq_true, and_self]
    have hD4 := hDt v
    refine ca_55 (by omega) (n_remove (by omega) C5 v1 v2 ?_ (fun b hb => ?_) ?_ ?_ (fun M6 A6 C6 F6 V6 => ?_))
    · rw [e4, m4 _ (by unfold ky; omega)]; exact hD4.1
    · rw [e4] at hb
      obtain ⟨b1, b2, b3, b4⟩ := hD4.2.1 b hb
      exact ⟨b1, b2, (S4.1 b b3 b4).2⟩
    · rw [e4]; exact hD4.2.2
    · exact (m4 _ (by unfold ky; omega)).mpr h100
    · simp (disch := first | (simp only [dd, dr]; done) | omega) only [W_53, I_lt, I_le, I_inj, inB_I, tc_I, Int.toNat_natCast, fkt, rf1, rf0, cq, Nat.reduceAdd, Nat.reduceEqDiff, Int.reduceToNat, eq_self, true_and, and_true, true_or, or_true, bI_0, bI_1, mm, rAm, mF_sF, mR_sR, false_and, and_false, if_false, if_true, false_or, or_false, not_true_eq_false, not_false_eq_true, and_self]
      rw [show ((oL X v - 1 : Nat) : Int) + 1 - 1 = 0 by omega]
      have Fz := (F34.trans (T5.sc.cr A4)).trans F6
      refine hR2 h1 h2 hin v hv.symm h4 hL M6 A6 _ _ rfl rfl C6 ?_ Fz.1
      exact D.cr (J := J) C.us C.2.2.2.2 Fz (S4.2.1.trans V6)
  · simp (disch := first | (simp only [dd, dr]; done) | omega) only [W_53, k05, I_lt, I_le, I_inj, inB_I, tc_I, Int.toNat_natCast, fkt, rf1, rf0, cq, Nat.reduceAdd, Nat.reduceEqDiff, Int.reduceToNat, eq_self, true_and, and_true, true_or, or_true, bI_0, bI_1, mm, rAm, mF_sF, mR_sR, false_and, and_false, if_false, if_true, false_or, or_false, not_true_eq_false, not_false_eq_true, and_self]
    refine ca_47 (by omega) (n_sizeOf (by omega) C5 O4 (by omega) v3' (fun M6 T6 C6 => ?_))
    rw [eS]
    have k06 := C6.1.1.1
    simp (disch := first | (simp only [dd, dr]; done) | omega) only [W_53, k06, I_lt, I_le, I_inj, inB_I, tc_I, Int.toNat_natCast, fkt, rf1, rf0, cq, Nat.reduceAdd, Nat.reduceEqDiff, Int.reduceToNat, eq_self, true_and, and_true, true_or, or_true, bI_0, bI_1, mm, rAm, mF_sF, mR_sR, false_and, and_false, if_false, if_true, false_or, or_false, not_true_eq_false, not_false_eq_true, and_self]
    rw [show ((oL X v - 1 : Nat) : Int) + 1 - 1 = ((oL X v - 1 : Nat) : Int) by omega]
    refine ca_48 (by omega) (n_change (by omega) C6 O4 (by omega) v3' (by omega) y4 (fun M7 A7 C7 F7 => ?_))
    rw [eK] at C7
    simp (disch := first | (simp only [dd, dr]; done) | omega) only [W_53, I_lt, I_le, I_inj, inB_I, tc_I, Int.toNat_natCast, fkt, rf1, rf0, cq, Nat.reduceAdd, Nat.reduceEqDiff, Int.reduceToNat, eq_self, true_and, and_true, true_or, or_true, bI_0, bI_1, mm, rAm, mF_sF, mR_sR, false_and, and_false, if_false, if_true, false_or, or_false, not_true_eq_false, not_false_eq_true, and_self]
    have Fz := ((F34.trans (T5.sc.cr A4)).trans (T6.sc.cr A4)).trans F7.cr
    refine hR1 h1 h2 hin v hv.symm h4 (by omega) M7 A7 C7 ?_ Fz.1
    exact D.cr (J := J) C.us C.2.2.2.2 Fz S4.2.1
end Unl
