/-! ===== THE COMPONENT: exceptions, keep and back; make ===== -/
section Mk1
variable {d p m J : Nat} {M M' : Mem} {A A' : Ad} {T T' : Tr} {X X' : Ob} {Q : Outcome → Mem → Prop} {ok : Bool} {dt : Nat → Nat → Nat}
theorem kX_lt {t r a : Nat} {q : Nat × Nat} (K : TK M t r A) (h : kX M a = q) (hq : q ≠ (9, 0)) : a < mN M := by
  apply Classical.byContradiction
  intro hn
  have := K.2.2.2.2 a (by omega)
  apply hq
  rw [← h]
  unfold kX
  rw [this]
theorem kO_lt {t r a k : Nat} (K : TK M t r A) (h : kO M a = k) (hk : k ≠ 0) : a < mN M := by
  apply Classical.byContradiction
  intro hn
  have := K.2.2.2.2 a (by omega)
  apply hk
  rw [← h]
  unfold kO
  rw [this]
theorem Cs.lt (C : CX M p m J A T X) {a : Nat} (h : Cs p J A a) : a < mN M := by
  have K := C.2.1.1
  rcases h with h | ⟨b, q, hq, h1, h2⟩ | ⟨b, q, hq, h1, h2⟩
  · have := C.2.2.2.2; omega
  · obtain ⟨c1, ⟨a1, a2, a3, a4, a5, a6, a7⟩, c3⟩ := K.2.2.1 b q hq
    have := kX_lt K a7 (by intro h; cases h)
    omega
  · obtain ⟨c1, ⟨a1, a2, a3⟩, c3⟩ := K.2.2.2.1 b q hq
    have := kX_lt K a3 (by intro h; cases h)
    omega
theorem nw_at (M : Mem) (k n : Nat) {a : Nat} (h : a < mN M) : mK (nw M (.inl k) n) a = mK M a ∧ Sm M (nw M (.inl k) n) a := by
  have h' : a ≠ mN M := by omega
  refine ⟨?_, fun f => ?_, fun f => ?_, fun f => ?_, fun f => ?_, fun f => ?_⟩ <;> simp [mK, mF, mR, mA, mQ, mL, nw, h']
theorem nw_NS (M : Mem) (k n : Nat) : mN (nw M (.inl k) n) = mN M + 1 ∧ mS (nw M (.inl k) n) = mS M + n := ⟨rfl, rfl⟩
theorem CX.exc (C : CX M p m J A T X) (k : Nat) : CX (nw M (.inl k) 6) p m J A T X := by
  refine C.sm (fun a ha => (nw_at M k 6 ha).1) (by rw [(nw_NS M k 6).1]; omega) (fun a ha => ?_) (fun a ha => ?_)
  · rw [(nw_NS M k 6).1] at ha
    have h' : a ≠ mN M := by omega
    have := C.2.1.1.2.2.2.2 a (by omega)
    unfold mK nw
    simp only [h', if_false]
    exact this
  · have s := (nw_at M k 6 (Cs.lt C ha)).2
    exact ⟨fun f _ _ => s.1 f, fun f _ => s.2.1 f, s.2.2.2.1, fun _ => s.2.2.1⟩
theorem CF.exc (p : Nat) (A : Ad) (M : Mem) (k : Nat) : CF p A A 1 M (nw M (.inl k) 6) :=
  ⟨fun a ha => (nw_at M k 6 ha).1, fun a ha _ => (nw_at M k 6 ha).2, fun _ _ h => h, fun _ _ h => h, fun _ _ h => .inl h, fun _ _ h => .inl h, by rw [(nw_NS M k 6).1]; omega, by rw [(nw_NS M k 6).1]; omega, by rw [(nw_NS M k 6).2]; omega⟩
theorem DR.exc (D : DR M p T dt) (hu : ∀ b, tU T b = true → b < 96) (h5 : p + 403 + J ≤ mN M) (k : Nat) : DR (nw M (.inl k) 6) p T dt := by
  intro b h1 h2 h3
  have r := D b h1 h2 h3
  have hb := hu b h1
  obtain ⟨s1, s2⟩ := nw_at M k 6 (a := p + 2 + b) (by omega)
  refine ⟨?_, fun i hi => by rw [s2.2.2.1]; exact r.2 i hi⟩
  have := r.1
  unfold kX at this ⊢
  rw [s1]; exact this
theorem CX.us (C : CX M p m J A T X) : ∀ b, tU T b = true → b < 96 := fun b hb => by
  have h1 := C.2.2.1.1.2.2.2.2.2 b hb
  have h2 := C.1.2.2.2.2.2.2.2.2.2.2.2.1
  omega
theorem CX.ro (C : CX M p m J A T X) (F : Ro M M') : CX M' p m J A T X := ⟨C.1.ro F, C.2.1.ro F, C.2.2.1, C.2.2.2.1, by rw [F.f1.2.2.2.2.2.2.1]; exact C.2.2.2.2⟩
theorem Ro.cf (F : Ro M M') (A : Ad) (ho : ∀ z i, (∀ b, b < 96 → z ≠ p + 2 + b ∧ z ≠ p + 99 + b) → mA M' z i = mA M z i) : CF p A A 0 M M' := by
  have f := F.f1
  refine ⟨fun a _ => f.2.2.2.2.2.2.2.2 a, fun a _ hn => ⟨fun g => f.2.2.1 g a, fun g => f.2.2.2.1 g a, fun i => ho a i (fun b hb => ⟨fun e => hn (.inl ⟨by omega, by omega⟩), fun e => hn (.inl ⟨by omega, by omega⟩)⟩), fun i => f.2.2.2.2.1 a i, fun i => f.2.2.2.2.2.1 a i⟩, fun _ _ h => h, fun _ _ h => h, fun _ _ h => .inl h, fun _ _ h => .inl h, ?_, ?_, ?_⟩
  · rw [f.2.2.2.2.2.2.1]; exact Nat.le_refl _
  · rw [f.2.2.2.2.2.2.1]; exact Nat.le_refl _
  · rw [f.2.2.2.2.2.2.2.1]; exact Nat.le_refl _
theorem n_keep1 (hd : 42 ≤ d) (C : CX M p m J A T X) (D : DR M p T dt) (hQ : ∀ M', CX M' p m J A T X → DR M' p T dt → (∀ b, tU T b = true → Rw M' (p + 99 + b) (img m T (pyO X) dt b)) → CF p A A 0 M M' → (∀ a i, p + 195 ≤ a → a ≤ p + 198 → mA M' a i = mA M a i) → Q (.returned none) M') : Wp d 43 0 [some (.ref p), none] [] M Q := by
  refine n_keep hd C.1 C.2.1 C.2.2.1 D (fun M' F h1 h2 h3 => hQ M' (C.ro F) (fun b b1 b2 b3 => ?_) h2 (F.cf A h3) (fun a i a1 a2 => h3 a i (fun b hb => ⟨by omega, by omega⟩)))
  have := h1 b b1
  unfold img at this
  rw [if_neg b3, if_neg (by omega)] at this
  exact this
theorem n_undo {M1 : Mem} {x : Nat} (hd : 50 ≤ d) (C : CX M1 p m J A T X) (hsp : ∀ b, tU T b = true → Rw M1 (p + 99 + b) (img m T (pyO X) dt b)) (P : PK M p m J) (N : NB A' (p + 403 + J)) (K : JT M (p + 201) (p + 199) m A') (F : Cb p A A' x M1 M) (hQ : ∀ M' A'', CX M' p m J A'' T X → DR M' p T dt → CF p A A'' x M1 M' → (∀ a, a < mN M → mK M' a = mK M a) → Q (.returned none) M') : Wp d 49 0 [some (.ref p), none] [] M Q := by
  have h5 : p + 403 + J ≤ mN M := by have := C.2.2.2.2; have := F.1.2.2.2.2.2.2.1; omega
  refine n_putBack (T := T) (py := pyO X) (dt := dt) hd P K N h5 C.2.2.1 (fun b hb => ?_) (fun M2 M' A'' F2 o2 R' D' F' => ?_)
  · have r := hsp b hb
    have hb' := C.us b hb
    refine ⟨?_, fun i hi => by rw [F.2 _ _ (by omega) (by omega) (by omega)]; exact r.2 i hi⟩
    have := r.1
    unfold kX at this ⊢
    rw [F.1.1 _ (by have := C.2.2.2.2; omega)]; exact this
  · have hN : mN M2 = mN M := F2.f1.2.2.2.2.2.2.1
    have F3 : CF p A' A' 0 M M2 := F2.cf A' (fun z i hz => o2 z i (fun b hb => (hz b hb).1))
    have h0 := (F.1.trans F3).trans F'.cf
    refine hQ M' A'' ⟨(P.ro F2).fr N F' (by omega), R', C.2.2.1, N.fr F' (by omega), by have := F'.2.2.2.2.2.2.1; omega⟩ D' h0 (fun a ha => ?_)
    rw [F'.1 a (by omega)]; exact F2.f1.2.2.2.2.2.2.2.2 a
/-- of objects: what small numbers are so -/
def OK2 (T : Tr) (X : Ob) : Prop := OK1 T X ∧ ∀ k ∈ its T, oE X k < 256
/-- one more object, told by an entry -/
def mkX (X : Ob) (o n v k : Nat) : Ob := vS (vE (vS X v k 1 0) (ky o 1 n) v) o (oK (vS X v k 1 0) o) (oL (vS X v k 1 0) o) (oS (vS X v k 1 0) o + 1)
set_option maxHeartbeats 4000000 in
theorem c_make (hd : 60 ≤ d) (C : CX M p m J A T X) (D : DR M p T dt) (O : OK2 T X) {off : Bool} (hoff : mF M 25 (p + 205) = I (bI off)) {z n : Int} (z0 : -2147483648 ≤ z) (z1 : z < 2147483648) (n0 : -2147483648 ≤ n) (n1 : n < 2147483648) {dir : Bool} {v : Nat} (hv : v = fro (fun o => iso T o) 60 1) (hvl : v ≤ 60 → ky v 0 0 ∉ its T ∧ 1 ≤ v) (hs : ∀ o, oS X o + 1 < 65536)
    (hX : ∀ k M' A' a, kO M' a = k → ((k = 11 ∧ off = true) ∨ (off = false ∧ k = 12 ∧ isk T X z 0 = false) ∨ (off = false ∧ isk T X z 0 = true ∧ k = 13 ∧ ¬ (0 ≤ n ∧ n < 1000)) ∨ (off = false ∧ isk T X z 0 = true ∧ (0 ≤ n ∧ n < 1000) ∧ k = 14 ∧ ¬ (tol T X z.toNat n = -1 ∧ v ≤ 60)) ∨
        (off = false ∧ isk T X z 0 = true ∧ (0 ≤ n ∧ n < 1000) ∧ k = 14 ∧ tol T X z.toNat n = -1 ∧ v ≤ 60 ∧ ((∃ T1, stT m (szO X) T (ky v 0 0) 6 = some (false, T1)) ∨ ∃ T1 T2, stT m (szO X) T (ky v 0 0) 6 = some (true, T1) ∧ stT m (szO (vS X v (if dir = true then 1 else 2) 1 0)) T1 (ky z.toNat 1 n.toNat) 3 = some (false, T2)))) →
      CX M' p m J A' T X → DR M' p T dt → CF p A A' 1 M M' → Q (.threw a) M')
    (hR : off = false → isk T X z 0 = true → (0 ≤ n ∧ n < 1000) → tol T X z.toNat n = -1 → v ≤ 60 → ∀ T1 T2, stT m (szO X) T (ky v 0 0) 6 = some (true, T1) → stT m (szO (vS X v (if dir = true then 1 else 2) 1 0)) T1 (ky z.toNat 1 n.toNat) 3 = some (true, T2) → StF T T1 (ky v 0 0) 6 → StF T1 T2 (ky z.toNat 1 n.toNat) 3 → ∀ M' A', CX M' p m J A' T2 (mkX X z.toNat n.toNat v (if dir = true then 1 else 2)) → DR M' p T2 dt → CF p A A' 0 M M' → Q (.returned (some (.int (I (v : Nat))))) M') :
    Wp d 29 0 [some (.ref p), some (.int (I z)), some (.int (I n)), some (.int (I (bI dir))), none, none] [] M Q := by
  have k0 := C.1.1.1
  have hm := C.1.2.2.2.2.2.2.2.2.2.2.2.1
  have thr : ∀ (k : Nat) (M1 : Mem), CX M1 p m J A T X → Sc p M M1 → ((k = 11 ∧ off = true) ∨ (off = false ∧ k = 12 ∧ isk T X z 0 = false) ∨ (off = false ∧ isk T X z 0 = true ∧ k = 13 ∧ ¬ (0 ≤ n ∧ n < 1000)) ∨ (off = false ∧ isk T X z 0 = true ∧ (0 ≤ n ∧ n < 1000) ∧ k = 14 ∧ ¬ (tol T X z.toNat n = -1 ∧ v ≤ 60))) → Q (.threw (mN M1)) (nw M1 (.inl k) 6) := by
    intro k M1 C1 F1 hc
    refine hX k _ A _ (nw_kO M1 k 6) ?_ (C1.exc k) ((D.sc C.us F1).exc (J := J) C.us C1.2.2.2.2 k) ((F1.cf A).trans (CF.exc p A M1 k))
    rcases hc with h | h | h | h
    · exact .inl h
    · exact .inr (.inl h)
    · exact .inr (.inr (.inl h))
    · exact .inr (.inr (.inr (.inl h)))
  simp (disch := first | (simp only [dd, dr]; done) | omega) only [W_29, k0, I_lt, I_le, I_inj, inB_I, tc_I, Int.toNat_natCast, fkt, rf1, rf0, cq, Nat.reduceAdd, Nat.reduceEqDiff, Int.reduceToNat, eq_self, true_and, and_true, true_or, or_true, bI_0, bI_1, mm, rAm, mF_sF, mR_sR, false_and, and_false, if_false, if_true, false_or, or_false, not_true_eq_false, not_false_eq_true, and_self]
  refine ca_30 (by omega) (c_on C.1 hoff (fun h1 => ?_) (fun h1 => ?_))
  rotate_left
  · simp (disch := first | (simp only [dd, dr]; done) | omega) only [W_29, I_lt, I_le, I_inj, inB_I, tc_I, Int.toNat_natCast, fkt, rf1, rf0, cq, Nat.reduceAdd, Nat.reduceEqDiff, Int.reduceToNat, eq_self, true_and, and_true, true_or, or_true, bI_0, bI_1, mm, rAm, mF_sF, mR_sR, false_and, and_false, if_false, if_true, false_or, or_false, not_true_eq_false, not_false_eq_true, and_self]
    rw [Th_out (nw_kO M 11 6) (by decide) (by decide +kernel)]
    exact thr 11 M C (Sc.refl _ _) (.inl ⟨rfl, h1⟩)
  simp (disch := first | (simp only [dd, dr]; done) | omega) only [W_29, k0, I_lt, I_le, I_inj, inB_I, tc_I, Int.toNat_natCast, fkt, rf1, rf0, cq, Nat.reduceAdd, Nat.reduceEqDiff, Int.reduceToNat, eq_self, true_and, and_true, true_or, or_true, bI_0, bI_1, mm, rAm, mF_sF, mR_sR, false_and, and_false, if_false, if_true, false_or, or_false, not_true_eq_false, not_false_eq_true, and_self]
  refine ca_31 (by omega) (n_isDirectory (by omega) C O.1 z0 z1 (fun M1 T1 C1 => ?_))
  have k01 := C1.1.1.1
  simp (disch := first | (simp only [dd, dr]; done) | omega) only [W_29, I_lt, I_le, I_inj, inB_I, tc_I, Int.toNat_natCast, fkt, rf1, rf0, cq, Nat.reduceAdd, Nat.reduceEqDiff, Int.reduceToNat, eq_self, true_and, and_true, true_or, or_true, bI_0, bI_1, mm, rAm, mF_sF, mR_sR, false_and, and_false, if_false, if_true, false_or, or_false, not_true_eq_false, not_false_eq_true, and_self]
  refine ca_37 (by omega) (c_there (fun h2 => ?_) (fun h2 => ?_))
  rotate_left
  · simp (disch := first | (simp only [dd, dr]; done) | omega) only [W_29, I_lt, I_le, I_inj, inB_I, tc_I, Int.toNat_natCast, fkt, rf1, rf0, cq, Nat.reduceAdd, Nat.reduceEqDiff, Int.reduceToNat, eq_self, true_and, and_true, true_or, or_true, bI_0, bI_1, mm, rAm, mF_sF, mR_sR, false_and, and_false, if_false, if_true, false_or, or_false, not_true_eq_false, not_false_eq_true, and_self]
    rw [Th_out (nw_kO M1 12 6) (by decide) (by decide +kernel)]
    exact thr 12 M1 C1 T1.sc (.inr (.inl ⟨h1, rfl, h2⟩))
  simp (disch := first | (simp only [dd, dr]; done) | omega) only [W_29, I_lt, I_le, I_inj, inB_I, tc_I, Int.toNat_natCast, fkt, rf1, rf0, cq, Nat.reduceAdd, Nat.reduceEqDiff, Int.reduceToNat, eq_self, true_and, and_true, true_or, or_true, bI_0, bI_1, mm, rAm, mF_sF, mR_sR, false_and, and_false, if_false, if_true, false_or, or_false, not_true_eq_false, not_false_eq_true, and_self]
  refine ca_38 (by omega) (c_isName n0 n1 ?_)
  simp (disch := first | (simp only [dd, dr]; done) | omega) only [W_29, I_lt, I_le, I_inj, inB_I, tc_I, Int.toNat_natCast, fkt, rf1, rf0, cq, Nat.reduceAdd, Nat.reduceEqDiff, Int.reduceToNat, eq_self, true_and, and_true, true_or, or_true, bI_0, bI_1, mm, rAm, mF_sF, mR_sR, false_and, and_false, if_false, if_true, false_or, or_false, not_true_eq_false, not_false_eq_true, and_self]
  refine ca_39 (by omega) (c_proper (fun h3 => ?_) (fun h3 => ?_))
  rotate_left
  · simp (disch := first | (simp only [dd, dr]; done) | omega) only [W_29, I_lt, I_le, I_inj, inB_I, tc_I, Int.toNat_natCast, fkt, rf1, rf0, cq, Nat.reduceAdd, Nat.reduceEqDiff, Int.reduceToNat, eq_self, true_and, and_true, true_or, or_true, bI_0, bI_1, mm, rAm, mF_sF, mR_sR, false_and, and_false, if_false, if_true, false_or, or_false, not_true_eq_false, not_false_eq_true, and_self]
    rw [Th_out (nw_kO M1 13 6) (by decide) (by decide +kernel)]
    exact thr 13 M1 C1 T1.sc (.inr (.inr (.inl ⟨h1, h2, rfl, of_decide_eq_false h3⟩)))
  have h3 := of_decide_eq_true h3
  simp (disch := first | (simp only [dd, dr]; done) | omega) only [W_29, k01, I_lt, I_le, I_inj, inB_I, tc_I, Int.toNat_natCast, fkt, rf1, rf0, cq, Nat.reduceAdd, Nat.reduceEqDiff, Int.reduceToNat, eq_self, true_and, and_true, true_or, or_true, bI_0, bI_1, mm, rAm, mF_sF, mR_sR, false_and, and_false, if_false, if_true, false_or, or_false, not_true_eq_false, not_false_eq_true, and_self]
  refine ca_40 (by omega) (n_freeObject (by omega) C1 (fun M2 T2 C2 => ?_))
  rw [← hv]
  have k02 := C2.1.1.1
  have hz : 1 ≤ z ∧ z ≤ 60 ∧ ky z.toNat 0 0 ∈ its T ∧ oK X z.toNat = 1 := by
    unfold isk at h2
    rw [Bool.and_eq_true] at h2
    obtain ⟨a1, a2⟩ := h2
    obtain ⟨b1, b2, b3⟩ := of_decide_eq_true a1
    exact ⟨b1, b2, b3, of_decide_eq_true a2⟩
  obtain ⟨zz1, zz2, zz3, zz4⟩ := hz
  obtain ⟨zo, rfl⟩ : ∃ zo : Nat, z = zo := ⟨z.toNat, by omega⟩
  obtain ⟨nn, rfl⟩ : ∃ nn : Nat, n = nn := ⟨n.toNat, by omega⟩
  simp only [Int.toNat_natCast] at *
  have hv61 : v ≤ 61 := by
    rw [hv]
    have : ∀ n i, fro (fun o => iso T o) n i ≤ i + n := by
      intro n
      induction n with
      | zero => intro i; exact Nat.le_refl _
      | succ n ih => intro i; rw [fro]; split; (have := ih (i + 1); omega); omega
    have := this 60 1
    omega
  simp (disch := first | (simp only [dd, dr]; done) | omega) only [W_29, k02, I_lt, I_le, I_inj, inB_I, tc_I, Int.toNat_natCast, fkt, rf1, rf0, cq, Nat.reduceAdd, Nat.reduceEqDiff, Int.reduceToNat, eq_self, true_and, and_true, true_or, or_true, bI_0, bI_1, mm, rAm, mF_sF, mR_sR, false_and, and_false, if_false, if_true, false_or, or_false, not_true_eq_false, not_false_eq_true, and_self]
  refine ca_41 (by omega) (n_told (by omega) C2 (by omega) n0 n1 O.2 (fun M3 T3 C3 => ?_))
  have k03 := C3.1.1.1
  have F3 := (T1.trans T2).trans T3
  have ht : -1 ≤ tol T X zo nn ∧ tol T X zo nn < 256 := by
    unfold tol
    split
    · rename_i h; have := O.2 _ h.2.2; omega
    · omega
  suffices go : ∀ (b : Bool), (b = true ↔ (tol T X zo nn = -1 ∧ v ≤ 60)) → Ca d 29 47 [some (.ref p), some (.int (I (zo : Nat))), some (.int (I (nn : Nat))), some (.int (I (bI dir))), some (.int (I (v : Nat))), none] 42 [.int (I (bI b))] [] M3 Q by
    simp (disch := first | (simp only [dd, dr]; done) | omega) only [W_29, I_lt, I_le, I_inj, inB_I, tc_I, Int.toNat_natCast, fkt, rf1, rf0, cq, Nat.reduceAdd, Nat.reduceEqDiff, Int.reduceToNat, eq_self, true_and, and_true, true_or, or_true, bI_0, bI_1, mm, rAm, mF_sF, mR_sR, false_and, and_false, if_false, if_true, false_or, or_false, not_true_eq_false, not_false_eq_true, and_self]
    refine ⟨fun h => ?_, fun h => ?_⟩
    · simp (disch := first | (simp only [dd, dr]; done) | omega) only [W_29, I_lt, I_le, I_inj, inB_I, tc_I, Int.toNat_natCast, fkt, rf1, rf0, cq, Nat.reduceAdd, Nat.reduceEqDiff, Int.reduceToNat, eq_self, true_and, and_true, true_or, or_true, bI_0, bI_1, mm, rAm, mF_sF, mR_sR, false_and, and_false, if_false, if_true, false_or, or_false, not_true_eq_false, not_false_eq_true, and_self]
      exact go false (by simp; omega)
    · simp (disch := first | (simp only [dd, dr]; done) | omega) only [W_29, I_lt, I_le, I_inj, inB_I, tc_I, Int.toNat_natCast, fkt, rf1, rf0, cq, Nat.reduceAdd, Nat.reduceEqDiff, Int.reduceToNat, eq_self, true_and, and_true, true_or, or_true, bI_0, bI_1, mm, rAm, mF_sF, mR_sR, false_and, and_false, if_false, if_true, false_or, or_false, not_true_eq_false, not_false_eq_true, and_self]
      refine ⟨fun h' => ?_, fun h' => ?_⟩
      · simp (disch := first | (simp only [dd, dr]; done) | omega) only [W_29, I_lt, I_le, I_inj, inB_I, tc_I, Int.toNat_natCast, fkt, rf1, rf0, cq, Nat.reduceAdd, Nat.reduceEqDiff, Int.reduceToNat, eq_self, true_and, and_true, true_or, or_true, bI_0, bI_1, mm, rAm, mF_sF, mR_sR, false_and, and_false, if_false, if_true, false_or, or_false, not_true_eq_false, not_false_eq_true, and_self]
        exact go false (by simp; omega)
      · simp (disch := first | (simp only [dd, dr]; done) | omega) only [W_29, I_lt, I_le, I_inj, inB_I, tc_I, Int.toNat_natCast, fkt, rf1, rf0, cq, Nat.reduceAdd, Nat.reduceEqDiff, Int.reduceToNat, eq_self, true_and, and_true, true_or, or_true, bI_0, bI_1, mm, rAm, mF_sF, mR_sR, false_and, and_false, if_false, if_true, false_or, or_false, not_true_eq_false, not_false_eq_true, and_self]
        exact go true (by simp; omega)
  intro b hb
  refine ca_42 (by omega) (c_can (fun h4 => ?_) (fun h4 => ?_))
  rotate_left
  · simp (disch := first | (simp only [dd, dr]; done) | omega) only [W_29, I_lt, I_le, I_inj, inB_I, tc_I, Int.toNat_natCast, fkt, rf1, rf0, cq, Nat.reduceAdd, Nat.reduceEqDiff, Int.reduceToNat, eq_self, true_and, and_true, true_or, or_true, bI_0, bI_1, mm, rAm, mF_sF, mR_sR, false_and, and_false, if_false, if_true, false_or, or_false, not_true_eq_false, not_false_eq_true, and_self]
    rw [Th_out (nw_kO M3 14 6) (by decide) (by decide +kernel)]
    exact thr 14 M3 C3 F3.sc (.inr (.inr (.inr ⟨h1, h2, h3, rfl, fun h => by rw [hb.mpr h] at h4; cases h4⟩)))
  obtain ⟨h4, h5⟩ := hb.mp h4
  obtain ⟨hv1, hv2⟩ := hvl h5
  simp (disch := first | (simp only [dd, dr]; done) | omega) only [W_29, k03, I_lt, I_le, I_inj, inB_I, tc_I, Int.toNat_natCast, fkt, rf1, rf0, cq, Nat.reduceAdd, Nat.reduceEqDiff, Int.reduceToNat, eq_self, true_and, and_true, true_or, or_true, bI_0, bI_1, mm, rAm, mF_sF, mR_sR, false_and, and_false, if_false, if_true, false_or, or_false, not_true_eq_false, not_false_eq_true, and_self]
  refine ca_43 (by omega) (n_keep1 (by omega) C3 (D.sc C.us F3.sc) (fun M4 C4 D4 S4 F4 o4 => ?_))
  have k04 := C4.1.1.1
  have F04 : CF p A A 0 M M4 := (F3.sc.cf A).trans F4
  suffices go2 : Ca d 29 66 [some (.ref p), some (.int (I (zo : Nat))), some (.int (I (nn : Nat))), some (.int (I (bI dir))), some (.int (I (v : Nat))), none] 22 [.ref p, .int (I (((if dir = true then 1 else 2) - 1 : Nat) : Int)), .int (I ((1 : Nat) : Int)), .int (I ((0 : Nat) : Int))] [] M4 Q by
    simp (disch := first | (simp only [dd, dr]; done) | omega) only [W_29, I_lt, I_le, I_inj, inB_I, tc_I, Int.toNat_natCast, fkt, rf1, rf0, cq, Nat.reduceAdd, Nat.reduceEqDiff, Int.reduceToNat, eq_self, true_and, and_true, true_or, or_true, bI_0, bI_1, mm, rAm, mF_sF, mR_sR, false_and, and_false, if_false, if_true, false_or, or_false, not_true_eq_false, not_false_eq_true, and_self]
    refine ⟨fun h => ?_, fun h => ?_⟩
    · rw [show ((if dir = true then 1 else 2) - 1 : Nat) = 1 by rw [h]; rfl] at go2
      simp (disch := first | (simp only [dd, dr]; done) | omega) only [W_29, I_lt, I_le, I_inj, inB_I, tc_I, Int.toNat_natCast, fkt, rf1, rf0, cq, Nat.reduceAdd, Nat.reduceEqDiff, Int.reduceToNat, eq_self, true_and, and_true, true_or, or_true, bI_0, bI_1, mm, rAm, mF_sF, mR_sR, false_and, and_false, if_false, if_true, false_or, or_false, not_true_eq_false, not_false_eq_true, and_self]
      exact ⟨k04, go2⟩
    · have h : dir = true := by simpa using h
      rw [show ((if dir = true then 1 else 2) - 1 : Nat) = 0 by rw [h]; rfl] at go2
      simp (disch := first | (simp only [dd, dr]; done) | omega) only [W_29, I_lt, I_le, I_inj, inB_I, tc_I, Int.toNat_natCast, fkt, rf1, rf0, cq, Nat.reduceAdd, Nat.reduceEqDiff, Int.reduceToNat, eq_self, true_and, and_true, true_or, or_true, bI_0, bI_1, mm, rAm, mF_sF, mR_sR, false_and, and_false, if_false, if_true, false_or, or_false, not_true_eq_false, not_false_eq_true, and_self]
      exact ⟨k04, go2⟩
  generalize hkk : (if dir = true then 1 else 2) = kk at *
  have hkk2 : 1 ≤ kk ∧ kk ≤ 2 := by rw [← hkk]; split <;> omega
  refine ca_22 (by omega) (n_layStat (k := kk - 1) (l := 1) (n := 0) (by omega) C4.1 (by omega) (by omega) (by omega) (fun g hg => ?_))
  rw [show kk - 1 + 1 = kk by omega] at hg
  have C5 := C4.sc (Sc.rA p M4 (w := p + 196) ⟨by omega, by omega⟩ g)
  have k05 := C5.1.1.1
  have k95 := C5.1.1.2.2.2.2.2.2.2.2.1
  have kb5 := C5.1.1.2.2.2.2.1
  have kt5 := C5.2.1.1.1.1
  simp (disch := first | (simp only [dd, dr]; done) | omega) only [W_29, k05, k95, I_lt, I_le, I_inj, inB_I, tc_I, Int.toNat_natCast, fkt, rf1, rf0, cq, Nat.reduceAdd, Nat.reduceEqDiff, Int.reduceToNat, eq_self, true_and, and_true, true_or, or_true, bI_0, bI_1, mm, rAm, mF_sF, mR_sR, false_and, and_false, if_false, if_true, false_or, or_false, not_true_eq_false, not_false_eq_true, and_self]
  refine ca_24 (by omega) (c_keyOf ?_)
  rw [show ((v : Int) * 4 + 0) * 1024 + 0 = ((ky v 0 0 : Nat) : Int) by unfold ky; omega]
  simp (disch := first | (simp only [dd, dr]; done) | omega) only [W_29, k05, kb5, kt5, I_lt, I_le, I_inj, inB_I, tc_I, Int.toNat_natCast, fkt, rf1, rf0, cq, Nat.reduceAdd, Nat.reduceEqDiff, Int.reduceToNat, eq_self, true_and, and_true, true_or, or_true, bI_0, bI_1, mm, rAm, mF_sF, mR_sR, false_and, and_false, if_false, if_true, false_or, or_false, not_true_eq_false, not_false_eq_true, and_self]
  obtain ⟨ok1, T1', hg1, hgo1⟩ := stT_ok (key := ky v 0 0) (n := 6) hm C.2.2.1.1 (by omega)
  have hg1 : stT m (szO X) T (ky v 0 0) 6 = some (ok1, T1') := hg1
  have undo : ∀ (M6 : Mem) (A6 : Ad) (a : Nat), PK M6 p m J → NB A6 (p + 403 + J) → JT M6 (p + 201) (p + 199) m A6 → Cb p A A6 1 M4 M6 → kO M6 a = 14 → ((∃ T1, stT m (szO X) T (ky v 0 0) 6 = some (false, T1)) ∨ ∃ T1 T2, stT m (szO X) T (ky v 0 0) 6 = some (true, T1) ∧ stT m (szO (vS X v kk 1 0)) T1 (ky zo 1 nn) 3 = some (false, T2)) → ∀ l5, Wp d 29 100 [some (.ref p), some (.int (I (zo : Nat))), some (.int (I (nn : Nat))), some (.int (I (bI dir))), some (.int (I (v : Nat))), l5] [.ref a] M6 Q := by
    intro M6 A6 a P6 N6 J6 F6 ka hc l5
    have k06 := P6.1.1
    simp (disch := first | (simp only [dd, dr]; done) | omega) only [W_29, k06, I_lt, I_le, I_inj, inB_I, tc_I, Int.toNat_natCast, fkt, rf1, rf0, cq, Nat.reduceAdd, Nat.reduceEqDiff, Int.reduceToNat, eq_self, true_and, and_true, true_or, or_true, bI_0, bI_1, mm, rAm, mF_sF, mR_sR, false_and, and_false, if_false, if_true, false_or, or_false, not_true_eq_false, not_false_eq_true, and_self]
    refine ca_49 (by omega) (n_undo (by omega) C4 S4 P6 N6 J6 F6 (fun M7 A7 C7 D7 F7 K7 => ?_))
    simp (disch := first | (simp only [dd, dr]; done) | omega) only [W_29, I_lt, I_le, I_inj, inB_I, tc_I, Int.toNat_natCast, fkt, rf1, rf0, cq, Nat.reduceAdd, Nat.reduceEqDiff, Int.reduceToNat, eq_self, true_and, and_true, true_or, or_true, bI_0, bI_1, mm, rAm, mF_sF, mR_sR, false_and, and_false, if_false, if_true, false_or, or_false, not_true_eq_false, not_false_eq_true, and_self]
    have ka7 : kO M7 a = 14 := by
      have := K7 a (kO_lt J6.1 ka (by omega))
      unfold kO at ka ⊢
      rw [this]; exact ka
    rw [Th_out ka7 (by decide) (by decide +kernel)]
    exact hX 14 M7 A7 a ka7 (.inr (.inr (.inr (.inr ⟨h1, h2, h3, rfl, h4, h5, hc⟩)))) C7 D7 (F04.trans F7)
  refine cr_97 (by omega) (x_set (bs := stB kk 1 0) (X' := vS X v kk 1 0) (by omega) C5 (by unfold ky; omega) (fun i w hw => by rw [mA_rA, if_pos rfl]; exact hg i w hw) (by show (6 : Nat) ≤ 40; omega) hg1 (fun _ k _ => by rw [pyO_vS]) (fun hok => ne_nil (((hgo1 hok).2.mem C.2.2.1.1 (ky v 0 0)).mpr (.inl ⟨rfl, by omega⟩))) (fun hok M6 A6 C6 S6 F6 => ?_) (fun hok M6 A6 a J6 F6 ka => ?_))
  rotate_left
  · simp (disch := first | (simp only [dd, dr]; done) | omega) only [W_29, I_lt, I_le, I_inj, inB_I, tc_I, Int.toNat_natCast, fkt, rf1, rf0, cq, Nat.reduceAdd, Nat.reduceEqDiff, Int.reduceToNat, eq_self, true_and, and_true, true_or, or_true, bI_0, bI_1, mm, rAm, mF_sF, mR_sR, false_and, and_false, if_false, if_true, false_or, or_false, not_true_eq_false, not_false_eq_true, and_self]
    rw [Th_in (t := 100) ka (by decide) (by decide +kernel)]
    subst hok
    exact undo M6 A6 a (C5.1.fr C5.2.2.2.1 F6 C5.2.2.2.2) (C5.2.2.2.1.fr F6 C5.2.2.2.2) J6 ((rA_cb p M4 A g).trans (F6.cb (J := J) C5.2.2.2.1 C5.2.2.2.2)) ka (.inl ⟨_, hg1⟩) _
  subst hok
  have W6 := S6.mem C.2.2.1.1
  have O6 : OK1 T1' (vS X v kk 1 0) := by
    intro o' ho' h'
    obtain ⟨e1, e2, e3, _⟩ := vS_at X v kk 1 0
    rw [e1, e2, e3]
    by_cases e : o' = v
    · rw [e, fu_s, fu_s, fu_s]; omega
    · rw [fu_n _ _ e, fu_n _ _ e, fu_n _ _ e]
      rcases (W6 _).mp h' with ⟨h, _⟩ | ⟨_, h⟩
      · exact absurd (ky_inj (by omega) (by omega) (by omega) (by omega) h).1 e
      · exact O.1 o' ho' h
  have hzv : zo ≠ v := by intro e; rw [e] at zz3; exact hv1 zz3
  have zz3' : ky zo 0 0 ∈ its T1' := (W6 _).mpr (.inr ⟨fun h => hzv (ky_inj (by omega) (by omega) (by omega) (by omega) h).1, zz3⟩)
  have k06 := C6.1.1.1
  simp (disch := first | (simp only [dd, dr]; done) | omega) only [W_29, k06, I_lt, I_le, I_inj, inB_I, tc_I, Int.toNat_natCast, fkt, rf1, rf0, cq, Nat.reduceAdd, Nat.reduceEqDiff, Int.reduceToNat, eq_self, true_and, and_true, true_or, or_true, bI_0, bI_1, mm, rAm, mF_sF, mR_sR, false_and, and_false, if_false, if_true, false_or, or_false, not_true_eq_false, not_false_eq_true, and_self]
  obtain ⟨ok2, T2', hg2, hgo2⟩ := stT_ok (key := ky zo 1 nn) (n := 3) hm C6.2.2.1.1 (by omega)
  have hg2 : stT m (szO (vS X v kk 1 0)) T1' (ky zo 1 nn) 3 = some (ok2, T2') := hg2
  have F46 := (rA_cb p M4 A g).trans (F6.cb (J := J) C5.2.2.2.1 C5.2.2.2.2)
  refine ca_44 (by omega) (n_enter (by omega) C6 O6 (by omega) zz3' (by omega) (by omega) (by rw [(vS_at X v kk 1 0).2.2.1, fu_n _ _ hzv]; exact hs zo) hg2 (fun hok M7 A7 C7 S7 F7 => ?_) (fun hok M7 A7 a P7 N7 J7 F7 ka => ?_))
  · subst hok
    simp (disch := first | (simp only [dd, dr]; done) | omega) only [W_29, I_lt, I_le, I_inj, inB_I, tc_I, Int.toNat_natCast, fkt, rf1, rf0, cq, Nat.reduceAdd, Nat.reduceEqDiff, Int.reduceToNat, eq_self, true_and, and_true, true_or, or_true, bI_0, bI_1, mm, rAm, mF_sF, mR_sR, false_and, and_false, if_false, if_true, false_or, or_false, not_true_eq_false, not_false_eq_true, and_self]
    refine hR h1 h2 h3 h4 h5 T1' T2' hg1 hg2 S6 S7 M7 A7 C7 ?_ ((F04.trans F46.1).trans F7.1)
    exact ((D4.cb (J := J) C4.us C4.2.2.2.2 F46 S6.2.1).cb (J := J) C6.us C6.2.2.2.2 F7 S7.2.1)
  · subst hok
    simp (disch := first | (simp only [dd, dr]; done) | omega) only [W_29, I_lt, I_le, I_inj, inB_I, tc_I, Int.toNat_natCast, fkt, rf1, rf0, cq, Nat.reduceAdd, Nat.reduceEqDiff, Int.reduceToNat, eq_self, true_and, and_true, true_or, or_true, bI_0, bI_1, mm, rAm, mF_sF, mR_sR, false_and, and_false, if_false, if_true, false_or, or_false, not_true_eq_false, not_false_eq_true, and_self]
    rw [Th_in (t := 100) ka (by decide) (by decide +kernel)]
    exact undo M7 A7 a P7 N7 J7 (F46.trans F7) ka (.inr ⟨_, _, hg1, hg2⟩) _
end Mk1
