/-! ===== THE COMPONENT: entries ===== -/
section Ent
variable {d p m J : Nat} {M M' : Mem} {A A' : Ad} {T T' : Tr} {X X' : Ob} {Q : Outcome → Mem → Prop} {ok : Bool}
theorem ky_inj {o k n o' k' n' : Nat} (hk : k < 4) (hk' : k' < 4) (hn : n < 1024) (hn' : n' < 1024) (h : ky o k n = ky o' k' n') : o = o' ∧ k = k' ∧ n = n' := by
  unfold ky at h; omega
theorem ne_nil {l : List Nat} {a : Nat} (h : a ∈ l) : l ≠ [] := by intro e; rw [e] at h; cases h
theorem OK1.ent {o n v : Nat} (O : OK1 T X) (hn : n < 1024) (hm : ∀ k, k ∈ its T' → k = ky o 1 n ∨ k ∈ its T) : OK1 T' (vE X (ky o 1 n) v) := by
  intro o' ho' hi
  rcases hm _ hi with h | h
  · have := (ky_inj (by omega) (by omega) (by omega) hn h).2.1; omega
  · exact O o' ho' h
theorem n_enter (hd : 25 ≤ d) (C : CX M p m J A T X) (O : OK1 T X) {o n v : Nat} (ho : o ≤ 60) (hi : ky o 0 0 ∈ its T) (hn : n < 1000) (hv : v < 256) (hs : oS X o + 1 < 65536) (hg : stT m (szO X) T (ky o 1 n) 3 = some (ok, T'))
    (hQt : ok = true → ∀ M' A', CX M' p m J A' T' (vS (vE X (ky o 1 n) v) o (oK X o) (oL X o) (oS X o + 1)) → StF T T' (ky o 1 n) 3 → Cb p A A' 0 M M' → Q (.returned none) M') (hQf : ok = false → ∀ M' A' a, PK M' p m J → NB A' (p + 403 + J) → JT M' (p + 201) (p + 199) m A' → Cb p A A' 1 M M' → kO M' a = 14 → Q (.threw a) M') :
    Wp d 44 0 [some (.ref p), some (.int (I (o : Nat))), some (.int (I (n : Nat))), some (.int (I (v : Nat)))] [] M Q := by
  have k0 := C.1.1.1
  have kb := C.1.1.2.2.2.2.1
  have kx := C.1.2.2.2.1.2.1
  have k9 := C.1.1.2.2.2.2.2.2.2.2.1
  have kt := C.2.1.1.1.1
  have e0 : nrw 1 (I 0) = I 0 := by decide
  simp (disch := first | (simp only [dd, dr]; done) | omega) only [W_44, k0, kb, kx, k9, bB_def, nrw_b, e0, sA_to_rA, I_lt, I_le, I_inj, inB_I, tc_I, Int.toNat_natCast, fkt, rf1, rf0, cq, Nat.reduceAdd, Nat.reduceEqDiff, Int.reduceToNat, eq_self, true_and, and_true, true_or, or_true, bI_0, bI_1, mm, rAm, mF_sF, mR_sR, false_and, and_false, if_false, if_true, false_or, or_false, not_true_eq_false, not_false_eq_true, and_self]
  rw [rA_rA, rA_rA]
  refine ca_24 (by omega) (c_keyOf ?_)
  rw [show ((o : Int) * 4 + 1) * 1024 + (n : Int) = ((ky o 1 n : Nat) : Int) by unfold ky; omega]
  simp (disch := first | (simp only [dd, dr]; done) | omega) only [W_44, k0, kb, kt, I_lt, I_le, I_inj, inB_I, tc_I, Int.toNat_natCast, fkt, rf1, rf0, cq, Nat.reduceAdd, Nat.reduceEqDiff, Int.reduceToNat, eq_self, true_and, and_true, true_or, or_true, bI_0, bI_1, mm, rAm, mF_sF, mR_sR, false_and, and_false, if_false, if_true, false_or, or_false, not_true_eq_false, not_false_eq_true, and_self]
  generalize hG : (fun q => if q = 2 then I 0 else mA (rA (rA M (p + 196) fun q => if q = 0 then bB (v : Nat) else mA M (p + 196) q) (p + 196) fun q => if q = 1 then I 0 else mA (rA M (p + 196) fun q => if q = 0 then bB (v : Nat) else mA M (p + 196) q) (p + 196) q) (p + 196) q) = G
  have hG' : ∀ i w, [v, 0, 0][i]? = some w → G i = bB (w : Nat) := by
    intro i w hw
    rw [← hG]
    match i, hw with
    | 0, hw => obtain rfl := Option.some.inj hw; simp [mA_rA]
    | 1, hw => obtain rfl := Option.some.inj hw; simp [mA_rA]; exact bB_0.symm
    | 2, hw => obtain rfl := Option.some.inj hw; simp; exact bB_0.symm
    | i + 3, hw => cases hw
  clear hG
  have C1 := C.sc (Sc.rA p M (w := p + 196) ⟨by omega, by omega⟩ G)
  have hne : ky o 0 0 ≠ ky o 1 n := by intro h; have := (ky_inj (by omega) (by omega) (by omega) (by omega) h).2.1; omega
  have hst : ok = true → StF T T' (ky o 1 n) 3 := by
    intro hok
    obtain ⟨ok2, T2, hg2, hgo⟩ := stT_ok (key := ky o 1 n) (n := 3) C.1.2.2.2.2.2.2.2.2.2.2.2.1 C.2.2.1.1 (by omega)
    have hg2 : stT m (szO X) T (ky o 1 n) 3 = some (ok2, T2) := hg2
    rw [hg] at hg2
    obtain ⟨e1, e2⟩ := Prod.mk.inj (Option.some.inj hg2)
    subst e1; subst e2
    exact (hgo hok).2
  have hi' : ok = true → ky o 0 0 ∈ its T' := fun hok => ((hst hok).mem C.2.2.1.1 _).mpr (.inr ⟨hne, hi⟩)
  refine cr_97 (by omega) (x_set (bs := [v, 0, 0]) (X' := vE X (ky o 1 n) v) (by omega) C1 (by unfold ky; omega) (fun i w hw => by rw [mA_rA, if_pos rfl]; exact hG' i w hw) (by show (3 : Nat) ≤ 40; omega) hg (fun _ k _ => by rw [pyO_vE _ _ _ (by omega)]) (fun hok => ne_nil (hi' hok)) (fun hok M2 A2 C2 S2 F2 => ?_) (fun hok M2 A2 a J2 F2 ka => ?_))
  · have k02 := C2.1.1.1
    simp (disch := first | (simp only [dd, dr]; done) | omega) only [W_44, k02, I_lt, I_le, I_inj, inB_I, tc_I, Int.toNat_natCast, fkt, rf1, rf0, cq, Nat.reduceAdd, Nat.reduceEqDiff, Int.reduceToNat, eq_self, true_and, and_true, true_or, or_true, bI_0, bI_1, mm, rAm, mF_sF, mR_sR, false_and, and_false, if_false, if_true, false_or, or_false, not_true_eq_false, not_false_eq_true, and_self]
    have O2 : OK1 T' (vE X (ky o 1 n) v) := O.ent (by omega) (fun k hk => ((S2.mem C.2.2.1.1 k).mp hk).elim (fun h => .inl h.1) (fun h => .inr h.2))
    refine ca_45 (by omega) (n_count (n := oS X o + 1) (by omega) C2 O2 ho (hi' hok) (by show ((oS X o : Nat) : Int) + 1 = _; omega) hs (by omega) (fun M3 A3 C3 F3 => ?_))
    simp (disch := first | (simp only [dd, dr]; done) | omega) only [W_44, I_lt, I_le, I_inj, inB_I, tc_I, Int.toNat_natCast, fkt, rf1, rf0, cq, Nat.reduceAdd, Nat.reduceEqDiff, Int.reduceToNat, eq_self, true_and, and_true, true_or, or_true, bI_0, bI_1, mm, rAm, mF_sF, mR_sR, false_and, and_false, if_false, if_true, false_or, or_false, not_true_eq_false, not_false_eq_true, and_self]
    exact hQt hok M3 A3 C3 S2 (((rA_cb p M A G).trans (F2.cb (J := J) C1.2.2.2.1 C1.2.2.2.2)).trans F3)
  · simp (disch := first | (simp only [dd, dr]; done) | omega) only [W_44, I_lt, I_le, I_inj, inB_I, tc_I, Int.toNat_natCast, fkt, rf1, rf0, cq, Nat.reduceAdd, Nat.reduceEqDiff, Int.reduceToNat, eq_self, true_and, and_true, true_or, or_true, bI_0, bI_1, mm, rAm, mF_sF, mR_sR, false_and, and_false, if_false, if_true, false_or, or_false, not_true_eq_false, not_false_eq_true, and_self]
    rw [Th_out ka (by decide) (by decide +kernel)]
    exact hQf hok M2 A2 a (C1.1.fr C1.2.2.2.1 F2 C1.2.2.2.2) (C1.2.2.2.1.fr F2 C1.2.2.2.2) J2 ((rA_cb p M A G).trans (F2.cb (J := J) C1.2.2.2.1 C1.2.2.2.2)) ka
theorem n_leave (hd : 25 ≤ d) (C : CX M p m J A T X) (O : OK1 T X) {o n : Nat} (ho : o ≤ 60) (hi : ky o 0 0 ∈ its T) (hn : n < 1000) (hin : ky o 1 n ∈ its T) (hs : 1 ≤ oS X o) (hg : stT m (szO X) T (ky o 1 n) 0 = some (ok, T'))
    (hQt : ok = true → ∀ M' A', CX M' p m J A' T' (vS X o (oK X o) (oL X o) (oS X o - 1)) → StF T T' (ky o 1 n) 0 → Cb p A A' 0 M M' → Q (.returned none) M') :
    Wp d 54 0 [some (.ref p), some (.int (I (o : Nat))), some (.int (I (n : Nat)))] [] M Q := by
  have k0 := C.1.1.1
  have kb := C.1.1.2.2.2.2.1
  have k9 := C.1.1.2.2.2.2.2.2.2.2.1
  have kt := C.2.1.1.1.1
  obtain ⟨o1, o2, o3, o4⟩ := O o ho hi
  simp (disch := first | (simp only [dd, dr]; done) | omega) only [W_54, k0, k9, I_lt, I_le, I_inj, inB_I, tc_I, Int.toNat_natCast, fkt, rf1, rf0, cq, Nat.reduceAdd, Nat.reduceEqDiff, Int.reduceToNat, eq_self, true_and, and_true, true_or, or_true, bI_0, bI_1, mm, rAm, mF_sF, mR_sR, false_and, and_false, if_false, if_true, false_or, or_false, not_true_eq_false, not_false_eq_true, and_self]
  refine ca_24 (by omega) (c_keyOf ?_)
  rw [show ((o : Int) * 4 + 1) * 1024 + (n : Int) = ((ky o 1 n : Nat) : Int) by unfold ky; omega]
  simp (disch := first | (simp only [dd, dr]; done) | omega) only [W_54, k0, kb, kt, I_lt, I_le, I_inj, inB_I, tc_I, Int.toNat_natCast, fkt, rf1, rf0, cq, Nat.reduceAdd, Nat.reduceEqDiff, Int.reduceToNat, eq_self, true_and, and_true, true_or, or_true, bI_0, bI_1, mm, rAm, mF_sF, mR_sR, false_and, and_false, if_false, if_true, false_or, or_false, not_true_eq_false, not_false_eq_true, and_self]
  have hne : ky o 0 0 ≠ ky o 1 n := by intro h; have := (ky_inj (by omega) (by omega) (by omega) (by omega) h).2.1; omega
  obtain ⟨T2, hl, _⟩ := set_del C.2.2.1.1 hin
  have hok : ok = true := by
    unfold stT at hg
    rw [if_pos hin, if_pos rfl] at hg
    have hl : lkA (szO X) 96 (delT T (ky o 1 n)) (lfT T (ky o 1 n)) = some T2 := hl
    rw [hl] at hg
    exact (Prod.mk.inj (Option.some.inj hg)).1.symm
  subst hok
  obtain ⟨ok2, T2, hg2, hgo⟩ := stT_ok (key := ky o 1 n) (n := 0) C.1.2.2.2.2.2.2.2.2.2.2.2.1 C.2.2.1.1 (by omega)
  have hg2 : stT m (szO X) T (ky o 1 n) 0 = some (ok2, T2) := hg2
  rw [hg] at hg2
  obtain ⟨e1, e2⟩ := Prod.mk.inj (Option.some.inj hg2)
  subst e1; subst e2
  have S2 := (hgo rfl).2
  have hi' : ky o 0 0 ∈ its T' := (S2.mem C.2.2.1.1 _).mpr (.inr ⟨hne, hi⟩)
  refine cr_97 (by omega) (x_set (ok := true) (bs := []) (X' := X) (by omega) C (by unfold ky; omega) (fun i w hw => by cases hw) (by show (0 : Nat) ≤ 40; omega) hg (fun _ k hk => ?_) (fun _ => ne_nil hi') (fun _ M2 A2 C2 _ F2 => ?_) (fun h => by cases h))
  · rcases (S2.mem C.2.2.1.1 k).mp hk with ⟨_, h⟩ | ⟨h, _⟩
    · exact absurd rfl h
    · rw [fu_n _ _ h]
  · have k02 := C2.1.1.1
    simp (disch := first | (simp only [dd, dr]; done) | omega) only [W_54, k02, I_lt, I_le, I_inj, inB_I, tc_I, Int.toNat_natCast, fkt, rf1, rf0, cq, Nat.reduceAdd, Nat.reduceEqDiff, Int.reduceToNat, eq_self, true_and, and_true, true_or, or_true, bI_0, bI_1, mm, rAm, mF_sF, mR_sR, false_and, and_false, if_false, if_true, false_or, or_false, not_true_eq_false, not_false_eq_true, and_self]
    have O2 : OK1 T' X := fun o' ho' h' => by
      rcases (S2.mem C.2.2.1.1 _).mp h' with ⟨_, h⟩ | ⟨_, h⟩
      · exact absurd rfl h
      · exact O o' ho' h
    refine ca_45 (by omega) (n_count (n := oS X o - 1) (by omega) C2 O2 ho hi' (by omega) (by omega) (by omega) (fun M3 A3 C3 F3 => ?_))
    simp (disch := first | (simp only [dd, dr]; done) | omega) only [W_54, I_lt, I_le, I_inj, inB_I, tc_I, Int.toNat_natCast, fkt, rf1, rf0, cq, Nat.reduceAdd, Nat.reduceEqDiff, Int.reduceToNat, eq_self, true_and, and_true, true_or, or_true, bI_0, bI_1, mm, rAm, mF_sF, mR_sR, false_and, and_false, if_false, if_true, false_or, or_false, not_true_eq_false, not_false_eq_true, and_self]
    exact hQt rfl M3 A3 C3 S2 ((F2.cb (J := J) C.2.2.2.1 C.2.2.2.2).trans F3)
end Ent
