/-! ===== THE LAW: the state of both ===== -/
/-- a model at o, by what it has -/
def MD (M : Mem) (o : Nat) (f : Nat → Int) (s b c w : Int → Int) (j : Nat → Bool) : Prop := MK M o ∧ (∀ g, mF M g o = I (f g)) ∧ (∀ i : Nat, mA M (o + 1) i = I (s i)) ∧ (∀ i : Nat, mA M (o + 2) i = I (b i)) ∧ (∀ i : Nat, mA M (o + 3) i = I (c i)) ∧ (∀ i : Nat, mA M (o + 4) i = I (w i)) ∧ ∀ i : Nat, mA M (o + 5) i = I (bI (j i))
section Lst
variable {d p o q a m J : Nat} {M M' : Mem} {A A' : Ad} {T T' Tc : Tr} {X X' Xc : Ob} {dt dtc la : Nat → Nat → Nat} {par parc : Nat → Nat} {v : Dv} {f : Nat → Int} {s b c w : Int → Int} {j : Nat → Bool}
theorem MD.eq (h : MD M o f s b c w j) : ms M o f s b c w j = M := by
  obtain ⟨_, h1, h2, h3, h4, h5, h6⟩ := h
  unfold ms
  refine Prod.ext rfl (Prod.ext ?_ (Prod.ext rfl (Prod.ext ?_ rfl)))
  · funext g x
    show (if x = o then I (f g) else M.2.1 g x) = M.2.1 g x
    by_cases e : x = o
    · rw [if_pos e, e]; exact (h1 g).symm
    · rw [if_neg e]
  · funext x i
    show (if x = o + 1 then I (s i) else if x = o + 2 then I (b i) else if x = o + 3 then I (c i) else if x = o + 4 then I (w i) else if x = o + 5 then I (bI (j i)) else M.2.2.2.1 x i) = M.2.2.2.1 x i
    by_cases e1 : x = o + 1
    · rw [if_pos e1, e1]; exact (h2 i).symm
    rw [if_neg e1]
    by_cases e2 : x = o + 2
    · rw [if_pos e2, e2]; exact (h3 i).symm
    rw [if_neg e2]
    by_cases e3 : x = o + 3
    · rw [if_pos e3, e3]; exact (h4 i).symm
    rw [if_neg e3]
    by_cases e4 : x = o + 4
    · rw [if_pos e4, e4]; exact (h5 i).symm
    rw [if_neg e4]
    by_cases e5 : x = o + 5
    · rw [if_pos e5, e5]; exact (h6 i).symm
    rw [if_neg e5]
theorem MD.of (hK : MK M o) (f : Nat → Int) (s b c w : Int → Int) (j : Nat → Bool) : MD (ms M o f s b c w j) o f s b c w j := by
  refine ⟨hK, fun g => msF M o f s b c w j g, fun i => ?_, fun i => ?_, fun i => ?_, fun i => ?_, fun i => ms5 M o f s b c w j i⟩
  · have := ms1 M o f s b c w j (z := (i : Int)) (by omega); rw [Int.toNat_natCast] at this; exact this
  · have := ms2 M o f s b c w j (z := (i : Int)) (by omega); rw [Int.toNat_natCast] at this; exact this
  · have := ms3 M o f s b c w j (z := (i : Int)) (by omega); rw [Int.toNat_natCast] at this; exact this
  · have := ms4 M o f s b c w j (z := (i : Int)) (by omega); rw [Int.toNat_natCast] at this; exact this
theorem MD.sm (h : MD M o f s b c w j) (hK : ∀ x, o ≤ x → x ≤ o + 5 → mK M' x = mK M x) (hs : ∀ x, o ≤ x → x ≤ o + 5 → Sm M M' x) : MD M' o f s b c w j := by
  obtain ⟨⟨k0, k1, k2, k3, k4, k5, k6, k7, k8, k9, k10⟩, h1, h2, h3, h4, h5, h6⟩ := h
  have kO' : ∀ x, o ≤ x → x ≤ o + 5 → kO M' x = kO M x := fun x a1 a2 => by unfold kO; rw [hK x a1 a2]
  have kX' : ∀ x, o ≤ x → x ≤ o + 5 → kX M' x = kX M x := fun x a1 a2 => by unfold kX; rw [hK x a1 a2]
  have s0 := hs o (by omega) (by omega)
  refine ⟨⟨by rw [kO' _ (by omega) (by omega)]; exact k0, by rw [s0.2.1]; exact k1, by rw [s0.2.1]; exact k2, by rw [s0.2.1]; exact k3, by rw [s0.2.1]; exact k4, by rw [s0.2.1]; exact k5, by rw [kX' _ (by omega) (by omega)]; exact k6, by rw [kX' _ (by omega) (by omega)]; exact k7, by rw [kX' _ (by omega) (by omega)]; exact k8, by rw [kX' _ (by omega) (by omega)]; exact k9, by rw [kX' _ (by omega) (by omega)]; exact k10⟩, fun g => by rw [s0.1]; exact h1 g, fun i => ?_, fun i => ?_, fun i => ?_, fun i => ?_, fun i => ?_⟩
  · rw [(hs (o + 1) (by omega) (by omega)).2.2.1]; exact h2 i
  · rw [(hs (o + 2) (by omega) (by omega)).2.2.1]; exact h3 i
  · rw [(hs (o + 3) (by omega) (by omega)).2.2.1]; exact h4 i
  · rw [(hs (o + 4) (by omega) (by omega)).2.2.1]; exact h5 i
  · rw [(hs (o + 5) (by omega) (by omega)).2.2.1]; exact h6 i
/-- the component doesn't see what changes elsewhere -/
def Ap (p J : Nat) (A : Ad) (M M' : Mem) : Prop := (∀ x, x < mN M → mK M' x = mK M x) ∧ mN M ≤ mN M' ∧ (∀ x, mN M' ≤ x → mK M' x = none) ∧ ∀ x, Cs p J A x → Sm M M' x
theorem CX.ap (C : CX M p m J A T X) (h : Ap p J A M M') : CX M' p m J A T X := C.sm h.1 h.2.1 h.2.2.1 (fun x hx => ⟨fun g _ _ => (h.2.2.2 x hx).1 g, fun g _ => (h.2.2.2 x hx).2.1 g, (h.2.2.2 x hx).2.2.2.1, fun _ => (h.2.2.2 x hx).2.2.1⟩)
theorem DR.ap (D : DR M p T dt) (C : CX M p m J A T X) (h : Ap p J A M M') : DR M' p T dt := by
  intro y h1 h2 h3
  have r := D y h1 h2 h3
  have hy := C.us y h1
  have h5 := C.2.2.2.2
  refine ⟨?_, fun i hi => by rw [(h.2.2.2 _ (.inl ⟨by omega, by omega⟩)).2.2.1]; exact r.2 i hi⟩
  have := r.1
  unfold kX at this ⊢
  rw [h.1 _ (by omega)]; exact this
theorem DJv.ap (V : DJv M p m J v la) (C : CX M p m J A T X) (h : Ap p J A M M') : DJv M' p m J v la := by
  have hm96 := C.1.2.2.2.2.2.2.2.2.2.2.2.1
  have hl := C.2.2.2.2
  obtain ⟨full, sg, jr, hm, Gs, ⟨⟨a1, a2, a3, a4, a5, a6, a7, a8⟩, b1, b2, b3, b4⟩, r⟩ := V
  have sm : ∀ x, p + 205 ≤ x → x ≤ p + 402 + J → Sm M M' x := fun x h1 h2 => h.2.2.2 x (.inl ⟨by omega, by omega⟩)
  have oR : ∀ x g, p + 205 ≤ x → x ≤ p + 402 + J → Rw M x g → Rw M' x g := by
    intro x g h1 h2 r
    refine ⟨?_, fun i hi => by rw [(sm x h1 h2).2.2.1]; exact r.2 i hi⟩
    have := r.1
    unfold kX at this ⊢
    rw [h.1 x (by omega)]; exact this
  have s5 := (sm (p + 205) (by omega) (by omega)).1
  exact ⟨full, sg, jr, hm, Gs, ⟨⟨by rw [s5]; exact a1, by rw [s5]; exact a2, by rw [s5]; exact a3, by rw [s5]; exact a4, by rw [s5]; exact a5, a6, a7, a8⟩, fun i hi => by rw [(sm (p + 402 + J) (by omega) (by omega)).2.2.1]; exact b1 i hi, fun i hi h0 => oR _ _ (by omega) (by omega) (b2 i hi h0), fun y hy => oR _ _ (by omega) (by omega) (b3 y hy), fun y hy => oR _ _ (by omega) (by omega) (b4 y hy)⟩, r⟩
/-- the model changes -/
theorem Ap.ms (hE : ∀ x, mN M ≤ x → mK M x = none) (h : ∀ x, o ≤ x → x ≤ o + 5 → ¬ Cs p J A x) (f : Nat → Int) (s b c w : Int → Int) (j : Nat → Bool) : Ap p J A M (ms M o f s b c w j) := by
  refine ⟨fun x _ => (msK M o f s b c w j x).2.2, by rw [(msN M o f s b c w j).1]; exact Nat.le_refl _, fun x hx => hE x hx, fun x hx => ⟨fun g => msFn M o f s b c w j g (fun e => h x (by omega) (by omega) hx), fun g => (msR M o f s b c w j g x).1, fun i => msA M o f s b c w j ?_ i, fun i => (msR M o f s b c w j x i).2.1, fun i => (msR M o f s b c w j x i).2.2⟩⟩
  apply Classical.byContradiction
  intro hc
  exact h x (by omega) (by omega) hx
theorem Ap.sL (hE : ∀ x, mN M ≤ x → mK M x = none) (h : ¬ Cs p J A q) (z : Int64) : Ap p J A M (sL M q 0 z) := ⟨fun _ _ => rfl, Nat.le_refl _, hE, fun x hx => ⟨fun _ => rfl, fun _ => rfl, fun _ => rfl, fun _ => rfl, fun i => by rw [mL_sL, if_neg (fun e => h (by rw [← e.1]; exact hx))]⟩⟩
/-- the state of the law's loop after k calls -/
def LWs (M : Mem) (p o q a m J n : Nat) (sc : Nat → Int) (N0 S0 : Nat) (A : Ad) (T : Tr) (X : Ob) (dt : Nat → Nat → Nat) (par : Nat → Nat) (Tc : Tr) (Xc : Ob) (dtc : Nat → Nat → Nat) (parc : Nat → Nat) (la : Nat → Nat → Nat) (v : Dv) (k : Nat) : Prop :=
  (CX M p m J A T X ∧ DR M p T dt ∧ DJv M p m J v la ∧ CMt m Tc Xc dtc la) ∧
  (∃ f s b c w j, MD M o f s b c w j ∧ FV f j m J v ∧ MS s T X dt ∧ MS c Tc Xc dtc) ∧
  (WO m T X dt par ∧ WO m Tc Xc dtc parc ∧ DvO m J v) ∧
  (kX M q = (3, 1) ∧ kX M a = (8, n) ∧ (∀ i, i < n → mA M a i = I (sc i))) ∧
  (∀ x, ((o ≤ x ∧ x ≤ o + 5) ∨ x = q ∨ x = a) → x < mN M ∧ ¬ Cs p J A x) ∧ (q < o ∨ o + 5 < q) ∧ (a < o ∨ o + 5 < a) ∧ a ≠ q ∧
  mN M ≤ N0 + nC A + k ∧ mS M ≤ S0 + sC A + 6 * k
/-- after the component's call: what the model and the law need -/
theorem LWs.mid {n : Nat} {sc : Nat → Int} {N0 S0 k x : Nat} (L : LWs M p o q a m J n sc N0 S0 A T X dt par Tc Xc dtc parc la v k) (F : CD p J A A' x M M') : (∀ f s b c w j, MD M o f s b c w j → MD M' o f s b c w j) ∧ kX M' q = (3, 1) ∧ kX M' a = (8, n) ∧ (∀ i, i < n → mA M' a i = I (sc i)) ∧ (∀ x, ((o ≤ x ∧ x ≤ o + 5) ∨ x = q ∨ x = a) → x < mN M' ∧ ¬ Cs p J A' x) := by
  obtain ⟨_, _, _, ⟨l1, l2, l3⟩, l4, l5, l6, l7, l8, l9⟩ := L
  obtain ⟨f1, f2, f3, f4, f5, f6, f7, f8, f9⟩ := F
  have hx : ∀ x, ((o ≤ x ∧ x ≤ o + 5) ∨ x = q ∨ x = a) → mK M' x = mK M x ∧ Sm M M' x := fun x hx => ⟨f1 x (l4 x hx).1, f2 x (l4 x hx).1 (l4 x hx).2⟩
  refine ⟨fun f s b c w j h => h.sm (fun x h1 h2 => (hx x (.inl ⟨h1, h2⟩)).1) (fun x h1 h2 => (hx x (.inl ⟨h1, h2⟩)).2), ?_, ?_, fun i hi => ?_, fun x h => ⟨by have := (l4 x h).1; omega, fun hc => ?_⟩⟩
  · have := (hx q (.inr (.inl rfl))).1
    unfold kX at l1 ⊢
    rw [this]; exact l1
  · have := (hx a (.inr (.inr rfl))).1
    unfold kX at l2 ⊢
    rw [this]; exact l2
  · rw [(hx a (.inr (.inr rfl))).2.2.2.1]; exact l3 i hi
  · have hlt := (l4 x h).1
    apply (l4 x h).2
    rcases hc with hc | ⟨y, u, hc, h1, h2⟩ | ⟨y, u, hc, h1, h2⟩
    · exact .inl hc
    · rcases f5 y u hc with hh | hh
      · exact .inr (.inl ⟨y, u, hh, h1, h2⟩)
      · omega
    · rcases f6 y u hc with hh | hh
      · exact .inr (.inr ⟨y, u, hh, h1, h2⟩)
      · omega
theorem CX.fresh (C : CX M p m J A T X) : ∀ x, mN M ≤ x → mK M x = none := C.2.1.1.2.2.2.2
/-- after both calls: M1 is the component's memory, z what was told -/
theorem LWs.step {n : Nat} {sc : Nat → Int} {N0 S0 k x : Nat} {M1 M2 : Mem} {T' Tc' : Tr} {X' Xc' : Ob} {dt' dtc' la' : Nat → Nat → Nat} {par' parc' : Nat → Nat} {v' : Dv} (L : LWs M p o q a m J n sc N0 S0 A T X dt par Tc Xc dtc parc la v k) (F : CD p J A A' x M M1) (hx : x ≤ 1) (hM : M2 = M1 ∨ ∃ z, M2 = sL M1 q 0 z) (C : CX M1 p m J A' T' X') (D : DR M1 p T' dt') (V : DJv M1 p m J v' la') (K : CMt m Tc' Xc' dtc' la') {f' : Nat → Int} {s' b' c' w' : Int → Int} {j' : Nat → Bool} (FVv : FV f' j' m J v') (S1 : MS s' T' X' dt') (S2 : MS c' Tc' Xc' dtc') (w1 : WO m T' X' dt' par') (w2 : WO m Tc' Xc' dtc' parc') (dv : DvO m J v') : LWs (ms M2 o f' s' b' c' w' j') p o q a m J n sc N0 S0 A' T' X' dt' par' Tc' Xc' dtc' parc' la' v' (k + 1) := by
  obtain ⟨g1, g2, g3, g4, g5⟩ := L.mid F
  obtain ⟨⟨_, _, _, _⟩, ⟨f, s, b, c, w, j, md, _⟩, _, _, _, l5, l6, l7, l8, l9⟩ := L
  have md1 := g1 f s b c w j md
  have ap1 : Ap p J A' M1 M2 := by
    rcases hM with h | ⟨z, h⟩
    · rw [h]; exact ⟨fun _ _ => rfl, Nat.le_refl _, C.fresh, fun x _ => ⟨fun _ => rfl, fun _ => rfl, fun _ => rfl, fun _ => rfl, fun _ => rfl⟩⟩
    · rw [h]; exact Ap.sL C.fresh (g5 q (.inr (.inl rfl))).2 z
  have hs : (∀ y, mK M2 y = mK M1 y) ∧ (∀ y i, mA M2 y i = mA M1 y i) ∧ mN M2 = mN M1 ∧ mS M2 = mS M1 ∧ (∀ y, kX M2 y = kX M1 y) ∧ (∀ g y, mF M2 g y = mF M1 g y) ∧ (∀ g y, mR M2 g y = mR M1 g y) ∧ (∀ y, kO M2 y = kO M1 y) := by
    rcases hM with h | ⟨z, h⟩
    · rw [h]; exact ⟨fun _ => rfl, fun _ _ => rfl, rfl, rfl, fun _ => rfl, fun _ _ => rfl, fun _ _ => rfl, fun _ => rfl⟩
    · rw [h]; exact ⟨fun _ => rfl, fun _ _ => rfl, rfl, rfl, fun _ => rfl, fun _ _ => rfl, fun _ _ => rfl, fun _ => rfl⟩
  have mk2 : MK M2 o := by
    obtain ⟨k0, k1, k2, k3, k4, k5, k6, k7, k8, k9, k10⟩ := md1.1
    exact ⟨by rw [hs.2.2.2.2.2.2.2]; exact k0, by rw [hs.2.2.2.2.2.2.1]; exact k1, by rw [hs.2.2.2.2.2.2.1]; exact k2, by rw [hs.2.2.2.2.2.2.1]; exact k3, by rw [hs.2.2.2.2.2.2.1]; exact k4, by rw [hs.2.2.2.2.2.2.1]; exact k5, by rw [hs.2.2.2.2.1]; exact k6, by rw [hs.2.2.2.2.1]; exact k7, by rw [hs.2.2.2.2.1]; exact k8, by rw [hs.2.2.2.2.1]; exact k9, by rw [hs.2.2.2.2.1]; exact k10⟩
  have C2 := C.ap ap1
  have D2 := D.ap C ap1
  have V2 := DJv.ap V C ap1
  have ap2 : Ap p J A' M2 (ms M2 o f' s' b' c' w' j') := Ap.ms C2.fresh (fun x h1 h2 => (g5 x (.inl ⟨h1, h2⟩)).2) f' s' b' c' w' j'
  obtain ⟨f1, f2, f3, f4, f5, f6, f7, f8, f9⟩ := F
  refine ⟨⟨C2.ap ap2, D2.ap C2 ap2, DJv.ap V2 C2 ap2, K⟩, ⟨f', s', b', c', w', j', MD.of mk2 f' s' b' c' w' j', FVv, S1, S2⟩, ⟨w1, w2, dv⟩, ⟨?_, ?_, fun i hi => ?_⟩, fun y hy => ?_, l5, l6, l7, ?_, ?_⟩
  · rw [(msK M2 o f' s' b' c' w' j' q).2.1, hs.2.2.2.2.1]; exact g2
  · rw [(msK M2 o f' s' b' c' w' j' a).2.1, hs.2.2.2.2.1]; exact g3
  · rw [msA M2 o f' s' b' c' w' j' (by omega) i, hs.2.1]; exact g4 i hi
  · rw [(msN M2 o f' s' b' c' w' j').1, hs.2.2.1]; exact g5 y hy
  · rw [(msN M2 o f' s' b' c' w' j').1, hs.2.2.1]; omega
  · rw [(msN M2 o f' s' b' c' w' j').2, hs.2.2.2.1]; omega
end Lst
