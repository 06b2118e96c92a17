/-! ===== soundness of array steps ===== -/
section SM2
variable {p : Program} {l : Launch} {e : Env} {R : Room} {s : State} {m : MethodId} {args : Array Value} {below : List Frame} {meth : Method} {c : Code} {H : Heap} {locs : List Loc} {cells slots : Nat} {Q : State → Prop}
variable {cc : ByteArray} {D : Dn} {bs : Nat} {H0 : Heap} {M : Mem} {pc a t n : Nat} {j : Int32} {r : List Value} {arr : Array Slot}
set_option maxHeartbeats 4000000 in
theorem soundIal (hx : p.tables.exec = Jvm.exec) (hb : c.code = cc) (hC : Cx D s) (hR : Rep D s bs H0 M H) (hd : decode cc pc = .ok (.iaload, 1)) (hk : mK M a = some (.inr (t, n))) (ht : t = 0 ∨ t = 8) (hj : inB j n = true)
    (kk : W p l e R s m args below meth c H locs cells slots Q (F0 m (pc + 1) arr (.int (mA M a j.toNatClampNeg) :: r))) : W p l e R s m args below meth c H locs cells slots Q (F0 m pc arr (.int j :: .ref a :: r)) := by
  obtain ⟨j1, j2⟩ := inB_spec hj
  rcases ht with rfl | rfl
  · obtain ⟨-, h1⟩ := hR.ar hk (by decide)
    exact W.iald (v := .int (mA M a j.toNatClampNeg)) hx hb h1 ((hC.2.2.2.2.1 0 (by decide)).1 n _) (fun q => by cases q) (by rw [arrV_size]; exact j1) (by rw [arrV_read _ _ j2]; rfl) rfl rfl hd kk
  · rcases hR.2.2.2.2 a _ hk with ⟨-, -, scr, h3, h4, h5, h6, h7⟩ | ⟨h1, -⟩
    · exact W.iald (v := .int (mA M a j.toNatClampNeg)) hx hb h3 h4 h5 (by rw [h6]; exact j1) (h7 _ j2) rfl rfl hd kk
    · omega
set_option maxHeartbeats 4000000 in
theorem soundBal (hx : p.tables.exec = Jvm.exec) (hb : c.code = cc) (hC : Cx D s) (hR : Rep D s bs H0 M H) (hd : decode cc pc = .ok (.baload, 1)) (hk : mK M a = some (.inr (t, n))) (ht : t = 1 ∨ t = 2) (hj : inB j n = true)
    (kk : W p l e R s m args below meth c H locs cells slots Q (F0 m (pc + 1) arr (.int (mA M a j.toNatClampNeg) :: r))) : W p l e R s m args below meth c H locs cells slots Q (F0 m pc arr (.int j :: .ref a :: r)) := by
  obtain ⟨j1, j2⟩ := inB_spec hj
  rcases ht with rfl | rfl
  · obtain ⟨-, h1⟩ := hR.ar hk (by decide)
    exact W.bald (v := .int (mA M a j.toNatClampNeg)) hx hb h1 ((hC.2.2.2.2.1 1 (by decide)).1 n _) (fun q => by cases q) (by rw [arrV_size]; exact j1) (by rw [arrV_read _ _ j2]; rfl) rfl rfl hd kk
  · obtain ⟨-, h1⟩ := hR.ar hk (by decide)
    exact W.zald (v := .int (mA M a j.toNatClampNeg)) hx hb h1 ((hC.2.2.2.2.1 2 (by decide)).1 n _) (fun q => by cases q) (by rw [arrV_size]; exact j1) (by rw [arrV_read _ _ j2]; rfl) rfl rfl hd kk
set_option maxHeartbeats 4000000 in
theorem soundLal (hx : p.tables.exec = Jvm.exec) (hb : c.code = cc) (hC : Cx D s) (hR : Rep D s bs H0 M H) (hd : decode cc pc = .ok (.laload, 1)) (hk : mK M a = some (.inr (3, n))) (hj : inB j n = true)
    (kk : W p l e R s m args below meth c H locs cells slots Q (F0 m (pc + 1) arr (.long (mL M a j.toNatClampNeg) :: r))) : W p l e R s m args below meth c H locs cells slots Q (F0 m pc arr (.int j :: .ref a :: r)) := by
  obtain ⟨j1, j2⟩ := inB_spec hj
  obtain ⟨-, h1⟩ := hR.ar hk (by decide)
  exact W.lald (v := .long (mL M a j.toNatClampNeg)) hx hb h1 ((hC.2.2.2.2.1 3 (by decide)).1 n _) (fun q => by cases q) (by rw [arrV_size]; exact j1) (by rw [arrV_read _ _ j2]; rfl) rfl rfl hd kk
theorem tyA_ref {t : Nat} (h : t = 4 ∨ t = 5 ∨ t = 6 ∨ t = 7) : (tyA t).isReference = true := by
  rcases h with rfl | rfl | rfl | rfl <;> rfl
theorem aV_ref (M : Mem) {t : Nat} (h : t = 4 ∨ t = 5 ∨ t = 6 ∨ t = 7) (a j : Nat) : aV M t a j = va_rf (mQ M a j) := by
  rcases h with rfl | rfl | rfl | rfl <;> rfl
set_option maxHeartbeats 4000000 in
theorem soundAal (hx : p.tables.exec = Jvm.exec) (hb : c.code = cc) (hC : Cx D s) (hR : Rep D s bs H0 M H) (hd : decode cc pc = .ok (.aaload, 1)) (hk : mK M a = some (.inr (t, n))) (ht : t = 4 ∨ t = 5 ∨ t = 6 ∨ t = 7) (hj : inB j n = true)
    (kk : W p l e R s m args below meth c H locs cells slots Q (F0 m (pc + 1) arr (va_rf (mQ M a j.toNatClampNeg) :: r))) : W p l e R s m args below meth c H locs cells slots Q (F0 m pc arr (.int j :: .ref a :: r)) := by
  obtain ⟨j1, j2⟩ := inB_spec hj
  have h8 : t < 8 := by omega
  obtain ⟨-, h1⟩ := hR.ar hk h8
  exact W.aald (v := va_rf (mQ M a j.toNatClampNeg)) (ty := tyA t) hx hb h1 ((hC.2.2.2.2.1 t h8).1 n _) (tyA_ref ht) (fun q => by cases q) (by rw [arrV_size]; exact j1) (by rw [arrV_read _ _ j2, aV_ref M ht]) rfl rfl hd kk
set_option maxHeartbeats 4000000 in
theorem soundAln (hx : p.tables.exec = Jvm.exec) (hb : c.code = cc) (hC : Cx D s) (hR : Rep D s bs H0 M H) (hd : decode cc pc = .ok (.arraylength, 1)) (hk : mK M a = some (.inr (t, n)))
    (kk : W p l e R s m args below meth c H locs cells slots Q (F0 m (pc + 1) arr (.int (Int32.ofNat n) :: r))) : W p l e R s m args below meth c H locs cells slots Q (F0 m pc arr (.ref a :: r)) := by
  rcases hR.2.2.2.2 a _ hk with ⟨-, -, scr, h3, h4, h5, h6, h7⟩ | ⟨h1, h2, h3⟩
  · exact W.alen (n := Int32.ofNat n) hx hb h3 h4 (by rw [h6] <;> rfl) rfl rfl hd kk
  · exact W.alen (n := Int32.ofNat n) hx hb h3 ((hC.2.2.2.2.1 t h1).1 n _) (by rw [arrV_size] <;> rfl) rfl rfl hd kk
set_option maxHeartbeats 4000000 in
theorem soundIas (hx : p.tables.exec = Jvm.exec) (hb : c.code = cc) (hC : Cx D s) (hR : Rep D s bs H0 M H) (hlo : ∀ x ∈ locs, bs ≤ x.base) (hd : decode cc pc = .ok (.iastore, 1)) (hk : mK M a = some (.inr (0, n))) (hj : inB j n = true) {x : Int32}
    (kk : ∀ (H' : Heap) (locs' : List Loc), Rep D s bs H0 (sA M a j.toNatClampNeg x) H' → (∀ y ∈ locs', bs ≤ y.base) → W p l e R s m args below meth c H' locs' cells slots Q (F0 m (pc + 1) arr r)) : W p l e R s m args below meth c H locs cells slots Q (F0 m pc arr (.int x :: .int j :: .ref a :: r)) := by
  obtain ⟨j1, j2⟩ := inB_spec hj
  obtain ⟨hba, h1⟩ := hR.ar hk (by decide)
  refine W.iast hx hb h1 ((hC.2.2.2.2.1 0 (by decide)).1 n _) (fun q => by cases q) (by rw [arrV_size]; exact j1) rfl rfl hd fun H1 e1 e2 e3 => ?_
  refine kk H1 _ (hR.arr hk (by decide) (fun _ => rfl) rfl (fun _ _ => rfl) ?_ (fun i hi => ?_) (fun t' b i hbn => ?_) (fun b i hbn => ?_) e1 e2 e3) (locs_add hlo hba)
  · simp [aV, mA, sA, up2_s]
  · simp only [aV, mA, mQ, mL, sA, up2_n _ _ (fun q : a = a ∧ i = _ => hi q.2)]
  · simp only [aV, mA, mQ, mL, sA, up2_n _ _ (fun q : b = a ∧ i = _ => hbn q.1)]
  · simp only [mA, sA, up2_n _ _ (fun q : b = a ∧ i = _ => hbn q.1)]
set_option maxHeartbeats 4000000 in
theorem soundBas (hx : p.tables.exec = Jvm.exec) (hb : c.code = cc) (hC : Cx D s) (hR : Rep D s bs H0 M H) (hlo : ∀ x ∈ locs, bs ≤ x.base) (hd : decode cc pc = .ok (.bastore, 1)) (hk : mK M a = some (.inr (t, n))) (ht : t = 1 ∨ t = 2) (hj : inB j n = true) {x : Int32}
    (kk : ∀ (H' : Heap) (locs' : List Loc), Rep D s bs H0 (sA M a j.toNatClampNeg (vp_nar (tyA t) x)) H' → (∀ y ∈ locs', bs ≤ y.base) → W p l e R s m args below meth c H' locs' cells slots Q (F0 m (pc + 1) arr r)) : W p l e R s m args below meth c H locs cells slots Q (F0 m pc arr (.int x :: .int j :: .ref a :: r)) := by
  obtain ⟨j1, j2⟩ := inB_spec hj
  rcases ht with rfl | rfl
  · obtain ⟨hba, h1⟩ := hR.ar hk (by decide)
    refine W.bast hx hb h1 ((hC.2.2.2.2.1 1 (by decide)).1 n _) (fun q => by cases q) (by rw [arrV_size]; exact j1) rfl rfl hd fun H1 e1 e2 e3 => ?_
    refine kk H1 _ (hR.arr hk (by decide) (fun _ => rfl) rfl (fun _ _ => rfl) ?_ (fun i hi => ?_) (fun t' b i hbn => ?_) (fun b i hbn => ?_) e1 e2 e3) (locs_add hlo hba)
    · simp [aV, mA, sA, up2_s, tyA, vp_nar_b]
    · simp only [aV, mA, mQ, mL, sA, up2_n _ _ (fun q : a = a ∧ i = _ => hi q.2)]
    · simp only [aV, mA, mQ, mL, sA, up2_n _ _ (fun q : b = a ∧ i = _ => hbn q.1)]
    · simp only [mA, sA, up2_n _ _ (fun q : b = a ∧ i = _ => hbn q.1)]
  · obtain ⟨hba, h1⟩ := hR.ar hk (by decide)
    refine W.zast hx hb h1 ((hC.2.2.2.2.1 2 (by decide)).1 n _) (fun q => by cases q) (by rw [arrV_size]; exact j1) rfl rfl hd fun H1 e1 e2 e3 => ?_
    refine kk H1 _ (hR.arr hk (by decide) (fun _ => rfl) rfl (fun _ _ => rfl) ?_ (fun i hi => ?_) (fun t' b i hbn => ?_) (fun b i hbn => ?_) e1 e2 e3) (locs_add hlo hba)
    · simp [aV, mA, sA, up2_s, tyA, vp_nar_z]
    · simp only [aV, mA, mQ, mL, sA, up2_n _ _ (fun q : a = a ∧ i = _ => hi q.2)]
    · simp only [aV, mA, mQ, mL, sA, up2_n _ _ (fun q : b = a ∧ i = _ => hbn q.1)]
    · simp only [mA, sA, up2_n _ _ (fun q : b = a ∧ i = _ => hbn q.1)]
set_option maxHeartbeats 4000000 in
theorem soundLas (hx : p.tables.exec = Jvm.exec) (hb : c.code = cc) (hC : Cx D s) (hR : Rep D s bs H0 M H) (hlo : ∀ x ∈ locs, bs ≤ x.base) (hd : decode cc pc = .ok (.lastore, 1)) (hk : mK M a = some (.inr (3, n))) (hj : inB j n = true) {x : Int64}
    (kk : ∀ (H' : Heap) (locs' : List Loc), Rep D s bs H0 (sL M a j.toNatClampNeg x) H' → (∀ y ∈ locs', bs ≤ y.base) → W p l e R s m args below meth c H' locs' cells slots Q (F0 m (pc + 1) arr r)) : W p l e R s m args below meth c H locs cells slots Q (F0 m pc arr (.long x :: .int j :: .ref a :: r)) := by
  obtain ⟨j1, j2⟩ := inB_spec hj
  obtain ⟨hba, h1⟩ := hR.ar hk (by decide)
  refine W.last hx hb h1 ((hC.2.2.2.2.1 3 (by decide)).1 n _) (fun q => by cases q) (by rw [arrV_size]; exact j1) rfl rfl hd fun H1 e1 e2 e3 => ?_
  refine kk H1 _ (hR.arr hk (by decide) (fun _ => rfl) rfl (fun _ _ => rfl) ?_ (fun i hi => ?_) (fun t' b i hbn => ?_) (fun b i hbn => ?_) e1 e2 e3) (locs_add hlo hba)
  · simp [aV, mL, sL, up2_s]
  · simp only [aV, mA, mQ, mL, sL, up2_n _ _ (fun q : a = a ∧ i = _ => hi q.2)]
  · simp only [aV, mA, mQ, mL, sL, up2_n _ _ (fun q : b = a ∧ i = _ => hbn q.1)]
  · rfl
theorem sQ_arr (hR : Rep D s bs H0 M H) (hk : mK M a = some (.inr (t, n))) (ht : t = 5 ∨ t = 6 ∨ t = 7) {i : Nat} {v : Option Nat} {H' : Heap} (e1 : H'[a]? = some ((arrV (D.2.2 t) n (aV M t a)).setSlot i (va_rf v))) (e2 : H'.size = H.size) (e3 : ∀ q, q ≠ a → H'[q]? = H[q]?) : Rep D s bs H0 (sQ M a i v) H' := by
  have ht4 : t = 4 ∨ t = 5 ∨ t = 6 ∨ t = 7 := Or.inr ht
  refine hR.arr hk (by omega) (fun _ => rfl) rfl (fun _ _ => rfl) ?_ (fun i' hi => ?_) (fun t' b i' hbn => ?_) (fun b i' hbn => rfl) e1 e2 e3
  · rw [aV_ref _ ht4]; simp [mQ, sQ, up2_s]
  · rw [aV_ref _ ht4, aV_ref _ ht4]; simp only [mQ, sQ, up2_n _ _ (fun q : a = a ∧ i' = _ => hi q.2)]
  · simp only [aV, mA, mQ, mL, sQ, up2_n _ _ (fun q : b = a ∧ i' = _ => hbn q.1)]
set_option maxHeartbeats 4000000 in
theorem soundAasN (hx : p.tables.exec = Jvm.exec) (hb : c.code = cc) (hC : Cx D s) (hR : Rep D s bs H0 M H) (hlo : ∀ x ∈ locs, bs ≤ x.base) (hd : decode cc pc = .ok (.aastore, 1)) (hk : mK M a = some (.inr (t, n))) (ht : t = 5 ∨ t = 6 ∨ t = 7) (hj : inB j n = true)
    (kk : ∀ (H' : Heap) (locs' : List Loc), Rep D s bs H0 (sQ M a j.toNatClampNeg none) H' → (∀ y ∈ locs', bs ≤ y.base) → W p l e R s m args below meth c H' locs' cells slots Q (F0 m (pc + 1) arr r)) : W p l e R s m args below meth c H locs cells slots Q (F0 m pc arr (.null :: .int j :: .ref a :: r)) := by
  obtain ⟨j1, j2⟩ := inB_spec hj
  have h8 : t < 8 := by omega
  obtain ⟨hba, h1⟩ := hR.ar hk h8
  have harr := (hC.2.2.2.2.1 t h8).1 n (aV M t a)
  have fin : ∀ H' : Heap, H'[a]? = some ((arrV (D.2.2 t) n (aV M t a)).setSlot j.toNatClampNeg .null) → H'.size = H.size → (∀ q, q ≠ a → H'[q]? = H[q]?) → W p l e R s m args below meth c H' (locs ++ [⟨a, j.toNatClampNeg⟩]) cells slots Q (F0 m (pc + 1) arr r) := fun H' e1 e2 e3 => kk H' _ (sQ_arr hR hk ht e1 e2 e3) (locs_add hlo hba)
  rcases ht with rfl | rfl | rfl
  · exact va_WaastN hx hb h1 harr (fun q => by cases q) (by rw [arrV_size]; exact j1) rfl rfl hd fin
  · exact va_WaastN hx hb h1 harr (fun q => by cases q) (by rw [arrV_size]; exact j1) rfl rfl hd fin
  · exact va_WaastN hx hb h1 harr (fun q => by cases q) (by rw [arrV_size]; exact j1) rfl rfl hd fin
theorem castW {w : Cond} (i : Nat) (h : lw_tbl[i]? = some w) : w ∈ lw_tbl := List.mem_of_getElem? h
theorem cast_in {t k : Nat} (h : fitQ t k = true) : Cond.castable (nmC k) (nmC t) ∈ lw_tbl := by
  simp only [fitQ, Bool.or_eq_true, Bool.and_eq_true, beq_iff_eq] at h
  rcases h with (⟨rfl, rfl⟩ | ⟨rfl, rfl⟩) | ⟨rfl, rfl | rfl⟩
  · exact List.mem_of_getElem? (i := 1442) (by decide +kernel)
  · exact List.mem_of_getElem? (i := 1441) (by decide +kernel)
  · exact List.mem_of_getElem? (i := 1444) (by decide +kernel)
  · exact List.mem_of_getElem? (i := 1443) (by decide +kernel)
theorem fitQ_spec {t k : Nat} (h : fitQ t k = true) : (t = 5 ∨ t = 6 ∨ t = 7) ∧ tyA t = .object (nmC t) := by
  simp only [fitQ, Bool.or_eq_true, Bool.and_eq_true, beq_iff_eq] at h
  rcases h with (⟨rfl, rfl⟩ | ⟨rfl, rfl⟩) | ⟨rfl, rfl | rfl⟩ <;> exact ⟨by omega, rfl⟩
set_option maxHeartbeats 4000000 in
theorem soundAas (hx : p.tables.exec = Jvm.exec) (hb : c.code = cc) (hC : Cx D s) (hR : Rep D s bs H0 M H) (hlo : ∀ x ∈ locs, bs ≤ x.base) (hd : decode cc pc = .ok (.aastore, 1)) {v k : Nat} (hk : mK M a = some (.inr (t, n))) (hkv : mK M v = some (.inl k)) (hf : fitQ t k = true) (hj : inB j n = true)
    (kk : ∀ (H' : Heap) (locs' : List Loc), Rep D s bs H0 (sQ M a j.toNatClampNeg (some v)) H' → (∀ y ∈ locs', bs ≤ y.base) → W p l e R s m args below meth c H' locs' cells slots Q (F0 m (pc + 1) arr r)) : W p l e R s m args below meth c H locs cells slots Q (F0 m pc arr (.ref v :: .int j :: .ref a :: r)) := by
  obtain ⟨j1, j2⟩ := inB_spec hj
  obtain ⟨ht, hty⟩ := fitQ_spec hf
  have h8 : t < 8 := by omega
  obtain ⟨hba, h1⟩ := hR.ar hk h8
  obtain ⟨hko, hbv, cv, q1, q2, q3, -⟩ := hR.ob hkv
  have hra := (hC.2.2.2.2.1 t h8).2
  rw [hty] at hra
  obtain ⟨kA, comp, k1, k2, k3, -⟩ := hra
  obtain ⟨cc0, t0, f1, f2, f3⟩ := Cond.castable_spec (hC.1 _ (cast_in hf) args)
  obtain ⟨hfc, kC, hkC, -⟩ := hC.2.2.1 k hko
  cases f1.symm.trans hfc
  cases k3.symm.trans f2
  obtain ⟨kT, hkT⟩ := Vm.classAt_of_findClass k3
  refine W.aast hx hb h1 (fun q h => by cases h) (fun h => by cases h) k1 k2 rfl hkT ⟨fun q => j1 (Or.inl q), by rw [arrV_size]; exact j2⟩ q1 (fun q h => by rw [q3] at h; cases h) (by rw [q2]; exact hkC) (by rw [q2]; exact f3) rfl rfl hd fun H1 e1 e2 e3 => ?_
  exact kk H1 _ (sQ_arr hR hk ht (v := some v) e1 e2 e3) (locs_add hlo hba)
end SM2
