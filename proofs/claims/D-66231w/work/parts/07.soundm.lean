/-! ===== what the tables say, and soundness of the steps that touch the memory ===== -/
def ncL : List (Nat × Nat) := [(5, 6), (11, 12), (11, 13), (11, 14), (12, 11), (12, 13), (12, 14), (13, 11), (13, 12), (13, 14), (14, 11), (14, 12), (14, 13)]
def Cx (D : Dn) (U : State) : Prop :=
  (∀ w ∈ lw_tbl, ∀ A : Array Value, w.before A U = true) ∧ (∀ q ∈ ncL, va_Nc (nmC q.1) (nmC q.2) U) ∧ (∀ k ∈ cOb, ClassAt U (nmC k) (D.1 k)) ∧
  (∀ f, f < 57 → SlotIs U (fD f).1 (fD f).2.1 (fD f).2.2.1 (D.2.1 f)) ∧ (∀ t, t < 8 → ArrOfT U (D.2.2 t) (tyA t) ∧ va_RA U (D.2.2 t) (tyA t)) ∧ (∀ k ∈ cOb, ∀ f ∈ cFl k, ∀ g ∈ cFl k, g ≠ f → D.2.1 g ≠ D.2.1 f)
def fTy (f : Nat) : FieldType := (parseFieldDescriptor (fD f).2.2.1).getD .int
def isRf : FieldType → Bool
  | .object _ => true
  | .array _ => true
  | _ => false
set_option maxRecDepth 100000 in
theorem fTy_ok : ∀ f, f < 57 → parseFieldDescriptor (fD f).2.2.1 = some (fTy f) ∧ ((fD f).2.2.2.2 = 0 → fTy f = .int) ∧ ((fD f).2.2.2.2 = 1 → fTy f = .boolean) ∧ ((fD f).2.2.2.2 = 2 → isRf (fTy f) = true) := by decide +kernel
set_option maxRecDepth 100000 in
theorem cFl_lt : ∀ k ∈ cOb, ∀ f ∈ cFl k, f < 57 := by decide +kernel
theorem rf_ok {ty : FieldType} (h : isRf ty = true) (r : Option Nat) : narrow ty (va_rf r) = va_rf r ∧ fits ty (va_rf r) = true := by
  cases ty <;> simp [isRf] at h <;> cases r <;> exact ⟨rfl, rfl⟩
theorem inB_spec {j : Int32} {n : Nat} (h : inB j n = true) : ¬ (j < 0 ∨ n ≤ j.toNatClampNeg) ∧ j.toNatClampNeg < n := by
  simp only [inB, Bool.and_eq_true, Bool.not_eq_true', decide_eq_false_iff_not, decide_eq_true_eq] at h
  exact ⟨fun q => q.elim h.1 (fun q => by omega), h.2⟩
theorem fRes_mem {c i f r : Nat} {b : Bool} (h : fRes c i = some (f, r, b)) : (c, i, f, r, b) ∈ fLk := by
  unfold fRes at h
  split at h
  · rename_i q hq
    have h1 := List.mem_of_find?_eq_some hq
    have h2 := List.find?_some hq
    simp only [Bool.and_eq_true, beq_iff_eq] at h2
    obtain ⟨q1, q2, q3⟩ := q
    obtain ⟨rfl, rfl⟩ := h2
    cases h
    exact h1
  · cases h
theorem cRes_mem {c i k : Nat} (h : cRes c i = some k) : (c, i, k) ∈ cLk := by
  unfold cRes at h
  split at h
  · rename_i q hq
    have h1 := List.mem_of_find?_eq_some hq
    have h2 := List.find?_some hq
    simp only [Bool.and_eq_true, beq_iff_eq] at h2
    obtain ⟨q1, q2, q3⟩ := q
    obtain ⟨rfl, rfl⟩ := h2
    cases h
    exact h1
  · cases h
theorem cRes_link {D : Dn} {U : State} (hC : Cx D U) {c i k : Nat} (h : cRes c i = some k) (A : Array Value) : (Cond.classLink (nmC c) i (nmC k)).before A U = true := hC.1 _ (cLk_ok _ (cRes_mem h) _ List.mem_cons_self) A
/-- the field that a link finds -/
theorem Cx.field {D : Dn} {U : State} (hC : Cx D U) {c i f r : Nat} {b : Bool} (h : fRes c i = some (f, r, b)) {k : Nat} (hk : k ∈ cOb) (hf : f ∈ cFl k) (A : Array Value) :
    ∃ (cf fi : Nat) (kf : Class) (fd : Field), U.fieldFound? (fD f).1 (fD f).2.1 (fD f).2.2.1 = some (cf, kf, fi, fd) ∧ U.fieldFound? (nmC r) (fD f).2.1 (fD f).2.2.1 = some (cf, kf, fi, fd) ∧ fd.slot = D.2.1 f ∧ fd.isStatic = false := by
  obtain ⟨cf, kf, fi, fd, h1, h2⟩ := hC.2.2.2.1 f (cFl_lt k hk f hf)
  obtain ⟨hfc, kC, hkC, -⟩ := hC.2.2.1 k hk
  have hw := fLk_ok _ (fRes_mem h)
  have hl : (Cond.lays (nmC k) (fD f).1 (fD f).2.1 (fD f).2.2.1).before A U = true ∨ (Cond.laysFinal (nmC k) (fD f).1 (fD f).2.1 (fD f).2.2.1).before A U = true := by
    have h3 := hC.1 _ (cLy_ok k hk _ (List.mem_cons_of_mem _ (List.mem_cons_of_mem _ (List.mem_map.mpr ⟨f, hf, rfl⟩)))) A
    split at h3
    · exact Or.inr h3
    · exact Or.inl h3
  refine ⟨cf, fi, kf, fd, h1, ?_, h2, (u_facts hfc hkC hl h1).1⟩
  by_cases hr : nmC r = (fD f).1
  · rw [hr]; exact h1
  · exact u_same (hC.1 _ (hw _ (by simp [fLw, hr])) A) _ h1
theorem Cx.lay {D : Dn} {U : State} (hC : Cx D U) {f k : Nat} (hk : k ∈ cOb) (hf : f ∈ cFl k) (A : Array Value) :
    ((fD f).2.2.2.1 = false → (Cond.lays (nmC k) (fD f).1 (fD f).2.1 (fD f).2.2.1).before A U = true) ∧ ((fD f).2.2.2.1 = true → (Cond.laysFinal (nmC k) (fD f).1 (fD f).2.1 (fD f).2.2.1).before A U = true) := by
  have h3 := hC.1 _ (cLy_ok k hk _ (List.mem_cons_of_mem _ (List.mem_cons_of_mem _ (List.mem_map.mpr ⟨f, hf, rfl⟩)))) A
  constructor
  · intro h
    rw [if_neg (by rw [h]; decide)] at h3
    exact h3
  · intro h
    rw [if_pos h] at h3
    exact h3
theorem up2_s {α : Type} (g : Nat → Nat → α) (x y : Nat) (v : α) : up2 g x y v x y = v := by simp [up2]
theorem up2_n {α : Type} (g : Nat → Nat → α) {x y p q : Nat} (v : α) (h : ¬ (p = x ∧ q = y)) : up2 g x y v p q = g p q := by simp [up2, h]
theorem fP_spec {M M' : Mem} {f a : Nat} {v : Value} (hf : f < 57) (h : fP M f a v = some M') : narrow (fTy f) v = v ∧ fits (fTy f) v = true ∧ (∀ b, mK M' b = mK M b) ∧ mN M' = mN M ∧ mS M' = mS M ∧ fV M' f a = v ∧ (∀ g b, ¬ (g = f ∧ b = a) → fV M' g b = fV M g b) ∧ (∀ t b j, aV M' t b j = aV M t b j) ∧ ∀ b j, mA M' b j = mA M b j := by
  obtain ⟨-, t0, t1, t2⟩ := fTy_ok f hf
  unfold fP at h
  split at h
  · rename_i hk
    cases h
    refine ⟨by rw [t0 hk]; rfl, by rw [t0 hk]; rfl, fun _ => rfl, rfl, rfl, by simp [fV, hk, mF, sF, up2_s], fun g b hgb => ?_, fun _ _ _ => rfl, fun _ _ => rfl⟩
    simp only [fV, mF, mR, sF, up2_n _ _ hgb]
  · rename_i hk
    split at h
    · rename_i hx
      cases h
      refine ⟨by rw [t1 hk]; rcases hx with rfl | rfl <;> rfl, by rw [t1 hk]; rcases hx with rfl | rfl <;> rfl, fun _ => rfl, rfl, rfl, by simp [fV, hk, mF, sF, up2_s], fun g b hgb => ?_, fun _ _ _ => rfl, fun _ _ => rfl⟩
      simp only [fV, mF, mR, sF, up2_n _ _ hgb]
    · cases h
  · rename_i b hk
    cases h
    have h9 := rf_ok (t2 hk) (some b)
    refine ⟨h9.1, h9.2, fun _ => rfl, rfl, rfl, by simp [fV, hk, mR, sR, up2_s, va_rf], fun g b hgb => ?_, fun _ _ _ => rfl, fun _ _ => rfl⟩
    simp only [fV, mF, mR, sR, up2_n _ _ hgb]
  · rename_i hk
    cases h
    have h9 := rf_ok (t2 hk) none
    refine ⟨h9.1, h9.2, fun _ => rfl, rfl, rfl, by simp [fV, hk, mR, sR, up2_s, va_rf], fun g b hgb => ?_, fun _ _ _ => rfl, fun _ _ => rfl⟩
    simp only [fV, mF, mR, sR, up2_n _ _ hgb]
  · cases h
theorem Rep.ob {D : Dn} {U : State} {bs : Nat} {H0 H : Heap} {M : Mem} {a k : Nat} (h : Rep D U bs H0 M H) (hk : mK M a = some (.inl k)) : k ∈ cOb ∧ bs ≤ a ∧ ∃ cell : Cell, H[a]? = some cell ∧ cell.cls = D.1 k ∧ cell.vm = .none ∧ ∀ f ∈ cFl k, cell.slots[D.2.1 f]? = some (fV M f a) := h.2.2.2.2 a _ hk
theorem Rep.ar {D : Dn} {U : State} {bs : Nat} {H0 H : Heap} {M : Mem} {a t n : Nat} (h : Rep D U bs H0 M H) (hk : mK M a = some (.inr (t, n))) (ht : t < 8) : bs ≤ a ∧ H[a]? = some (arrV (D.2.2 t) n (aV M t a)) := by
  rcases h.2.2.2.2 a _ hk with ⟨h1, -⟩ | ⟨h1, h2, h3⟩
  · omega
  · exact ⟨h2, h3⟩
theorem locs_add {bs : Nat} {locs : List Loc} {a i : Nat} (h : ∀ x ∈ locs, bs ≤ x.base) (ha : bs ≤ a) : ∀ x ∈ locs ++ [(⟨a, i⟩ : Loc)], bs ≤ x.base := by
  intro x hx
  rcases List.mem_append.mp hx with h1 | h1
  · exact h x h1
  · cases List.mem_singleton.mp h1; exact ha
theorem vp_nar_b (x : Int32) : narrow .byte (.int x) = .int (vp_nar .byte x) := rfl
theorem vp_nar_z (x : Int32) : narrow .boolean (.int x) = .int (vp_nar .boolean x) := rfl
section SM
variable {p : Program} {l : Launch} {e : Env} {R : Room} {s : State} {m : MethodId} {args : Array Value} {below : List Frame} {meth : Method} {c : Code} {H : Heap} {locs : List Loc} {cells slots : Nat} {Q : State → Prop}
/-- the frame's own facts that a memory step uses -/
def FrM (p : Program) (s : State) (m : MethodId) (meth : Method) (c : Code) (cc : ByteArray) (c1 : Nat) (ini : Bool) : Prop := p.tables.exec = Jvm.exec ∧ c.code = cc ∧ s.vm.findClass (nmC c1) = some m.cls ∧ (ini = true → meth.name = "<init>")
set_option maxHeartbeats 4000000 in
theorem soundGet {cc : ByteArray} {c1 : Nat} {ini : Bool} (F : FrM p s m meth c cc c1 ini) {D : Dn} (hC : Cx D s) {bs : Nat} {H0 : Heap} {M : Mem} (hR : Rep D s bs H0 M H) {idx pc f r0 : Nat} {b0 : Bool} {a k : Nat} {r : List Value} {arr : Array Slot} (hd : decode cc pc = .ok (.getfield idx, 3)) (hf : fRes c1 idx = some (f, r0, b0)) (hk : mK M a = some (.inl k)) (hfk : f ∈ cFl k)
    (kk : W p l e R s m args below meth c H locs cells slots Q (F0 m (pc + 3) arr (fV M f a :: r))) : W p l e R s m args below meth c H locs cells slots Q (F0 m pc arr (.ref a :: r)) := by
  obtain ⟨hx, hb, hown, -⟩ := F
  obtain ⟨hko, hba, cell, q1, q2, q3, q4⟩ := hR.ob hk
  obtain ⟨cf, fi, kf, fd, i1, i2, i3, i4⟩ := hC.field hf hko hfk args
  have hw := hC.1 _ (fLk_ok _ (fRes_mem hf) _ List.mem_cons_self) args
  cases b0 with
  | true => exact va_Wgetf (v := fV M f a) hx hb hown hw i2 i4 q1 (by rw [q3]; exact fun h => by cases h) (by rw [i3]; exact q4 f hfk) rfl rfl hd kk
  | false => exact W.getf (v := fV M f a) hx hb hown hw i2 i4 q1 (by rw [q3]; exact fun h => by cases h) (by rw [i3]; exact q4 f hfk) rfl rfl hd kk
set_option maxHeartbeats 4000000 in
theorem soundPut {cc : ByteArray} {c1 : Nat} {ini : Bool} (F : FrM p s m meth c cc c1 ini) {D : Dn} (hC : Cx D s) {bs : Nat} {H0 : Heap} {M M' : Mem} (hR : Rep D s bs H0 M H) (hlo : ∀ x ∈ locs, bs ≤ x.base) {idx pc f r0 : Nat} {b0 : Bool} {a k : Nat} {v : Value} {r : List Value} {arr : Array Slot} (hd : decode cc pc = .ok (.putfield idx, 3)) (hf : fRes c1 idx = some (f, r0, b0)) (hk : mK M a = some (.inl k)) (hfk : f ∈ cFl k) (hP : fP M f a v = some M')
    (hfin : (fD f).2.2.2.1 = true → ini = true ∧ b0 = false ∧ (fD f).1 = nmC c1)
    (kk : ∀ (H' : Heap) (locs' : List Loc), Rep D s bs H0 M' H' → (∀ x ∈ locs', bs ≤ x.base) → W p l e R s m args below meth c H' locs' cells slots Q (F0 m (pc + 3) arr r)) : W p l e R s m args below meth c H locs cells slots Q (F0 m pc arr (v :: .ref a :: r)) := by
  obtain ⟨hx, hb, hown, hini⟩ := F
  obtain ⟨hko, hba, cell, q1, q2, q3, q4⟩ := hR.ob hk
  obtain ⟨cf, fi, kf, fd, i1, i2, i3, i4⟩ := hC.field hf hko hfk args
  have hw := hC.1 _ (fLk_ok _ (fRes_mem hf) _ List.mem_cons_self) args
  obtain ⟨hfc, kC, hkC, hkind⟩ := hC.2.2.1 k hko
  obtain ⟨p1, p2, p3, p4, p5, p6, p7, p8, p9⟩ := fP_spec (cFl_lt k hko f hfk) hP
  have hty := (fTy_ok f (cFl_lt k hko f hfk)).1
  have hlt : fd.slot < cell.slots.size := by rw [i3]; exact k2_hasslot (q4 f hfk)
  have fin : ∀ H' : Heap, H'[a]? = some (cell.setSlot fd.slot v) → H'.size = H.size → (∀ q, q ≠ a → H'[q]? = H[q]?) → W p l e R s m args below meth c H' (locs ++ [⟨a, fd.slot⟩]) cells slots Q (F0 m (pc + 3) arr r) := by
    intro H' e1 e2 e3
    rw [i3] at e1
    exact kk H' _ (hR.obj hk hfk (fun g hg hgf => hC.2.2.2.2.2 k hko f hfk g hg hgf) p3 p4 p6 p7 p8 p9 q1 e1 e2 e3) (locs_add hlo hba)
  cases hfn : (fD f).2.2.2.1 with
  | false =>
    have hl := (hC.lay hko hfk args).1 hfn
    have h6 := u_store hfc hkC hkind hl i1 hty p1 p2
    cases b0 with
    | true => exact va_WputK hx hb (f := fd) hown hw i2 i4 (by rw [q2]; exact h6) q1 q3 hlt rfl rfl hd fin
    | false => exact W.putK hx hb (f := fd) ⟨hown, hw, ⟨_, _, _, i2⟩, i4⟩ (by rw [q2]; exact h6) q1 q3 hlt rfl rfl hd fin
  | true =>
    obtain ⟨g1, g2, g3⟩ := hfin hfn
    subst g2
    have hl := (hC.lay hko hfk args).2 hfn
    have h6 := u_fits hfc hkC hkind (Or.inr hl) i1 hty p1 p2
    have hcf : m.cls = cf := by
      obtain ⟨_, _, c', _, _, _, -, -, hf', -, -, -, hown2, -⟩ := Cond.laysFinal_spec hl
      have e1 : c' = cf := by have := i1.symm.trans hf'; simp at this; exact this.1.symm
      rw [g3] at hown2
      rw [← e1]; exact Option.some.inj (hown.symm.trans hown2)
    exact W.putFinK hx hb hown hw i2 i4 hcf (hini g1) (by rw [q2]; exact h6) q1 q3 hlt rfl rfl hd fin
end SM
