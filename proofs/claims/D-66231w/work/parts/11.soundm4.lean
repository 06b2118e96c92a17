/-! ===== soundness of a memory step, all kinds ===== -/
section SM4
variable {p : Program} {l : Launch} {e : Env} {R : Room} {s : State} {m : MethodId} {args : Array Value} {below : List Frame} {meth : Method} {c : Code} {H : Heap} {locs : List Loc} {cells slots : Nat} {Q : State → Prop}
variable {cc : ByteArray} {D : Dn} {bs : Nat} {H0 : Heap} {M M' : Mem} {pc pc' c1 len : Nat} {ini : Bool} {i : Instr} {st st' : List Value} {arr : Array Slot}
theorem fP_N {M M' : Mem} {f a : Nat} {v : Value} (h : fP M f a v = some M') : mN M' = mN M ∧ mS M' = mS M := by
  unfold fP at h
  split at h
  · cases h; exact ⟨rfl, rfl⟩
  · split at h
    · cases h; exact ⟨rfl, rfl⟩
    · cases h
  · cases h; exact ⟨rfl, rfl⟩
  · cases h; exact ⟨rfl, rfl⟩
  · cases h
set_option maxHeartbeats 8000000 in
theorem soundM (F : FrM p s m meth c cc c1 ini) (hml : c.maxLocals = arr.size) (hC : Cx D s) (hR : Rep D s bs H0 M H) (hlo : ∀ x ∈ locs, bs ≤ x.base) (h : stM c1 ini i len pc st M = some (pc', st', M')) (hd : decode cc pc = .ok (i, len)) (h1 : 1 ≤ R.frames) (h2 : 40 ≤ R.locals) (hc : cells + (mN M' - mN M) ≤ R.cells) (hs : slots + (mS M' - mS M) ≤ R.slots)
    (kk : ∀ (H' : Heap) (locs' : List Loc), Rep D s bs H0 M' H' → (∀ x ∈ locs', bs ≤ x.base) → W p l e R s m args below meth c H' locs' (cells + (mN M' - mN M)) (slots + (mS M' - mS M)) Q (F0 m pc' arr st')) : W p l e R s m args below meth c H locs cells slots Q (F0 m pc arr st) := by
  obtain ⟨hx, hb, hown, hini⟩ := id F
  have same : ∀ {pc'' : Nat} {st'' : List Value}, (∀ (H' : Heap) (locs' : List Loc), Rep D s bs H0 M H' → (∀ x ∈ locs', bs ≤ x.base) → W p l e R s m args below meth c H' locs' (cells + (mN M - mN M)) (slots + (mS M - mS M)) Q (F0 m pc'' arr st'')) → W p l e R s m args below meth c H locs cells slots Q (F0 m pc'' arr st'') := by
    intro pc'' st'' k9
    have h9 := k9 H locs hR hlo
    simp only [Nat.sub_self, Nat.add_zero] at h9
    exact h9
  cases i
  case getfield idx =>
    simp only [stM] at h; split at h
    · rename_i a r f r0 b0 hf; split at h
      · rename_i k hk; split at h
        · rename_i hq; obtain ⟨hq, hq2⟩ := hq; subst hq; cases h
          exact soundGet F hC hR hd hf hk hq2 (same kk)
        · cases h
      · cases h
    · cases h
  case putfield idx =>
    simp only [stM] at h; split at h
    · rename_i v a r f r0 b0 hf; split at h
      · rename_i k M1 hk hP; split at h
        · rename_i hq; obtain ⟨hq, hq2, hq3⟩ := hq; subst hq; cases h
          obtain ⟨n1, n2⟩ := fP_N hP
          refine soundPut F hC hR hlo hd hf hk hq2 hP hq3 (fun H' locs' hR' hlo' => ?_)
          have h9 := kk H' locs' hR' hlo'
          rw [n1, n2] at h9
          simp only [Nat.sub_self, Nat.add_zero] at h9
          exact h9
        · cases h
      · cases h
    · cases h
  case iaload =>
    simp only [stM] at h; split at h
    · split at h
      · rename_i hk; split at h
        · rename_i hq; obtain ⟨hq, hq2, hq3⟩ := hq; subst hq; cases h
          exact soundIal hx hb hC hR hd hk hq2 hq3 (same kk)
        · cases h
      · cases h
    · cases h
  case baload =>
    simp only [stM] at h; split at h
    · split at h
      · rename_i hk; split at h
        · rename_i hq; obtain ⟨hq, hq2, hq3⟩ := hq; subst hq; cases h
          exact soundBal hx hb hC hR hd hk hq2 hq3 (same kk)
        · cases h
      · cases h
    · cases h
  case laload =>
    simp only [stM] at h; split at h
    · split at h
      · rename_i hk; split at h
        · rename_i hq; obtain ⟨hq, hq2, hq3⟩ := hq; subst hq; subst hq2; cases h
          exact soundLal hx hb hC hR hd hk hq3 (same kk)
        · cases h
      · cases h
    · cases h
  case aaload =>
    simp only [stM] at h; split at h
    · split at h
      · rename_i hk; split at h
        · rename_i hq; obtain ⟨hq, hq2, hq3⟩ := hq; subst hq; cases h
          exact soundAal hx hb hC hR hd hk hq2 hq3 (same kk)
        · cases h
      · cases h
    · cases h
  case iastore =>
    simp only [stM] at h; split at h
    · split at h
      · rename_i hk; split at h
        · rename_i hq; obtain ⟨hq, hq2, hq3⟩ := hq; subst hq; subst hq2; cases h
          refine soundIas hx hb hC hR hlo hd hk hq3 (fun H' locs' hR' hlo' => ?_)
          have h9 := kk H' locs' hR' hlo'
          rw [show mN (sA M _ _ _) = mN M from rfl, show mS (sA M _ _ _) = mS M from rfl] at h9
          simp only [Nat.sub_self, Nat.add_zero] at h9
          exact h9
        · cases h
      · cases h
    · cases h
  case bastore =>
    simp only [stM] at h; split at h
    · split at h
      · rename_i hk; split at h
        · rename_i hq; obtain ⟨hq, hq2, hq3⟩ := hq; subst hq; cases h
          refine soundBas hx hb hC hR hlo hd hk hq2 hq3 (fun H' locs' hR' hlo' => ?_)
          have h9 := kk H' locs' hR' hlo'
          rw [show mN (sA M _ _ _) = mN M from rfl, show mS (sA M _ _ _) = mS M from rfl] at h9
          simp only [Nat.sub_self, Nat.add_zero] at h9
          exact h9
        · cases h
      · cases h
    · cases h
  case lastore =>
    simp only [stM] at h; split at h
    · split at h
      · rename_i hk; split at h
        · rename_i hq; obtain ⟨hq, hq2, hq3⟩ := hq; subst hq; subst hq2; cases h
          refine soundLas hx hb hC hR hlo hd hk hq3 (fun H' locs' hR' hlo' => ?_)
          have h9 := kk H' locs' hR' hlo'
          rw [show mN (sL M _ _ _) = mN M from rfl, show mS (sL M _ _ _) = mS M from rfl] at h9
          simp only [Nat.sub_self, Nat.add_zero] at h9
          exact h9
        · cases h
      · cases h
    · cases h
  case aastore =>
    simp only [stM] at h; split at h
    · split at h
      · rename_i hk; split at h
        · rename_i hq; obtain ⟨hq, hq2, hq3⟩ := hq; subst hq; cases h
          refine soundAasN hx hb hC hR hlo hd hk hq2 hq3 (fun H' locs' hR' hlo' => ?_)
          have h9 := kk H' locs' hR' hlo'
          rw [show mN (sQ M _ _ _) = mN M from rfl, show mS (sQ M _ _ _) = mS M from rfl] at h9
          simp only [Nat.sub_self, Nat.add_zero] at h9
          exact h9
        · cases h
      · cases h
    · split at h
      · rename_i hk hkv; split at h
        · rename_i hq; obtain ⟨hq, hq2, hq3⟩ := hq; subst hq; cases h
          refine soundAas hx hb hC hR hlo hd hk hkv hq2 hq3 (fun H' locs' hR' hlo' => ?_)
          have h9 := kk H' locs' hR' hlo'
          rw [show mN (sQ M _ _ _) = mN M from rfl, show mS (sQ M _ _ _) = mS M from rfl] at h9
          simp only [Nat.sub_self, Nat.add_zero] at h9
          exact h9
        · cases h
      · cases h
    · cases h
  case arraylength =>
    simp only [stM] at h; split at h
    · split at h
      · rename_i hk; split at h
        · rename_i hq; subst hq; cases h
          exact soundAln hx hb hC hR hd hk (same kk)
        · cases h
      · cases h
    · cases h
  case newarray ty =>
    simp only [stM] at h; split at h
    · rename_i n r t ht; split at h
      · rename_i hq; obtain ⟨hq, hq2, hq3⟩ := hq; subst hq; cases h
        simp only [nw_N, nw_S, Nat.add_sub_cancel_left] at hc hs kk
        exact soundNwa hx hb hC hR hd ht hq2 hq3 hc hs (fun H' hR' => kk H' locs hR' hlo)
      · cases h
    · cases h
  case anewarray idx =>
    simp only [stM] at h; split at h
    · rename_i n r k hk; split at h
      · rename_i hq; obtain ⟨hq, hq2, hq3, hq4⟩ := hq; subst hq; cases h
        simp only [nw_N, nw_S, Nat.add_sub_cancel_left] at hc hs kk
        exact soundAnw hx hb hown hC hR hd hk hq4 hq2 hq3 hc hs (fun H' hR' => kk H' locs hR' hlo)
      · cases h
    · cases h
  case multianewarray idx dim =>
    simp only [stM] at h; split at h
    · split at h
      · rename_i hq; obtain ⟨hq, hq2, hq3, hq4, hq5, hq6, hq7⟩ := hq; subst hq; subst hq2; cases h
        rw [nw2_N, show ∀ a b : Nat, mN M + a + b - mN M = a + b by intros; omega] at hc
        rw [nw2_S, show ∀ a b : Nat, mS M + a + b - mS M = a + b by intros; omega] at hs
        simp only [nw2_N, nw2_S, show ∀ a b : Nat, mN M + a + b - mN M = a + b by intros; omega, show ∀ a b : Nat, mS M + a + b - mS M = a + b by intros; omega] at kk
        exact soundMul hx hb hown hC hR hlo hd hq3 hq4 hq5 hq6 hq7 hc hs kk
      · cases h
    · cases h
  case new idx =>
    simp only [stM] at h; split at h
    · rename_i k hk; split at h
      · rename_i hq; obtain ⟨hq, hq2, hq3⟩ := hq; subst hq; cases h
        simp only [nw_N, nw_S, Nat.add_sub_cancel_left] at hc hs kk
        exact soundNew hx hb hown hC hR hd hk hq2 hc hs (fun H' hR' => kk H' locs hR' hlo)
      · cases h
    · cases h
  case checkcast idx =>
    simp only [stM] at h; split at h
    · split at h
      · rename_i hq; subst hq; cases h; exact lv_castN hx hb hd (same kk)
      · cases h
    · split at h
      · rename_i hk hl; split at h
        · rename_i hq; obtain ⟨hq, hq2, hq3⟩ := hq; subst hq; subst hq2; cases h
          exact soundCast hx hb hown hC hR hd hk hl (same kk)
        · cases h
      · cases h
    · cases h
  case instanceof idx =>
    simp only [stM] at h; split at h
    · split at h
      · rename_i hq; subst hq; cases h; exact lv_instN hx hb hd (same kk)
      · cases h
    · split at h
      · rename_i hk hl; split at h
        · rename_i hq; obtain ⟨hq, hq2, hq3⟩ := hq; subst hq; subst hq2; cases h
          exact soundInst hx hb hown hC hR hd hk hl hq3 (same kk)
        · cases h
      · cases h
    · cases h
  case ldc2_w idx =>
    simp only [stM] at h; split at h
    · rename_i hq; obtain ⟨hq, hq2, hq3⟩ := hq; subst hq; cases h
      exact soundLdc hx hb hown hC hd (Or.inl ⟨hq2, hq3, rfl⟩) (same kk)
    · split at h
      · rename_i hq; obtain ⟨hq, hq2, hq3⟩ := hq; subst hq; cases h
        exact soundLdc hx hb hown hC hd (Or.inr ⟨hq2, hq3, rfl⟩) (same kk)
      · cases h
  case invokestatic idx =>
    simp only [stM] at h; split at h
    · rename_i hl; split at h
      · rename_i hq; obtain ⟨hq, hq2⟩ := hq; subst hq; cases h
        exact soundMax hx hb hml hown hC hd hl hq2 h1 h2 (by omega) (by omega) (same kk)
      · cases h
    · cases h
  case invokespecial idx =>
    simp only [stM] at h; split at h
    · rename_i hl; split at h
      · rename_i hq; obtain ⟨hq, hq2⟩ := hq; subst hq; cases h
        exact soundObj hx hb hml hown hC hd hl hq2 h1 h2 (same kk)
      · cases h
    · cases h
  all_goals (simp only [stM] at h; first | cases h | contradiction)
end SM4
