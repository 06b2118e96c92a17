/-! ===== the first tree, the first world ===== -/
def T9 (l : List Nat) : Tr := (fun b => decide (b < 2), fun b => if b = 1 then 1 else 0, fun b => if b = 1 then l else [], fun _ => [], fun _ => none, fun h => if h = 0 then [1] else [], 1, 1)
theorem T9_W0 (l : List Nat) : tW (T9 l) 0 = [1] := rfl
theorem T9_H1 (l : List Nat) : tH (T9 l) 1 = 1 := rfl
theorem T9_mW {l : List Nat} {h x : Nat} (hx : x ∈ tW (T9 l) h) : h = 0 ∧ x = 1 := by
  have : x ∈ (if h = 0 then [1] else []) := hx
  split at this
  · rename_i e; exact ⟨e, List.mem_singleton.mp this⟩
  · cases this
theorem T9_mH {l : List Nat} {h x : Nat} (hx : tH (T9 l) x = h + 1) : h = 0 ∧ x = 1 := by
  have : (if x = 1 then 1 else 0) = h + 1 := hx
  split at this
  · rename_i e; exact ⟨by omega, e⟩
  · omega
theorem T9_mU {l : List Nat} {x : Nat} (hx : tU (T9 l) x = true) : x = 0 ∨ x = 1 := by
  have : decide (x < 2) = true := hx
  have := of_decide_eq_true this
  omega
theorem T9_its (l : List Nat) : its (T9 l) = l := by
  show [1].flatMap (fun b => if b = 1 then l else []) = l
  simp
theorem T9_sh (l : List Nat) : Sh (T9 l) (tW (T9 l)) := by
  refine ⟨fun h x hx => ?_, fun h => ?_, fun h x hx => ?_, fun p c hc => (by cases hc), fun x _ => rfl, fun h x hx => ?_, fun h hh => ?_, ⟨rfl, rfl, Nat.le_refl _, fun h hh => ?_⟩, ⟨rfl, rfl⟩, fun b hb => ⟨rfl, ?_⟩⟩
  · obtain ⟨rfl, rfl⟩ := T9_mW hx; exact ⟨by omega, rfl, rfl⟩
  · show (if h = 0 then [1] else []).Nodup
    split <;> simp
  · obtain ⟨rfl, rfl⟩ := T9_mH hx; exact List.mem_singleton.mpr rfl
  · have := (T9_mW hx).1; omega
  · have : h + 1 < 1 := hh; omega
  · show (if h = 0 then [1] else []) = []
    have : 1 ≤ h := hh
    rw [if_neg (by omega)]
  · show (if b = 1 then l else []) = []
    have : (if b = 1 then 1 else 0) = 0 := hb
    split at this
    · omega
    · rename_i e; rw [if_neg e]
theorem T9_wf {m : Nat} {sz : Nat → Nat} {l : List Nat} (hm : 2 ≤ m) (h1 : uz sz l ≤ 120) (h2 : l.Pairwise (· < ·)) (h3 : ∀ k ∈ l, 1 ≤ sz k ∧ sz k ≤ 40) : Wf m sz (T9 l) := by
  refine ⟨T9_sh l, fun h p hp => ?_, fun y hy _ => ?_, by rw [T9_its]; exact h2, by rw [T9_its]; exact h3, fun b hb => ?_⟩
  · have := (T9_mW hp).1; omega
  · obtain ⟨-, rfl⟩ := T9_mW hy
    exact ⟨h1, fun _ => rfl⟩
  · have := T9_mU hb; omega
theorem T9_set {m : Nat} {sz : Nat → Nat} : stT m sz (T9 []) 4096 6 = some (true, T9 [4096]) := by
  have e0 : its (T9 []) = [] := T9_its []
  have e1 : lfT (T9 []) 4096 = 1 := rfl
  have e2 : insT (T9 []) 4096 = T9 [4096] := by
    unfold insT
    rw [e1]
    refine Prod.ext rfl (Prod.ext rfl (Prod.ext ?_ rfl))
    funext b
    show (if b = 1 then [4096] else if b = 1 then [] else []) = if b = 1 then [4096] else []
    split
    · rfl
    · rfl
  unfold stT
  rw [e0, if_neg (by simp), if_neg (by omega), e1, e2]
  have p1 : pv (tW (T9 [4096]) 0) 1 = none := rfl
  have n1 : nx (tW (T9 [4096]) 0) 1 = none := rfl
  have sL : slL (fu sz 4096 6) (T9 [4096]) 1 = T9 [4096] := by unfold slL; rw [p1]
  have sR' : slR (fu sz 4096 6) (T9 [4096]) 1 = T9 [4096] := by unfold slR; rw [n1]
  have u1 : uz (fu sz 4096 6) (tI (T9 [4096]) 1) = 14 := by
    show 8 + fu sz 4096 6 4096 + 0 = 14
    rw [fu_s]
  unfold sl
  rw [p1, n1, sL, sR', u1]
  rw [if_pos ⟨List.mem_singleton.mpr rfl, rfl, by omega, rfl, by omega, rfl, rfl, rfl, by show 1 ≤ 95; omega⟩, if_pos (by omega)]
def X9 : Ob := (fun o => if o = 1 then 1 else 0, fun o => if o = 1 then 1 else 0, fun _ => 0, fun _ => [], fun _ => [], fun _ => 0)
theorem X9_body : pyO X9 4096 = stB 1 1 0 := rfl
theorem X9_sz : (fun k => (pyO X9 k).length) 4096 = 6 := rfl
theorem X9_gt {m : Nat} (hm : 2 ≤ m) : Gt m (T9 [4096]) (pyO X9) := by
  refine ⟨T9_wf hm ?_ (List.pairwise_singleton _ _) (fun k hk => ?_), fun x hx => ?_, fun k hk => ?_⟩
  · show 8 + 6 + 0 ≤ 120
    omega
  · rw [List.mem_singleton.mp hk]; exact ⟨by show 1 ≤ 6; omega, by show 6 ≤ 40; omega⟩
  · obtain ⟨-, rfl⟩ := T9_mW hx
    show [4096] ≠ []
    simp
  · rw [T9_its] at hk
    rw [List.mem_singleton.mp hk]; omega
theorem X9_wo {m : Nat} (hm : 2 ≤ m) (dt : Nat → Nat → Nat) : WO m (T9 [4096]) X9 dt (fun _ => 1) := by
  have k1 : ∀ o, oK X9 o = if o = 1 then 1 else 0 := fun _ => rfl
  have i9 : ∀ k, k ∈ its (T9 [4096]) → k = 4096 := fun k hk => by rw [T9_its] at hk; exact List.mem_singleton.mp hk
  refine ⟨X9_gt hm, fun k hk => ?_, fun k hk h => ?_, fun k => Nat.zero_le _, fun o => ⟨?_, ?_, ?_⟩, rfl, fun o h => ⟨rfl, rfl, rfl, ?_⟩, fun o h => ⟨rfl, rfl, ?_, ?_⟩, fun o h => ?_, fun o => ⟨?_, ?_, ?_⟩, fun o h h1 => ?_, fun o o' b hb => ?_, ⟨fun o v hv => ?_, fun y h1 h2 h3 => ?_⟩, rfl, fun d h h1 => ?_, fun d h => ⟨1, ?_⟩⟩
  · rw [i9 k hk, T9_its]; decide
  · rw [i9 k hk] at h; omega
  · rw [k1, T9_its, List.mem_singleton]; unfold ky
    by_cases e : o = 1
    · subst e; simp
    · rw [if_neg e]; constructor
      · intro h; exact absurd rfl h
      · intro h; omega
  · intro h; rw [k1] at h; split at h
    · omega
    · exact absurd rfl h
  · rw [k1]; split <;> omega
  · rw [k1] at h; split at h
    · omega
    · rename_i e; show (if o = 1 then 1 else 0) = 0; rw [if_neg e]
  · show 0 = (ents (T9 [4096]) o).length
    unfold ents
    rw [T9_its, List.filter_cons_of_neg (by simp; omega)]; rfl
  · rw [k1] at h; split at h
    · rename_i e; show (if o = 1 then 1 else 0) = 1; rw [if_pos e]
    · omega
  · rw [k1] at h; split at h <;> omega
  · rw [T9_its, List.mem_singleton]; unfold ky
    exact ⟨fun h => by omega, fun h => absurd rfl h⟩
  · rw [T9_its, List.mem_singleton]; unfold ky
    exact ⟨fun h => by omega, fun h => absurd rfl h⟩
  · exact ⟨List.nodup_nil, fun b hb => by cases hb⟩
  · rw [k1, if_neg h1] at h; exact absurd rfl h
  · cases hb
  · cases hv
  · rcases T9_mU h1 with e | e
    · exact absurd e h3
    · subst e; exact absurd h2 (by decide)
  · rw [k1, if_neg h1] at h; omega
  · rfl
theorem DvO.first {m J : Nat} (hJ : J ≤ 64) : DvO m J ((0, -1, false, 0, 0, fun _ => false) : Dv) := ⟨by decide, by decide, Nat.zero_le _, hJ, fun x h => by cases h⟩
def s9 : Int → Int := fz (fz (fz (fz (fz (fz (fz (fz (fz (fz (fz (fz (fz (fun _ => 0) 0 1) 1 1) 97 1) 158 1) 3757 1) 3949 (-1)) 3853 1) 4636 1) 9244 6) 12300 1) 13068 1) 13076 1) 13077 1
theorem v9 (x : Int) : s9 x = if x = 13077 then 1 else if x = 13076 then 1 else if x = 13068 then 1 else if x = 12300 then 1 else if x = 9244 then 6 else if x = 4636 then 1 else if x = 3853 then 1 else if x = 3949 then -1 else if x = 3757 then 1 else if x = 158 then 1 else if x = 97 then 1 else if x = 1 then 1 else if x = 0 then 1 else 0 := rfl
theorem z9 {x : Int} (h : x ≠ 13077 ∧ x ≠ 13076 ∧ x ≠ 13068 ∧ x ≠ 12300 ∧ x ≠ 9244 ∧ x ≠ 4636 ∧ x ≠ 3853 ∧ x ≠ 3949 ∧ x ≠ 3757 ∧ x ≠ 158 ∧ x ≠ 97 ∧ x ≠ 1 ∧ x ≠ 0) : s9 x = 0 := by
  obtain ⟨h1, h2, h3, h4, h5, h6, h7, h8, h9, h10, h11, h12, h13⟩ := h
  rw [v9, if_neg h1, if_neg h2, if_neg h3, if_neg h4, if_neg h5, if_neg h6, if_neg h7, if_neg h8, if_neg h9, if_neg h10, if_neg h11, if_neg h12, if_neg h13]
theorem s9_MS (dt : Nat → Nat → Nat) : MS s9 (T9 [4096]) X9 dt := by
  refine ⟨⟨fun b hb => ?_, fun b hb => ?_, fun b hb => ?_, fun b hb h1 => ?_, fun b hb => ⟨fun i x hx => ?_, ?_, fun x hx => ?_⟩, fun b hb => ⟨fun i r hr => ?_, ?_, fun k hk => ?_⟩, fun h hh => ⟨?_, fun i x hx => ?_, ?_, fun x hx => ?_⟩, rfl, rfl⟩, fun o ho => ?_, fun o ho hk => ?_, fun b hb h1 h2 h3 => ?_⟩
  · show s9 b = bI (decide (b < 2))
    by_cases h : b < 2
    · have : b = 0 ∨ b = 1 := by omega
      rcases this with rfl | rfl <;> rfl
    · rw [decide_eq_false h, z9 (by omega)]; rfl
  · show s9 (3756 + b) = ((if b = 1 then 1 else 0 : Nat) : Int)
    by_cases h : b = 1
    · subst h; rfl
    · rw [if_neg h, z9 (by omega)]; rfl
  · show s9 (3852 + b) = (((if b = 1 then [4096] else [] : List Nat).length + 0 : Nat) : Int)
    by_cases h : b = 1
    · subst h; rfl
    · rw [if_neg h, z9 (by omega)]; rfl
  · have : (if b = 1 then 1 else 0) ≥ 1 := h1
    split at this
    · rename_i e; subst e; rfl
    · omega
  · have : (([] : List Nat))[i]? = some x := hx
    cases this
  · exact Nat.zero_le _
  · cases hx
  · by_cases h : b = 1
    · subst h
      have h2 : ([rk (szO X9) (tlX X9) 4096])[i]? = some r := hr
      cases i with
      | zero =>
        cases h2
        rfl
      | succ i => cases h2
    · have h2 : ((if b = 1 then [4096] else [] : List Nat).map (rk (szO X9) (tlX X9)))[i]? = some r := hr
      rw [if_neg h] at h2
      cases h2
  · show (if b = 1 then [4096] else [] : List Nat).length ≤ 16
    split <;> simp
  · have h2 : k ∈ (if b = 1 then [4096] else [] : List Nat) := hk
    split at h2
    · rw [List.mem_singleton.mp h2]; omega
    · cases h2
  · show s9 (13068 + h) = ((if h = 0 then [1] else [] : List Nat).length : Int)
    by_cases e : h = 0
    · subst e; rfl
    · rw [if_neg e, z9 (by omega)]; rfl
  · have h2 : (if h = 0 then [1] else [] : List Nat)[i]? = some x := hx
    by_cases e : h = 0
    · subst e
      cases i with
      | zero => cases h2; rfl
      | succ i => cases h2
    · rw [if_neg e] at h2; cases h2
  · show (if h = 0 then [1] else [] : List Nat).length ≤ 96
    split <;> simp
  · have h2 : x ∈ (if h = 0 then [1] else [] : List Nat) := hx
    split at h2
    · rw [List.mem_singleton.mp h2]; omega
    · cases h2
  · have hk : (ky o 0 0 ∈ its (T9 [4096])) = (o = 1) := by rw [T9_its, List.mem_singleton]; unfold ky; exact propext (by omega)
    show s9 (96 + o) = if ky o 0 0 ∈ its (T9 [4096]) then (((if o = 1 then 1 else 0 : Nat) : Nat) : Int) else 0
    simp only [hk]
    by_cases e : o = 1
    · subst e; rfl
    · rw [if_neg e, z9 (by omega)]
  · have e : o = 1 := by rw [T9_its, List.mem_singleton] at hk; unfold ky at hk; omega
    subst e
    exact ⟨rfl, rfl, rfl, fun i x hx => (by cases hx), fun h => absurd rfl h⟩
  · rcases T9_mU h1 with e | e
    · exact absurd e h3
    · subst e; exact absurd h2 (by decide)
theorem s9_kp : kp s9 (fun _ => 0) = s9 := by
  funext z
  unfold kp
  split
  · rfl
  · rw [z9 (by omega)]
