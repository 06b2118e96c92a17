/-! ===== THE WORLD: make, link ===== -/
section Wmk
variable {m : Nat} {T T' T1 T2 : Tr} {X X' : Ob} {dt : Nat → Nat → Nat} {par : Nat → Nat} {sz : Nat → Nat}
theorem stT_wf {key n : Nat} (hm : m ≤ 96) (W : Wf m sz T) (hn : n ≤ 40) (hg : stT m sz T key n = some (true, T')) : Wf m (fu sz key n) T' ∧ StF T T' key n := by
  obtain ⟨ok, T2, hg2, hgo⟩ := stT_ok (key := key) (n := n) hm W hn
  rw [hg] at hg2
  obtain ⟨e1, e2⟩ := Prod.mk.inj (Option.some.inj hg2)
  subst e1; subst e2
  exact hgo rfl
theorem ents_cp (T : Tr) (o : Nat) : (ents T o).length = (its T).countP (fun k => decide (k / 1024 = 4 * o + 1)) := by
  unfold ents
  rw [List.countP_eq_length_filter]
theorem ents_set {key n o : Nat} (S : StF T T' key n) : (ents T' o).length + (if key ∈ its T ∧ key / 1024 = 4 * o + 1 then 1 else 0) = (ents T o).length + (if n ≠ 0 ∧ key / 1024 = 4 * o + 1 then 1 else 0) := by
  have := S.cnt (fun k => decide (k / 1024 = 4 * o + 1))
  rw [ents_cp, ents_cp]
  simp only [decide_eq_true_eq] at this
  exact this
theorem tlg_cong {o : Nat} (h : ∀ k ∈ its T, k / 1024 % 4 = 1 → oE X' k = oE X k) : tlg T X' o = tlg T X o := by
  unfold tlg
  refine cp_cong (fun k hk => decide_eq_decide.mpr ?_)
  constructor
  · rintro ⟨h1, h2⟩; exact ⟨h1, by rw [← h k hk h1]; exact h2⟩
  · rintro ⟨h1, h2⟩; exact ⟨h1, by rw [h k hk h1]; exact h2⟩
theorem tlg_set {key n o : Nat} (S : StF T T' key n) : tlg T' X o + (if key ∈ its T ∧ key / 1024 % 4 = 1 ∧ oE X key = o then 1 else 0) = tlg T X o + (if n ≠ 0 ∧ key / 1024 % 4 = 1 ∧ oE X key = o then 1 else 0) := by
  have := S.cnt (fun k => decide (k / 1024 % 4 = 1 ∧ oE X k = o))
  unfold tlg
  simp only [decide_eq_true_eq] at this
  exact this
theorem BL.df {l : List Nat} (h : BL T l) (D : DF T T') : BL T' l := ⟨h.1, fun b hb => by
  obtain ⟨a1, a2, a3, a4⟩ := h.2 b hb
  obtain ⟨d1, d2⟩ := D b a3 a4
  exact ⟨a1, a2, d1, d2⟩⟩
theorem itr_dir (w : WO m T X dt par) : ∀ d, oK X d = 1 → oK X (par d) = 1 := by
  intro d hd
  by_cases h1 : d = 1
  · rw [h1, w.2.2.2.2.2.2.2.2.2.2.2.2.2.1]; exact w.2.2.2.2.2.1
  · exact (w.pa.1 d hd h1).2
theorem itr_fu (w : WO m T X dt par) {v z : Nat} (hv : oK X v ≠ 1) : ∀ n d, oK X d = 1 → itr (fu par v z) n d = itr par n d
  | 0, d, _ => rfl
  | n + 1, d, hd => by
    have : d ≠ v := fun e => hv (by rw [← e]; exact hd)
    rw [itr, itr, fu_n _ _ this]
    exact itr_fu w hv n (par d) (itr_dir w d hd)
theorem mkX_at {z n v kk : Nat} (hzv : z ≠ v) : (∀ o, oK (mkX X z n v kk) o = if o = v then kk else oK X o) ∧ (∀ o, oL (mkX X z n v kk) o = if o = v then 1 else oL X o) ∧ (∀ o, oS (mkX X z n v kk) o = if o = v then 0 else if o = z then oS X z + 1 else oS X o) ∧ oD (mkX X z n v kk) = oD X ∧ oT (mkX X z n v kk) = oT X ∧ oE (mkX X z n v kk) = fu (oE X) (ky z 1 n) v := by
  refine ⟨fun o => ?_, fun o => ?_, fun o => ?_, rfl, rfl, rfl⟩
  · show fu (fu (oK X) v kk) z (fu (oK X) v kk z) o = _
    rw [fu_idv rfl]
    by_cases e : o = v
    · rw [if_pos e, e, fu_s]
    · rw [if_neg e, fu_n _ _ e]
  · show fu (fu (oL X) v 1) z (fu (oL X) v 1 z) o = _
    rw [fu_idv rfl]
    by_cases e : o = v
    · rw [if_pos e, e, fu_s]
    · rw [if_neg e, fu_n _ _ e]
  · show fu (fu (oS X) v 0) z (fu (oS X) v 0 z + 1) o = _
    rw [fu_n _ _ hzv]
    by_cases e : o = v
    · rw [if_pos e, e, fu_n _ _ (fun h => hzv h.symm), fu_s]
    · rw [if_neg e]
      by_cases e2 : o = z
      · rw [if_pos e2, e2, fu_s]
      · rw [if_neg e2, fu_n _ _ e2, fu_n _ _ e]
set_option maxHeartbeats 1000000 in
theorem WO.make (hm : m ≤ 96) (w : WO m T X dt par) {z n v kk : Nat} (hz : oK X z = 1) (hn : n < 1000) (hv : oK X v = 0) (v1 : 1 ≤ v) (v2 : v ≤ 60) (hkk : 1 ≤ kk ∧ kk ≤ 2) (hk : ky z 1 n ∉ its T) (S1 : StF T T1 (ky v 0 0) 6) (W1 : Wf m sz T1) (S2 : StF T1 T2 (ky z 1 n) 3) (G : Gt m T2 (pyO (mkX X z n v kk))) : WO m T2 (mkX X z n v kk) dt (if kk = 1 then fu par v z else par) := by
  have hw := w
  have hzv : z ≠ v := fun e => by rw [e, hv] at hz; cases hz
  obtain ⟨aK, aL, aS, aD, aT, aE⟩ := mkX_at (X := X) (n := n) (kk := kk) hzv
  generalize hX2 : mkX X z n v kk = X2 at *
  obtain ⟨w1, w2, w3, w4, w5, w6, w7, w8, w9, w10, w11, w12, w13, w14⟩ := w
  have hv1 : v ≠ 1 := fun e => by rw [e, w6] at hv; cases hv
  have z60 := ((w5 z).2.1 (by omega)).2
  have hvk : ky v 0 0 ∉ its T := fun h => (w5 v).1.mpr h hv
  have mem : ∀ k, k ∈ its T2 ↔ k = ky z 1 n ∨ k = ky v 0 0 ∨ k ∈ its T := by
    intro k
    rw [S2.mem W1, S1.mem w1.1]
    constructor
    · rintro (⟨h, _⟩ | ⟨_, h⟩)
      · exact .inl h
      · rcases h with ⟨h, _⟩ | ⟨_, h⟩
        · exact .inr (.inl h)
        · exact .inr (.inr h)
    · intro h
      by_cases e : k = ky z 1 n
      · exact .inl ⟨e, by omega⟩
      · refine .inr ⟨e, ?_⟩
        by_cases e2 : k = ky v 0 0
        · exact .inl ⟨e2, by omega⟩
        · exact .inr ⟨e2, (h.resolve_left e).resolve_left e2⟩
  have pz := ky_parts (o := z) (k := 1) (n := n) (by omega) (by omega)
  have pv' := ky_parts (o := v) (k := 0) (n := 0) (by omega) (by omega)
  have kne : ∀ o k', k' ≠ 1 → k' < 4 → ky o k' 0 ≠ ky z 1 n := fun o k' h1 h2 e => h1 (ky_inj h2 (by omega) (by omega) (by omega) e).2.1
  have hi : ∀ o k', k' ≠ 1 → k' ≠ 0 → k' < 4 → (ky o k' 0 ∈ its T2 ↔ ky o k' 0 ∈ its T) := by
    intro o k' h1 h0 h2
    rw [mem]
    constructor
    · rintro (h | h | h)
      · exact absurd h (kne o k' h1 h2)
      · exact absurd (ky_inj h2 (by omega) (by omega) (by omega) h).2.1 h0
      · exact h
    · intro h; exact .inr (.inr h)
  have hi0 : ∀ o, (ky o 0 0 ∈ its T2 ↔ o = v ∨ ky o 0 0 ∈ its T) := by
    intro o
    rw [mem]
    constructor
    · rintro (h | h | h)
      · exact absurd h (kne o 0 (by omega) (by omega))
      · exact .inl (ky_inj (by omega) (by omega) (by omega) (by omega) h).1
      · exact .inr h
    · rintro (h | h)
      · rw [h]; exact .inr (.inl rfl)
      · exact .inr (.inr h)
  have oldE : ∀ k ∈ its T, oE X2 k = oE X k := fun k hk' => by rw [aE, fu_n _ _ (fun e => hk (by rw [← e]; exact hk'))]
  have ev0 : (ents T v).length = 0 := by
    rw [ents_cp, List.countP_eq_zero]
    intro k hk' h
    have h := of_decide_eq_true h
    have := (w3 k hk' (by omega)).1
    rw [show k / 4096 = v by omega, hv] at this
    cases this
  have tv0 : tlg T X v = 0 := by
    unfold tlg
    rw [List.countP_eq_zero]
    intro k hk' h
    have h := of_decide_eq_true h
    exact (w3 k hk' h.1).2.2 (by rw [h.2]; exact hv)
  have hk1 : ky z 1 n ∉ its T1 := by
    rw [S1.mem w1.1]
    rintro (⟨h, _⟩ | ⟨_, h⟩)
    · exact kne v 0 (by omega) (by omega) h.symm
    · exact hk h
  have en : ∀ o, (ents T2 o).length = (ents T o).length + (if o = z then 1 else 0) := by
    intro o
    have e1 := ents_set (o := o) S1
    have e2 := ents_set (o := o) S2
    rw [if_neg (fun h => hvk h.1), if_neg (fun h => by omega)] at e1
    rw [if_neg (fun h => hk1 h.1)] at e2
    by_cases e : o = z
    · rw [if_pos e]
      rw [if_pos ⟨by omega, by omega⟩] at e2
      omega
    · rw [if_neg e]
      rw [if_neg (fun h => by omega)] at e2
      omega
  have tl : ∀ o, tlg T2 X2 o = tlg T X o + (if o = v then 1 else 0) := by
    intro o
    have e1 := tlg_set (X := X2) (o := o) S1
    have e2 := tlg_set (X := X2) (o := o) S2
    have e0 : tlg T X2 o = tlg T X o := tlg_cong (fun k hk' _ => oldE k hk')
    rw [if_neg (fun h => hvk h.1), if_neg (fun h => by omega)] at e1
    rw [if_neg (fun h => hk1 h.1)] at e2
    have hE : oE X2 (ky z 1 n) = v := by rw [aE, fu_s]
    rw [hE] at e2
    by_cases e : o = v
    · rw [if_pos e]
      rw [if_pos ⟨by omega, pz.1, e.symm⟩] at e2
      omega
    · rw [if_neg e]
      rw [if_neg (fun h => e h.2.2.symm)] at e2
      omega
  have DD : DF T T2 := fun b h1 h2 => by
    obtain ⟨a1, a2⟩ := S1.1 b h1 h2
    exact S2.1 b a1 a2
  have PP := S1.2.1.trans S2.2.1
  refine ⟨G, fun k hk' => ?_, fun k hk' h1 => ?_, fun k => ?_, fun o => ⟨?_, fun h => ?_, ?_⟩, ?_, fun o h => ?_, fun o h => ?_, fun o h => ?_, fun o => ?_, fun o h h1 => ?_, ?_, ⟨?_, fun y g1 g2 g3 => ?_⟩, ?_, fun d hd h1 => ?_, fun d hd => ?_⟩
  · rcases (mem k).mp hk' with h | h | h
    · rw [h]
      exact ⟨by rw [pz.2.1, hi0]; exact .inr ((w5 z).1.mp (by omega)), by unfold ky; omega, fun hh => by omega, fun _ => by omega⟩
    · rw [h]
      exact ⟨by rw [pv'.2.1, hi0]; exact .inl rfl, by unfold ky; omega, fun _ => by omega, fun hh => by omega⟩
    · obtain ⟨a1, a2, a3, a4⟩ := w2 k h
      exact ⟨(hi0 _).mpr (.inr a1), a2, a3, a4⟩
  · rcases (mem k).mp hk' with h | h | h
    · rw [h, pz.2.1, aK, if_neg hzv, aE, fu_s, aK, if_pos rfl]
      exact ⟨hz, by omega, by omega⟩
    · rw [h] at h1; omega
    · obtain ⟨a1, a2, a3⟩ := w3 k h h1
      rw [oldE k h, aK, if_neg (fun e => by rw [e, hv] at a1; cases a1), aK]
      refine ⟨a1, a2, ?_⟩
      split
      · omega
      · exact a3
  · rw [aE]
    by_cases e : k = ky z 1 n
    · rw [e, fu_s]; exact v2
    · rw [fu_n _ _ e]; exact w4 k
  · rw [aK, hi0]
    by_cases e : o = v
    · rw [if_pos e]; exact ⟨fun _ => .inl e, fun _ => by omega⟩
    · rw [if_neg e, (w5 o).1]
      exact ⟨.inr, fun h => h.resolve_left e⟩
  · rw [aK] at h
    by_cases e : o = v
    · rw [e]; exact ⟨v1, v2⟩
    · rw [if_neg e] at h; exact (w5 o).2.1 h
  · rw [aK]
    split
    · omega
    · exact (w5 o).2.2
  · rw [aK, if_neg (fun e => hv1 e.symm)]; exact w6
  · rw [aK] at h
    have e : o ≠ v := fun e => by rw [if_pos e] at h; omega
    rw [if_neg e] at h
    rw [aD, aT, aS, aL, if_neg e, if_neg e, if_neg (fun e' => by rw [e', hz] at h; cases h)]
    exact w7 o h
  · rw [aK] at h
    rw [aD, aT, aS, aL, en]
    by_cases e : o = v
    · rw [if_pos e, if_pos e, e, ev0, if_neg (fun e' => hzv e'.symm)]
      obtain ⟨a1, a2, _⟩ := w7 v hv
      exact ⟨a1, a2, rfl, rfl⟩
    · rw [if_neg e] at h
      obtain ⟨a1, a2, a3, a4⟩ := w8 o h
      rw [if_neg e, if_neg e]
      refine ⟨a1, a2, ?_, a4⟩
      by_cases e2 : o = z
      · rw [if_pos e2, if_pos e2, ← e2, a3]
      · rw [if_neg e2, if_neg e2, a3]; rfl
  · rw [aK] at h
    rw [aD, aT, aS]
    by_cases e : o = v
    · rw [if_pos e, e]
      obtain ⟨a1, a2, _⟩ := w7 v hv
      rw [a1, a2]
      exact ⟨by omega, by decide, by decide⟩
    · rw [if_neg e] at h
      rw [if_neg e, if_neg (fun e' => by rw [e', hz] at h; cases h)]
      exact w9 o h
  · rw [aD, aT, hi o 2 (by omega) (by omega) (by omega), hi o 3 (by omega) (by omega) (by omega)]
    obtain ⟨a1, a2, a3⟩ := w10 o
    exact ⟨a1, a2, a3.df DD⟩
  · rw [aK] at h
    rw [aL, tl]
    by_cases e : o = v
    · rw [if_pos e, if_pos e, e, tv0]; exact ⟨rfl, by omega⟩
    · rw [if_neg e] at h
      rw [if_neg e, if_neg e]
      obtain ⟨a1, a2⟩ := w11 o h h1
      exact ⟨by omega, a2⟩
  · rw [aD]; exact w12
  · rw [aT]; exact w13.1
  · obtain ⟨a1, a2⟩ := PP y g1 g2
    exact w13.2 y a1 a2 g3
  · split
    · rw [fu_n _ _ (fun e => hv1 e.symm)]; exact w14.1
    · exact w14.1
  · rw [aK] at hd
    by_cases e : d = v
    · rw [if_pos e] at hd
      rw [if_pos hd, e, fu_s]
      exact ⟨ky z 1 n, (mem _).mpr (.inl rfl), pz.1, by rw [aE, fu_s], pz.2.1⟩
    · rw [if_neg e] at hd
      obtain ⟨k, k1, k2, k3, k4⟩ := w14.2.1 d hd h1
      refine ⟨k, (mem k).mpr (.inr (.inr k1)), k2, by rw [oldE k k1]; exact k3, ?_⟩
      split
      · rw [fu_n _ _ e]; exact k4
      · exact k4
  · rw [aK] at hd
    by_cases ek : kk = 1
    · rw [if_pos ek]
      by_cases e : d = v
      · obtain ⟨nz, hnz⟩ := w14.2.2 z hz
        refine ⟨nz + 1, ?_⟩
        rw [e, itr, fu_s, itr_fu hw (by rw [hv]; omega) nz z hz]
        exact hnz
      · rw [if_neg e] at hd
        obtain ⟨nd, hnd⟩ := w14.2.2 d hd
        exact ⟨nd, by rw [itr_fu hw (by rw [hv]; omega) nd d hd]; exact hnd⟩
    · rw [if_neg ek]
      by_cases e : d = v
      · rw [if_pos e] at hd; exact absurd hd ek
      · rw [if_neg e] at hd
        exact w14.2.2 d hd
end Wmk
