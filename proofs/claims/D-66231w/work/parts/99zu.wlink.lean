/-! ===== THE WORLD: link, unlink, move, files ===== -/
section Wlk2
variable {m : Nat} {T T' T1 T2 T3 : Tr} {X X' : Ob} {dt : Nat → Nat → Nat} {par : Nat → Nat} {sz : Nat → Nat}
theorem ky_lt {z n : Nat} (hz : z ≤ 60) (hn : n < 1000) : ky z 1 n < 249856 := by unfold ky; omega
set_option maxHeartbeats 1000000 in
theorem WO.link (w : WO m T X dt par) {z n v : Nat} (hz : oK X z = 1) (hn : n < 1000) (hv : oK X v = 2) (hk : ky z 1 n ∉ its T) (S : StF T T' (ky z 1 n) 3) (G : Gt m T' (pyO (lkX X z n v))) : WO m T' (lkX X z n v) dt par := by
  have hzv : v ≠ z := fun e => by rw [e, hz] at hv; cases hv
  have aK : oK (lkX X z n v) = oK X := by
    show fu (fu (oK X) z (oK X z)) v (oK X v) = oK X
    rw [fu_idv (g := oK X) rfl, fu_idv rfl]
  have aL : ∀ o, oL (lkX X z n v) o = if o = v then oL X v + 1 else oL X o := fun o => by
    show fu (fu (oL X) z (oL X z)) v (oL X v + 1) o = _
    rw [fu_idv (g := oL X) rfl]
    by_cases e : o = v
    · rw [if_pos e, e, fu_s]
    · rw [if_neg e, fu_n _ _ e]
  have aS : ∀ o, oS (lkX X z n v) o = if o = z then oS X z + 1 else oS X o := fun o => by
    show fu (fu (oS X) z (oS X z + 1)) v (oS X v) o = _
    by_cases e : o = v
    · rw [e, fu_s, if_neg hzv]
    · rw [fu_n _ _ e]
      by_cases e2 : o = z
      · rw [if_pos e2, e2, fu_s]
      · rw [if_neg e2, fu_n _ _ e2]
  have aD : oD (lkX X z n v) = oD X := rfl
  have aT : oT (lkX X z n v) = oT X := rfl
  have aE : oE (lkX X z n v) = fu (oE X) (ky z 1 n) v := rfl
  generalize lkX X z n v = X2 at *
  obtain ⟨w1, w2, w3, w4, w5, w6, w7, w8, w9, w10, w11, w12, w13, w14⟩ := w
  have z60 := ((w5 z).2.1 (by omega)).2
  have v60 := (w5 v).2.1 (by omega)
  have hv1 : v ≠ 1 := fun e => by rw [e, w6] at hv; cases hv
  have mem : ∀ k, k ∈ its T' ↔ k = ky z 1 n ∨ k ∈ its T := by
    intro k
    rw [S.mem w1.1]
    constructor
    · rintro (⟨h, _⟩ | ⟨_, h⟩)
      · exact .inl h
      · exact .inr h
    · intro h
      by_cases e : k = ky z 1 n
      · exact .inl ⟨e, by omega⟩
      · exact .inr ⟨e, h.resolve_left e⟩
  have pz := ky_parts (o := z) (k := 1) (n := n) (by omega) (by omega)
  have hi : ∀ o k', k' ≠ 1 → k' < 4 → (ky o k' 0 ∈ its T' ↔ ky o k' 0 ∈ its T) := by
    intro o k' h1 h2
    rw [mem]
    exact ⟨fun h => h.resolve_left (fun e => h1 (ky_inj h2 (by omega) (by omega) (by omega) e).2.1), .inr⟩
  have oldE : ∀ k ∈ its T, oE X2 k = oE X k := fun k hk' => by rw [aE, fu_n _ _ (fun e => hk (by rw [← e]; exact hk'))]
  have en : ∀ o, (ents T' o).length = (ents T o).length + (if o = z then 1 else 0) := by
    intro o
    have e2 := ents_set (o := o) S
    rw [if_neg (fun h => hk h.1)] at e2
    by_cases e : o = z
    · rw [if_pos e]
      rw [if_pos ⟨by omega, by omega⟩] at e2
      omega
    · rw [if_neg e]
      rw [if_neg (fun h => by omega)] at e2
      omega
  have tl : ∀ o, tlg T' X2 o = tlg T X o + (if o = v then 1 else 0) := by
    intro o
    have e2 := tlg_set (X := X2) (o := o) S
    have e0 : tlg T X2 o = tlg T X o := tlg_cong (fun k hk' _ => oldE k hk')
    rw [if_neg (fun h => hk h.1)] at e2
    have hE : oE X2 (ky z 1 n) = v := by rw [aE, fu_s]
    rw [hE] at e2
    by_cases e : o = v
    · rw [if_pos e]
      rw [if_pos ⟨by omega, pz.1, e.symm⟩] at e2
      omega
    · rw [if_neg e]
      rw [if_neg (fun h => e h.2.2.symm)] at e2
      omega
  refine ⟨G, fun k hk' => ?_, fun k hk' h1 => ?_, fun k => ?_, fun o => ?_, ?_, fun o h => ?_, fun o h => ?_, fun o h => ?_, fun o => ?_, fun o h h1 => ?_, ?_, ⟨?_, fun y g1 g2 g3 => ?_⟩, w14.1, fun d hd h1 => ?_, fun d hd => ?_⟩
  · rcases (mem k).mp hk' with h | h
    · rw [h]
      exact ⟨by rw [pz.2.1, hi z 0 (by omega) (by omega)]; exact (w5 z).1.mp (by omega), ky_lt z60 hn, fun hh => by omega, fun _ => by omega⟩
    · obtain ⟨a1, a2, a3, a4⟩ := w2 k h
      exact ⟨(hi _ 0 (by omega) (by omega)).mpr a1, a2, a3, a4⟩
  · rw [aK]
    rcases (mem k).mp hk' with h | h
    · rw [h, pz.2.1, aE, fu_s]
      exact ⟨hz, by omega, by omega⟩
    · rw [oldE k h]; exact w3 k h h1
  · rw [aE]
    by_cases e : k = ky z 1 n
    · rw [e, fu_s]; exact v60.2
    · rw [fu_n _ _ e]; exact w4 k
  · rw [aK, hi o 0 (by omega) (by omega)]; exact w5 o
  · rw [aK]; exact w6
  · rw [aK] at h
    rw [aD, aT, aS, aL, if_neg (fun e => by rw [e, hz] at h; cases h), if_neg (fun e => by rw [e, hv] at h; cases h)]
    exact w7 o h
  · rw [aK] at h
    obtain ⟨a1, a2, a3, a4⟩ := w8 o h
    have ev : ¬ o = v := fun e => by rw [e, hv] at h; cases h
    rw [aD, aT, aS, aL, en, if_neg ev]
    refine ⟨a1, a2, ?_, a4⟩
    by_cases e2 : o = z
    · rw [if_pos e2, if_pos e2, ← e2, a3]
    · rw [if_neg e2, if_neg e2, a3]; rfl
  · rw [aK] at h
    rw [aD, aT, aS, if_neg (fun e => by rw [e, hz] at h; cases h)]
    exact w9 o h
  · rw [aD, aT, hi o 2 (by omega) (by omega), hi o 3 (by omega) (by omega)]
    obtain ⟨a1, a2, a3⟩ := w10 o
    exact ⟨a1, a2, a3.df S.1⟩
  · rw [aK] at h
    obtain ⟨a1, a2⟩ := w11 o h h1
    rw [aL, tl]
    by_cases e : o = v
    · rw [if_pos e, if_pos e, ← e]; omega
    · rw [if_neg e, if_neg e]; omega
  · rw [aD]; exact w12
  · rw [aT]; exact w13.1
  · obtain ⟨a1, a2⟩ := S.2.1 y g1 g2
    exact w13.2 y a1 a2 g3
  · rw [aK] at hd
    obtain ⟨k, k1, k2, k3, k4⟩ := w14.2.1 d hd h1
    exact ⟨k, (mem k).mpr (.inr k1), k2, by rw [oldE k k1]; exact k3, k4⟩
  · rw [aK] at hd; exact w14.2.2 d hd
set_option maxHeartbeats 1000000 in
/-- an entry goes, its object stays -/
theorem WO.unlink1 (w : WO m T X dt par) {z n v : Nat} (hz : oK X z = 1) (hn : n < 1000) (hv : v = oE X (ky z 1 n)) (hl : 2 ≤ oL X v) (hk : ky z 1 n ∈ its T) (S : StF T T' (ky z 1 n) 0) (G : Gt m T' (pyO (ulX X z v))) : WO m T' (ulX X z v) dt par := by
  have hhe := w.he z n hn hk
  rw [← hv] at hhe
  obtain ⟨h2, h60, hvT, hvz, hsz, _⟩ := hhe
  have aK : oK (ulX X z v) = oK X := by
    show fu (fu (oK X) z (oK X z)) v (oK X v) = oK X
    rw [fu_idv (g := oK X) rfl, fu_idv rfl]
  have aL : ∀ o, oL (ulX X z v) o = if o = v then oL X v - 1 else oL X o := fun o => by
    show fu (fu (oL X) z (oL X z)) v (oL X v - 1) o = _
    rw [fu_idv (g := oL X) rfl]
    by_cases e : o = v
    · rw [if_pos e, e, fu_s]
    · rw [if_neg e, fu_n _ _ e]
  have aS : ∀ o, oS (ulX X z v) o = if o = z then oS X z - 1 else oS X o := fun o => by
    show fu (fu (oS X) z (oS X z - 1)) v (oS X v) o = _
    by_cases e : o = v
    · rw [e, fu_s, if_neg hvz]
    · rw [fu_n _ _ e]
      by_cases e2 : o = z
      · rw [if_pos e2, e2, fu_s]
      · rw [if_neg e2, fu_n _ _ e2]
  have aD : oD (ulX X z v) = oD X := rfl
  have aT : oT (ulX X z v) = oT X := rfl
  have aE : oE (ulX X z v) = oE X := rfl
  generalize ulX X z v = X2 at *
  obtain ⟨w1, w2, w3, w4, w5, w6, w7, w8, w9, w10, w11, w12, w13, w14⟩ := w
  have hv0 := (w5 v).1.mpr hvT
  have hv2 : oK X v = 2 := by
    have := (w5 v).2.2
    apply Classical.byContradiction
    intro h
    have : oK X v = 1 := by omega
    have := (w8 v this).2.2.2
    omega
  have mem : ∀ k, k ∈ its T' ↔ k ≠ ky z 1 n ∧ k ∈ its T := by
    intro k
    rw [S.mem w1.1]
    constructor
    · rintro (⟨_, h⟩ | h)
      · exact absurd rfl h
      · exact h
    · exact .inr
  have pz := ky_parts (o := z) (k := 1) (n := n) (by omega) (by omega)
  have hi : ∀ o k', k' ≠ 1 → k' < 4 → (ky o k' 0 ∈ its T' ↔ ky o k' 0 ∈ its T) := by
    intro o k' h1 h2
    rw [mem]
    exact ⟨fun h => h.2, fun h => ⟨fun e => h1 (ky_inj h2 (by omega) (by omega) (by omega) e).2.1, h⟩⟩
  have en : ∀ o, (ents T' o).length + (if o = z then 1 else 0) = (ents T o).length := by
    intro o
    have e2 := ents_set (o := o) S
    rw [if_neg (fun (h : (0 : Nat) ≠ 0 ∧ _) => h.1 rfl)] at e2
    by_cases e : o = z
    · rw [if_pos e]
      rw [if_pos ⟨hk, by omega⟩] at e2
      omega
    · rw [if_neg e]
      rw [if_neg (fun h => by omega)] at e2
      omega
  have tl : ∀ o, tlg T' X2 o + (if o = v then 1 else 0) = tlg T X o := by
    intro o
    have e2 := tlg_set (X := X2) (o := o) S
    have e0 : tlg T X2 o = tlg T X o := tlg_cong (fun k hk' _ => by rw [aE])
    rw [if_neg (fun (h : (0 : Nat) ≠ 0 ∧ _) => h.1 rfl), aE, ← hv] at e2
    by_cases e : o = v
    · rw [if_pos e]
      rw [if_pos ⟨hk, pz.1, e.symm⟩] at e2
      omega
    · rw [if_neg e]
      rw [if_neg (fun h => e h.2.2.symm)] at e2
      omega
  refine ⟨G, fun k hk' => ?_, fun k hk' h1 => ?_, fun k => ?_, fun o => ?_, ?_, fun o h => ?_, fun o h => ?_, fun o h => ?_, fun o => ?_, fun o h h1 => ?_, ?_, ⟨?_, fun y g1 g2 g3 => ?_⟩, w14.1, fun d hd h1 => ?_, fun d hd => ?_⟩
  · obtain ⟨_, h⟩ := (mem k).mp hk'
    obtain ⟨a1, a2, a3, a4⟩ := w2 k h
    exact ⟨(hi _ 0 (by omega) (by omega)).mpr a1, a2, a3, a4⟩
  · rw [aK, aE]; exact w3 k ((mem k).mp hk').2 h1
  · rw [aE]; exact w4 k
  · rw [aK, hi o 0 (by omega) (by omega)]; exact w5 o
  · rw [aK]; exact w6
  · rw [aK] at h
    rw [aD, aT, aS, aL, if_neg (fun e => by rw [e, hz] at h; cases h), if_neg (fun e => by rw [e] at h; exact hv0 h)]
    exact w7 o h
  · rw [aK] at h
    obtain ⟨a1, a2, a3, a4⟩ := w8 o h
    have := en o
    have ev : ¬ o = v := fun e => by rw [e, hv2] at h; cases h
    rw [aD, aT, aS, aL, if_neg ev]
    refine ⟨a1, a2, ?_, a4⟩
    by_cases e2 : o = z
    · rw [if_pos e2] at this ⊢
      rw [← e2, a3]; omega
    · rw [if_neg e2] at this ⊢
      rw [a3]; omega
  · rw [aK] at h
    rw [aD, aT, aS, if_neg (fun e => by rw [e, hz] at h; cases h)]
    exact w9 o h
  · rw [aD, aT, hi o 2 (by omega) (by omega), hi o 3 (by omega) (by omega)]
    obtain ⟨a1, a2, a3⟩ := w10 o
    exact ⟨a1, a2, a3.df S.1⟩
  · rw [aK] at h
    obtain ⟨a1, a2⟩ := w11 o h h1
    have := tl o
    rw [aL]
    by_cases e : o = v
    · rw [if_pos e] at this ⊢
      rw [← e]
      rw [← e] at hl
      omega
    · rw [if_neg e] at this ⊢; omega
  · rw [aD]; exact w12
  · rw [aT]; exact w13.1
  · obtain ⟨a1, a2⟩ := S.2.1 y g1 g2
    exact w13.2 y a1 a2 g3
  · rw [aK] at hd
    obtain ⟨k, k1, k2, k3, k4⟩ := w14.2.1 d hd h1
    refine ⟨k, (mem k).mpr ⟨fun e => ?_, k1⟩, k2, by rw [aE]; exact k3, k4⟩
    rw [e, ← hv] at k3
    rw [k3, hd] at hv2; cases hv2
  · rw [aK] at hd; exact w14.2.2 d hd
set_option maxHeartbeats 1000000 in
/-- an entry goes with its object -/
theorem WO.unlink2 (hm : m ≤ 96) (w : WO m T X dt par) {z n v : Nat} (hz : oK X z = 1) (hn : n < 1000) (hv : v = oE X (ky z 1 n)) (hl : oL X v = 1) (hemp : oK X v = 2 ∨ oS X v = 0) (hk : ky z 1 n ∈ its T) (hT1 : T1 = dlT m (szO X) T (ky z 1 n)) (hT' : T' = rmT m (lvX X z) T1 v) (G : Gt m T' (pyO (clX (lvX X z) v))) : WO m T' (clX (lvX X z) v) dt par := by
  have hhe := w.he z n hn hk
  rw [← hv] at hhe
  obtain ⟨h2, h60, hvT, hvz, hsz, _⟩ := hhe
  have aK : ∀ o, oK (clX (lvX X z) v) o = if o = v then 0 else oK X o := fun o => by
    show fu (fu (oK X) z (oK X z)) v 0 o = _
    rw [fu_idv (g := oK X) rfl]
    by_cases e : o = v
    · rw [if_pos e, e, fu_s]
    · rw [if_neg e, fu_n _ _ e]
  have aL : ∀ o, oL (clX (lvX X z) v) o = if o = v then 0 else oL X o := fun o => by
    show fu (fu (oL X) z (oL X z)) v 0 o = _
    rw [fu_idv (g := oL X) rfl]
    by_cases e : o = v
    · rw [if_pos e, e, fu_s]
    · rw [if_neg e, fu_n _ _ e]
  have aS : ∀ o, oS (clX (lvX X z) v) o = if o = v then 0 else if o = z then oS X z - 1 else oS X o := fun o => by
    show fu (fu (oS X) z (oS X z - 1)) v 0 o = _
    by_cases e : o = v
    · rw [e, fu_s, if_pos rfl]
    · rw [fu_n _ _ e, if_neg e]
      by_cases e2 : o = z
      · rw [if_pos e2, e2, fu_s]
      · rw [if_neg e2, fu_n _ _ e2]
  have aD : ∀ o, oD (clX (lvX X z) v) o = if o = v then [] else oD X o := fun o => by
    show fu (oD X) v [] o = _
    by_cases e : o = v
    · rw [if_pos e, e, fu_s]
    · rw [if_neg e, fu_n _ _ e]
  have aT : ∀ o, oT (clX (lvX X z) v) o = if o = v then [] else oT X o := fun o => by
    show fu (oT X) v [] o = _
    by_cases e : o = v
    · rw [if_pos e, e, fu_s]
    · rw [if_neg e, fu_n _ _ e]
  have aE : oE (clX (lvX X z) v) = oE X := rfl
  generalize clX (lvX X z) v = X2 at *
  obtain ⟨w1, w2, w3, w4, w5, w6, w7, w8, w9, w10, w11, w12, w13, w14⟩ := w
  have hv0 := (w5 v).1.mpr hvT
  have hv1 : v ≠ 1 := by omega
  obtain ⟨S0, W1⟩ := dlT_st (key := ky z 1 n) (sz := szO X) hm w1.1
  rw [← hT1] at S0 W1
  have hBv := (w10 v).2.2
  have W4 : Wf m (szO X) (fes (oD X v).reverse T1) := W1.fes (fun b' hb' => by
    rw [List.mem_reverse] at hb'
    obtain ⟨a1, a2, a3, a4⟩ := hBv.2 b' hb'
    obtain ⟨d1, d2⟩ := S0.1 b' a3 a4
    exact ⟨d2, by omega⟩)
  have hrm : T' = dlT m (szO X) (dlT m (szO X) (dlT m (szO X) (fes (oD X v).reverse T1) (ky v 3 0)) (ky v 2 0)) (ky v 0 0) := by
    rw [hT']
    unfold rmT
    rw [show szO (lvX X z) = szO X from szO_vS _ _ _ _ _, show oD (lvX X z) v = oD X v from rfl]
  obtain ⟨S5, W5⟩ := dlT_st (key := ky v 3 0) hm W4
  obtain ⟨S6, W6⟩ := dlT_st (key := ky v 2 0) hm W5
  obtain ⟨S7, W7⟩ := dlT_st (key := ky v 0 0) hm W6
  rw [← hrm] at S7 W7
  clear hrm hT'
  generalize hT6 : dlT m (szO X) (dlT m (szO X) (fes (oD X v).reverse T1) (ky v 3 0)) (ky v 2 0) = T6 at *
  generalize hT5 : dlT m (szO X) (fes (oD X v).reverse T1) (ky v 3 0) = T5 at *
  have i4 : its (fes (oD X v).reverse T1) = its T1 := fes_its _ _
  have h4 := fes_at (oD X v).reverse T1
  generalize hT4 : fes (oD X v).reverse T1 = T4 at *
  have mem : ∀ k, k ∈ its T' ↔ k ≠ ky v 0 0 ∧ k ≠ ky v 2 0 ∧ k ≠ ky v 3 0 ∧ k ≠ ky z 1 n ∧ k ∈ its T := by
    intro k
    rw [S7.mem W6, S6.mem W5, S5.mem W4, i4, S0.mem w1.1]
    constructor
    · rintro (⟨_, h⟩ | ⟨a, h⟩)
      · exact absurd rfl h
      rcases h with ⟨_, h⟩ | ⟨b, h⟩
      · exact absurd rfl h
      rcases h with ⟨_, h⟩ | ⟨c, h⟩
      · exact absurd rfl h
      rcases h with ⟨_, h⟩ | ⟨d, h⟩
      · exact absurd rfl h
      exact ⟨a, b, c, d, h⟩
    · rintro ⟨a, b, c, d, h⟩
      exact .inr ⟨a, .inr ⟨b, .inr ⟨c, .inr ⟨d, h⟩⟩⟩⟩
  have pz := ky_parts (o := z) (k := 1) (n := n) (by omega) (by omega)
  have nov : ∀ k ∈ its T, k / 1024 % 4 = 1 → k / 4096 ≠ v := by
    intro k hk' h1 e
    have a1 := (w3 k hk' h1).1
    rw [e] at a1
    rcases hemp with h | h
    · rw [a1] at h; cases h
    · rw [(w8 v a1).2.2.1] at h
      have : k ∈ ents T v := List.mem_filter.mpr ⟨hk', decide_eq_true (by omega)⟩
      have := List.length_pos_of_mem this
      omega
  have kv : ∀ k ∈ its T', k / 4096 ≠ v := by
    intro k hk' e
    obtain ⟨a, b, c, d, h⟩ := (mem k).mp hk'
    by_cases h1 : k / 1024 % 4 = 1
    · exact nov k h h1 e
    · have := (w2 k h).2.2.1 h1
      unfold ky at a b c
      omega
  have hi : ∀ o k', o ≠ v → k' ≠ 1 → k' < 4 → (ky o k' 0 ∈ its T' ↔ ky o k' 0 ∈ its T) := by
    intro o k' ho h1 h2
    rw [mem]
    constructor
    · rintro ⟨_, _, _, _, h⟩; exact h
    · intro h
      exact ⟨fun e => ho (ky_inj h2 (by omega) (by omega) (by omega) e).1, fun e => ho (ky_inj h2 (by omega) (by omega) (by omega) e).1, fun e => ho (ky_inj h2 (by omega) (by omega) (by omega) e).1, fun e => h1 (ky_inj h2 (by omega) (by omega) (by omega) e).2.1, h⟩
  have hiv : ∀ k', k' ≠ 1 → k' < 4 → ky v k' 0 ∉ its T' := by
    intro k' h1 h2 h
    have := kv _ h
    have hp := ky_parts (o := v) (k := k') (n := 0) h2 (by omega)
    exact this hp.2.1
  have en : ∀ o, o ≠ v → (ents T' o).length + (if o = z then 1 else 0) = (ents T o).length := by
    intro o ho
    have e0 := ents_set (o := o) S0
    have e5 := ents_set (o := o) S5
    have e6 := ents_set (o := o) S6
    have e7 := ents_set (o := o) S7
    have e4 : (ents T4 o).length = (ents T1 o).length := by unfold ents; rw [i4]
    have q5 := ky_parts (o := v) (k := 3) (n := 0) (by omega) (by omega)
    have q6 := ky_parts (o := v) (k := 2) (n := 0) (by omega) (by omega)
    have q7 := ky_parts (o := v) (k := 0) (n := 0) (by omega) (by omega)
    rw [if_neg (fun h => by omega), if_neg (fun h => h.1 rfl)] at e5 e6 e7
    rw [if_neg (fun (h : (0 : Nat) ≠ 0 ∧ _) => h.1 rfl)] at e0
    by_cases e : o = z
    · rw [if_pos e]
      rw [if_pos ⟨hk, by omega⟩] at e0
      omega
    · rw [if_neg e]
      rw [if_neg (fun h => by omega)] at e0
      omega
  have tl : ∀ o, tlg T' X2 o + (if o = v then 1 else 0) = tlg T X o := by
    intro o
    have e0 := tlg_set (X := X) (o := o) S0
    have e5 := tlg_set (X := X) (o := o) S5
    have e6 := tlg_set (X := X) (o := o) S6
    have e7 := tlg_set (X := X) (o := o) S7
    have e4 : tlg T4 X o = tlg T1 X o := by unfold tlg; rw [i4]
    have e8 : tlg T' X2 o = tlg T' X o := tlg_cong (fun k hk' _ => by rw [aE])
    have q5 := ky_parts (o := v) (k := 3) (n := 0) (by omega) (by omega)
    have q6 := ky_parts (o := v) (k := 2) (n := 0) (by omega) (by omega)
    have q7 := ky_parts (o := v) (k := 0) (n := 0) (by omega) (by omega)
    rw [if_neg (fun h => by omega), if_neg (fun h => h.1 rfl)] at e5 e6 e7
    rw [if_neg (fun (h : (0 : Nat) ≠ 0 ∧ _) => h.1 rfl), ← hv] at e0
    by_cases e : o = v
    · rw [if_pos e]
      rw [if_pos ⟨hk, pz.1, e.symm⟩] at e0
      omega
    · rw [if_neg e]
      rw [if_neg (fun h => e h.2.2.symm)] at e0
      omega
  have nt : ∀ k ∈ its T', k / 1024 % 4 = 1 → oE X k ≠ v := by
    intro k hk' h1 e
    have := tl v
    have h11 := (w11 v hv0 hv1).1
    rw [if_pos rfl, ← h11, hl] at this
    have : tlg T' X2 v = 0 := by omega
    unfold tlg at this
    rw [List.countP_eq_zero] at this
    exact this k hk' (decide_eq_true ⟨h1, by rw [aE]; exact e⟩)
  have DD : ∀ b, tU T b = true → tH T b = 0 → b ∉ oD X v → tU T' b = true ∧ tH T' b = 0 := by
    intro b h1 h2 h3
    obtain ⟨a1, a2⟩ := S0.1 b h1 h2
    have b1 : tU T4 b = true := by rw [h4.2.2.2.2.2.2.2, a1, decide_eq_false (by rw [List.mem_reverse]; exact h3)]; rfl
    have b2 : tH T4 b = 0 := by rw [h4.1]; exact a2
    obtain ⟨c1, c2⟩ := S5.1 b b1 b2
    obtain ⟨d1, d2⟩ := S6.1 b c1 c2
    exact S7.1 b d1 d2
  have PP : Pv T T' := by
    have p4 := fes_pv (oD X v).reverse T1
    rw [hT4] at p4
    exact (((S0.2.1.trans p4).trans S5.2.1).trans S6.2.1).trans S7.2.1
  refine ⟨G, fun k hk' => ?_, fun k hk' h1 => ?_, fun k => ?_, fun o => ?_, ?_, fun o h => ?_, fun o h => ?_, fun o h => ?_, fun o => ?_, fun o h h1 => ?_, fun o o' b' h1 h2 => ?_, ⟨fun o u hu => ?_, fun y g1 g2 g3 => ?_⟩, w14.1, fun d hd h1 => ?_, fun d hd => ?_⟩
  · obtain ⟨_, _, _, _, h⟩ := (mem k).mp hk'
    obtain ⟨a1, a2, a3, a4⟩ := w2 k h
    exact ⟨(hi _ 0 (kv k hk') (by omega) (by omega)).mpr a1, a2, a3, a4⟩
  · obtain ⟨_, _, _, _, h⟩ := (mem k).mp hk'
    obtain ⟨a1, a2, a3⟩ := w3 k h h1
    rw [aK, aE, aK, if_neg (kv k hk'), if_neg (nt k hk' h1)]
    exact ⟨a1, a2, a3⟩
  · rw [aE]; exact w4 k
  · rw [aK]
    by_cases e : o = v
    · rw [if_pos e, e]
      exact ⟨⟨fun h => absurd rfl h, fun h => absurd h (hiv 0 (by omega) (by omega))⟩, fun h => absurd rfl h, by omega⟩
    · rw [if_neg e, hi o 0 e (by omega) (by omega)]; exact w5 o
  · rw [aK, if_neg (fun e => hv1 e.symm)]; exact w6
  · rw [aK] at h
    rw [aD, aT, aS, aL]
    by_cases e : o = v
    · rw [if_pos e, if_pos e, if_pos e, if_pos e]; exact ⟨rfl, rfl, rfl, rfl⟩
    · rw [if_neg e] at h
      rw [if_neg e, if_neg e, if_neg e, if_neg e, if_neg (fun e' => by rw [e', hz] at h; cases h)]
      exact w7 o h
  · rw [aK] at h
    have e : o ≠ v := fun e => by rw [if_pos e] at h; cases h
    rw [if_neg e] at h
    obtain ⟨a1, a2, a3, a4⟩ := w8 o h
    have := en o e
    rw [aD, aT, aS, aL, if_neg e, if_neg e, if_neg e, if_neg e]
    refine ⟨a1, a2, ?_, a4⟩
    by_cases e2 : o = z
    · rw [if_pos e2] at this ⊢
      rw [← e2, a3]; omega
    · rw [if_neg e2] at this ⊢
      rw [a3]; omega
  · rw [aK] at h
    have e : o ≠ v := fun e => by rw [if_pos e] at h; cases h
    rw [if_neg e] at h
    rw [aD, aT, aS, if_neg e, if_neg e, if_neg e, if_neg (fun e' => by rw [e', hz] at h; cases h)]
    exact w9 o h
  · rw [aD, aT]
    by_cases e : o = v
    · rw [if_pos e, if_pos e, e]
      exact ⟨⟨fun h => absurd h (hiv 2 (by omega) (by omega)), fun h => absurd rfl h⟩, ⟨fun h => absurd h (hiv 3 (by omega) (by omega)), fun h => absurd rfl h⟩, List.nodup_nil, fun b hb => by cases hb⟩
    · rw [if_neg e, if_neg e, hi o 2 e (by omega) (by omega), hi o 3 e (by omega) (by omega)]
      obtain ⟨a1, a2, a3⟩ := w10 o
      refine ⟨a1, a2, a3.1, fun b hb => ?_⟩
      obtain ⟨b1, b2, b3, b4⟩ := a3.2 b hb
      obtain ⟨c1, c2⟩ := DD b b3 b4 (fun hb' => e (w12 o v b hb hb'))
      exact ⟨b1, b2, c1, c2⟩
  · rw [aK] at h
    have e : o ≠ v := fun e => by rw [if_pos e] at h; exact h rfl
    rw [if_neg e] at h
    obtain ⟨a1, a2⟩ := w11 o h h1
    have := tl o
    rw [aL, if_neg e]
    rw [if_neg e] at this
    omega
  · rw [aD] at h1 h2
    by_cases e : o = v
    · rw [if_pos e] at h1; cases h1
    · by_cases e' : o' = v
      · rw [if_pos e'] at h2; cases h2
      · rw [if_neg e] at h1
        rw [if_neg e'] at h2
        exact w12 o o' b' h1 h2
  · rw [aT] at hu
    by_cases e : o = v
    · rw [if_pos e] at hu; cases hu
    · rw [if_neg e] at hu; exact w13.1 o u hu
  · obtain ⟨a1, a2⟩ := PP y g1 g2
    exact w13.2 y a1 a2 g3
  · rw [aK] at hd
    have e : d ≠ v := fun e => by rw [if_pos e] at hd; cases hd
    rw [if_neg e] at hd
    obtain ⟨k, k1, k2, k3, k4⟩ := w14.2.1 d hd h1
    have q5 := ky_parts (o := v) (k := 3) (n := 0) (by omega) (by omega)
    have q6 := ky_parts (o := v) (k := 2) (n := 0) (by omega) (by omega)
    have q7 := ky_parts (o := v) (k := 0) (n := 0) (by omega) (by omega)
    refine ⟨k, (mem k).mpr ⟨fun h => by rw [h] at k2; omega, fun h => by rw [h] at k2; omega, fun h => by rw [h] at k2; omega, fun h => ?_, k1⟩, k2, by rw [aE]; exact k3, k4⟩
    rw [h, ← hv] at k3
    exact e k3.symm
  · rw [aK] at hd
    have e : d ≠ v := fun e => by rw [if_pos e] at hd; cases hd
    rw [if_neg e] at hd
    exact w14.2.2 d hd
end Wlk2
