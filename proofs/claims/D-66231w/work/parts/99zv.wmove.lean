/-! ===== THE WORLD: move, files ===== -/
section Wmv
variable {m : Nat} {T T' T1 T2 T3 : Tr} {X X' : Ob} {dt : Nat → Nat → Nat} {par : Nat → Nat} {sz : Nat → Nat}
theorem wth_eq (hp1 : par 1 = 1) {v : Nat} (hv : v ≠ 1) : ∀ (n n' x : Nat), itr par n x = 1 → itr par n' x = 1 → wth par v n x = wth par v n' x
  | 0, 0, x, _, _ => rfl
  | 0, n' + 1, x, h, _ => by
    have h : x = 1 := h
    rw [wth, wth, if_neg (by omega), if_pos h]
    exact decide_eq_false (by omega)
  | n + 1, 0, x, _, h => by
    have h : x = 1 := h
    rw [wth, wth, if_neg (by omega), if_pos h]
    exact (decide_eq_false (by omega)).symm
  | n + 1, n' + 1, x, h, h' => by
    rw [wth, wth]
    by_cases e : x = v
    · rw [if_pos e, if_pos e]
    · rw [if_neg e, if_neg e]
      by_cases e1 : x = 1
      · rw [if_pos e1, if_pos e1]
      · rw [if_neg e1, if_neg e1]
        exact wth_eq hp1 hv n n' (par x) h h'
/-- a way up that doesn't come by v stays -/
theorem itr_wth (hp1 : par 1 = 1) {v y : Nat} (hv : v ≠ 1) : ∀ (n x : Nat), itr par n x = 1 → wth par v n x = false → itr (fu par v y) n x = 1
  | 0, x, h, _ => h
  | n + 1, x, h, hw => by
    rw [wth] at hw
    have e : x ≠ v := fun e => by rw [if_pos e] at hw; cases hw
    rw [if_neg e] at hw
    rw [itr, fu_n _ _ e]
    by_cases e1 : x = 1
    · rw [e1, hp1]
      have : ∀ n, itr (fu par v y) n 1 = 1 := by
        intro n
        induction n with
        | zero => rfl
        | succ n ih => rw [itr, fu_n _ _ (fun h => hv h.symm), hp1]; exact ih
      exact this n
    · rw [if_neg e1] at hw
      exact itr_wth hp1 hv n (par x) h hw
set_option maxHeartbeats 1000000 in
theorem WO.move (hm : m ≤ 96) (w : WO m T X dt par) {z n x a v : Nat} (hz : oK X z = 1) (hx : oK X x = 1) (hn : n < 1000) (ha : a < 1000) (hv : v = oE X (ky z 1 n)) (hk : ky z 1 n ∈ its T) (hk2 : ky x 1 a ∉ its T) (hmv : oK X v = 2 ∨ ∀ nw, itr par nw x = 1 → wth par v nw x = false) (S1 : StF T T1 (ky z 1 n) 0) (W1 : Wf m sz T1) (S2 : StF T1 T2 (ky x 1 a) 3) (G : Gt m T2 (pyO (enX (lvX X z) x a v))) : WO m T2 (enX (lvX X z) x a v) dt (if oK X v = 1 then fu par v x else par) := by
  have hhe := w.he z n hn hk
  rw [← hv] at hhe
  obtain ⟨h2, h60, hvT, hvz, hsz, _⟩ := hhe
  have aK : oK (enX (lvX X z) x a v) = oK X := by
    show fu (fu (oK X) z (oK X z)) x (fu (oK X) z (oK X z) x) = oK X
    rw [fu_idv (g := fu (oK X) z (oK X z)) rfl, fu_idv rfl]
  have aL : oL (enX (lvX X z) x a v) = oL X := by
    show fu (fu (oL X) z (oL X z)) x (fu (oL X) z (oL X z) x) = oL X
    rw [fu_idv (g := fu (oL X) z (oL X z)) rfl, fu_idv rfl]
  have aS : ∀ o, oS (enX (lvX X z) x a v) o + (if o = z then 1 else 0) = oS X o + (if o = x then 1 else 0) := fun o => by
    show fu (fu (oS X) z (oS X z - 1)) x (fu (oS X) z (oS X z - 1) x + 1) o + _ = _
    by_cases e1 : o = x
    · rw [e1, fu_s, if_pos rfl]
      by_cases e2 : x = z
      · rw [e2, fu_s, if_pos rfl]; omega
      · rw [fu_n _ _ e2, if_neg e2]
    · rw [fu_n _ _ e1, if_neg e1]
      by_cases e2 : o = z
      · rw [e2, fu_s, if_pos rfl]; omega
      · rw [fu_n _ _ e2, if_neg e2]
  have aD : oD (enX (lvX X z) x a v) = oD X := rfl
  have aT : oT (enX (lvX X z) x a v) = oT X := rfl
  have aE : oE (enX (lvX X z) x a v) = fu (oE X) (ky x 1 a) v := rfl
  have hw := w
  generalize enX (lvX X z) x a v = X2 at *
  obtain ⟨w1, w2, w3, w4, w5, w6, w7, w8, w9, w10, w11, w12, w13, w14⟩ := w
  have hv0 := (w5 v).1.mpr hvT
  have hv1 : v ≠ 1 := by omega
  have z60 := ((w5 z).2.1 (by omega)).2
  have x60 := ((w5 x).2.1 (by omega)).2
  have hne : ky z 1 n ≠ ky x 1 a := fun e => hk2 (by rw [← e]; exact hk)
  have mem : ∀ k, k ∈ its T2 ↔ k = ky x 1 a ∨ (k ≠ ky z 1 n ∧ k ∈ its T) := by
    intro k
    rw [S2.mem W1, S1.mem w1.1]
    constructor
    · rintro (⟨h, _⟩ | ⟨_, h⟩)
      · exact .inl h
      · rcases h with ⟨_, h⟩ | h
        · exact absurd rfl h
        · exact .inr h
    · intro h
      by_cases e : k = ky x 1 a
      · exact .inl ⟨e, by omega⟩
      · exact .inr ⟨e, .inr (h.resolve_left e)⟩
  have pz := ky_parts (o := z) (k := 1) (n := n) (by omega) (by omega)
  have px := ky_parts (o := x) (k := 1) (n := a) (by omega) (by omega)
  have hi : ∀ o k', k' ≠ 1 → k' < 4 → (ky o k' 0 ∈ its T2 ↔ ky o k' 0 ∈ its T) := by
    intro o k' h1 h2
    rw [mem]
    constructor
    · rintro (h | h)
      · exact absurd (ky_inj h2 (by omega) (by omega) (by omega) h).2.1 h1
      · exact h.2
    · intro h
      exact .inr ⟨fun e => h1 (ky_inj h2 (by omega) (by omega) (by omega) e).2.1, h⟩
  have oldE : ∀ k ∈ its T, oE X2 k = oE X k := fun k hk' => by rw [aE, fu_n _ _ (fun e => hk2 (by rw [← e]; exact hk'))]
  have hk1 : ky x 1 a ∉ its T1 := by
    rw [S1.mem w1.1]
    rintro (⟨_, h⟩ | ⟨_, h⟩)
    · exact absurd rfl h
    · exact hk2 h
  have en : ∀ o, (ents T2 o).length + (if o = z then 1 else 0) = (ents T o).length + (if o = x then 1 else 0) := by
    intro o
    have e1 := ents_set (o := o) S1
    have e2 := ents_set (o := o) S2
    rw [if_neg (fun (h : (0 : Nat) ≠ 0 ∧ _) => h.1 rfl)] at e1
    rw [if_neg (fun h => hk1 h.1)] at e2
    have c1 : (ky z 1 n ∈ its T ∧ ky z 1 n / 1024 = 4 * o + 1) ↔ o = z := ⟨fun h => by omega, fun h => ⟨hk, by omega⟩⟩
    have c2 : ((3 : Nat) ≠ 0 ∧ ky x 1 a / 1024 = 4 * o + 1) ↔ o = x := ⟨fun h => by omega, fun h => ⟨by omega, by omega⟩⟩
    simp only [c1] at e1
    simp only [c2] at e2
    omega
  have tl : ∀ o, tlg T2 X2 o = tlg T X o := by
    intro o
    have e1 := tlg_set (X := X2) (o := o) S1
    have e2 := tlg_set (X := X2) (o := o) S2
    have e0 : tlg T X2 o = tlg T X o := tlg_cong (fun k hk' _ => oldE k hk')
    rw [if_neg (fun (h : (0 : Nat) ≠ 0 ∧ _) => h.1 rfl), oldE _ hk, ← hv] at e1
    rw [if_neg (fun h => hk1 h.1), show oE X2 (ky x 1 a) = v by rw [aE, fu_s]] at e2
    have c1 : (ky z 1 n ∈ its T ∧ ky z 1 n / 1024 % 4 = 1 ∧ v = o) ↔ v = o := ⟨fun h => h.2.2, fun h => ⟨hk, pz.1, h⟩⟩
    have c2 : ((3 : Nat) ≠ 0 ∧ ky x 1 a / 1024 % 4 = 1 ∧ v = o) ↔ v = o := ⟨fun h => h.2.2, fun h => ⟨by omega, px.1, h⟩⟩
    simp only [c1] at e1
    simp only [c2] at e2
    omega
  have DD : DF T T2 := fun b h1 h2 => by
    obtain ⟨a1, a2⟩ := S1.1 b h1 h2
    exact S2.1 b a1 a2
  have PP := S1.2.1.trans S2.2.1
  refine ⟨G, fun k hk' => ?_, fun k hk' h1 => ?_, fun k => ?_, fun o => ?_, ?_, fun o h => ?_, fun o h => ?_, fun o h => ?_, fun o => ?_, fun o h h1 => ?_, ?_, ⟨?_, fun y g1 g2 g3 => ?_⟩, ?_, fun d hd h1 => ?_, fun d hd => ?_⟩
  · rcases (mem k).mp hk' with h | ⟨_, h⟩
    · rw [h]
      exact ⟨by rw [px.2.1, hi x 0 (by omega) (by omega)]; exact (w5 x).1.mp (by omega), ky_lt x60 ha, fun hh => by omega, fun _ => by omega⟩
    · obtain ⟨a1, a2, a3, a4⟩ := w2 k h
      exact ⟨(hi _ 0 (by omega) (by omega)).mpr a1, a2, a3, a4⟩
  · rw [aK]
    rcases (mem k).mp hk' with h | ⟨_, h⟩
    · rw [h, px.2.1, aE, fu_s]
      exact ⟨hx, by omega, hv0⟩
    · rw [oldE k h]; exact w3 k h h1
  · rw [aE]
    by_cases e : k = ky x 1 a
    · rw [e, fu_s]; exact h60
    · rw [fu_n _ _ e]; exact w4 k
  · rw [aK, hi o 0 (by omega) (by omega)]; exact w5 o
  · rw [aK]; exact w6
  · rw [aK] at h
    have e1 : ¬ o = z := fun e => by rw [e, hz] at h; cases h
    have e2 : ¬ o = x := fun e => by rw [e, hx] at h; cases h
    have := aS o
    rw [if_neg e1, if_neg e2] at this
    obtain ⟨a1, a2, a3, a4⟩ := w7 o h
    rw [aD, aT, aL]
    exact ⟨a1, a2, by omega, a4⟩
  · rw [aK] at h
    obtain ⟨a1, a2, a3, a4⟩ := w8 o h
    have h1 := aS o
    have h2 := en o
    rw [aD, aT, aL]
    exact ⟨a1, a2, by omega, a4⟩
  · rw [aK] at h
    have e1 : ¬ o = z := fun e => by rw [e, hz] at h; cases h
    have e2 : ¬ o = x := fun e => by rw [e, hx] at h; cases h
    have := aS o
    rw [if_neg e1, if_neg e2] at this
    rw [aD, aT, show oS X2 o = oS X o by omega]
    exact w9 o h
  · rw [aD, aT, hi o 2 (by omega) (by omega), hi o 3 (by omega) (by omega)]
    obtain ⟨a1, a2, a3⟩ := w10 o
    exact ⟨a1, a2, a3.df DD⟩
  · rw [aK] at h
    rw [aL, tl]
    exact w11 o h h1
  · rw [aD]; exact w12
  · rw [aT]; exact w13.1
  · obtain ⟨a1, a2⟩ := PP y g1 g2
    exact w13.2 y a1 a2 g3
  · split
    · rw [fu_n _ _ (fun e => hv1 e.symm)]; exact w14.1
    · exact w14.1
  · rw [aK] at hd
    by_cases e : d = v
    · rw [if_pos (by rw [← e]; exact hd), e, fu_s]
      exact ⟨ky x 1 a, (mem _).mpr (.inl rfl), px.1, by rw [aE, fu_s], px.2.1⟩
    · obtain ⟨k, k1, k2, k3, k4⟩ := w14.2.1 d hd h1
      refine ⟨k, (mem k).mpr (.inr ⟨fun h => ?_, k1⟩), k2, by rw [oldE k k1]; exact k3, ?_⟩
      · rw [h, ← hv] at k3; exact e k3.symm
      · split
        · rw [fu_n _ _ e]; exact k4
        · exact k4
  · rw [aK] at hd
    by_cases ek : oK X v = 1
    · rw [if_pos ek]
      have hno := hmv.resolve_left (by omega)
      obtain ⟨nx, hnx⟩ := w14.2.2 x hx
      have hup := itr_wth (y := x) w14.1 hv1 nx x hnx (hno nx hnx)
      have H : ∀ n d, oK X d = 1 → itr par n d = 1 → ∃ n', itr (fu par v x) n' d = 1 := by
        intro n
        induction n with
        | zero => intro d _ h; exact ⟨0, h⟩
        | succ n ih =>
          intro d hd h
          by_cases e : d = v
          · exact ⟨nx + 1, by rw [e, itr, fu_s]; exact hup⟩
          · obtain ⟨n', h'⟩ := ih (par d) (itr_dir hw d hd) h
            exact ⟨n' + 1, by rw [itr, fu_n _ _ e]; exact h'⟩
      obtain ⟨nd, hnd⟩ := w14.2.2 d hd
      exact H nd d hd hnd
    · rw [if_neg ek]
      exact w14.2.2 d hd
/-- new blocks weren't in use; others stay -/
theorem tkn_new : ∀ (n : Nat) (T : Tr) {l : List Nat} {T' : Tr}, tkn m n T = some (l, T') → ∀ b ∈ l, tU T b = false
  | 0, T, l, T', h => by
    obtain ⟨e1, _⟩ := Prod.mk.inj (Option.some.inj h)
    subst e1
    intro b hb; cases hb
  | n + 1, T, l, T', h => by
    rw [tkn] at h
    cases hf : fr (tU T) m 0 with
    | none => rw [hf] at h; cases h
    | some b =>
      rw [hf] at h
      simp only at h
      have hbu : tU T b = false := by
        rcases fr_spec (tU T) m 0 with h' | ⟨k', h', _, _, h4, _⟩
        · rw [h'.1] at hf; cases hf
        · rw [hf] at h'
          rw [Option.some.inj h']; exact h4
      cases hr : tkn m n (uU T b true) with
      | none => rw [hr] at h; cases h
      | some r =>
        obtain ⟨l2, T2⟩ := r
        rw [hr] at h
        obtain ⟨e1, e2⟩ := Prod.mk.inj (Option.some.inj h)
        subst e1; subst e2
        intro c hc
        rcases List.mem_cons.mp hc with hc | hc
        · rw [hc]; exact hbu
        · have := tkn_new n _ hr c hc
          have : fu (tU T) b true c = false := this
          by_cases e : c = b
          · rw [e]; exact hbu
          · rw [fu_n _ _ e] at this; exact this
theorem rfT_new {o n : Nat} {l : List Nat} (h : rfT m X T o n = some (l, T')) : (∀ b ∈ l, b ∈ oD X o ∨ tU T b = false) ∧ ∀ b, tU T b = true → b ∉ oD X o → tU T' b = true := by
  unfold rfT at h
  split at h
  · obtain ⟨e1, e2⟩ := Prod.mk.inj (Option.some.inj h)
    subst e1; subst e2
    obtain ⟨_, _, _, _, _, _, _, f8⟩ := fes_at ((oD X o).drop (dtO n)).reverse T
    refine ⟨fun b hb => .inl (List.mem_of_mem_take hb), fun b hb hn => ?_⟩
    rw [f8, hb, decide_eq_false (fun hh => hn (List.mem_of_mem_drop (List.mem_reverse.mp hh)))]; rfl
  · cases hr : tkn m (dtO n - (oD X o).length) T with
    | none => rw [hr] at h; cases h
    | some r =>
      obtain ⟨l2, T2⟩ := r
      rw [hr] at h
      obtain ⟨e1, e2⟩ := Prod.mk.inj (Option.some.inj h)
      subst e1; subst e2
      refine ⟨fun b hb => ?_, fun b hb _ => ?_⟩
      · rcases List.mem_append.mp hb with hb | hb
        · exact .inl hb
        · exact .inr (tkn_new _ _ hr b hb)
      · rw [(tkn_at _ _ hr).2.2.2.2, hb]; rfl
set_option maxHeartbeats 1000000 in
theorem WO.reform (w : WO m T X dt par) {v n : Nat} {l : List Nat} {F : Nat → Nat} (hv : oK X v = 2) (hn : n ≤ 2048) (hF : ∀ i, i < n → F i < 256) (hrf : rfT m X T v n = some (l, T1)) (B : BL T1 l) (W1 : Wf m sz T1) (S2 : StF T1 T2 (ky v 2 0) (2 * dtO n)) {sz2 : Nat → Nat} (W2 : Wf m sz2 T2) (S3 : StF T2 T3 (ky v 3 0) (tlO n)) (G : Gt m T3 (pyO (rfX X v l (tlL F n) n))) : WO m T3 (rfX X v l (tlL F n) n) (rfd dt l F n) par := by
  have aK : oK (rfX X v l (tlL F n) n) = oK X := fu_idv rfl
  have aL : oL (rfX X v l (tlL F n) n) = oL X := fu_idv rfl
  have aS : ∀ o, oS (rfX X v l (tlL F n) n) o = if o = v then n else oS X o := fun o => by
    show fu (oS X) v n o = _
    by_cases e : o = v
    · rw [if_pos e, e, fu_s]
    · rw [if_neg e, fu_n _ _ e]
  have aD : ∀ o, oD (rfX X v l (tlL F n) n) o = if o = v then l else oD X o := fun o => by
    show fu (oD X) v l o = _
    by_cases e : o = v
    · rw [if_pos e, e, fu_s]
    · rw [if_neg e, fu_n _ _ e]
  have aT : ∀ o, oT (rfX X v l (tlL F n) n) o = if o = v then tlL F n else oT X o := fun o => by
    show fu (oT X) v (tlL F n) o = _
    by_cases e : o = v
    · rw [if_pos e, e, fu_s]
    · rw [if_neg e, fu_n _ _ e]
  have aE : oE (rfX X v l (tlL F n) n) = oE X := rfl
  generalize rfX X v l (tlL F n) n = X2 at *
  obtain ⟨w1, w2, w3, w4, w5, w6, w7, w8, w9, w10, w11, w12, w13, w14⟩ := w
  obtain ⟨hll, hH1, hI1, _, hU1⟩ := rfT_at hrf
  obtain ⟨new1, keep1⟩ := rfT_new hrf
  have v60 := (w5 v).2.1 (by omega)
  have mem : ∀ k, k ∈ its T3 ↔ (k = ky v 3 0 ∧ tlO n ≠ 0) ∨ (k = ky v 2 0 ∧ dtO n ≠ 0) ∨ (k ≠ ky v 3 0 ∧ k ≠ ky v 2 0 ∧ k ∈ its T) := by
    intro k
    rw [S3.mem W2, S2.mem W1, hI1]
    have hne : ky v 2 0 ≠ ky v 3 0 := fun e => by have := (ky_inj (by omega) (by omega) (by omega) (by omega) e).2.1; omega
    constructor
    · rintro (h | ⟨h, h'⟩)
      · exact .inl h
      · rcases h' with ⟨e, h'⟩ | ⟨e, h'⟩
        · exact .inr (.inl ⟨e, by omega⟩)
        · exact .inr (.inr ⟨h, e, h'⟩)
    · rintro (h | ⟨e, h⟩ | ⟨e1, e2, h⟩)
      · exact .inl h
      · exact .inr ⟨by rw [e]; exact hne, .inl ⟨e, by omega⟩⟩
      · exact .inr ⟨e1, .inr ⟨e2, h⟩⟩
  have p2 := ky_parts (o := v) (k := 2) (n := 0) (by omega) (by omega)
  have p3 := ky_parts (o := v) (k := 3) (n := 0) (by omega) (by omega)
  have hent : ∀ k, k / 1024 % 4 = 1 ∨ k / 1024 % 4 = 0 → (k ∈ its T3 ↔ k ∈ its T) := by
    intro k hk
    rw [mem]
    constructor
    · rintro (⟨e, _⟩ | ⟨e, _⟩ | ⟨_, _, h⟩)
      · rw [e] at hk; omega
      · rw [e] at hk; omega
      · exact h
    · intro h
      exact .inr (.inr ⟨fun e => by rw [e] at hk; omega, fun e => by rw [e] at hk; omega, h⟩)
  have hi0 : ∀ o, (ky o 0 0 ∈ its T3 ↔ ky o 0 0 ∈ its T) := fun o => hent _ (.inr (ky_parts (o := o) (k := 0) (n := 0) (by omega) (by omega)).1)
  have en : ∀ o, (ents T3 o).length = (ents T o).length := by
    intro o
    have e2 := ents_set (o := o) S2
    have e3 := ents_set (o := o) S3
    have e1 : (ents T1 o).length = (ents T o).length := by unfold ents; rw [hI1]
    rw [if_neg (fun h => by omega), if_neg (fun h => by omega)] at e2 e3
    omega
  have tl : ∀ o, tlg T3 X2 o = tlg T X o := by
    intro o
    have e2 := tlg_set (X := X) (o := o) S2
    have e3 := tlg_set (X := X) (o := o) S3
    have e1 : tlg T1 X o = tlg T X o := by unfold tlg; rw [hI1]
    have e4 : tlg T3 X2 o = tlg T3 X o := tlg_cong (fun k _ _ => by rw [aE])
    rw [if_neg (fun h => by omega), if_neg (fun h => by omega)] at e2 e3
    omega
  have DD : DF T1 T3 := fun b h1 h2 => by
    obtain ⟨a1, a2⟩ := S2.1 b h1 h2
    exact S3.1 b a1 a2
  have PP := S2.2.1.trans S3.2.1
  have htl := tlL_len F n
  obtain ⟨_, _, dt3, _⟩ := dtO_tl (n := n)
  refine ⟨G, fun k hk' => ?_, fun k hk' h1 => ?_, fun k => ?_, fun o => ?_, ?_, fun o h => ?_, fun o h => ?_, fun o h => ?_, fun o => ?_, fun o h h1 => ?_, fun o o' b' h1 h2 => ?_, ⟨fun o u hu => ?_, fun y g1 g2 g3 i hi' => ?_⟩, w14.1, fun d hd h1 => ?_, fun d hd => ?_⟩
  · have hv0 : ky v 0 0 ∈ its T := (w5 v).1.mp (by omega)
    rcases (mem k).mp hk' with ⟨e, _⟩ | ⟨e, _⟩ | ⟨_, _, h⟩
    · rw [e, p3.2.1]
      exact ⟨(hi0 v).mpr hv0, by unfold ky; omega, fun _ => by omega, fun hh => by omega⟩
    · rw [e, p2.2.1]
      exact ⟨(hi0 v).mpr hv0, by unfold ky; omega, fun _ => by omega, fun hh => by omega⟩
    · obtain ⟨a1, a2, a3, a4⟩ := w2 k h
      exact ⟨(hi0 _).mpr a1, a2, a3, a4⟩
  · rw [aK, aE]; exact w3 k ((hent k (.inl h1)).mp hk') h1
  · rw [aE]; exact w4 k
  · rw [aK, hi0]; exact w5 o
  · rw [aK]; exact w6
  · rw [aK] at h
    have e : ¬ o = v := fun e => by rw [e, hv] at h; cases h
    rw [aD, aT, aS, aL, if_neg e, if_neg e, if_neg e]
    exact w7 o h
  · rw [aK] at h
    have e : ¬ o = v := fun e => by rw [e, hv] at h; cases h
    rw [aD, aT, aS, aL, if_neg e, if_neg e, if_neg e, en]
    exact w8 o h
  · rw [aK] at h
    rw [aD, aT, aS]
    by_cases e : o = v
    · rw [if_pos e, if_pos e, if_pos e]; exact ⟨hn, hll, htl⟩
    · rw [if_neg e, if_neg e, if_neg e]; exact w9 o h
  · rw [aD, aT]
    by_cases e : o = v
    · rw [if_pos e, if_pos e, e]
      refine ⟨?_, ?_, B.df DD⟩
      · rw [mem]
        constructor
        · rintro (⟨h, _⟩ | ⟨_, h⟩ | ⟨_, h, _⟩)
          · have := (ky_inj (by omega) (by omega) (by omega) (by omega) h).2.1; omega
          · intro hh; rw [hh] at hll; exact h hll.symm
          · exact absurd rfl h
        · intro h
          refine .inr (.inl ⟨rfl, fun h0 => h ?_⟩)
          exact List.eq_nil_of_length_eq_zero (by omega)
      · rw [mem]
        constructor
        · rintro (⟨_, h⟩ | ⟨h, _⟩ | ⟨h, _, _⟩)
          · intro hh; rw [hh] at htl; exact h htl.symm
          · have := (ky_inj (by omega) (by omega) (by omega) (by omega) h).2.1; omega
          · exact absurd rfl h
        · intro h
          refine .inl ⟨rfl, fun h0 => h ?_⟩
          exact List.eq_nil_of_length_eq_zero (by omega)
    · rw [if_neg e, if_neg e]
      obtain ⟨a1, a2, a3⟩ := w10 o
      have hq : ∀ k', k' < 4 → (ky o k' 0 ∈ its T3 ↔ ky o k' 0 ∈ its T) := by
        intro k' hk'
        rw [mem]
        constructor
        · rintro (⟨h, _⟩ | ⟨h, _⟩ | ⟨_, _, h⟩)
          · exact absurd (ky_inj hk' (by omega) (by omega) (by omega) h).1 e
          · exact absurd (ky_inj hk' (by omega) (by omega) (by omega) h).1 e
          · exact h
        · intro h
          exact .inr (.inr ⟨fun h => e (ky_inj hk' (by omega) (by omega) (by omega) h).1, fun h => e (ky_inj hk' (by omega) (by omega) (by omega) h).1, h⟩)
      refine ⟨by rw [hq 2 (by omega)]; exact a1, by rw [hq 3 (by omega)]; exact a2, a3.1, fun b hb => ?_⟩
      obtain ⟨b1, b2, b3, b4⟩ := a3.2 b hb
      have c1 := keep1 b b3 (fun hb' => e (w12 o v b hb hb'))
      obtain ⟨d1, d2⟩ := DD b c1 (by rw [hH1]; exact b4)
      exact ⟨b1, b2, d1, d2⟩
  · rw [aK] at h
    rw [aL, tl]
    exact w11 o h h1
  · rw [aD] at h1 h2
    have key : ∀ o, ¬ o = v → ∀ b, b ∈ l → b ∈ oD X o → False := by
      intro o e b hb1 hb2
      rcases new1 b hb1 with h | h
      · exact e (w12 o v b hb2 h)
      · have := ((w10 o).2.2.2 b hb2).2.2.1
        rw [h] at this; cases this
    by_cases e : o = v
    · by_cases e' : o' = v
      · rw [e, e']
      · rw [if_pos e] at h1
        rw [if_neg e'] at h2
        exact (key o' e' b' h1 h2).elim
    · rw [if_neg e] at h1
      by_cases e' : o' = v
      · rw [if_pos e'] at h2
        exact (key o e b' h2 h1).elim
      · rw [if_neg e'] at h2
        exact w12 o o' b' h1 h2
  · rw [aT] at hu
    by_cases e : o = v
    · rw [if_pos e] at hu
      unfold tlL at hu
      obtain ⟨i, hi, rfl⟩ := List.mem_map.mp hu
      rw [List.mem_range] at hi
      have := dt3 (by omega)
      exact hF _ (by omega)
    · rw [if_neg e] at hu; exact w13.1 o u hu
  · obtain ⟨a1, a2⟩ := PP y g1 g2
    unfold rfd
    by_cases hb : y ∈ l
    · rw [if_pos hb]
      unfold drf
      rw [if_neg (by omega)]
      split
      · rename_i h; exact hF _ h
      · omega
    · rw [if_neg hb]
      exact w13.2 y ((hU1 y a1).resolve_left hb) (by rw [hH1] at a2; exact a2) g3 i hi'
  · rw [aK] at hd
    obtain ⟨k, k1, k2, k3, k4⟩ := w14.2.1 d hd h1
    exact ⟨k, (hent k (.inl k2)).mpr k1, k2, by rw [aE]; exact k3, k4⟩
  · rw [aK] at hd; exact w14.2.2 d hd
/-- bytes of a file are small -/
theorem WO.fc (w : WO m T X dt par) {o i : Nat} (ho : oK X o = 2) (hi : i < oS X o) : fc X dt o i < 256 := by
  obtain ⟨w1, w2, w3, w4, w5, w6, w7, w8, w9, w10, w11, w12, w13, w14⟩ := w
  obtain ⟨a1, a2, a3⟩ := w9 o ho
  unfold Jvm.Pilot.CPackedTreeLaw_law_r3483_743ce2.fc
  split
  · rename_i h
    have hlt : i / 128 < (oD X o).length := by omega
    have hm := getD_mem hlt
    obtain ⟨b1, b2, b3, b4⟩ := (w10 o).2.2.2 _ hm
    exact w13.2 _ b3 b4 (by omega) _ (by omega)
  · rename_i h
    by_cases hh : i - 128 * (oD X o).length < (oT X o).length
    · exact w13.1 o _ (getD_mem hh)
    · rw [List.getD_eq_getElem?_getD, List.getElem?_eq_none (by omega)]
      show 0 < 256
      omega
end Wmv
