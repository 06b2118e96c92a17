/-! ===== ROWS OF BYTES TELL WHAT THEY WERE LAID FROM ===== -/
theorem fm_inj {py py' : Nat → List Nat} : ∀ {ks : List Nat}, (∀ k ∈ ks, (py k).length = (py' k).length) → ks.flatMap py = ks.flatMap py' → ∀ k ∈ ks, py k = py' k
  | [], _, _, k, hk => by cases hk
  | x :: l, hl, h, k, hk => by
    rw [List.flatMap_cons, List.flatMap_cons] at h
    obtain ⟨h1, h2⟩ := List.append_inj h (hl x (List.mem_cons_self ..))
    rcases List.mem_cons.mp hk with e | e
    · rw [e]; exact h1
    · exact fm_inj (fun y hy => hl y (List.mem_cons_of_mem _ hy)) h2 k e
theorem uz_fl {py : Nat → List Nat} : ∀ (ks : List Nat), uz (fun k => (py k).length) ks = 8 * ks.length + (ks.flatMap py).length := fun ks => by
  rw [← us_uz]; rfl
theorem getD_mem {l : List Nat} {i : Nat} (h : i < l.length) : l.getD i 0 ∈ l := by
  rw [List.getD_eq_getElem?_getD, List.getElem?_eq_getElem h]; exact List.getElem_mem h
theorem fm_cong {py py' : Nat → List Nat} : ∀ {ks : List Nat}, (∀ k ∈ ks, py k = py' k) → ks.flatMap py = ks.flatMap py'
  | [], _ => rfl
  | x :: l, h => by rw [List.flatMap_cons, List.flatMap_cons, h x (List.mem_cons_self ..), fm_cong (fun k hk => h k (List.mem_cons_of_mem _ hk))]
theorem ext_getD {l l' : List Nat} (h : l.length = l'.length) (h2 : ∀ i, i < l.length → l.getD i 0 = l'.getD i 0) : l = l' := by
  apply List.ext_getElem?
  intro i
  by_cases hi : i < l.length
  · have := h2 i hi
    rw [List.getD_eq_getElem?_getD, List.getD_eq_getElem?_getD, List.getElem?_eq_getElem hi, List.getElem?_eq_getElem (show i < l'.length by omega)] at this
    rw [List.getElem?_eq_getElem hi, List.getElem?_eq_getElem (show i < l'.length by omega)]
    exact congrArg some this
  · rw [List.getElem?_eq_none (by omega), List.getElem?_eq_none (by omega)]
set_option maxHeartbeats 1000000 in
theorem lrw_iff {ks ks' : List Nat} {py py' : Nat → List Nat} (h1 : uz (fun k => (py k).length) ks ≤ 120) (h2 : uz (fun k => (py' k).length) ks' ≤ 120) (k1 : ∀ k ∈ ks, k < 16777216) (k2 : ∀ k ∈ ks', k < 16777216) (b1 : ∀ k ∈ ks, ∀ v ∈ py k, v < 256) (b2 : ∀ k ∈ ks', ∀ v ∈ py' k, v < 256) :
    (∀ i, i < 129 → lrw ks py i % 256 = lrw ks' py' i % 256) ↔ ks = ks' ∧ ∀ k ∈ ks, py k = py' k := by
  rw [uz_fl] at h1 h2
  constructor
  · intro h
    have hlen : ks.length = ks'.length := by
      have := h 1 (by omega)
      unfold lrw at this
      rw [if_neg (by omega), if_neg (by omega), if_pos rfl, if_neg (by omega), if_neg (by omega), if_pos rfl] at this
      omega
    have at_ : ∀ (q : List Nat) (p : Nat → List Nat) (jj r : Nat), jj < q.length → q.length ≤ 15 → r < 4 → lrw q p (2 + 4 * jj + r) = (if r = 0 then q.getD jj 0 / 65536 % 256 else if r = 1 then q.getD jj 0 / 256 % 256 else if r = 2 then q.getD jj 0 % 256 else (p (q.getD jj 0)).length) := by
      intro q p jj r a1 a2 a3
      unfold lrw
      rw [if_neg (by omega), if_neg (by omega), if_neg (by omega), if_pos (by omega), show (2 + 4 * jj + r - 2) / 4 = jj by omega, show (2 + 4 * jj + r - 2) % 4 = r by omega]
    have hkeys : ks = ks' := by
      refine ext_getD hlen (fun jj hj => ?_)
      have c1 := k1 _ (getD_mem hj)
      have c2 := k2 _ (getD_mem (show jj < ks'.length by omega))
      have e0 := h (2 + 4 * jj + 0) (by omega)
      have e1 := h (2 + 4 * jj + 1) (by omega)
      have e2 := h (2 + 4 * jj + 2) (by omega)
      rw [at_ _ _ _ _ hj (by omega) (by omega), at_ _ _ _ _ (by omega) (by omega) (by omega), if_pos rfl, if_pos rfl] at e0
      rw [at_ _ _ _ _ hj (by omega) (by omega), at_ _ _ _ _ (by omega) (by omega) (by omega), if_neg (by omega), if_pos rfl, if_neg (by omega), if_pos rfl] at e1
      rw [at_ _ _ _ _ hj (by omega) (by omega), at_ _ _ _ _ (by omega) (by omega) (by omega), if_neg (by omega), if_neg (by omega), if_pos rfl, if_neg (by omega), if_neg (by omega), if_pos rfl] at e2
      omega
    subst hkeys
    have hsz : ∀ k ∈ ks, (py k).length = (py' k).length := by
      intro k hk
      obtain ⟨jj, hj, rfl⟩ := List.getElem_of_mem hk
      have e3 := h (2 + 4 * jj + 3) (by omega)
      rw [at_ _ _ _ _ hj (by omega) (by omega), at_ _ _ _ _ hj (by omega) (by omega), if_neg (by omega), if_neg (by omega), if_neg (by omega), if_neg (by omega), if_neg (by omega), if_neg (by omega)] at e3
      have hg : ks.getD jj 0 = ks[jj] := by rw [List.getD_eq_getElem?_getD, List.getElem?_eq_getElem hj]; rfl
      rw [hg] at e3
      have m1 : (py ks[jj]).length ≤ (ks.flatMap py).length := by
        have : ∀ (l : List Nat), ks[jj] ∈ l → (py ks[jj]).length ≤ (l.flatMap py).length := by
          intro l
          induction l with
          | nil => intro h; cases h
          | cons a l ih =>
            intro h
            rw [List.flatMap_cons, List.length_append]
            rcases List.mem_cons.mp h with e | e
            · rw [← e]; omega
            · have := ih e; omega
        exact this ks hk
      have m2 : (py' ks[jj]).length ≤ (ks.flatMap py').length := by
        have : ∀ (l : List Nat), ks[jj] ∈ l → (py' ks[jj]).length ≤ (l.flatMap py').length := by
          intro l
          induction l with
          | nil => intro h; cases h
          | cons a l ih =>
            intro h
            rw [List.flatMap_cons, List.length_append]
            rcases List.mem_cons.mp h with e | e
            · rw [← e]; omega
            · have := ih e; omega
        exact this ks hk
      omega
    have hfl : (ks.flatMap py).length = (ks.flatMap py').length := by
      have : ∀ (l : List Nat), (∀ k ∈ l, (py k).length = (py' k).length) → (l.flatMap py).length = (l.flatMap py').length := by
        intro l
        induction l with
        | nil => intro _; rfl
        | cons a l ih =>
          intro h
          rw [List.flatMap_cons, List.flatMap_cons, List.length_append, List.length_append, h a (List.mem_cons_self ..), ih (fun k hk => h k (List.mem_cons_of_mem _ hk))]
      exact this ks hsz
    refine ⟨rfl, fm_inj hsz (ext_getD hfl (fun i hi => ?_))⟩
    have e := h (2 + 4 * ks.length + i) (by omega)
    unfold lrw at e
    rw [if_neg (by omega), if_neg (by omega), if_neg (by omega), if_neg (by omega), if_neg (by omega), if_neg (by omega), if_neg (by omega), if_neg (by omega), Nat.add_sub_cancel_left] at e
    have l1 : (ks.flatMap py).getD i 0 < 256 := by
      obtain ⟨k, hk, hv⟩ := List.mem_flatMap.mp (getD_mem hi)
      exact b1 k hk _ hv
    have l2 : (ks.flatMap py').getD i 0 < 256 := by
      obtain ⟨k, hk, hv⟩ := List.mem_flatMap.mp (getD_mem (show i < (ks.flatMap py').length by omega))
      exact b2 k hk _ hv
    omega
  · rintro ⟨rfl, h⟩ i hi
    unfold lrw
    rw [fm_cong h]
    by_cases c : i < 2 + 4 * ks.length
    · by_cases c1 : i ≤ 1
      · by_cases c0 : i = 0
        · rw [if_neg (by omega), if_pos c0, if_neg (by omega), if_pos c0]
        · rw [if_neg (by omega), if_neg c0, if_pos (by omega), if_neg (by omega), if_neg c0, if_pos (by omega)]
      · rw [h _ (getD_mem (show (i - 2) / 4 < ks.length by omega))]
    · rw [if_neg c, if_neg c]
set_option maxHeartbeats 1000000 in
theorem irw_iff {h h' : Nat} {cs cs' : List Nat} {fk fk' : Nat → Nat} (h1 : h < 200) (h2 : h' < 200) (c1 : cs.length ≤ 6) (c2 : cs'.length ≤ 6) (y1 : ∀ y ∈ cs, y < 256 ∧ fk y < 16777216) (y2 : ∀ y ∈ cs', y < 256 ∧ fk' y < 16777216) :
    (∀ i, i < 129 → irw h cs fk i % 256 = irw h' cs' fk' i % 256) ↔ h = h' ∧ cs = cs' ∧ ∀ y ∈ cs, fk y = fk' y := by
  constructor
  · intro hh
    have hlen : cs.length = cs'.length := by
      have := hh 1 (by omega)
      unfold irw at this
      rw [if_neg (by omega), if_neg (by omega), if_pos rfl, if_neg (by omega), if_neg (by omega), if_pos rfl] at this
      omega
    have hhh : h = h' := by
      have := hh 0 (by omega)
      unfold irw at this
      rw [if_neg (by omega), if_pos rfl, if_neg (by omega), if_pos rfl] at this
      omega
    have at_ : ∀ (h : Nat) (q : List Nat) (p : Nat → Nat) (jj r : Nat), jj < q.length → q.length ≤ 6 → r < 4 → irw h q p (2 + 4 * jj + r) = (if r = 0 then q.getD jj 0 else if r = 1 then p (q.getD jj 0) / 65536 % 256 else if r = 2 then p (q.getD jj 0) / 256 % 256 else p (q.getD jj 0) % 256) := by
      intro h q p jj r a1 a2 a3
      unfold irw
      rw [if_neg (by omega), if_neg (by omega), if_neg (by omega), if_pos (by omega), show (2 + 4 * jj + r - 2) / 4 = jj by omega, show (2 + 4 * jj + r - 2) % 4 = r by omega]
    have hcs : cs = cs' := by
      refine ext_getD hlen (fun jj hj => ?_)
      have e0 := hh (2 + 4 * jj + 0) (by omega)
      rw [at_ _ _ _ _ _ hj (by omega) (by omega), at_ _ _ _ _ _ (by omega) (by omega) (by omega), if_pos rfl, if_pos rfl] at e0
      have l1 := (y1 _ (getD_mem hj)).1
      have l2 := (y2 _ (getD_mem (show jj < cs'.length by omega))).1
      omega
    subst hcs
    refine ⟨hhh, rfl, fun y hy => ?_⟩
    have l1 := (y1 y hy).2
    have l2 := (y2 y hy).2
    obtain ⟨jj, hj, rfl⟩ := List.getElem_of_mem hy
    have hg : cs.getD jj 0 = cs[jj] := by rw [List.getD_eq_getElem?_getD, List.getElem?_eq_getElem hj]; rfl
    have e1 := hh (2 + 4 * jj + 1) (by omega)
    have e2 := hh (2 + 4 * jj + 2) (by omega)
    have e3 := hh (2 + 4 * jj + 3) (by omega)
    rw [at_ _ _ _ _ _ hj (by omega) (by omega), at_ _ _ _ _ _ (by omega) (by omega) (by omega), if_neg (by omega), if_pos rfl, if_neg (by omega), if_pos rfl, hg] at e1
    rw [at_ _ _ _ _ _ hj (by omega) (by omega), at_ _ _ _ _ _ (by omega) (by omega) (by omega), if_neg (by omega), if_neg (by omega), if_pos rfl, if_neg (by omega), if_neg (by omega), if_pos rfl, hg] at e2
    rw [at_ _ _ _ _ _ hj (by omega) (by omega), at_ _ _ _ _ _ (by omega) (by omega) (by omega), if_neg (by omega), if_neg (by omega), if_neg (by omega), if_neg (by omega), if_neg (by omega), if_neg (by omega), hg] at e3
    omega
  · rintro ⟨rfl, rfl, hf⟩ i hi
    unfold irw
    by_cases c : i < 2 + 4 * cs.length
    · by_cases c1 : i ≤ 1
      · by_cases c0 : i = 0
        · rw [if_neg (by omega), if_pos c0, if_neg (by omega), if_pos c0]
        · rw [if_neg (by omega), if_neg c0, if_pos (by omega), if_neg (by omega), if_neg c0, if_pos (by omega)]
      · rw [hf _ (getD_mem (show (i - 2) / 4 < cs.length by omega))]
    · rw [if_neg c, if_neg c]
/-- a block is alike in two worlds -/
def alB (T : Tr) (X : Ob) (dt : Nat → Nat → Nat) (Tc : Tr) (Xc : Ob) (dtc : Nat → Nat → Nat) (b : Nat) : Prop :=
  if b = 0 then tR T = tR Tc ∧ ∀ y, y < 96 → tU T y = tU Tc y else tH T b = tH Tc b ∧ (if tH T b = 0 then ∀ i, i < 128 → dt b i = dtc b i else if tH T b = 1 then tI T b = tI Tc b ∧ ∀ k ∈ tI T b, pyO X k = pyO Xc k else tC T b = tC Tc b ∧ ∀ y ∈ tC T b, fkey T (tH T b - 2) y = fkey Tc (tH T b - 2) y)
section Rwi
variable {s c : Int → Int} {T Tc : Tr} {X Xc : Ob} {dt dtc la : Nat → Nat → Nat} {m : Nat}
theorem MW.by (A : MW s m T X dt) {k : Nat} (hk : k ∈ its T) : ∀ v ∈ pyO X k, v < 256 := by
  obtain ⟨p0, p2, p3, p1⟩ := pyO_k A.2.2.2.1 hk
  have ho := ko_le A.2.2.2.1 hk
  have ka := (A.2.2.2.1 k hk).1
  obtain ⟨o1, o2, o3, o4⟩ := A.2.2.1.1.1 (k / 4096) ho ka
  obtain ⟨_, _, hB, _, _⟩ := A.2.2.1.any ho ka
  have h4 : k / 1024 % 4 = 0 ∨ k / 1024 % 4 = 1 ∨ k / 1024 % 4 = 2 ∨ k / 1024 % 4 = 3 := by omega
  rcases h4 with h | h | h | h
  · rw [p0 h, pyO_0]
    intro v hv
    unfold stB at hv
    simp only [List.mem_cons, List.not_mem_nil, or_false] at hv
    omega
  · have hE := A.2.2.1.1.2 k hk
    rw [p1 h, pyO_1 _ _ (by omega), ← p1 h]
    intro v hv
    simp only [List.mem_cons, List.not_mem_nil, or_false] at hv
    omega
  · rw [p2 h, pyO_2]
    intro v hv
    obtain ⟨y, hy, hv⟩ := List.mem_flatMap.mp hv
    have := (hB.2 y hy).2.1
    simp only [List.mem_cons, List.not_mem_nil, or_false] at hv
    omega
  · rw [p3 h, pyO_3]
    exact A.2.2.2.2.1 _
theorem fkey_lt (A : MW s m T X dt) : ∀ h x, x ∈ tW T h → h < tN T → fkey T h x < 16777216 := by
  intro h x hx hN
  have hl := fdn_in A.2.1.1 h x hx hN
  rw [fdn_key]
  have hne := A.2.1.2.1 _ hl
  cases hI : tI T (fdn T h x) with
  | nil => exact absurd hI hne
  | cons a l =>
    have : a ∈ its T := List.mem_flatMap.mpr ⟨_, hl, by rw [hI]; exact List.mem_cons_self ..⟩
    have := (A.2.2.2.1 a this).2.1
    show a < _
    omega
set_option maxHeartbeats 1000000 in
theorem img_iff (hm : m ≤ 96) (A : MW s m T X dt) (C : MW c m Tc Xc dtc) {b : Nat} (h1 : tU T b = true) (h2 : tU Tc b = true) : eqn (img m T (pyO X) dt b) (img m Tc (pyO Xc) dtc b) 129 = true ↔ alB T X dt Tc Xc dtc b := by
  rw [eqn_iff]
  have W := A.2.1.1
  have Wc := C.2.1.1
  have um := W.2.2.2.2.2
  have umc := Wc.2.2.2.2.2
  unfold alB
  by_cases b0 : b = 0
  · rw [if_pos b0]
    unfold img
    rw [if_pos b0, if_pos b0]
    have hr : tR T < 96 := (W.1.1 _ _ (by rw [W.1.2.2.2.2.2.2.2.1.1]; exact List.mem_cons_self ..)).1
    have hrc : tR Tc < 96 := (Wc.1.1 _ _ (by rw [Wc.1.2.2.2.2.2.2.2.1.1]; exact List.mem_cons_self ..)).1
    constructor
    · intro h
      refine ⟨?_, fun y hy => ?_⟩
      · have := h 0 (by omega)
        unfold frw at this
        rw [if_neg (by omega), if_pos rfl, if_neg (by omega), if_pos rfl] at this
        omega
      · by_cases hym : y < m
        · have := h (y + 1) (by omega)
          have ef : ∀ u rt, frw m u rt (y + 1) = if u y = true then 1 else 0 := by
            intro u rt
            unfold frw
            rw [if_neg (by omega), if_neg (by omega), if_pos (by omega), Nat.add_sub_cancel]
          rw [ef, ef] at this
          cases hu : tU T y <;> cases hu' : tU Tc y <;> rw [hu, hu'] at this <;> simp at this ⊢
        · have e1 : tU T y = false := by cases hu : tU T y with | false => rfl | true => have := um y hu; omega
          have e2 : tU Tc y = false := by cases hu : tU Tc y with | false => rfl | true => have := umc y hu; omega
          rw [e1, e2]
    · rintro ⟨e1, e2⟩ i hi
      unfold frw
      by_cases c : i = 128
      · rw [if_pos c, if_pos c]
      · by_cases c0 : i = 0
        · rw [if_neg c, if_neg c, if_pos c0, if_pos c0, e1]
        · by_cases cm : i ≤ m
          · have := W.2.2.2.2.2
            rw [if_neg c, if_neg c, if_neg c0, if_neg c0, if_pos cm, if_pos cm]
            rw [e2 _ (by omega)]
          · rw [if_neg c, if_neg c, if_neg c0, if_neg c0, if_neg cm, if_neg cm]
  · rw [if_neg b0]
    unfold img
    rw [if_neg b0, if_neg b0]
    have hb96 : b < 96 := by have := um b h1; omega
    have k128 : ∀ (T : Tr) (X : Ob) (dt : Nat → Nat → Nat), (if 1 ≤ tH T b then rowN T (pyO X) b else drw dt b) 128 = if tH T b = 0 then 0 else if tH T b = 1 then 1 else 2 := by
      intro T X dt
      by_cases c0 : tH T b = 0
      · rw [if_neg (by omega), if_pos c0]; unfold drw; rw [if_pos rfl]
      · rw [if_pos (by omega), if_neg c0]
        unfold rowN
        by_cases c1 : tH T b = 1
        · rw [if_pos c1, if_pos c1]; unfold lrw; rw [if_pos rfl]
        · rw [if_neg c1, if_neg c1]; unfold irw; rw [if_pos rfl]
    by_cases ne : (if tH T b = 0 then 0 else if tH T b = 1 then 1 else 2) = (if tH Tc b = 0 then 0 else if tH Tc b = 1 then 1 else 2)
    rotate_left
    · constructor
      · intro h
        have := h 128 (by omega)
        rw [k128, k128] at this
        exfalso
        apply ne
        split at this <;> split at this <;> (try split at this) <;> (try split at this) <;> simp_all
      · rintro ⟨h, _⟩
        rw [h] at ne
        exact absurd rfl ne
    clear k128
    by_cases c0 : tH T b = 0
    · have c0' : tH Tc b = 0 := by
        rw [if_pos c0] at ne
        by_cases c : tH Tc b = 0
        · exact c
        · rw [if_neg c] at ne; split at ne <;> cases ne
      rw [if_neg (by omega), if_neg (by omega), if_pos c0]
      have l1 := A.2.2.2.2.2 b h1 c0 b0
      have l2 := C.2.2.2.2.2 b h2 c0' b0
      unfold drw
      constructor
      · intro h
        refine ⟨by rw [c0, c0'], fun i hi => ?_⟩
        have := h i (by omega)
        rw [if_neg (by omega), if_neg (by omega)] at this
        have := l1 i hi
        have := l2 i hi
        omega
      · rintro ⟨_, h⟩ i hi
        by_cases c : i = 128
        · rw [if_pos c, if_pos c]
        · rw [if_neg c, if_neg c, h i (by omega)]
    rw [if_neg c0] at ne
    by_cases c1 : tH T b = 1
    · have c1' : tH Tc b = 1 := by
        rw [if_pos c1] at ne
        by_cases c : tH Tc b = 0
        · rw [if_pos c] at ne; cases ne
        · rw [if_neg c] at ne
          by_cases c' : tH Tc b = 1
          · exact c'
          · rw [if_neg c'] at ne; cases ne
      rw [if_pos (by omega), if_pos (by omega), if_neg c0, if_pos c1]
      have m1 := W.1.2.2.1 0 b c1
      have m2 := Wc.1.2.2.1 0 b c1'
      unfold rowN
      simp only [if_pos c1, if_pos c1']
      have i1 : ∀ k ∈ tI T b, k ∈ its T := fun k hk => List.mem_flatMap.mpr ⟨b, m1, hk⟩
      have i2 : ∀ k ∈ tI Tc b, k ∈ its Tc := fun k hk => List.mem_flatMap.mpr ⟨b, m2, hk⟩
      rw [lrw_iff (W.2.2.1 b m1 (by simp)).1 (Wc.2.2.1 b m2 (by simp)).1 (fun k hk => by have := (A.2.2.2.1 k (i1 k hk)).2.1; omega) (fun k hk => by have := (C.2.2.2.1 k (i2 k hk)).2.1; omega) (fun k hk => A.by (i1 k hk)) (fun k hk => C.by (i2 k hk))]
      exact ⟨fun h => ⟨by rw [c1, c1'], h⟩, fun h => h.2⟩
    · have c1' : tH Tc b ≠ 0 ∧ tH Tc b ≠ 1 := by
        rw [if_neg c1] at ne
        refine ⟨fun c => ?_, fun c => ?_⟩
        · rw [if_pos c] at ne; cases ne
        · rw [if_neg (by omega), if_pos c] at ne; cases ne
      rw [if_pos (by omega), if_pos (by omega), if_neg c0, if_neg c1]
      unfold rowN
      simp only [if_neg c1, if_neg c1'.2]
      obtain ⟨h, hh⟩ : ∃ h, tH T b = h + 2 := ⟨tH T b - 2, by omega⟩
      obtain ⟨h', hh'⟩ : ∃ h', tH Tc b = h' + 2 := ⟨tH Tc b - 2, by omega⟩
      have m1 := W.1.2.2.1 (h + 1) b hh
      have m2 := Wc.1.2.2.1 (h' + 1) b hh'
      have n1 : h + 1 < tN T := by
        apply Classical.byContradiction
        intro hn
        have := W.1.2.2.2.2.2.2.2.1.2.2.2 (h + 1) (by omega)
        rw [this] at m1; cases m1
      have n2 : h' + 1 < tN Tc := by
        apply Classical.byContradiction
        intro hn
        have := Wc.1.2.2.2.2.2.2.2.1.2.2.2 (h' + 1) (by omega)
        rw [this] at m2; cases m2
      have t7 := W.1.tN7 W.2.1
      have t7c := Wc.1.tN7 Wc.2.1
      obtain ⟨_, e2, e3⟩ := A.1.1.2.2.2.2.1 b hb96
      obtain ⟨_, e2c, e3c⟩ := C.1.1.2.2.2.2.1 b hb96
      have y1 : ∀ y ∈ tC T b, y < 256 ∧ fkey T h y < 16777216 := fun y hy => ⟨by have := e3 y hy; omega, fkey_lt A h y (by rw [← W.1.2.2.2.2.2.2.1 h n1]; exact List.mem_flatMap.mpr ⟨b, m1, hy⟩) (by omega)⟩
      have y2 : ∀ y ∈ tC Tc b, y < 256 ∧ fkey Tc h' y < 16777216 := fun y hy => ⟨by have := e3c y hy; omega, fkey_lt C h' y (by rw [← Wc.1.2.2.2.2.2.2.1 h' n2]; exact List.mem_flatMap.mpr ⟨b, m2, hy⟩) (by omega)⟩
      rw [hh, hh', Nat.add_sub_cancel, Nat.add_sub_cancel, irw_iff (by omega) (by omega) e2 e2c y1 y2]
      constructor
      · rintro ⟨r1, r2, r3⟩
        subst r1
        exact ⟨rfl, r2, r3⟩
      · rintro ⟨r1, r2, r3⟩
        have : h = h' := by omega
        subst this
        exact ⟨rfl, r2, r3⟩
/-- what is changed -/
theorem chq_iff (hm : m ≤ 96) (A : MW s m T X dt) (C : MW c m Tc Xc dtc) (K : CMt m Tc Xc dtc la) (b : Nat) : chq m T X dt Tc la b = true ↔ tU T b = true ∧ (tU Tc b = true → ¬ alB T X dt Tc Xc dtc b) := by
  unfold chq chb
  rw [Bool.and_eq_true]
  refine and_congr_right (fun h1 => ?_)
  cases h2 : tU Tc b with
  | false => simp
  | true =>
    have e : eqn (img m T (pyO X) dt b) (la b) 129 = eqn (img m T (pyO X) dt b) (img m Tc (pyO Xc) dtc b) 129 := by
      congr 1
      funext i
      exact K.2 b h2 i
    rw [Bool.true_and, e, ← img_iff hm A C h1 h2]
    simp
end Rwi
