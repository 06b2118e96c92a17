/-! ===== THE MODEL'S ROW AND THE TREE ===== -/
/-- an item, by its key: sz: its bytes, tl: what it tells -/
def rk (sz tl : Nat → Nat) (k : Nat) : R5 := ((k / 4096 : Nat), (k / 1024 % 4 : Nat), (k % 1024 : Nat), (sz k : Nat), (tl k : Nat))
/-- the model's row s has the tree T -/
def MT (s : Int → Int) (T : Tr) (sz tl : Nat → Nat) : Prop :=
  (∀ b : Nat, b < 96 → s b = bI (tU T b)) ∧
  (∀ b : Nat, b < 96 → s (3756 + b) = tH T b) ∧
  (∀ b : Nat, b < 96 → s (3852 + b) = ((tI T b).length + (tC T b).length : Nat)) ∧
  (∀ b : Nat, b < 96 → 1 ≤ tH T b → s (3948 + b) = oI (tP T b)) ∧
  (∀ b : Nat, b < 96 → La s (4044 + 6 * b) (tC T b) ∧ (tC T b).length ≤ 6 ∧ ∀ x ∈ tC T b, x < 96) ∧
  (∀ b : Nat, b < 96 → It s b ((tI T b).map (rk sz tl)) ∧ (tI T b).length ≤ 16 ∧ ∀ k ∈ tI T b, k < 249856) ∧
  (∀ h : Nat, h < 8 → s (13068 + h) = (tW T h).length ∧ La s (12300 + 96 * h) (tW T h) ∧ (tW T h).length ≤ 96 ∧ ∀ x ∈ tW T h, x < 96) ∧
  s 13076 = tR T ∧ s 13077 = tN T
theorem it5_eq {s s' : Int → Int} (h : ∀ x, 4620 ≤ x → x < 12300 → s' x = s x) {a : Int} (a0 : 0 ≤ a) (a1 : a < 1536) : it5 s' a = it5 s a := by
  unfold it5
  rw [h _ (by omega) (by omega), h _ (by omega) (by omega), h _ (by omega) (by omega), h _ (by omega) (by omega), h _ (by omega) (by omega)]
theorem It.eq {s s' : Int → Int} {b : Nat} {l : List R5} (h : It s b l) (hb : b < 96) (hl : l.length ≤ 16) (he : ∀ a, 0 ≤ a → a < 1536 → 16 * (b : Int) ≤ a → a < 16 * (b : Int) + 16 → it5 s' a = it5 s a) : It s' b l := by
  intro i r hr
  have hi := (List.getElem?_eq_some_iff.mp hr).1
  rw [he _ (by omega) (by omega) (by omega) (by omega)]
  exact h i r hr
section MTs
variable {s s' : Int → Int} {T : Tr} {sz tl : Nat → Nat}
/-- a block's use, height and count change -/
theorem MT.blk (m : MT s T sz tl) {b : Nat} (hb : b < 96) (u : Bool) (h1 : s' b = bI u) (h2 : s' (3756 + (b : Int)) = 0) (h3 : s' (3852 + (b : Int)) = 0) (ho : ∀ x : Int, x ≠ b → x ≠ 3756 + (b : Int) → x ≠ 3852 + (b : Int) → s' x = s x) : MT s' (uC (uI (uH (uU T b u) b 0) b []) b []) sz tl := by
  obtain ⟨m1, m2, m3, m4, m5, m6, m7, m8, m9⟩ := m
  simp only [MT, tu, th, ti, tc]
  refine ⟨fun x hx => ?_, fun x hx => ?_, fun x hx => ?_, fun x hx hh => ?_, fun x hx => ?_, fun x hx => ?_, fun h hh => ?_, ?_, ?_⟩
  · by_cases e : x = b
    · subst e; rw [fu_s]; exact h1
    · rw [fu_n _ _ e, ho _ (by omega) (by omega) (by omega)]; exact m1 x hx
  · by_cases e : x = b
    · subst e; rw [fu_s]; exact h2
    · rw [fu_n _ _ e, ho _ (by omega) (by omega) (by omega)]; exact m2 x hx
  · by_cases e : x = b
    · subst e; rw [fu_s, fu_s]; exact h3
    · rw [fu_n _ _ e, fu_n _ _ e, ho _ (by omega) (by omega) (by omega)]; exact m3 x hx
  · by_cases e : x = b
    · subst e; rw [fu_s] at hh; omega
    · rw [fu_n _ _ e] at hh
      rw [ho _ (by omega) (by omega) (by omega)]; exact m4 x hx hh
  · by_cases e : x = b
    · subst e; rw [fu_s]; exact ⟨fun i y hy => (by simp at hy), by simp, fun y hy => (by simp at hy)⟩
    · rw [fu_n _ _ e]
      obtain ⟨a1, a2, a3⟩ := m5 x hx
      exact ⟨a1.congr (fun z z1 z2 => ho z (by omega) (by omega) (by omega)), a2, a3⟩
  · by_cases e : x = b
    · subst e; rw [fu_s]; exact ⟨fun i y hy => (by simp at hy), by simp, fun y hy => (by simp at hy)⟩
    · rw [fu_n _ _ e]
      obtain ⟨a1, a2, a3⟩ := m6 x hx
      exact ⟨a1.eq hx (by simpa using a2) (fun a a0 a1 _ _ => it5_eq (fun z z1 z2 => ho z (by omega) (by omega) (by omega)) a0 a1), a2, a3⟩
  · obtain ⟨a1, a2, a3, a4⟩ := m7 h hh
    exact ⟨by rw [ho _ (by omega) (by omega) (by omega)]; exact a1, a2.congr (fun z z1 z2 => ho z (by omega) (by omega) (by omega)), a3, a4⟩
  · rw [ho _ (by omega) (by omega) (by omega)]; exact m8
  · rw [ho _ (by omega) (by omega) (by omega)]; exact m9
/-- a node's children change -/
theorem MT.chn (m : MT s T sz tl) {p : Nat} (hp : p < 96) {l : List Nat} (hi : tI T p = []) (hl : l.length ≤ 6) (hl2 : ∀ x ∈ l, x < 96) (h1 : La s' (4044 + 6 * (p : Int)) l) (h2 : s' (3852 + (p : Int)) = (l.length : Nat)) (ho : ∀ x : Int, x ≠ 3852 + (p : Int) → (x < 4044 + 6 * (p : Int) ∨ 4044 + 6 * (p : Int) + 6 ≤ x) → s' x = s x) : MT s' (uC T p l) sz tl := by
  obtain ⟨m1, m2, m3, m4, m5, m6, m7, m8, m9⟩ := m
  simp only [MT, tc]
  refine ⟨fun x hx => ?_, fun x hx => ?_, fun x hx => ?_, fun x hx hh => ?_, fun x hx => ?_, fun x hx => ?_, fun h hh => ?_, ?_, ?_⟩
  · rw [ho _ (by omega) (by omega)]; exact m1 x hx
  · rw [ho _ (by omega) (by omega)]; exact m2 x hx
  · by_cases e : x = p
    · subst e; rw [fu_s, hi, h2]; simp
    · rw [fu_n _ _ e, ho _ (by omega) (by omega)]; exact m3 x hx
  · rw [ho _ (by omega) (by omega)]; exact m4 x hx hh
  · by_cases e : x = p
    · subst e; rw [fu_s]; exact ⟨h1, hl, hl2⟩
    · rw [fu_n _ _ e]
      obtain ⟨a1, a2, a3⟩ := m5 x hx
      exact ⟨a1.congr (fun z z1 z2 => ho z (by omega) (by omega)), a2, a3⟩
  · obtain ⟨a1, a2, a3⟩ := m6 x hx
    exact ⟨a1.eq hx (by simpa using a2) (fun a a0 a1 _ _ => it5_eq (fun z z1 z2 => ho z (by omega) (by omega)) a0 a1), a2, a3⟩
  · obtain ⟨a1, a2, a3, a4⟩ := m7 h hh
    exact ⟨by rw [ho _ (by omega) (by omega)]; exact a1, a2.congr (fun z z1 z2 => ho z (by omega) (by omega)), a3, a4⟩
  · rw [ho _ (by omega) (by omega)]; exact m8
  · rw [ho _ (by omega) (by omega)]; exact m9
/-- a row changes -/
theorem MT.row (m : MT s T sz tl) {h0 : Nat} (hh0 : h0 < 8) {l : List Nat} (hl : l.length ≤ 96) (hl2 : ∀ x ∈ l, x < 96) (h1 : La s' (12300 + 96 * (h0 : Int)) l) (h2 : s' (13068 + (h0 : Int)) = (l.length : Nat)) (ho : ∀ x : Int, x ≠ 13068 + (h0 : Int) → (x < 12300 + 96 * (h0 : Int) ∨ 12300 + 96 * (h0 : Int) + 96 ≤ x) → s' x = s x) : MT s' (uW T h0 l) sz tl := by
  obtain ⟨m1, m2, m3, m4, m5, m6, m7, m8, m9⟩ := m
  simp only [MT, tw]
  refine ⟨fun x hx => ?_, fun x hx => ?_, fun x hx => ?_, fun x hx hh => ?_, fun x hx => ?_, fun x hx => ?_, fun h hh => ?_, ?_, ?_⟩
  · rw [ho _ (by omega) (by omega)]; exact m1 x hx
  · rw [ho _ (by omega) (by omega)]; exact m2 x hx
  · rw [ho _ (by omega) (by omega)]; exact m3 x hx
  · rw [ho _ (by omega) (by omega)]; exact m4 x hx hh
  · obtain ⟨a1, a2, a3⟩ := m5 x hx
    exact ⟨a1.congr (fun z z1 z2 => ho z (by omega) (by omega)), a2, a3⟩
  · obtain ⟨a1, a2, a3⟩ := m6 x hx
    exact ⟨a1.eq hx (by simpa using a2) (fun a a0 a1 _ _ => it5_eq (fun z z1 z2 => ho z (by omega) (by omega)) a0 a1), a2, a3⟩
  · by_cases e : h = h0
    · subst e; rw [fu_s]; exact ⟨h2, h1, hl, hl2⟩
    · rw [fu_n _ _ e]
      obtain ⟨a1, a2, a3, a4⟩ := m7 h hh
      exact ⟨by rw [ho _ (by omega) (by omega)]; exact a1, a2.congr (fun z z1 z2 => ho z (by omega) (by omega)), a3, a4⟩
  · rw [ho _ (by omega) (by omega)]; exact m8
  · rw [ho _ (by omega) (by omega)]; exact m9
/-- a parent, a height, the root, the heights -/
theorem MT.par (m : MT s T sz tl) {b : Nat} (hb : b < 96) {v : Option Nat} (h1 : s' (3948 + (b : Int)) = oI v) (ho : ∀ x : Int, x ≠ 3948 + (b : Int) → s' x = s x) : MT s' (uP T b v) sz tl := by
  obtain ⟨m1, m2, m3, m4, m5, m6, m7, m8, m9⟩ := m
  simp only [MT, tp]
  refine ⟨fun x hx => ?_, fun x hx => ?_, fun x hx => ?_, fun x hx hh => ?_, fun x hx => ?_, fun x hx => ?_, fun h hh => ?_, ?_, ?_⟩
  · rw [ho _ (by omega)]; exact m1 x hx
  · rw [ho _ (by omega)]; exact m2 x hx
  · rw [ho _ (by omega)]; exact m3 x hx
  · by_cases e : x = b
    · subst e; rw [fu_s]; exact h1
    · rw [fu_n _ _ e, ho _ (by omega)]; exact m4 x hx hh
  · obtain ⟨a1, a2, a3⟩ := m5 x hx
    exact ⟨a1.congr (fun z z1 z2 => ho z (by omega)), a2, a3⟩
  · obtain ⟨a1, a2, a3⟩ := m6 x hx
    exact ⟨a1.eq hx (by simpa using a2) (fun a a0 a1 _ _ => it5_eq (fun z z1 z2 => ho z (by omega)) a0 a1), a2, a3⟩
  · obtain ⟨a1, a2, a3, a4⟩ := m7 h hh
    exact ⟨by rw [ho _ (by omega)]; exact a1, a2.congr (fun z z1 z2 => ho z (by omega)), a3, a4⟩
  · rw [ho _ (by omega)]; exact m8
  · rw [ho _ (by omega)]; exact m9
theorem MT.hgt (m : MT s T sz tl) {b v : Nat} (hb : b < 96) (h1 : s' (3756 + (b : Int)) = (v : Nat)) (h2 : 1 ≤ v → s' (3948 + (b : Int)) = oI (tP T b)) (ho : ∀ x : Int, x ≠ 3756 + (b : Int) → s' x = s x) : MT s' (uH T b v) sz tl := by
  obtain ⟨m1, m2, m3, m4, m5, m6, m7, m8, m9⟩ := m
  simp only [MT, th]
  refine ⟨fun x hx => ?_, fun x hx => ?_, fun x hx => ?_, fun x hx hh => ?_, fun x hx => ?_, fun x hx => ?_, fun h hh => ?_, ?_, ?_⟩
  · rw [ho _ (by omega)]; exact m1 x hx
  · by_cases e : x = b
    · subst e; rw [fu_s]; exact h1
    · rw [fu_n _ _ e, ho _ (by omega)]; exact m2 x hx
  · rw [ho _ (by omega)]; exact m3 x hx
  · by_cases e : x = b
    · subst e; rw [fu_s] at hh; exact h2 hh
    · rw [fu_n _ _ e] at hh
      rw [ho _ (by omega)]; exact m4 x hx hh
  · obtain ⟨a1, a2, a3⟩ := m5 x hx
    exact ⟨a1.congr (fun z z1 z2 => ho z (by omega)), a2, a3⟩
  · obtain ⟨a1, a2, a3⟩ := m6 x hx
    exact ⟨a1.eq hx (by simpa using a2) (fun a a0 a1 _ _ => it5_eq (fun z z1 z2 => ho z (by omega)) a0 a1), a2, a3⟩
  · obtain ⟨a1, a2, a3, a4⟩ := m7 h hh
    exact ⟨by rw [ho _ (by omega)]; exact a1, a2.congr (fun z z1 z2 => ho z (by omega)), a3, a4⟩
  · rw [ho _ (by omega)]; exact m8
  · rw [ho _ (by omega)]; exact m9
theorem MT.rt (m : MT s T sz tl) {r n : Nat} (h1 : s' 13076 = (r : Nat)) (h2 : s' 13077 = (n : Nat)) (ho : ∀ x : Int, x ≠ 13076 → x ≠ 13077 → s' x = s x) : MT s' (uN (uR T r) n) sz tl := by
  obtain ⟨m1, m2, m3, m4, m5, m6, m7, m8, m9⟩ := m
  simp only [MT, tr, tn]
  refine ⟨fun x hx => ?_, fun x hx => ?_, fun x hx => ?_, fun x hx hh => ?_, fun x hx => ?_, fun x hx => ?_, fun h hh => ?_, h1, h2⟩
  · rw [ho _ (by omega) (by omega)]; exact m1 x hx
  · rw [ho _ (by omega) (by omega)]; exact m2 x hx
  · rw [ho _ (by omega) (by omega)]; exact m3 x hx
  · rw [ho _ (by omega) (by omega)]; exact m4 x hx hh
  · obtain ⟨a1, a2, a3⟩ := m5 x hx
    exact ⟨a1.congr (fun z z1 z2 => ho z (by omega) (by omega)), a2, a3⟩
  · obtain ⟨a1, a2, a3⟩ := m6 x hx
    exact ⟨a1.eq hx (by simpa using a2) (fun a a0 a1 _ _ => it5_eq (fun z z1 z2 => ho z (by omega) (by omega)) a0 a1), a2, a3⟩
  · obtain ⟨a1, a2, a3, a4⟩ := m7 h hh
    exact ⟨by rw [ho _ (by omega) (by omega)]; exact a1, a2.congr (fun z z1 z2 => ho z (by omega) (by omega)), a3, a4⟩
/-- a leaf's items change -/
theorem MT.itm (m : MT s T sz tl) {b : Nat} (hb : b < 96) {l : List Nat} (hc : tC T b = []) (hl : l.length ≤ 16) (hl2 : ∀ x ∈ l, x < 249856) (h1 : It s' b (l.map (rk sz tl))) (h2 : s' (3852 + (b : Int)) = (l.length : Nat)) (ho : ∀ x : Int, (x < 4620 ∨ 12300 ≤ x) → x ≠ 3852 + (b : Int) → s' x = s x) (hi : ∀ a : Int, 0 ≤ a → a < 1536 → (a < 16 * (b : Int) ∨ 16 * (b : Int) + 16 ≤ a) → it5 s' a = it5 s a) : MT s' (uI T b l) sz tl := by
  obtain ⟨m1, m2, m3, m4, m5, m6, m7, m8, m9⟩ := m
  simp only [MT, ti]
  refine ⟨fun x hx => ?_, fun x hx => ?_, fun x hx => ?_, fun x hx hh => ?_, fun x hx => ?_, fun x hx => ?_, fun h hh => ?_, ?_, ?_⟩
  · rw [ho _ (by omega) (by omega)]; exact m1 x hx
  · rw [ho _ (by omega) (by omega)]; exact m2 x hx
  · by_cases e : x = b
    · subst e; rw [fu_s, hc, h2]; simp
    · rw [fu_n _ _ e, ho _ (by omega) (by omega)]; exact m3 x hx
  · rw [ho _ (by omega) (by omega)]; exact m4 x hx hh
  · obtain ⟨a1, a2, a3⟩ := m5 x hx
    exact ⟨a1.congr (fun z z1 z2 => ho z (by omega) (by omega)), a2, a3⟩
  · by_cases e : x = b
    · subst e; rw [fu_s]; exact ⟨h1, hl, hl2⟩
    · rw [fu_n _ _ e]
      obtain ⟨a1, a2, a3⟩ := m6 x hx
      exact ⟨a1.eq hx (by simpa using a2) (fun a a0 a1 a2 a3 => hi a a0 a1 (by omega)), a2, a3⟩
  · obtain ⟨a1, a2, a3, a4⟩ := m7 h hh
    exact ⟨by rw [ho _ (by omega) (by omega)]; exact a1, a2.congr (fun z z1 z2 => ho z (by omega) (by omega)), a3, a4⟩
  · rw [ho _ (by omega) (by omega)]; exact m8
  · rw [ho _ (by omega) (by omega)]; exact m9
end MTs
