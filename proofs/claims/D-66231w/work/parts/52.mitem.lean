/-! ===== THE MODEL: items on the tree ===== -/
/-- what items take, by their sizes -/
def uz (sz : Nat → Nat) : List Nat → Nat
  | [] => 0
  | k :: l => 8 + sz k + uz sz l
theorem u5_uz (sz tl : Nat → Nat) : ∀ l : List Nat, u5 (l.map (rk sz tl)) = (uz sz l : Nat)
  | [] => rfl
  | k :: l => by
    rw [List.map_cons, u5, u5_uz sz tl l, uz]
    show (8 : Int) + (sz k : Nat) + (uz sz l : Nat) = _
    omega
theorem MT.itm2 {s s' : Int → Int} {T : Tr} {sz tl : Nat → Nat} (m : MT s T sz tl) {x y : Nat} (hx : x < 96) (hy : y < 96) (hxy : x ≠ y) {l1 l2 : List Nat} (hcx : tC T x = []) (hcy : tC T y = []) (n1 : l1.length ≤ 16) (n2 : l2.length ≤ 16) (p1 : ∀ k ∈ l1, k < 249856) (p2 : ∀ k ∈ l2, k < 249856) (g1 : It s' x (l1.map (rk sz tl))) (g2 : s' (3852 + (x : Int)) = (l1.length : Nat)) (g3 : It s' y (l2.map (rk sz tl))) (g4 : s' (3852 + (y : Int)) = (l2.length : Nat))
    (ho : ∀ z, (z < 4620 ∨ 12300 ≤ z) → z ≠ 3852 + (x : Int) → z ≠ 3852 + (y : Int) → s' z = s z) (hi : ∀ z, 0 ≤ z → z < 1536 → (z < 16 * (x : Int) ∨ 16 * (x : Int) + 16 ≤ z) → (z < 16 * (y : Int) ∨ 16 * (y : Int) + 16 ≤ z) → it5 s' z = it5 s z) : MT s' (uI (uI T x l1) y l2) sz tl := by
  obtain ⟨m1, m2, m3, m4, m5, m6, m7, m8, m9⟩ := m
  simp only [MT, ti]
  refine ⟨fun b hb => ?_, fun b hb => ?_, fun b hb => ?_, fun b hb hh => ?_, fun b hb => ?_, fun b hb => ?_, fun h hh => ?_, ?_, ?_⟩
  · rw [ho _ (by omega) (by omega) (by omega)]; exact m1 b hb
  · rw [ho _ (by omega) (by omega) (by omega)]; exact m2 b hb
  · by_cases e : b = y
    · subst e; rw [fu_s, hcy, g4]; simp
    · rw [fu_n _ _ e]
      by_cases e' : b = x
      · subst e'; rw [fu_s, hcx, g2]; simp
      · rw [fu_n _ _ e', ho _ (by omega) (by omega) (by omega)]; exact m3 b hb
  · rw [ho _ (by omega) (by omega) (by omega)]; exact m4 b hb hh
  · obtain ⟨a1, a2, a3⟩ := m5 b hb
    exact ⟨a1.congr (fun z z1 z2 => ho z (by omega) (by omega) (by omega)), a2, a3⟩
  · by_cases e : b = y
    · subst e; rw [fu_s]; exact ⟨g3, n2, p2⟩
    · rw [fu_n _ _ e]
      by_cases e' : b = x
      · subst e'; rw [fu_s]; exact ⟨g1, n1, p1⟩
      · rw [fu_n _ _ e']
        obtain ⟨a1, a2, a3⟩ := m6 b hb
        exact ⟨a1.eq hb (by simpa using a2) (fun a a0 a1 a2 a3 => hi a a0 a1 (by omega) (by omega)), a2, a3⟩
  · obtain ⟨a1, a2, a3, a4⟩ := m7 h hh
    exact ⟨by rw [ho _ (by omega) (by omega) (by omega)]; exact a1, a2.congr (fun z z1 z2 => ho z (by omega) (by omega) (by omega)), a3, a4⟩
  · rw [ho _ (by omega) (by omega) (by omega)]; exact m8
  · rw [ho _ (by omega) (by omega) (by omega)]; exact m9
section MI
variable {d : Nat} {M : Mem} {Q : Outcome → Mem → Prop} {o : Nat} {f : Nat → Int} {s b c w : Int → Int} {j : Nat → Bool} {T : Tr} {sz tl : Nat → Nat}
theorem t_used (hK : MK M o) (m : MT s T sz tl) {x : Nat} (hx : x < 96) (hc : tC T x = []) (hQ : Q (.returned (some (.int (I (uz sz (tI T x) : Nat))))) (ms M o f s b c w j)) : Wp d 173 0 [some (.ref o), some (.int (I (x : Nat))), none, none] [] (ms M o f s b c w j) Q := by
  obtain ⟨a1, a2, a3⟩ := m.2.2.2.2.2.1 x hx
  have hn := m.2.2.1 x hx
  rw [hc] at hn
  refine m_used hK hx a1 (by simpa using a2) (by simpa using hn) ?_
  rw [u5_uz]
  exact hQ
theorem t_cost (hK : MK M o) (m : MT s T sz tl) {x k key : Nat} (hx : x < 96) (hk : (tI T x)[k]? = some key) (hQ : Q (.returned (some (.int (I ((8 + sz key : Nat) : Int))))) (ms M o f s b c w j)) : Wp d 174 0 [some (.ref o), some (.int (I (x : Nat))), some (.int (I (k : Nat)))] [] (ms M o f s b c w j) Q := by
  obtain ⟨a1, a2, a3⟩ := m.2.2.2.2.2.1 x hx
  refine m_cost (r := rk sz tl key) hK hx a1 (by simpa using a2) (by rw [List.getElem?_map, hk]; rfl) ?_
  rw [show (8 : Int) + (rk sz tl key).2.2.2.1 = ((8 + sz key : Nat) : Int) by show (8 : Int) + (sz key : Nat) = _; omega]
  exact hQ
theorem t_carry (hK : MK M o) (hd : 2 ≤ d) (m : MT s T sz tl) {x y k a key : Nat} (hx : x < 96) (hy : y < 96) (hxy : x ≠ y) (hcx : tC T x = []) (hcy : tC T y = []) (hk : (tI T x)[k]? = some key) (ha : a ≤ (tI T y).length) (hl : (tI T y).length ≤ 15)
    (hQ : ∀ s', MT s' (uI (uI T x ((tI T x).take k ++ (tI T x).drop (k + 1))) y ((tI T y).take a ++ key :: (tI T y).drop a)) sz tl → Frz s s' → Q (.returned none) (ms M o f s' b c w j)) :
    Wp d 175 0 [some (.ref o), some (.int (I (x : Nat))), some (.int (I (k : Nat))), some (.int (I (y : Nat))), some (.int (I (a : Nat))), none] [] (ms M o f s b c w j) Q := by
  obtain ⟨a1, a2, a3⟩ := m.2.2.2.2.2.1 x hx
  obtain ⟨b1, b2, b3⟩ := m.2.2.2.2.2.1 y hy
  have hn := m.2.2.1 x hx
  rw [hcx] at hn
  have hn2 := m.2.2.1 y hy
  rw [hcy] at hn2
  have hkl := (List.getElem?_eq_some_iff.mp hk).1
  refine m_carry (r := rk sz tl key) hK hd hx hy hxy a1 (by simpa using a2) (by simpa using hn) b1 (by simpa using hl) (by simpa using hn2) (by rw [List.getElem?_map, hk]; rfl) (by simpa using ha) ?_
  intro s' g1 g2 g3 g4 g5 g6
  rw [List.length_map] at g2 g4
  have hl1 : ((tI T x).take k ++ (tI T x).drop (k + 1)).length = (tI T x).length - 1 := by rw [List.length_append, List.length_take, List.length_drop]; omega
  have hl2 : ((tI T y).take a ++ key :: (tI T y).drop a).length = (tI T y).length + 1 := by rw [List.length_append, List.length_cons, List.length_take, List.length_drop]; omega
  have g1' : It s' x (((tI T x).take k ++ (tI T x).drop (k + 1)).map (rk sz tl)) := by rw [List.map_append, List.map_take, List.map_drop]; exact g1
  have g3' : It s' y (((tI T y).take a ++ key :: (tI T y).drop a).map (rk sz tl)) := by rw [List.map_append, List.map_cons, List.map_take, List.map_drop]; exact g3
  refine hQ s' ?_ (fun z hz => ?_)
  · refine MT.itm2 m hx hy hxy hcx hcy (by omega) (by omega) (fun z hz => ?_) (fun z hz => ?_) g1' (by rw [g2, hl1]) g3' (by rw [g4, hl2]) g5 g6
    · rcases List.mem_append.mp hz with h | h
      · exact a3 z (List.mem_of_mem_take h)
      · exact a3 z (List.mem_of_mem_drop h)
    · rcases List.mem_append.mp hz with h | h
      · exact b3 z (List.mem_of_mem_take h)
      · rcases List.mem_cons.mp h with h | h
        · rw [h]; exact a3 key (List.mem_of_getElem? hk)
        · exact b3 z (List.mem_of_mem_drop h)
  · exact g5 z (by omega) (by omega) (by omega)
end MI
