/-! ===== THE MODEL: steps while a node's parent isn't known ===== -/
theorem MT.any {s : Int → Int} {T : Tr} {sz tl : Nat → Nat} (m : MT s T sz tl) {q : Nat} (hq : q < 96) (h0 : tH T q = 0) (v : Int) : MT (fz s (3948 + (q : Int)) v) T sz tl := by
  obtain ⟨m1, m2, m3, m4, m5, m6, m7, m8, m9⟩ := m
  refine ⟨fun x hx => ?_, fun x hx => ?_, fun x hx => ?_, fun x hx hh => ?_, fun x hx => ?_, fun x hx => ?_, fun h hh => ?_, ?_, ?_⟩
  · rw [fz_n _ _ (by omega)]; exact m1 x hx
  · rw [fz_n _ _ (by omega)]; exact m2 x hx
  · rw [fz_n _ _ (by omega)]; exact m3 x hx
  · have : x ≠ q := fun e => by rw [e, h0] at hh; omega
    rw [fz_n _ _ (by omega)]; exact m4 x hx hh
  · obtain ⟨a1, a2, a3⟩ := m5 x hx
    exact ⟨a1.congr (fun z z1 z2 => fz_n _ _ (by omega)), a2, a3⟩
  · obtain ⟨a1, a2, a3⟩ := m6 x hx
    exact ⟨a1.eq hx (by simpa using a2) (fun a a0 a1 _ _ => it5_eq (fun z z1 z2 => fz_n _ _ (by omega)) a0 a1), a2, a3⟩
  · obtain ⟨a1, a2, a3, a4⟩ := m7 h hh
    exact ⟨by rw [fz_n _ _ (by omega)]; exact a1, a2.congr (fun z z1 z2 => fz_n _ _ (by omega)), a3, a4⟩
  · rw [fz_n _ _ (by omega)]; exact m8
  · rw [fz_n _ _ (by omega)]; exact m9
section MS2
variable {d : Nat} {M : Mem} {Q : Outcome → Mem → Prop} {o : Nat} {f : Nat → Int} {s b c w : Int → Int} {j : Nat → Bool} {T : Tr} {sz tl : Nat → Nat}
theorem t_takeChildY (hK : MK M o) {y0 : Nat} {v : Int} (hy0 : y0 < 96) (m : MT (fz s (3948 + (y0 : Int)) v) T sz tl) {p y k : Nat} (hp : p < 96) (hi : tI T p = []) (hy : (tC T p)[k]? = some y) (hQ : ∀ s', MT (fz s' (3948 + (y0 : Int)) v) (uC T p ((tC T p).take k ++ (tC T p).drop (k + 1))) sz tl → Frz s s' → Q (.returned (some (.int (I (y : Nat))))) (ms M o f s' b c w j)) : Wp d 182 0 [some (.ref o), some (.int (I (p : Nat))), some (.int (I (k : Nat))), none, none] [] (ms M o f s b c w j) Q := by
  have hn : s (3852 + (p : Int)) = ((tC T p).length : Nat) := by have := m.2.2.1 p hp; rw [hi, fz_n _ _ (by omega)] at this; simpa using this
  obtain ⟨c1, c2, c3⟩ := m.2.2.2.2.1 p hp
  have c1' : La s (4044 + 6 * (p : Int)) (tC T p) := c1.congr (fun z h1 h2 => (fz_n _ _ (by omega)).symm)
  have hk := (List.getElem?_eq_some_iff.mp hy).1
  refine m_takeChild hK hp hn c2 hk ?_
  rw [c1' k y hy]
  refine hQ _ ?_ ?_
  · have hlen : ((tC T p).take k ++ (tC T p).drop (k + 1)).length = (tC T p).length - 1 := by rw [List.length_append, List.length_take, List.length_drop]; omega
    refine MT.chn m hp hi (by omega) (fun y hy => ?_) ?_ ?_ (fun z h1 h2 => ?_)
    · rcases List.mem_append.mp hy with h | h
      · exact c3 y (List.mem_of_mem_take h)
      · exact c3 y (List.mem_of_mem_drop h)
    · refine (c1'.del hk).congr (fun z h1 h2 => ?_)
      rw [fz_n _ _ (by omega), fz_n _ _ (by omega)]
    · rw [fz_n _ _ (by omega), fz_e _ _ rfl, hlen]; omega
    · by_cases e : z = 3948 + (y0 : Int)
      · rw [fz_e _ _ e, fz_e _ _ e]
      · rw [fz_n _ _ e, fz_n _ _ e, fz_n _ _ h1, delZ_n (by omega)]
  · intro z hz
    rw [fz_n _ _ (by omega), delZ_n (by omega)]
theorem t_childZ (hK : MK M o) {y0 : Nat} {v : Int} (hy0 : y0 < 96) (m : MT (fz s (3948 + (y0 : Int)) v) T sz tl) {p x k : Nat} (hxy : x ≠ y0) (hp : p < 96) (hx : x < 96) (hi : tI T p = []) (hn5 : (tC T p).length ≤ 5) (hk : k ≤ (tC T p).length) (hQ : ∀ s', MT (fz s' (3948 + (y0 : Int)) v) (cp T p k x) sz tl → Frz s s' → Q (.returned none) (ms M o f s' b c w j)) : Wp d 180 0 [some (.ref o), some (.int (I (p : Nat))), some (.int (I (k : Nat))), some (.int (I (x : Nat))), none] [] (ms M o f s b c w j) Q := by
  have hn : s (3852 + (p : Int)) = ((tC T p).length : Nat) := by have := m.2.2.1 p hp; rw [hi, fz_n _ _ (by omega)] at this; simpa using this
  obtain ⟨c1, c2, c3⟩ := m.2.2.2.2.1 p hp
  have c1' : La s (4044 + 6 * (p : Int)) (tC T p) := c1.congr (fun z h1 h2 => (fz_n _ _ (by omega)).symm)
  refine m_child hK hp hx hn hn5 hk (hQ _ ?_ ?_)
  · refine MT.par (s := fz (fz (insZ s (4044 + 6 * (p : Int)) k (tC T p).length x) (3852 + (p : Int)) (((tC T p).length : Int) + 1)) (3948 + (y0 : Int)) v) ?_ hx (by rw [fz_n _ _ (by omega), fz_e _ _ rfl]; rfl) (fun z hz => ?_)
    · have hlen : ((tC T p).take k ++ x :: (tC T p).drop k).length = (tC T p).length + 1 := by rw [List.length_append, List.length_cons, List.length_take, List.length_drop]; omega
      refine MT.chn m hp hi (by omega) (fun y hy => ?_) ?_ ?_ (fun z h1 h2 => ?_)
      · rcases List.mem_append.mp hy with h | h
        · exact c3 y (List.mem_of_mem_take h)
        · rcases List.mem_cons.mp h with h | h
          · omega
          · exact c3 y (List.mem_of_mem_drop h)
      · refine (c1'.ins hk x).congr (fun z h1 h2 => ?_)
        rw [hlen] at h2
        rw [fz_n _ _ (by omega), fz_n _ _ (by omega)]
      · rw [fz_n _ _ (by omega), fz_e _ _ rfl, hlen]; omega
      · by_cases e : z = 3948 + (y0 : Int)
        · rw [fz_e _ _ e, fz_e _ _ e]
        · rw [fz_n _ _ e, fz_n _ _ e, fz_n _ _ h1, insZ_n (by omega) hk]
    · by_cases e : z = 3948 + (y0 : Int)
      · rw [fz_e _ _ e, fz_e _ _ e]
      · rw [fz_n _ _ e, fz_n _ _ e, fz_n _ _ hz]
  · intro z hz
    rw [fz_n _ _ (by omega), fz_n _ _ (by omega), insZ_n (by omega) hk]
end MS2
