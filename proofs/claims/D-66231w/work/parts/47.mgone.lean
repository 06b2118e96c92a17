/-! ===== THE MODEL: single steps on the tree ===== -/
/-- what isn't the tree's stays -/
def Frz (s s' : Int → Int) : Prop := ∀ z : Int, ((96 ≤ z ∧ z < 3756) ∨ 13078 ≤ z) → s' z = s z
theorem Frz.refl (s : Int → Int) : Frz s s := fun _ _ => rfl
theorem Frz.trans {s s' s'' : Int → Int} (h : Frz s s') (h' : Frz s' s'') : Frz s s'' := fun z hz => (h' z hz).trans (h z hz)
section MG
variable {d : Nat} {M : Mem} {Q : Outcome → Mem → Prop} {o : Nat} {f : Nat → Int} {s b c w : Int → Int} {j : Nat → Bool} {T : Tr} {sz tl : Nat → Nat}
theorem t_child (hK : MK M o) (m : MT s T sz tl) {p x k : Nat} (hp : p < 96) (hx : x < 96) (hi : tI T p = []) (hn5 : (tC T p).length ≤ 5) (hk : k ≤ (tC T p).length) (hQ : ∀ s', MT s' (cp T p k x) sz tl → Frz s s' → Q (.returned none) (ms M o f s' b c w j)) : Wp d 180 0 [some (.ref o), some (.int (I (p : Nat))), some (.int (I (k : Nat))), some (.int (I (x : Nat))), none] [] (ms M o f s b c w j) Q := by
  have hn : s (3852 + (p : Int)) = ((tC T p).length : Nat) := by have := m.2.2.1 p hp; rw [hi] at this; simpa using this
  obtain ⟨c1, c2, c3⟩ := m.2.2.2.2.1 p hp
  refine m_child hK hp hx hn hn5 hk (hQ _ ?_ ?_)
  · refine MT.par (s := fz (insZ s (4044 + 6 * (p : Int)) k (tC T p).length x) (3852 + (p : Int)) (((tC T p).length : Int) + 1)) ?_ hx (by rw [fz_e _ _ rfl]; rfl) (fun z hz => fz_n _ _ hz)
    have hlen : ((tC T p).take k ++ x :: (tC T p).drop k).length = (tC T p).length + 1 := by rw [List.length_append, List.length_cons, List.length_take, List.length_drop]; omega
    refine MT.chn m hp hi (by omega) (fun y hy => ?_) ?_ ?_ (fun z h1 h2 => ?_)
    · rcases List.mem_append.mp hy with h | h
      · exact c3 y (List.mem_of_mem_take h)
      · rcases List.mem_cons.mp h with h | h
        · omega
        · exact c3 y (List.mem_of_mem_drop h)
    · refine (c1.ins hk x).congr (fun z h1 h2 => ?_)
      rw [fz_n _ _ (by omega)]
    · rw [fz_e _ _ rfl, hlen]; omega
    · rw [fz_n _ _ h1, insZ_n (by omega) hk]
  · intro z hz
    rw [fz_n _ _ (by omega), fz_n _ _ (by omega), insZ_n (by omega) hk]
theorem t_takeChild (hK : MK M o) (m : MT s T sz tl) {p y k : Nat} (hp : p < 96) (hi : tI T p = []) (hy : (tC T p)[k]? = some y) (hQ : ∀ s', MT s' (uC T p ((tC T p).take k ++ (tC T p).drop (k + 1))) sz tl → Frz s s' → Q (.returned (some (.int (I (y : Nat))))) (ms M o f s' b c w j)) : Wp d 182 0 [some (.ref o), some (.int (I (p : Nat))), some (.int (I (k : Nat))), none, none] [] (ms M o f s b c w j) Q := by
  have hn : s (3852 + (p : Int)) = ((tC T p).length : Nat) := by have := m.2.2.1 p hp; rw [hi] at this; simpa using this
  obtain ⟨c1, c2, c3⟩ := m.2.2.2.2.1 p hp
  have hk := (List.getElem?_eq_some_iff.mp hy).1
  refine m_takeChild hK hp hn c2 hk ?_
  rw [c1 k y hy]
  refine hQ _ ?_ ?_
  · have hlen : ((tC T p).take k ++ (tC T p).drop (k + 1)).length = (tC T p).length - 1 := by rw [List.length_append, List.length_take, List.length_drop]; omega
    refine MT.chn m hp hi (by omega) (fun y hy => ?_) ?_ ?_ (fun z h1 h2 => ?_)
    · rcases List.mem_append.mp hy with h | h
      · exact c3 y (List.mem_of_mem_take h)
      · exact c3 y (List.mem_of_mem_drop h)
    · refine (c1.del hk).congr (fun z h1 h2 => ?_)
      rw [fz_n _ _ (by omega)]
    · rw [fz_e _ _ rfl, hlen]; omega
    · rw [fz_n _ _ h1, delZ_n (by omega)]
  · intro z hz
    rw [fz_n _ _ (by omega), delZ_n (by omega)]
theorem t_free (hK : MK M o) (m : MT s T sz tl) {x : Nat} (hx : x < 96) (hQ : ∀ s', MT s' (fe T x) sz tl → Frz s s' → Q (.returned none) (ms M o f s' b c w j)) : Wp d 191 0 [some (.ref o), some (.int (I (x : Nat)))] [] (ms M o f s b c w j) Q := by
  refine m_free hK (by omega) (by omega) (hQ _ ?_ ?_)
  · refine MT.blk m hx false ?_ ?_ ?_ (fun z h1 h2 h3 => ?_)
    · rw [fz_n _ _ (by omega), fz_n _ _ (by omega), fz_e _ _ (by omega)]; rfl
    · rw [fz_n _ _ (by omega), fz_e _ _ rfl]
    · rw [fz_e _ _ rfl]
    · rw [fz_n _ _ h3, fz_n _ _ h2, fz_n _ _ (by omega)]
  · intro z hz
    rw [fz_n _ _ (by omega), fz_n _ _ (by omega), fz_n _ _ (by omega)]
theorem t_beside (hK : MK M o) (hd : 2 ≤ d) (m : MT s T sz tl) {x h : Nat} {by_ : Int} (hby : by_ = 1 ∨ by_ = -1) (hx : x < 96) (hh : h < 8) (hs : tH T x = h + 1) (hm : x ∈ tW T h) (hQ : Q (.returned (some (.int (I (oI (if by_ = 1 then nx (tW T h) x else pv (tW T h) x)))))) (ms M o f s b c w j)) : Wp d 170 0 [some (.ref o), some (.int (I (x : Nat))), some (.int (I by_)), none, none] [] (ms M o f s b c w j) Q := by
  obtain ⟨r1, r2, r3, r4⟩ := m.2.2.2.2.2.2.1 h hh
  obtain ⟨i1, i2⟩ := ix_at hm
  refine m_beside hK hd hby hx hh (by rw [m.2.1 x hx, hs]; omega) r1 r2 r3 r4 i1 i2 ?_
  exact hQ
/-- a node goes off its row and is given back, whatever its count says -/
theorem t_off (hK : MK M o) (hd : 3 ≤ d) {x h : Nat} (m : MT (fz s (3852 + (x : Int)) 0) T sz tl) (hx : x < 96) (hh : h < 8) (hs : tH T x = h + 1) (hm : x ∈ tW T h) (hQ : ∀ s', (∀ s2, s2 = fz (fz (fz s' (0 + (x : Int)) 0) (3756 + (x : Int)) 0) (3852 + (x : Int)) 0 → MT s2 (fe (uW T h (out (tW T h) x)) x) sz tl ∧ Frz s s2) → Q (.returned none) (ms M o f s' b c w j)) : Wp d 190 0 [some (.ref o), some (.int (I (x : Nat))), none, none, none] [] (ms M o f s b c w j) Q := by
  obtain ⟨r1, r2, r3, r4⟩ := m.2.2.2.2.2.2.1 h hh
  obtain ⟨i1, i2⟩ := ix_at hm
  have hk := ix_lt hm
  rw [fz_n _ _ (by omega)] at r1
  have r2' : La s (12300 + 96 * (h : Int)) (tW T h) := r2.congr (fun z h1 h2 => (fz_n _ _ (by omega)).symm)
  have e1 := m.2.1 x hx
  rw [fz_n _ _ (by omega)] at e1
  refine m_lineOff hK (by omega) hx hh (by rw [e1, hs]; omega) r1 r2' r3 r4 i1 i2 (hQ _ ?_)
  intro s2 h2
  subst h2
  have hlen : (out (tW T h) x).length = (tW T h).length - 1 := by rw [out, List.length_append, List.length_take, List.length_drop]; omega
  constructor
  · refine MT.blk (s := fz (fz (delZ s (12300 + 96 * (h : Int)) (ix x (tW T h)) (tW T h).length) (13068 + (h : Int)) (((tW T h).length : Int) - 1)) (3852 + (x : Int)) 0) ?_ hx false ?_ ?_ ?_ (fun z h1 h2 h3 => ?_)
    · refine MT.row m hh (by omega) (fun y hy => ?_) ?_ ?_ (fun z h1 h2 => ?_)
      · rcases List.mem_append.mp hy with h | h
        · exact r4 y (List.mem_of_mem_take h)
        · exact r4 y (List.mem_of_mem_drop h)
      · refine (r2'.del hk).congr (fun z h1 h2 => ?_)
        have : (((tW T h).take (ix x (tW T h)) ++ (tW T h).drop (ix x (tW T h) + 1)).length) = (tW T h).length - 1 := hlen
        rw [fz_n _ _ (by omega), fz_n _ _ (by omega)]
      · rw [fz_n _ _ (by omega), fz_e _ _ rfl, hlen]; omega
      · by_cases e : z = 3852 + (x : Int)
        · rw [fz_e _ _ e, fz_e _ _ e]
        · rw [fz_n _ _ e, fz_n _ _ e, fz_n _ _ h1, delZ_n (by omega)]
    · rw [fz_n _ _ (by omega), fz_n _ _ (by omega), fz_e _ _ (by omega)]; rfl
    · rw [fz_n _ _ (by omega), fz_e _ _ rfl]
    · rw [fz_e _ _ rfl]
    · rw [fz_n _ _ h3, fz_n _ _ h2, fz_n _ _ (by omega), fz_n _ _ h3]
  · intro z hz
    rw [fz_n _ _ (by omega), fz_n _ _ (by omega), fz_n _ _ (by omega), fz_n _ _ (by omega), delZ_n (by omega)]
theorem t_childPlace (hK : MK M o) (m : MT s T sz tl) {p x : Nat} (hp : p < 96) (hx : x < 96) (hm : x ∈ tC T p) (hQ : Q (.returned (some (.int (I (ix x (tC T p) : Nat))))) (ms M o f s b c w j)) : Wp d 181 0 [some (.ref o), some (.int (I (p : Nat))), some (.int (I (x : Nat))), none] [] (ms M o f s b c w j) Q := by
  obtain ⟨c1, c2, c3⟩ := m.2.2.2.2.1 p hp
  obtain ⟨i1, i2⟩ := ix_at hm
  exact m_childPlace hK hp hx c1 c2 c3 i1 i2 hQ
end MG
