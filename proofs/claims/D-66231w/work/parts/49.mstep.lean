/-! ===== THE MODEL: more single steps on the tree ===== -/
theorem fr_none {u : Nat → Bool} {m : Nat} (h : ∀ j, j < m → u j = true) : fr u m 0 = none := by
  rcases fr_spec u m 0 with ⟨h1, _⟩ | ⟨k, h1, h2, h3, h4, h5⟩
  · exact h1
  · rw [h k (by omega)] at h4; cases h4
theorem fr_some {u : Nat → Bool} {m k : Nat} (hk : k < m) (h0 : u k = false) (h : ∀ j, j < k → u j = true) : fr u m 0 = some k := by
  rcases fr_spec u m 0 with ⟨h1, h2⟩ | ⟨k', h1, h2, h3, h4, h5⟩
  · rw [h2 k (by omega) (by omega)] at h0; cases h0
  · by_cases e : k' = k
    · rw [← e]; exact h1
    · by_cases l : k' < k
      · rw [h k' l] at h4; cases h4
      · rw [h5 k (by omega) (by omega)] at h0; cases h0
section MS
variable {d : Nat} {M : Mem} {Q : Outcome → Mem → Prop} {o : Nat} {f : Nat → Int} {s b c w : Int → Int} {j : Nat → Bool} {T : Tr} {sz tl : Nat → Nat}
/-- a block is taken, where one node's parent isn't known yet -/
theorem t_take (hK : MK M o) {n y : Nat} {v : Int} (hy : y < 96) (m : MT (fz s (3948 + (y : Int)) v) T sz tl) (hf : f 43 = n) (hn : n ≤ 96) (hn1 : 1 ≤ n) (h0 : tU T 0 = true)
    (hQ1 : ∀ (k : Nat) (s' : Int → Int), fr (tU T) n 0 = some k → k < n → MT (fz s' (3948 + (y : Int)) v) (tk T k) sz tl → Frz s s' → Q (.returned (some (.int (I (k : Nat))))) (ms M o f s' b c w j))
    (hQ2 : fr (tU T) n 0 = none → Q (.returned (some (.int (I (-1))))) (ms M o (fu f 47 1) s b c w j)) : Wp d 177 0 [some (.ref o), none] [] (ms M o f s b c w j) Q := by
  refine m_take hK (u := tU T) hf hn hn1 (fun x hx => ?_) h0 (fun k hk h1 h2 => ?_) (fun h => hQ2 (fr_none h))
  · have := m.1 x (by omega)
    rw [fz_n _ _ (by omega)] at this
    rw [show (0 : Int) + (x : Int) = x by omega]; exact this
  · refine hQ1 k _ (fr_some hk h1 h2) hk ?_ ?_
    · refine MT.blk m (by omega) true ?_ ?_ ?_ (fun z z1 z2 z3 => ?_)
      · rw [fz_n _ _ (by omega), fz_n _ _ (by omega), fz_n _ _ (by omega), fz_e _ _ (by omega)]; rfl
      · rw [fz_n _ _ (by omega), fz_n _ _ (by omega), fz_e _ _ rfl]
      · rw [fz_n _ _ (by omega), fz_e _ _ rfl]
      · by_cases e : z = 3948 + (y : Int)
        · rw [fz_e _ _ e, fz_e _ _ e]
        · rw [fz_n _ _ e, fz_n _ _ e, fz_n _ _ z3, fz_n _ _ z2, fz_n _ _ (by omega)]
    · intro z hz
      rw [fz_n _ _ (by omega), fz_n _ _ (by omega), fz_n _ _ (by omega)]
/-- a child whose parent isn't known yet -/
theorem t_childY (hK : MK M o) {p x k : Nat} {v : Int} (m : MT (fz s (3948 + (x : Int)) v) T sz tl) (hp : p < 96) (hx : x < 96) (hi : tI T p = []) (hn5 : (tC T p).length ≤ 5) (hk : k ≤ (tC T p).length) (hQ : ∀ s', MT s' (cp T p k x) sz tl → Frz s s' → Q (.returned none) (ms M o f s' b c w j)) : Wp d 180 0 [some (.ref o), some (.int (I (p : Nat))), some (.int (I (k : Nat))), some (.int (I (x : Nat))), none] [] (ms M o f s b c w j) Q := by
  have hn : s (3852 + (p : Int)) = ((tC T p).length : Nat) := by have := m.2.2.1 p hp; rw [hi, fz_n _ _ (by omega)] at this; simpa using this
  obtain ⟨c1, c2, c3⟩ := m.2.2.2.2.1 p hp
  refine m_child hK hp hx hn hn5 hk (hQ _ ?_ ?_)
  · refine MT.par (s := fz (insZ (fz s (3948 + (x : Int)) v) (4044 + 6 * (p : Int)) k (tC T p).length x) (3852 + (p : Int)) (((tC T p).length : Int) + 1)) ?_ hx (by rw [fz_e _ _ rfl]; rfl) (fun z hz => ?_)
    · have hlen : ((tC T p).take k ++ x :: (tC T p).drop k).length = (tC T p).length + 1 := by rw [List.length_append, List.length_cons, List.length_take, List.length_drop]; omega
      refine MT.chn m hp hi (by omega) (fun y hy => ?_) ?_ ?_ (fun z h1 h2 => ?_)
      · rcases List.mem_append.mp hy with h | h
        · exact c3 y (List.mem_of_mem_take h)
        · rcases List.mem_cons.mp h with h | h
          · omega
          · exact c3 y (List.mem_of_mem_drop h)
      · refine (c1.ins hk x).congr (fun z h1 h2 => ?_)
        rw [fz_n _ _ (by omega)]
      · rw [fz_e _ _ rfl, hlen]; omega
      · rw [fz_n _ _ h1, insZ_n (by omega) hk]
    · rw [fz_n _ _ hz]
      by_cases e : z = 3852 + (p : Int)
      · rw [fz_e _ _ e, fz_e _ _ e]
      · rw [fz_n _ _ e, fz_n _ _ e]
        unfold insZ
        by_cases e1 : 4044 + 6 * (p : Int) + (k : Int) < z ∧ z ≤ 4044 + 6 * (p : Int) + ((tC T p).length : Nat)
        · rw [if_pos e1, if_pos e1, fz_n _ _ (by omega)]
        · rw [if_neg e1, if_neg e1, fz_n _ _ hz]
  · intro z hz
    rw [fz_n _ _ (by omega), fz_n _ _ (by omega), insZ_n (by omega) hk]
/-- a node comes into its row behind another one, its own parent isn't known yet -/
theorem t_lineUp (hK : MK M o) (hd : 2 ≤ d) {x y h : Nat} {v : Int} (m : MT (fz s (3948 + (x : Int)) v) T sz tl) (hx : x < 96) (hy : y < 96) (hh : h < 8) (hs : tH T x = h + 1) (hs2 : tH T y = h + 1) (hm : y ∈ tW T h) (hl : (tW T h).length ≤ 95) (hQ : ∀ s', MT (fz s' (3948 + (x : Int)) v) (uW T h (inA (tW T h) y x)) sz tl → Frz s s' → Q (.returned none) (ms M o f s' b c w j)) : Wp d 178 0 [some (.ref o), some (.int (I (x : Nat))), some (.int (I (y : Nat))), none, none, none, none] [] (ms M o f s b c w j) Q := by
  obtain ⟨r1, r2, r3, r4⟩ := m.2.2.2.2.2.2.1 h hh
  obtain ⟨i1, i2⟩ := ix_at hm
  have hk := ix_lt hm
  rw [fz_n _ _ (by omega)] at r1
  have r2' : La s (12300 + 96 * (h : Int)) (tW T h) := r2.congr (fun z h1 h2 => (fz_n _ _ (by omega)).symm)
  have e1 := m.2.1 x hx
  rw [fz_n _ _ (by omega)] at e1
  have e2 := m.2.1 y hy
  rw [fz_n _ _ (by omega)] at e2
  have hlen : (inA (tW T h) y x).length = (tW T h).length + 1 := by rw [inA, List.length_append, List.length_cons, List.length_take, List.length_drop]; omega
  refine m_lineUp hK hd hx hy hh (by rw [e1, hs]; omega) (by rw [e2, hs2]; omega) r1 r2' hl r4 i1 i2 (hQ _ ?_ ?_)
  · refine MT.row m hh (by omega) (fun z hz => ?_) ?_ ?_ (fun z h1 h2 => ?_)
    · rcases List.mem_append.mp hz with h | h
      · exact r4 z (List.mem_of_mem_take h)
      · rcases List.mem_cons.mp h with h | h
        · omega
        · exact r4 z (List.mem_of_mem_drop h)
    · refine (r2'.ins (show ix y (tW T h) + 1 ≤ (tW T h).length by omega) x).congr (fun z h1 h2 => ?_)
      rw [List.length_append, List.length_cons, List.length_take, List.length_drop] at h2
      rw [fz_n _ _ (by omega), fz_n _ _ (by omega)]
    · rw [fz_n _ _ (by omega), fz_e _ _ rfl, hlen]; omega
    · by_cases e : z = 3948 + (x : Int)
      · rw [fz_e _ _ e, fz_e _ _ e]
      · rw [fz_n _ _ e, fz_n _ _ e, fz_n _ _ h1, insZ_n (by omega) (by omega)]
  · intro z hz
    rw [fz_n _ _ (by omega), insZ_n (by omega) (by omega)]
end MS
