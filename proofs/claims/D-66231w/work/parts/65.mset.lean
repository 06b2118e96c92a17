/-! ===== THE MODEL: leafOf, find, put, remove, resize on the tree ===== -/
def ky (ob so na : Nat) : Nat := (ob * 4 + so) * 1024 + na
theorem cmp_ky {sz tl : Nat → Nat} {k ob so na : Nat} (hk : k < 249856) (h1 : ob < 100) (h2 : so < 4) (h3 : na < 1024) : wr (cmp5 (rk sz tl k) ob so na) = cmp5 (rk sz tl k) ob so na ∧ (cmp5 (rk sz tl k) ob so na ≤ 0 ↔ k ≤ ky ob so na) ∧ (cmp5 (rk sz tl k) ob so na = 0 ↔ k = ky ob so na) := by
  have e : cmp5 (rk sz tl k) ob so na = if ((k / 4096 : Nat) : Int) = ob then (if ((k / 1024 % 4 : Nat) : Int) = so then ((k % 1024 : Nat) : Int) - na else ((k / 1024 % 4 : Nat) : Int) - so) else ((k / 4096 : Nat) : Int) - ob := rfl
  rw [e]
  unfold ky
  split
  · split
    · refine ⟨wr_id (by omega) (by omega), ?_, ?_⟩ <;> omega
    · refine ⟨wr_id (by omega) (by omega), ?_, ?_⟩ <;> omega
  · refine ⟨wr_id (by omega) (by omega), ?_, ?_⟩ <;> omega
theorem lf5_lfk {f : Nat → List Nat} {sz tl : Nat → Nat} {ob so na : Nat} (h1 : ob < 100) (h2 : so < 4) (h3 : na < 1024) : ∀ (l : List Nat) (d : Nat), (∀ x ∈ l, ∀ k ∈ f x, k < 249856) → lf5 (fun x => (f x).map (rk sz tl)) ob so na l d = lfk f (ky ob so na) l d
  | [], _, _ => rfl
  | x :: l, d, h => by
    rw [lf5, lfk, lf5_lfk h1 h2 h3 l _ (fun y hy => h y (List.mem_cons_of_mem _ hy))]
    congr 1
    have hx := h x (List.mem_cons_self ..)
    show (match (f x).map (rk sz tl) with | [] => d | r :: _ => if wr (cmp5 r ob so na) ≤ 0 then x else d) = _
    cases hf : f x with
    | nil => rfl
    | cons k t =>
      have := cmp_ky (sz := sz) (tl := tl) (hx k (by rw [hf]; exact List.mem_cons_self ..)) h1 h2 h3
      simp only [List.map_cons, List.head?_cons]
      rw [this.1]
      by_cases e : k ≤ ky ob so na
      · rw [if_pos (this.2.1.mpr e), if_pos e]
      · rw [if_neg (fun h => e (this.2.1.mp h)), if_neg e]
theorem fi5_pl {sz tl : Nat → Nat} {ob so na : Nat} (h1 : ob < 100) (h2 : so < 4) (h3 : na < 1024) : ∀ (l : List Nat) (i : Nat), l.Pairwise (· < ·) → (∀ k ∈ l, k < 249856) → fi5 ob so na (l.map (rk sz tl)) i = if ky ob so na ∈ l then ((i + pl (ky ob so na) l : Nat) : Int) else -1
  | [], i, _, _ => by rw [List.map_nil, fi5, if_neg (by simp)]
  | k :: l, i, hp, h => by
    obtain ⟨p1, p2⟩ := List.pairwise_cons.mp hp
    have hk := cmp_ky (sz := sz) (tl := tl) (h k (List.mem_cons_self ..)) h1 h2 h3
    rw [List.map_cons, fi5, hk.1, fi5_pl h1 h2 h3 l (i + 1) p2 (fun y hy => h y (List.mem_cons_of_mem _ hy)), pl]
    by_cases e : k = ky ob so na
    · rw [if_pos (hk.2.2.mpr e), if_pos (by rw [e]; exact List.mem_cons_self ..), if_neg (by omega)]; rfl
    · rw [if_neg (fun h => e (hk.2.2.mp h))]
      by_cases em : ky ob so na ∈ l
      · have := p1 _ em
        rw [if_pos em, if_pos (List.mem_cons_of_mem _ em), if_pos this]
        omega
      · rw [if_neg em, if_neg (fun h => by rcases List.mem_cons.mp h with h | h; exact e h.symm; exact em h)]
section MP
variable {d : Nat} {M : Mem} {Q : Outcome → Mem → Prop} {o : Nat} {f : Nat → Int} {s b c w : Int → Int} {j : Nat → Bool} {T : Tr} {sz tl : Nat → Nat}
theorem t_lvs (m : MT s T sz tl) (hc : ∀ x ∈ tW T 0, tC T x = []) : Lvs s (tW T 0) (fun x => (tI T x).map (rk sz tl)) := by
  obtain ⟨r1, r2, r3, r4⟩ := m.2.2.2.2.2.2.1 0 (by omega)
  refine ⟨r1, r2, r3, fun x hx => ?_⟩
  have hx96 := r4 x hx
  obtain ⟨a1, a2, a3⟩ := m.2.2.2.2.2.1 x hx96
  have hn := m.2.2.1 x hx96
  rw [hc x hx] at hn
  refine ⟨hx96, a1, by rw [List.length_map]; exact a2, by rw [List.length_map]; simpa using hn, fun r hr => ?_⟩
  obtain ⟨k, hk, rfl⟩ := List.mem_map.mp hr
  have := a3 k hk
  unfold r5ok rk
  simp only []
  omega
theorem head_row {l : List Nat} (h : l ≠ []) : l[0]? = some (l.headD 0) := by
  cases l with
  | nil => exact absurd rfl h
  | cons a l => rfl
theorem t_leafOf (hK : MK M o) (hd : 1 ≤ d) (m : MT s T sz tl) {bk : Nat} {sz0 : Nat → Nat} (W : Wf bk sz0 T) {ob so na : Nat} (h1 : ob < 100) (h2 : so < 4) (h3 : na < 1024) (hQ : Q (.returned (some (.int (I (lfT T (ky ob so na) : Nat))))) (ms M o f s b c w j)) : Wp d 163 0 [some (.ref o), some (.int (I (ob : Nat))), some (.int (I (so : Nat))), some (.int (I (na : Nat))), none, none, none] [] (ms M o f s b c w j) Q := by
  have hne := W.1.rowne W.2.1 (h := 0) (by have := W.1.2.2.2.2.2.2.2.1.2.2.1; omega)
  refine m_leafOf hK hd (t_lvs m (fun x hx => W.1.2.2.2.2.1 x hx)) (head_row hne) (by omega) (by omega) (by omega) (by omega) ?_
  rw [lf5_lfk h1 h2 h3 _ _ (fun x hx k hk => (m.2.2.2.2.2.1 x (W.1.1 0 x hx).1).2.2 k hk)]
  exact hQ
theorem t_find (hK : MK M o) (hd : 2 ≤ d) (m : MT s T sz tl) {bk : Nat} {sz0 : Nat → Nat} (W : Wf bk sz0 T) {ob so na : Nat} (h1 : ob < 100) (h2 : so < 4) (h3 : na < 1024) (hQ : Q (.returned (some (.int (I (if ky ob so na ∈ its T then (pl (ky ob so na) (tI T (lfT T (ky ob so na))) : Int) else -1))))) (ms M o f s b c w j)) : Wp d 162 0 [some (.ref o), some (.int (I (ob : Nat))), some (.int (I (so : Nat))), some (.int (I (na : Nat))), none, none] [] (ms M o f s b c w j) Q := by
  have hne := W.1.rowne W.2.1 (h := 0) (by have := W.1.2.2.2.2.2.2.2.1.2.2.1; omega)
  refine m_find hK hd (t_lvs m (fun x hx => W.1.2.2.2.2.1 x hx)) (head_row hne) (by omega) (by omega) (by omega) (by omega) ?_
  rw [lf5_lfk h1 h2 h3 _ _ (fun x hx k hk => (m.2.2.2.2.2.1 x (W.1.1 0 x hx).1).2.2 k hk)]
  obtain ⟨hx, A, B, e1, e2, e3, e4, e5, e6, e7⟩ := lf_spec W (ky ob so na)
  have hx96 := (W.1.1 0 _ hx).1
  have := fi5_pl (sz := sz) (tl := tl) h1 h2 h3 (tI T (lfT T (ky ob so na))) 0 e5 (fun k hk => (m.2.2.2.2.2.1 _ hx96).2.2 k hk)
  show Q (.returned (some (.int (I (fi5 ob so na ((tI T (lfk (tI T) (ky ob so na) (tW T 0) ((tW T 0).headD 0))).map (rk sz tl)) 0))))) _
  have e : lfk (tI T) (ky ob so na) (tW T 0) ((tW T 0).headD 0) = lfT T (ky ob so na) := rfl
  rw [e, this, Nat.zero_add]
  by_cases hm : ky ob so na ∈ its T
  · rw [if_pos hm] at hQ
    rw [if_pos ((lf_mem W _).mp hm)]; exact hQ
  · rw [if_neg hm] at hQ
    rw [if_neg (fun h => hm ((lf_mem W _).mpr h))]; exact hQ
/-- sizes and what is told may change where no item is -/
theorem MT.szs (m : MT s T sz tl) {sz' tl' : Nat → Nat} (h : ∀ b, b < 96 → ∀ k ∈ tI T b, sz' k = sz k ∧ tl' k = tl k) : MT s T sz' tl' := by
  obtain ⟨m1, m2, m3, m4, m5, m6, m7, m8, m9⟩ := m
  refine ⟨m1, m2, m3, m4, m5, fun b hb => ?_, m7, m8, m9⟩
  obtain ⟨a1, a2, a3⟩ := m6 b hb
  refine ⟨?_, a2, a3⟩
  have : (tI T b).map (rk sz' tl') = (tI T b).map (rk sz tl) := List.map_congr_left (fun k hk => by unfold rk; rw [(h b hb k hk).1, (h b hb k hk).2])
  rw [this]; exact a1
/-- items are those of the leaves -/
theorem Wf.mem {bk : Nat} {sz0 : Nat → Nat} (W : Wf bk sz0 T) {b k : Nat} (hk : k ∈ tI T b) : k ∈ its T := by
  cases hH : tH T b with
  | zero => rw [(W.1.2.2.2.2.2.2.2.2.2 b hH).2] at hk; cases hk
  | succ h =>
    have hm := W.1.2.2.1 h b hH
    cases h with
    | zero => exact List.mem_flatMap.mpr ⟨b, hm, hk⟩
    | succ h => rw [W.1.2.2.2.2.2.1 h b hm] at hk; cases hk
end MP
