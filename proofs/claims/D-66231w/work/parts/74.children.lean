/-! ===== THE COMPONENT: children, as the tree has them ===== -/
theorem SW.sub {T : Tr} (S : SW T) {p : Nat} {l : List Nat} (h1 : ∀ y ∈ l, y ∈ tC T p) (h2 : (tC T p).Nodup → l.Nodup) : SW (uC T p l) := by
  obtain ⟨s1, s2, s3, s4, s5⟩ := S
  simp only [SW, tc]
  refine ⟨s1, s2, fun h b c hb hc => ?_, fun h b hb => ?_, s5⟩
  · by_cases e : b = p
    · subst e; rw [fu_s] at hc; exact s3 h b c hb (h1 c hc)
    · rw [fu_n _ _ e] at hc; exact s3 h b c hb hc
  · by_cases e : b = p
    · subst e; rw [fu_s]; exact h2 (s4 h b hb)
    · rw [fu_n _ _ e]; exact s4 h b hb
theorem SW.put {T : Tr} (S : SW T) {h p k x : Nat} (hp : tH T p = h + 2) (hx : tH T x = h + 1) (hn : ∀ h' b, tH T b = h' + 2 → x ∉ tC T b) (hr : x ≠ tR T) : SW (cp T p k x) := by
  obtain ⟨s1, s2, s3, s4, s5, s6⟩ := S
  have hm : ∀ y, y ∈ (tC T p).take k ++ x :: (tC T p).drop k → y = x ∨ y ∈ tC T p := by
    intro y hy
    rcases List.mem_append.mp hy with h | h
    · exact .inr (List.mem_of_mem_take h)
    · rcases List.mem_cons.mp h with h | h
      · exact .inl h
      · exact .inr (List.mem_of_mem_drop h)
  simp only [SW, cp, tc, tp]
  refine ⟨s1, s2, fun h' b c hb hc => ?_, fun h' b hb => ?_, s5, by rw [fu_n _ _ (Ne.symm hr)]; exact s6.1, s6.2⟩
  · by_cases e : b = p
    · subst e; rw [fu_s] at hc
      have : h' = h := by omega
      subst this
      by_cases ec : c = x
      · subst ec; rw [fu_s]; exact ⟨hx, rfl⟩
      · rw [fu_n _ _ ec]
        rcases hm c hc with h | h
        · exact absurd h ec
        · exact s3 h' b c hb h
    · rw [fu_n _ _ e] at hc
      rw [fu_n _ _ (by intro e2; rw [e2] at hc; exact hn h' b hb hc)]
      exact s3 h' b c hb hc
  · by_cases e : b = p
    · subst e; rw [fu_s]
      have h1 := s4 h' b hb
      have h2 := hn h' b hb
      rw [← List.take_append_drop k (tC T b)] at h1 h2
      obtain ⟨a1, a2, a3⟩ := List.nodup_append.mp h1
      refine List.nodup_append.mpr ⟨a1, List.nodup_cons.mpr ⟨fun h => h2 (List.mem_append_right _ h), a2⟩, fun u hu v hv => ?_⟩
      rcases List.mem_cons.mp hv with h | h
      · intro e; exact h2 (List.mem_append_left _ (by rw [← h, ← e]; exact hu))
      · exact a3 u hu v h
    · rw [fu_n _ _ e]; exact s4 h' b hb
/-- a child that was dropped is nobody's child -/
theorem SW.nobody {T : Tr} (S : SW T) {h p x : Nat} {l : List Nat} (hp : tH T p = h + 2) (hx : x ∈ tC T p) (hl : x ∉ l) : ∀ h' b, tH (uC T p l) b = h' + 2 → x ∉ tC (uC T p l) b := by
  obtain ⟨s1, s2, s3, s4, s5, s6⟩ := S
  intro h' b hb hm
  simp only [tc] at hb hm
  by_cases e : b = p
  · subst e; rw [fu_s] at hm; exact hl hm
  · rw [fu_n _ _ e] at hm
    have h1 := (s3 h' b x hb hm).2
    have h2 := (s3 h p x hp hx).2
    rw [h1] at h2; exact e (Option.some.inj h2)
theorem SW.nroot {T : Tr} (S : SW T) {h p x : Nat} (hp : tH T p = h + 2) (hx : x ∈ tC T p) : x ≠ tR T := by
  intro e
  have h2 := (S.2.2.1 h p x hp hx).2
  rw [e, S.2.2.2.2.2.1] at h2; cases h2
section CP
variable {d t r m : Nat} {M : Mem} {Q : Outcome → Mem → Prop} {A : Ad} {T : Tr} {py : Nat → List Nat} {e : Option Nat}
theorem map_ins {α β : Type} (f : α → β) (l : List α) (k : Nat) (x : α) : (l.take k ++ x :: l.drop k).map f = (l.map f).take k ++ f x :: (l.map f).drop k := by rw [List.map_append, List.map_cons, List.map_take, List.map_drop]
theorem map_del {α β : Type} (f : α → β) (l : List α) (k : Nat) : (l.take k ++ l.drop (k + 1)).map f = (l.map f).take k ++ (l.map f).drop (k + 1) := by rw [List.map_append, List.map_take, List.map_drop]
theorem n_put (R : RM M t r m A T py e) {h p qp x qx k : Nat} (hp : tH T p = h + 2) (hqp : A.2 p = some qp) (hx : tH T x = h + 1) (hqx : na A h x = some qx) (hk : k ≤ (tC T p).length) (h5 : (tC T p).length ≤ 5) (e' : Option Nat) (he : ∀ b, e' ≠ some b → b ≠ x → e ≠ some b) (hQ : ∀ M', RM M' t r m A (cp T p k x) py e' → Fr t r A A 0 M M' → Q (.returned none) M') : Wp d 142 0 [some (.ref qp), some (.int (I (k : Nat))), some (.ref qx), none] [] M Q := by
  obtain ⟨q', g1, g2, g3⟩ := R.2.2.2.1 h p hp
  rw [hqp] at g1; cases g1
  refine i_put g2 (by rw [List.length_map]; exact hk) (by rw [List.length_map]; exact h5) (R.1.kind hqx).2.1 ?_
  rintro M' ⟨v, g, hM⟩ hI
  have R1 := R.par (v := some p) hx hqx (fun p' hp' => by cases hp'; rw [hqp]; rfl) e' he
  have R1' : RM (sR M 33 qx (some qp)) t r m A (uP T x (some p)) py e' := by
    have : (some p).bind A.2 = some qp := hqp
    rw [this] at R1; exact R1
  have R2 := R1'.chn (h := h) (b := p) (l := (tC T p).take k ++ x :: (tC T p).drop k) hqp (by simp only [tp]; exact hp) hM (by rw [map_ins, nd_of hqx]; exact hI)
  refine hQ M' R2 ?_
  have F1 : Fr t r A A 0 M (sR M 33 qx (some qp)) := Fr.lk (Lk.sR M 33 qx _) (fun f a hf => by rw [hf.2]; exact Ow.node hqx)
  exact F1.trans (Fr.iw hqp hM)
theorem n_drop (R : RM M t r m A T py e) (S : SW T) {h p qp y k : Nat} (hp : tH T p = h + 2) (hqp : A.2 p = some qp) (hy : (tC T p)[k]? = some y) (hQ : ∀ M' qy, na A h y = some qy → RM M' t r m A (uC T p ((tC T p).take k ++ (tC T p).drop (k + 1))) py e → Fr t r A A 0 M M' → Q (.returned (some (.ref qy))) M') : Wp d 144 0 [some (.ref qp), some (.int (I (k : Nat))), none, none] [] M Q := by
  obtain ⟨q', g1, g2, g3⟩ := R.2.2.2.1 h p hp
  rw [hqp] at g1; cases g1
  have hyH := (S.2.2.1 h p y hp (List.mem_of_getElem? hy)).1
  obtain ⟨qy, hqy⟩ := R.node hyH
  refine i_drop g2 (c := qy) (by rw [List.getElem?_map, hy]; show some (nd A h y) = _; rw [nd_of hqy]) ?_
  rintro M' ⟨v, g, hM⟩ hI
  exact hQ M' qy hqy (R.chn hqp hp hM (by rw [map_del]; exact hI)) (Fr.iw hqp hM)
theorem n_at (R : RM M t r m A T py e) (S : SW T) {h p qp x qx : Nat} (hp : tH T p = h + 2) (hqp : A.2 p = some qp) (hx : x ∈ tC T p) (hqx : na A h x = some qx) (hQ : Q (.returned (some (.int (I (ix x (tC T p) : Nat))))) M) : Wp d 143 0 [some (.ref qp), some (.ref qx), none] [] M Q := by
  obtain ⟨q', g1, g2, g3⟩ := R.2.2.2.1 h p hp
  rw [hqp] at g1; cases g1
  obtain ⟨i1, i2⟩ := ix_at hx
  refine i_at g2 (k := ix x (tC T p)) (by rw [List.getElem?_map, i1]; show some (nd A h x) = _; rw [nd_of hqx]) (fun i hi hc => ?_) hQ
  rw [List.getElem?_map] at hc
  cases hz : (tC T p)[i]? with
  | none => rw [hz] at hc; cases hc
  | some z =>
    rw [hz] at hc
    have hzH := (S.2.2.1 h p z hp (List.mem_of_getElem? hz)).1
    obtain ⟨qz, hqz⟩ := R.node hzH
    have : nd A h z = qx := Option.some.inj hc
    rw [nd_of hqz] at this
    subst this
    rw [(R.1.inj hqz hqx).1] at hz
    exact i2 i hi hz
end CP
