/-! ===== SET: the component's and the model's, by one word ===== -/
section NSet
variable {d t r m : Nat} {M : Mem} {A : Ad} {T T' : Tr} {py : Nat → List Nat} {Q : Outcome → Mem → Prop} {ok : Bool}
theorem fu_len (py : Nat → List Nat) (key : Nat) (bs : List Nat) : (fun k => (fu py key bs k).length) = fu (fun k => (py k).length) key bs.length := by
  funext k
  unfold fu
  split <;> rfl
theorem RM.cpy {e : Option Nat} {py' : Nat → List Nat} (R : RM M t r m A T py e) (h : ∀ b, ∀ k ∈ tI T b, py' k = py k) : RM M t r m A T py' e := by
  obtain ⟨r1, r2, r3, r4⟩ := R
  refine ⟨r1, r2, fun b hb => ?_, r4⟩
  obtain ⟨q, a1, a2, a3⟩ := r3 b hb
  exact ⟨q, a1, a2.py (fun x hx => h b x hx), a3⟩
theorem n_set (hd : 22 ≤ d) (hm : m ≤ 96) (R : RM M t r m A T py none) (W : Wf m (fun k => (py k).length) T) (hk : ∀ k ∈ its T, k < 1000000) {key w n : Nat} {bs : List Nat} (hkey : key < 1000000) (hr : Row M w n bs) (hs2 : bs.length ≤ 40) (hg : stT m (fun k => (py k).length) T key bs.length = some (ok, T'))
    (hQt : ok = true → ∀ M' A', RM M' t r m A' T' (fu py key bs) none → Fr t r A A' 0 M M' → Q (.returned none) M') (hQf : ok = false → ∀ M' A' a, JT M' t r m A' → Fr t r A A' 1 M M' → kO M' a = 14 → Q (.threw a) M') :
    Wp d 97 0 [some (.ref t), some (.int (I (key : Nat))), some (.ref w), some (.int (I (bs.length : Nat))), none, none, none] [] M Q := by
  obtain ⟨ok2, T2, hg2, hgo⟩ := stT_ok (key := key) (n := bs.length) hm W hs2
  rw [hg] at hg2
  obtain ⟨e1, e2⟩ := Prod.mk.inj (Option.some.inj hg2)
  subst e1; subst e2
  unfold stT at hg
  by_cases hi : key ∈ its T
  · rw [if_pos hi] at hg
    by_cases h0 : bs.length = 0
    · rw [if_pos h0] at hg
      cases hl : lkA (fun k => (py k).length) 96 (delT T key) (lfT T key) with
      | none => rw [hl] at hg; cases hg
      | some T1 =>
        rw [hl] at hg
        obtain ⟨e1, e2⟩ := Prod.mk.inj (Option.some.inj hg)
        subst e1; subst e2
        have hb : bs = [] := List.eq_nil_of_length_eq_zero h0
        rw [h0]
        refine n_setB (n := 96) hd R W hk hkey hi hl (fun M' R' F' => hQt rfl M' A (R'.cpy (fun b k hk' => fu_n _ _ ?_)) F')
        obtain ⟨w1, w2⟩ := hgo rfl
        have := (w2.mem W k).mp (w1.mem hk')
        rcases this with ⟨_, h⟩ | ⟨h, _⟩
        · exact absurd h0 h
        · exact h
    · rw [if_neg h0] at hg
      refine n_setC (N := 96) hd R W hk hkey hr hi (by omega) hs2 ?_ hQt hQf
      rw [fu_len]
      by_cases h1 : (py key).length < bs.length
      · rw [if_pos h1] at hg; exact .inl ⟨h1, hg⟩
      · rw [if_neg h1] at hg
        by_cases h2 : bs.length < (py key).length
        · rw [if_pos h2] at hg
          cases hl : lkA (fu (fun k => (py k).length) key bs.length) 96 T (lfT T key) with
          | none => rw [hl] at hg; cases hg
          | some T1 =>
            rw [hl] at hg
            obtain ⟨e1, e2⟩ := Prod.mk.inj (Option.some.inj hg)
            exact .inr (.inl ⟨h2, e1.symm, by rw [← e2]⟩)
        · rw [if_neg h2] at hg
          obtain ⟨e1, e2⟩ := Prod.mk.inj (Option.some.inj hg)
          exact .inr (.inr ⟨by omega, e1.symm, e2.symm⟩)
  · rw [if_neg hi] at hg
    by_cases h0 : bs.length = 0
    · rw [if_pos h0] at hg
      obtain ⟨e1, e2⟩ := Prod.mk.inj (Option.some.inj hg)
      subst e1; subst e2
      rw [h0]
      refine n_setD hd R W hk hkey hi (fun M' R' F' => hQt rfl M' A (R'.cpy (fun b k hk' => fu_n _ _ ?_)) F')
      intro e; rw [e] at hk'; exact hi (W.mem hk')
    · rw [if_neg h0] at hg
      exact n_setA hd R W hk hkey hr hi (by omega) hs2 (by rw [fu_len]; exact hg) hQt hQf
end NSet
section TSet
variable {M : Mem} {o d : Nat} {f : Nat → Int} {s b c w : Int → Int} {j : Nat → Bool} {Q : Outcome → Mem → Prop} {T T' : Tr} {sz tl : Nat → Nat} {ok : Bool}
theorem t_put1 (hK : MK M o) {bk : Nat} (hm1 : 1 ≤ bk) (hm2 : bk ≤ 96) (hf43 : f 43 = bk) (hf47 : f 47 = 0) {ob so na body told : Nat} (hd : 6 ≤ d) (m : MT s T sz tl) (W : Wf bk sz T) (h1 : ob < 61) (h2 : so < 4) (h3 : na < 1024) (h0 : 1 ≤ body) (h4 : body ≤ 40) (h5 : told < 100) (hk : ky ob so na ∉ its T)
    (hg : stT bk sz T (ky ob so na) body = some (ok, T')) (hQt : ok = true → ∀ s', MT s' T' (fu sz (ky ob so na) body) (fu tl (ky ob so na) told) → Frz s s' → Q (.returned none) (ms M o f s' b c w j)) (hQf : ok = false → ∀ s', Frz s s' → Q (.returned none) (ms M o (fu f 47 1) s' b c w j)) :
    Wp d 167 0 [some (.ref o), some (.int (I (ob : Nat))), some (.int (I (so : Nat))), some (.int (I (na : Nat))), some (.int (I (body : Nat))), some (.int (I (told : Nat))), none, none, none] [] (ms M o f s b c w j) Q := by
  unfold stT at hg
  rw [if_neg hk, if_neg (by omega)] at hg
  exact t_put hK hm1 hm2 hf43 hf47 hd m W h1 h2 h3 h4 h5 hk hg hQt hQf
theorem t_rem (hK : MK M o) {bk : Nat} (hm2 : bk ≤ 96) (hd : 6 ≤ d) (m : MT s T sz tl) (W : Wf bk sz T) {ob so na : Nat} (h1 : ob < 61) (h2 : so < 4) (h3 : na < 1024) (hk : ky ob so na ∈ its T) (hg : stT bk sz T (ky ob so na) 0 = some (ok, T')) (hQ : ok = true → ∀ s', MT s' T' (fu sz (ky ob so na) 0) tl → Frz s s' → Q (.returned none) (ms M o f s' b c w j)) : Wp d 187 0 [some (.ref o), some (.int (I (ob : Nat))), some (.int (I (so : Nat))), some (.int (I (na : Nat))), none] [] (ms M o f s b c w j) Q := by
  obtain ⟨ok2, T2, hg2, hgo⟩ := stT_ok (key := ky ob so na) (n := 0) hm2 W (by omega)
  rw [hg] at hg2
  obtain ⟨e1, e2⟩ := Prod.mk.inj (Option.some.inj hg2)
  subst e1; subst e2
  unfold stT at hg
  rw [if_pos hk, if_pos rfl] at hg
  cases hl : lkA sz 96 (delT T (ky ob so na)) (lfT T (ky ob so na)) with
  | none => rw [hl] at hg; cases hg
  | some T1 =>
    rw [hl] at hg
    obtain ⟨e1, e2⟩ := Prod.mk.inj (Option.some.inj hg)
    subst e1; subst e2
    obtain ⟨w1, w2⟩ := hgo rfl
    refine t_remove hK hd m W h1 h2 h3 hk hl (fun s' m' F' => hQ rfl s' (m'.szs (fun b _ k hk' => ⟨fu_n _ _ ?_, rfl⟩)) F')
    rcases (w2.mem W k).mp (w1.mem hk') with ⟨_, h⟩ | ⟨h, _⟩
    · exact absurd rfl h
    · exact h
theorem t_res (hK : MK M o) {bk : Nat} (hm1 : 1 ≤ bk) (hm2 : bk ≤ 96) (hf43 : f 43 = bk) (hf47 : f 47 = 0) {ob so had has : Nat} (hd : 7 ≤ d) (m : MT s T sz tl) (W : Wf bk sz T) (h1 : ob < 61) (h2 : so < 4) (h4 : has ≤ 40) (htl : tl (ky ob so 0) = 0) (hh : had = if ky ob so 0 ∈ its T then sz (ky ob so 0) else 0)
    (hg : stT bk sz T (ky ob so 0) has = some (ok, T')) (hQt : ok = true → ∀ s', MT s' T' (fu sz (ky ob so 0) has) tl → Frz s s' → Q (.returned none) (ms M o f s' b c w j)) (hQf : ok = false → ∀ s', Frz s s' → Q (.returned none) (ms M o (fu f 47 1) s' b c w j)) :
    Wp d 193 0 [some (.ref o), some (.int (I (ob : Nat))), some (.int (I (so : Nat))), some (.int (I (had : Nat))), some (.int (I (has : Nat))), none] [] (ms M o f s b c w j) Q := by
  obtain ⟨ok2, T2, hg2, hgo⟩ := stT_ok (key := ky ob so 0) (n := has) hm2 W h4
  rw [hg] at hg2
  obtain ⟨e1, e2⟩ := Prod.mk.inj (Option.some.inj hg2)
  subst e1; subst e2
  unfold stT at hg
  by_cases hi : ky ob so 0 ∈ its T
  · rw [if_pos hi] at hh
    obtain ⟨z1, z2⟩ := W.2.2.2.2.1 _ hi
    rw [if_pos hi] at hg
    by_cases h0 : has = 0
    · rw [if_pos h0] at hg
      cases hl : lkA sz 96 (delT T (ky ob so 0)) (lfT T (ky ob so 0)) with
      | none => rw [hl] at hg; cases hg
      | some T1 =>
        rw [hl] at hg
        obtain ⟨e1, e2⟩ := Prod.mk.inj (Option.some.inj hg)
        subst e1; subst e2
        obtain ⟨w1, w2⟩ := hgo rfl
        rw [show ((has : Nat) : Int) = 0 by omega]
        refine t_resizeD hK hf47 hd m W h1 h2 (by omega) (by omega) hi hl (fun s' m' F' => hQt rfl s' (m'.szs (fun b _ k hk' => ⟨fu_n _ _ ?_, rfl⟩)) F')
        rcases (w2.mem W k).mp (w1.mem hk') with ⟨_, h⟩ | ⟨h, _⟩
        · exact absurd h0 h
        · exact h
    · rw [if_neg h0] at hg
      by_cases h3 : sz (ky ob so 0) < has
      · rw [if_pos h3] at hg
        exact t_resizeC (n := 96) hK hm1 hm2 hf43 hf47 hd m W h1 h2 (by omega) (by omega) (by omega) (by omega) (by omega) hi (.inl ⟨by omega, hg⟩) hQt hQf
      · rw [if_neg h3] at hg
        by_cases h5 : has < sz (ky ob so 0)
        · rw [if_pos h5] at hg
          cases hl : lkA (fu sz (ky ob so 0) has) 96 T (lfT T (ky ob so 0)) with
          | none => rw [hl] at hg; cases hg
          | some T1 =>
            rw [hl] at hg
            obtain ⟨e1, e2⟩ := Prod.mk.inj (Option.some.inj hg)
            subst e1; subst e2
            exact t_resizeC (n := 96) hK hm1 hm2 hf43 hf47 hd m W h1 h2 (by omega) (by omega) (by omega) (by omega) (by omega) hi (.inr ⟨by omega, rfl, hl⟩) hQt hQf
        · rw [if_neg h5] at hg
          obtain ⟨e1, e2⟩ := Prod.mk.inj (Option.some.inj hg)
          subst e1; subst e2
          refine t_resize0 hK (by omega) (by omega) (.inr ⟨hf47, by omega⟩) (hQt rfl s (m.szs (fun b _ k _ => ⟨?_, rfl⟩)) (fun _ _ => rfl))
          by_cases e : k = ky ob so 0
          · rw [e, fu_s]; omega
          · rw [fu_n _ _ e]
  · rw [if_neg hi] at hh hg
    by_cases h0 : has = 0
    · rw [if_pos h0] at hg
      obtain ⟨e1, e2⟩ := Prod.mk.inj (Option.some.inj hg)
      subst e1; subst e2
      refine t_resize0 hK (by omega) (by omega) (.inr ⟨hf47, by omega⟩) (hQt rfl s (m.szs (fun b _ k hk' => ⟨fu_n _ _ ?_, rfl⟩)) (fun _ _ => rfl))
      intro e; rw [e] at hk'; exact hi (W.mem hk')
    · rw [if_neg h0] at hg
      rw [show ((had : Nat) : Int) = 0 by omega]
      refine t_resizeP hK hm1 hm2 hf43 hf47 hd m W h1 h2 h4 (by omega) hi hg (fun h s' m' F' => hQt h s' ?_ F') hQf
      have e : fu tl (ky ob so 0) 0 = tl := by
        funext k
        by_cases e : k = ky ob so 0
        · rw [e, fu_s, htl]
        · rw [fu_n _ _ e]
      rw [e] at m'
      exact m'
end TSet
