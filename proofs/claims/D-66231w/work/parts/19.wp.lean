/-! ===== THE JUDGEMENT Wp OF THE PURE INTERPRETER ===== -/
def mq (y : Nat) : Mt := mTb.getD y (x, code, maxLocals, ret, [], 0)
def ins (y pc : Nat) : Option (Instr × Nat) := match mTb[y]? with
  | some q => dec1 q.2.1 pc
  | none => none
def mC (y : Nat) : Nat := (mq y).2.2.2.2.2
theorem ins_q {y pc : Nat} {r : Instr × Nat} (h : ins y pc = some r) : mTb[y]? = some (mq y) ∧ dec1 (mq y).2.1 pc = some r := by
  unfold ins at h
  unfold mq
  cases hq : mTb[y]? with
  | none => rw [hq] at h; cases h
  | some q => rw [hq] at h; rw [List.getD_eq_getElem?_getD, hq]; exact ⟨rfl, h⟩
theorem rn_succ : ∀ (n d y pc : Nat) (ls : Lc) (st : List Value) (M : Mem) (r : Outcome × Mem), rn n d y pc ls st M = some r → rn (n + 1) d y pc ls st M = some r := by
  intro n
  induction n with
  | zero => intro d y pc ls st M r h; cases h
  | succ n ih =>
    intro d y pc ls st M r h
    rw [rn] at h
    rw [rn]
    split at h
    · cases h
    rename_i q hq
    try simp only [hq]
    split at h
    · cases h
    rename_i i len hd
    try simp only [hd]
    split at h
    · rename_i hA
      try simp only [hA]
      exact ih _ _ _ _ _ _ _ h
    rename_i hA
    try simp only [hA]
    split at h
    · rename_i hM
      try simp only [hM]
      exact ih _ _ _ _ _ _ _ h
    rename_i hM
    try simp only [hM]
    split at h
    · rename_i hc
      try simp only [hc]
      split at h
      · rename_i hq'
        try simp only [hq']
        split at h
        · rename_i he
          try simp only [he]
          split at h
          · rename_i hr
            rw [ih _ _ _ _ _ _ _ hr]
            exact ih _ _ _ _ _ _ _ h
          · rename_i hr
            rw [ih _ _ _ _ _ _ _ hr]
            try simp only []
            split at h
            · rename_i hh
              try simp only [hh]
              exact ih _ _ _ _ _ _ _ h
            · rename_i hh
              try simp only [hh]
              exact h
            · cases h
          · cases h
        · cases h
      · cases h
    rename_i hc
    try simp only [hc]
    split at h
    · rename_i hr
      try simp only [hr]
      exact h
    rename_i hr
    try simp only [hr]
    split at h
    · rename_i ht
      try simp only [ht]
      exact h
    rename_i ht
    try simp only [ht]
    split at h
    · split at h
      · rename_i hl
        rw [if_pos hl]
        split at h
        · rename_i hh
          try simp only [hh]
          exact ih _ _ _ _ _ _ _ h
        · rename_i hh
          try simp only [hh]
          exact h
        · cases h
      · cases h
    · cases h
theorem rn_mono {n m : Nat} (hnm : n ≤ m) {d y pc : Nat} {ls : Lc} {st : List Value} {M : Mem} {r : Outcome × Mem} (h : rn n d y pc ls st M = some r) : rn m d y pc ls st M = some r := by
  induction hnm with
  | refl => exact h
  | step _ ih => exact rn_succ _ _ _ _ _ _ _ _ ih
/-- from here the method comes to an end, with an outcome and a memory of which Q holds -/
def Wp (d y pc : Nat) (ls : Lc) (st : List Value) (M : Mem) (Q : Outcome → Mem → Prop) : Prop := ∃ n o M', rn n d y pc ls st M = some (o, M') ∧ Q o M'
theorem Wp.mono {d y pc : Nat} {ls : Lc} {st : List Value} {M : Mem} {Q Q' : Outcome → Mem → Prop} (h : Wp d y pc ls st M Q) (hq : ∀ o M', Q o M' → Q' o M') : Wp d y pc ls st M Q' := by
  obtain ⟨n, o, M', h1, h2⟩ := h
  exact ⟨n, o, M', h1, hq _ _ h2⟩
/-- an exception is thrown at a place -/
def Th (d y pc : Nat) (ls : Lc) (a : Nat) (M : Mem) (Q : Outcome → Mem → Prop) : Prop := match hnd (mq y) pc a M with
  | some (some h) => Wp d y h ls [.ref a] M Q
  | some none => Q (.threw a) M
  | none => False
/-- what must hold of a call's end -/
def Cq (d y pc : Nat) (ls : Lc) (r : List Value) (Q : Outcome → Mem → Prop) (o : Outcome) (M' : Mem) : Prop := match o with
  | .returned v => Wp d y (pc + 3) ls (v.toList ++ r) M' Q
  | .threw a => Th d y pc ls a M' Q
/-- a call -/
def Ca (d y pc : Nat) (ls : Lc) (y' : Nat) (as r : List Value) (M : Mem) (Q : Outcome → Mem → Prop) : Prop :=
  0 < d ∧ ∃ q', mTb[y']? = some q' ∧ ∃ ls', entL q'.2.2.1 as = some ls' ∧ Wp (d - 1) y' 0 ls' [] M (Cq d y pc ls r Q)
def Xo (y : Nat) (i : Instr) (len d pc : Nat) (ls : Lc) (st : List Value) (M : Mem) (Q : Outcome → Mem → Prop) : Prop :=
  match stA i len pc ls st with
  | some (pc', ls', st') => Wp d y pc' ls' st' M Q
  | none => match stM (mC y) ((mq y).1.name == "<init>") i len pc st M with
    | some (pc', st', M') => Wp d y pc' ls st' M' Q
    | none => match cal (mC y) i len st M with
      | some (y', as, r) => Ca d y pc ls y' as r M Q
      | none => match rt1 (mq y) i len st with
        | some v => Q (.returned v) M
        | none => match tnw (mq y) i len pc st M with
          | some M' => Q (.threw (mN M)) M'
          | none => match i, st with
            | .athrow, .ref a :: _ => if len = 1 then Th d y pc ls a M Q else False
            | _, _ => False
theorem Wp_iff {d y pc : Nat} {ls : Lc} {st : List Value} {M : Mem} {Q : Outcome → Mem → Prop} {i : Instr} {len : Nat} (h : ins y pc = some (i, len)) : Wp d y pc ls st M Q ↔ Xo y i len d pc ls st M Q := by
  obtain ⟨hq, hd⟩ := ins_q h
  have hmC : mC y = (mq y).2.2.2.2.2 := rfl
  constructor
  · rintro ⟨n, o, M', h1, h2⟩
    cases n with
    | zero => cases h1
    | succ n =>
      rw [rn] at h1
      simp only [hq, hd] at h1
      unfold Xo
      simp only [hmC]
      split at h1
      · rename_i hA
        try simp only [hA]
        exact ⟨n, o, M', h1, h2⟩
      rename_i hA
      try simp only [hA]
      split at h1
      · rename_i hM
        try simp only [hM]
        exact ⟨n, o, M', h1, h2⟩
      rename_i hM
      try simp only [hM]
      split at h1
      · rename_i hc
        try simp only [hc]
        split at h1
        · rename_i d' q' hq'
          split at h1
          · rename_i he
            split at h1
            · rename_i hr
              exact ⟨Nat.succ_pos _, _, hq', _, he, n, _, _, hr, n, o, M', h1, h2⟩
            · rename_i hr
              refine ⟨Nat.succ_pos _, _, hq', _, he, n, _, _, hr, ?_⟩
              simp only [Cq, Th]
              split at h1
              · rename_i hh
                try simp only [hh]
                exact ⟨n, o, M', h1, h2⟩
              · rename_i hh
                try simp only [hh]
                cases h1
                exact h2
              · cases h1
            · cases h1
          · cases h1
        · cases h1
      rename_i hc
      try simp only [hc]
      split at h1
      · rename_i hr
        try simp only [hr]
        cases h1
        exact h2
      rename_i hr
      try simp only [hr]
      split at h1
      · rename_i ht
        try simp only [ht]
        cases h1
        exact h2
      rename_i ht
      try simp only [ht]
      split at h1
      · split at h1
        · rename_i hl
          subst hl
          simp only [if_true, Th]
          split at h1
          · rename_i hh
            try simp only [hh]
            exact ⟨n, o, M', h1, h2⟩
          · rename_i hh
            try simp only [hh]
            cases h1
            exact h2
          · cases h1
        · cases h1
      · cases h1
  · intro h1
    unfold Xo at h1
    simp only [hmC] at h1
    split at h1
    · rename_i hA
      obtain ⟨n, o, M', h1, h2⟩ := h1
      exact ⟨n + 1, o, M', by rw [rn]; simp only [hq, hd, hA]; exact h1, h2⟩
    rename_i hA
    split at h1
    · rename_i hM
      obtain ⟨n, o, M', h1, h2⟩ := h1
      exact ⟨n + 1, o, M', by rw [rn]; simp only [hq, hd, hA, hM]; exact h1, h2⟩
    rename_i hM
    split at h1
    · rename_i hc
      obtain ⟨hpos, q', hq', ls', he, n, o, M', h1, h2⟩ := h1
      obtain ⟨d', rfl⟩ : ∃ d', d = d' + 1 := ⟨d - 1, by omega⟩
      rw [Nat.add_sub_cancel] at h1
      cases o with
      | returned v =>
        obtain ⟨n2, o2, M2, h3, h4⟩ := h2
        exact ⟨max n n2 + 1, o2, M2, by rw [rn]; simp only [hq, hd, hA, hM, hc, hq', he, rn_mono (Nat.le_max_left n n2) h1]; exact rn_mono (Nat.le_max_right n n2) h3, h4⟩
      | threw a =>
        simp only [Cq, Th] at h2
        split at h2
        · rename_i hh
          obtain ⟨n2, o2, M2, h3, h4⟩ := h2
          exact ⟨max n n2 + 1, o2, M2, by rw [rn]; simp only [hq, hd, hA, hM, hc, hq', he, rn_mono (Nat.le_max_left n n2) h1, hh]; exact rn_mono (Nat.le_max_right n n2) h3, h4⟩
        · rename_i hh
          exact ⟨n + 1, _, _, by rw [rn]; simp only [hq, hd, hA, hM, hc, hq', he, h1, hh], h2⟩
        · exact h2.elim
    rename_i hc
    split at h1
    · rename_i hr
      exact ⟨1, _, _, by rw [rn]; simp only [hq, hd, hA, hM, hc, hr], h1⟩
    rename_i hr
    split at h1
    · rename_i ht
      exact ⟨1, _, _, by rw [rn]; simp only [hq, hd, hA, hM, hc, hr, ht], h1⟩
    rename_i ht
    split at h1
    · split at h1
      · rename_i hl
        subst hl
        simp only [Th] at h1
        split at h1
        · rename_i hh
          obtain ⟨n, o, M', h1, h2⟩ := h1
          exact ⟨n + 1, o, M', by rw [rn]; simp only [hq, hd, hA, hM, hc, hr, ht, hh]; exact h1, h2⟩
        · rename_i hh
          exact ⟨1, _, _, by rw [rn]; simp only [hq, hd, hA, hM, hc, hr, ht, hh, if_true], h1⟩
        · exact h1.elim
      · exact h1.elim
    · exact h1.elim
theorem wA {d y pc : Nat} {ls : Lc} {st : List Value} {M : Mem} {Q : Outcome → Mem → Prop} {i : Instr} {len pc' : Nat} {ls' : Lc} {st' : List Value} (h : ins y pc = some (i, len)) (hA : stA i len pc ls st = some (pc', ls', st')) : Wp d y pc ls st M Q = Wp d y pc' ls' st' M Q := by
  refine propext ((Wp_iff h).trans ?_)
  unfold Xo
  rw [hA]
