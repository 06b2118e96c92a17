/-! ===== THE COMPONENT: the device and its journal, in one word ===== -/
section CDj
variable {d p m J : Nat} {M M' : Mem} {A A' : Ad} {T T' : Tr} {X X' : Ob} {Q : Outcome → Mem → Prop} {ok : Bool} {dt : Nat → Nat → Nat} {wr lf cm : Int} {off : Bool} {full : Nat} {sg : Nat → Int} {jr hm la : Nat → Nat → Nat}
theorem ovg_at {jr jr' : Nat → Nat → Nat} : ∀ {g : List Nat} {k : Nat} {la la' : Nat → Nat → Nat} (b : Nat), (∀ i, k ≤ i → i < k + g.length → jr' i = jr i) → (b ∈ g ∨ la' b = la b) → ovg jr' g k la' b = ovg jr g k la b
  | [], k, la, la', b, _, h => by
    rcases h with h | h
    · cases h
    · exact h
  | x :: g, k, la, la', b, hj, h => by
    rw [ovg, ovg]
    refine ovg_at b (fun i h1 h2 => hj i (by omega) (by rw [List.length_cons]; omega)) ?_
    by_cases e : b = x
    · right
      rw [e, fu_s, fu_s]; exact hj k (Nat.le_refl _) (by rw [List.length_cons]; omega)
    · rw [fu_n _ _ e, fu_n _ _ e]
      rcases h with h | h
      · rcases List.mem_cons.mp h with h | h
        · exact absurd h e
        · exact .inl h
      · exact .inr h
theorem ovl_at {jr jr' : Nat → Nat → Nat} : ∀ {Gs : List (List Nat)} {k k' : Nat} {sg : Nat → Int} {la la' : Nat → Nat → Nat} (b : Nat), Enc sg k Gs k' → (∀ i, k ≤ i → i < k' → jr' i = jr i) → (b ∈ Gs.flatten ∨ la' b = la b) → ovl jr' Gs k la' b = ovl jr Gs k la b
  | [], k, k', sg, la, la', b, _, _, h => by
    rcases h with h | h
    · cases h
    · exact h
  | g :: Gs, k, k', sg, la, la', b, hE, hj, h => by
    rw [ovl, ovl]
    have hle := Enc.le hE.2.2.2
    refine ovl_at b hE.2.2.2 (fun i h1 h2 => hj i (by omega) h2) ?_
    by_cases e : b ∈ Gs.flatten
    · exact .inl e
    · right
      refine ovg_at b (fun i h1 h2 => hj i (by omega) (by omega)) ?_
      rcases h with h | h
      · rw [List.flatten_cons, List.mem_append] at h
        rcases h with h | h
        · exact .inl h
        · exact absurd h e
      · exact .inr h
theorem ovl_n {jr : Nat → Nat → Nat} : ∀ {Gs : List (List Nat)} {k : Nat} {la : Nat → Nat → Nat} (b : Nat), b ∉ Gs.flatten → ovl jr Gs k la b = la b
  | [], _, _, _, _ => rfl
  | g :: Gs, k, la, b, h => by
    rw [List.flatten_cons, List.mem_append] at h
    have h1 : b ∉ g := fun e => h (.inl e)
    have h2 : b ∉ Gs.flatten := fun e => h (.inr e)
    rw [ovl, ovl_n b h2]
    have : ∀ (g : List Nat) (k : Nat) (la : Nat → Nat → Nat), b ∉ g → ovg jr g k la b = la b := by
      intro g
      induction g with
      | nil => intro k la _; rfl
      | cons x g ih =>
        intro k la hb
        rw [ovg, ih _ _ (fun e => hb (List.mem_cons_of_mem _ e)), fu_n _ _ (fun e => hb (by rw [e]; exact List.mem_cons_self ..))]
    exact this g _ _ h1
theorem ovl_app {jr : Nat → Nat → Nat} {sg : Nat → Int} {g : List Nat} : ∀ {Gs : List (List Nat)} {k k' : Nat} {la : Nat → Nat → Nat}, Enc sg k Gs k' → ovl jr (Gs ++ [g]) k la = ovg jr g (k' + 1) (ovl jr Gs k la)
  | [], k, k', la, h => by
    have : k = k' := h
    subst this
    rfl
  | g' :: Gs, k, k', la, h => by
    rw [List.cons_append, ovl, ovl_app h.2.2.2, ovl]
theorem ovg_get {jr : Nat → Nat → Nat} : ∀ {g : List Nat} {k i b : Nat} {la : Nat → Nat → Nat}, g.Nodup → g[i]? = some b → ovg jr g k la b = jr (k + i)
  | [], k, i, b, la, _, h => by cases h
  | x :: g, k, i, b, la, hn, h => by
    obtain ⟨n1, n2⟩ := List.nodup_cons.mp hn
    rw [ovg]
    cases i with
    | zero =>
      obtain rfl := Option.some.inj h
      have : ∀ (g : List Nat) (k : Nat) (la : Nat → Nat → Nat), x ∉ g → ovg jr g k la x = la x := by
        intro g
        induction g with
        | nil => intro k la _; rfl
        | cons y g ih =>
          intro k la hb
          rw [ovg, ih _ _ (fun e => hb (List.mem_cons_of_mem _ e)), fu_n _ _ (fun e => hb (by rw [e]; exact List.mem_cons_self ..))]
      rw [this g _ _ n1, fu_s]; rfl
    | succ i =>
      rw [List.getElem?_cons_succ] at h
      rw [ovg_get n2 h, show k + 1 + i = k + (i + 1) by omega]
/-- the device: writes, what is left, whether it is off, commits, the journal's use, what blocks stand in it, rows as committed last -/
def DJ (M : Mem) (p m J : Nat) (wr lf : Int) (off : Bool) (cm : Int) (ju : Nat) (lj : Nat → Bool) (la : Nat → Nat → Nat) : Prop :=
  ∃ full sg jr hm Gs, DevS M p m J wr lf off cm full sg jr hm la ∧ Enc sg 0 Gs ju ∧ ju ≤ full ∧ (∀ i, ju ≤ i → i < full → sg i ≠ -3) ∧ (∀ g ∈ Gs, ∀ b ∈ g, b < m) ∧ (∀ b i, b < m → i < 129 → ovl jr Gs 0 hm b i % 256 = la b i % 256) ∧ (off = false → ju = full) ∧ (∀ b, lj b = decide (b ∈ Gs.flatten))
theorem DJ.lj_lt {ju : Nat} {lj : Nat → Bool} (h : DJ M p m J wr lf off cm ju lj la) {b : Nat} (hb : lj b = true) : b < m := by
  obtain ⟨full, sg, jr, hm, Gs, _, _, _, _, hG, _, _, hl⟩ := h
  rw [hl b] at hb
  obtain ⟨g, g1, g2⟩ := List.mem_flatten.mp (of_decide_eq_true hb)
  exact hG g g1 b g2
theorem DJ.f {ju : Nat} {lj : Nat → Bool} (h : DJ M p m J wr lf off cm ju lj la) : mF M 29 (p + 205) = I wr ∧ mF M 23 (p + 205) = I lf ∧ mF M 25 (p + 205) = I (bI off) ∧ mF M 19 (p + 205) = I cm ∧ (off = false → mF M 20 (p + 205) = I (ju : Nat)) ∧ ju ≤ J ∧ -1 ≤ lf ∧ lf < 2147483648 ∧ (∀ b, b < m → Rw M (p + 304 + b) (la b)) := by
  obtain ⟨full, sg, jr, hm, Gs, ⟨⟨a1, a2, a3, a4, a5, a6, a7, a8⟩, _, _, _, b4⟩, _, e2, _, _, _, e3, _⟩ := h
  exact ⟨a1, a2, a3, a4, fun ho => by rw [e3 ho]; exact a5, by omega, a7, a8, b4⟩
theorem DevS.eqr {la' : Nat → Nat → Nat} (h : DevS M p m J wr lf off cm full sg jr hm la) (h3 : ∀ b i, b < m → i < 129 → la' b i % 256 = la b i % 256) : DevS M p m J wr lf off cm full sg jr hm la' := by
  obtain ⟨a, b1, b2, b3, b4⟩ := h
  refine ⟨a, b1, b2, b3, fun b hb => ⟨(b4 b hb).1, fun i hi => ?_⟩⟩
  rw [(b4 b hb).2 i hi, ← bB_n (la b i), ← h3 b i hb hi, bB_n]
/-- what isn't told of a call: the component's memory alone changes -/
def CD (p J : Nat) (A A' : Ad) (x : Nat) (M M' : Mem) : Prop :=
  (∀ a, a < mN M → mK M' a = mK M a) ∧ (∀ a, a < mN M → ¬ Cs p J A a → Sm M M' a) ∧
  (∀ b q, A.1 b = some q → A'.1 b = some q) ∧ (∀ b q, A.2 b = some q → A'.2 b = some q) ∧
  (∀ b q, A'.1 b = some q → A.1 b = some q ∨ mN M ≤ q) ∧ (∀ b q, A'.2 b = some q → A.2 b = some q ∨ mN M ≤ q) ∧
  mN M ≤ mN M' ∧ mN M' + nC A ≤ mN M + nC A' + x ∧ mS M' + sC A ≤ mS M + sC A' + 6 * x
theorem CF.cd {x : Nat} (F : CF p A A' x M M') (J : Nat) : CD p J A A' x M M' := by
  obtain ⟨a1, a2, a3⟩ := F
  refine ⟨a1, fun a ha hn => a2 a ha (fun ho => hn ?_), a3⟩
  rcases ho with h | h | h
  · exact .inl ⟨by omega, by omega⟩
  · exact .inr (.inl h)
  · exact .inr (.inr h)
theorem De.cd (F : De p J M M') (A : Ad) : CD p J A A 0 M M' := by
  have f := F.f1
  refine ⟨fun a _ => f.2.2.2.2.2.2.2 a, fun a _ hn => ⟨fun g => F.2.2.2.1 g a (fun h => hn (.inl ⟨by omega, by omega⟩)), fun g => f.2.2.1 g a, fun i => F.2.2.2.2 a i ?_, fun i => f.2.2.2.1 a i, fun i => f.2.2.2.2.1 a i⟩, fun _ _ h => h, fun _ _ h => h, fun _ _ h => .inl h, fun _ _ h => .inl h, ?_, ?_, ?_⟩
  · apply Classical.byContradiction
    intro hc
    exact hn (.inl ⟨by omega, by omega⟩)
  · rw [f.2.2.2.2.2.1]; exact Nat.le_refl _
  · rw [f.2.2.2.2.2.1]; exact Nat.le_refl _
  · rw [f.2.2.2.2.2.2.1]; exact Nat.le_refl _
theorem CD.trans {x x' : Nat} {A'' : Ad} {M'' : Mem} (h : CD p J A A' x M M') (h' : CD p J A' A'' x' M' M'') : CD p J A A'' (x + x') M M'' := by
  obtain ⟨a1, a2, a3, a4, a5, a6, a7, a8, a9⟩ := h
  obtain ⟨b1, b2, b3, b4, b5, b6, b7, b8, b9⟩ := h'
  refine ⟨fun a ha => (b1 a (by omega)).trans (a1 a ha), fun a ha hn => (a2 a ha hn).trans (b2 a (by omega) (fun ho => hn ?_)), fun b q hq => b3 b q (a3 b q hq), fun b q hq => b4 b q (a4 b q hq), fun b q hq => ?_, fun b q hq => ?_, by omega, by omega, by omega⟩
  · rcases ho with h | ⟨b, q, h1, h2, h3⟩ | ⟨b, q, h1, h2, h3⟩
    · exact .inl h
    · rcases a5 b q h1 with h | h
      · exact .inr (.inl ⟨b, q, h, h2, h3⟩)
      · omega
    · rcases a6 b q h1 with h | h
      · exact .inr (.inr ⟨b, q, h, h2, h3⟩)
      · omega
  · rcases b5 b q hq with h | h
    · exact a5 b q h
    · exact .inr (by omega)
  · rcases b6 b q hq with h | h
    · exact a6 b q h
    · exact .inr (by omega)
theorem CX.de (C : CX M p m J A T X) (F : De p J M M') : CX M' p m J A T X := ⟨C.1.de F, C.2.1.de C.2.2.2.1 C.1.2.2.2.2.1.1 F, C.2.2.1, C.2.2.2.1, by rw [F.f1.2.2.2.2.2.1]; exact C.2.2.2.2⟩
theorem DR.de (D : DR M p T dt) (hu : ∀ b, tU T b = true → b < 96) (F : De p J M M') : DR M' p T dt := by
  intro b h1 h2 h3
  have r := D b h1 h2 h3
  have hb := hu b h1
  exact ⟨by rw [F.f1.2.1]; exact r.1, fun i hi => by rw [F.2.2.2.2 _ _ (.inl (by omega))]; exact r.2 i hi⟩
/-- the device stays when only the rest of the component changes -/
theorem DJ.cf {x : Nat} {ju : Nat} {lj : Nat → Bool} (h : DJ M p m J wr lf off cm ju lj la) (N : NB A (p + 403 + J)) (hl : p + 403 + J ≤ mN M) (hm96 : m ≤ 96) (F : CF p A A' x M M') : DJ M' p m J wr lf off cm ju lj la := by
  obtain ⟨full, sg, jr, hm, Gs, ⟨⟨a1, a2, a3, a4, a5, a6, a7, a8⟩, b1, b2, b3, b4⟩, r⟩ := h
  have hno : ∀ a, p + 205 ≤ a → a ≤ p + 402 + J → ¬ CO p A a := by
    intro a h1 h2 ho
    rcases ho with h | ⟨b, q, h, h3, h4⟩ | ⟨b, q, h, h3, h4⟩
    · omega
    · have := N b q (.inl h); omega
    · have := N b q (.inr h); omega
  have sm : ∀ a, p + 205 ≤ a → a ≤ p + 402 + J → Sm M M' a := fun a h1 h2 => F.2.1 a (by omega) (hno a h1 h2)
  have oR : ∀ a g, p + 205 ≤ a → a ≤ p + 402 + J → Rw M a g → Rw M' a g := by
    intro a g h1 h2 r
    refine ⟨?_, fun i hi => by rw [(sm a h1 h2).2.2.1]; exact r.2 i hi⟩
    have := r.1
    unfold kX at this ⊢
    rw [F.1 a (by omega)]; exact this
  have s5 := (sm (p + 205) (by omega) (by omega)).1
  refine ⟨full, sg, jr, hm, Gs, ⟨⟨by rw [s5]; exact a1, by rw [s5]; exact a2, by rw [s5]; exact a3, by rw [s5]; exact a4, by rw [s5]; exact a5, a6, a7, a8⟩, fun i hi => by rw [(sm (p + 402 + J) (by omega) (by omega)).2.2.1]; exact b1 i hi, fun i hi h0 => oR _ _ (by omega) (by omega) (b2 i hi h0), fun b hb => oR _ _ (by omega) (by omega) (b3 b hb), fun b hb => oR _ _ (by omega) (by omega) (b4 b hb)⟩, r⟩
/-- writes that a checkpoint tries; what it leaves -/
theorem n_dcheck (hd : 4 ≤ d) (P : PK M p m J) {ju : Nat} {lj : Nat → Bool} (h : DJ M p m J wr lf false cm ju lj la)
    (hQ0 : ju = 0 → Q (.returned none) M)
    (hQ1 : ju ≠ 0 → (wn lf (cn lj m + 1)).2.2 = true → ∀ M', De p J M M' → DJ M' p m J (wr + ((wn lf (cn lj m + 1)).1 : Nat)) (wn lf (cn lj m + 1)).2.1 true cm ju lj la → Q (.returned none) M')
    (hQ2 : ju ≠ 0 → (wn lf (cn lj m + 1)).2.2 = false → ∀ M', De p J M M' → DJ M' p m J (wr + ((wn lf (cn lj m + 1)).1 : Nat)) (wn lf (cn lj m + 1)).2.1 false cm 0 (fun _ => false) la → Q (.returned none) M') :
    Wp d 114 0 [some (.ref (p + 205)), none, none] [] M Q := by
  obtain ⟨full, sg, jr, hm, Gs, D, e1, e2, e3, e4, e5, e6, e7⟩ := h
  have ef := e6 rfl
  subst ef
  have hlj : (fun b => decide (b ∈ Gs.flatten)) = lj := by funext b; exact (e7 b).symm
  refine c_checkpoint hd P D e1 e2 e3 e4 hQ0 (fun hf M' hm' F P' D' c1 c2 => ?_)
  rw [hlj] at D' c2
  have inl : ∀ b, b ∈ Gs.flatten → b < m := fun b hb => by
    obtain ⟨g, g1, g2⟩ := List.mem_flatten.mp hb
    exact e4 g g1 b g2
  cases hw : (wn lf (cn lj m + 1)).2.2 with
  | true =>
    rw [hw, if_pos rfl] at D'
    refine hQ1 hf hw M' F ⟨ju, sg, jr, hm', Gs, D', e1, e2, e3, e4, fun b i hb hi => ?_, fun h => (by cases h), e7⟩
    rw [← e5 b i hb hi]
    refine congrArg (fun f => f i % 256) (ovl_at b e1 (fun _ _ _ => rfl) ?_)
    rcases c1 b hb with h | h
    · exact .inr h
    · exact .inl h.1
  | false =>
    rw [hw, if_neg (by simp)] at D'
    refine hQ2 hf hw M' F ⟨0, sg, jr, hm', [], D', rfl, Nat.le_refl _, fun i h1 h2 => by omega, fun g hg => (by cases hg), fun b i hb hi => ?_, fun _ => rfl, fun b => by simp⟩
    show hm' b i % 256 = la b i % 256
    by_cases hb' : b ∈ Gs.flatten
    · rw [c2 hw b hb hb']
    · rcases c1 b hb with h | h
      · rw [h, ← e5 b i hb hi, ovl_n b hb']
      · exact absurd h.1 hb'
theorem cl_nd (u : Nat → Bool) : ∀ b, (cl u b).Nodup := by
  intro b
  induction b with
  | zero => exact List.nodup_nil
  | succ b ih =>
    rw [cl]
    split
    · refine List.nodup_append.mpr ⟨ih, by simp, fun x hx y hy => ?_⟩
      rw [List.mem_singleton] at hy
      have := (cl_lt u).mp hx
      omega
    · simpa using ih
theorem n_dcommit (hd : 4 ≤ d) (P : PK M p m J) {ju : Nat} {lj : Nat → Bool} (h : DJ M p m J wr lf false cm ju lj la) {chg : Nat → Bool} {im : Nat → Nat → Nat} (hch : ∀ b, b < m → mA M (p + 195) b = I (bI (chg b))) (him : ∀ b, b < m → chg b = true → Rw M (p + 2 + b) (im b)) (hroom : ju + cn chg m + 2 ≤ J) {la2 : Nat → Nat → Nat} (hla : ∀ b i, b < m → i < 129 → la2 b i % 256 = (if chg b = true then im b else la b) i % 256)
    (hQ1 : (wn lf (cn chg m + 2)).2.2 = true → (wn lf (cn chg m + 2)).2.1 = -1 → ∀ M', De p J M M' → DJ M' p m J (wr + ((wn lf (cn chg m + 2)).1 : Nat)) (-1) true cm ju lj la → Q (.returned none) M')
    (hQ2 : (wn lf (cn chg m + 2)).2.2 = false → ∀ M', De p J M M' → DJ M' p m J (wr + ((cn chg m + 2 : Nat) : Int)) (wn lf (cn chg m + 2)).2.1 false (cm + 1) (ju + cn chg m + 2) (fun b => lj b || (decide (b < m) && chg b)) la2 → Q (.returned none) M') :
    Wp d 117 0 [some (.ref (p + 205)), some (.ref (p + 1)), some (.ref (p + 195)), none, none] [] M Q := by
  obtain ⟨full, sg, jr, hm, Gs, D, e1, e2, e3, e4, e5, e6, e7⟩ := h
  have ef := e6 rfl
  subst ef
  refine c_dcommit hd P D hch him hroom (fun hw M' full' sg' jr' F P' D' h1 h2 h3 h4 => ?_) (fun hw M' sg' jr' F P' D' hJ hs => ?_)
  · refine hQ1 hw h4 M' F ⟨full', sg', jr', hm, Gs, D', e1.congr (fun i hi => (h2 i hi).1), h1, h3, e4, fun b i hb hi => ?_, fun h => (by cases h), e7⟩
    rw [← e5 b i hb hi]
    exact congrArg (fun f => f i % 256) (ovl_at b e1 (fun i _ hi => (h2 i hi).2) (.inr rfl))
  · obtain ⟨j1, j2, j3⟩ := hJ
    have hE' : Enc sg' 0 (Gs ++ [cl chg m]) (ju + (cl chg m).length + 2) := (e1.congr (fun i hi => (j1 i hi).1)).app j2 (fun i b hb => (j3 i b hb).1) (by rw [cl_len]; exact hs)
    rw [cl_len] at hE'
    have hfl : (Gs ++ [cl chg m]).flatten = Gs.flatten ++ cl chg m := by rw [List.flatten_append]; simp
    refine hQ2 hw M' F ⟨_, sg', jr', hm, Gs ++ [cl chg m], D'.eqr (fun b i hb hi => hla b i hb hi), hE', Nat.le_refl _, fun i h1 h2 => by omega, fun g hg b hb => ?_, fun b i hb hi => ?_, fun _ => rfl, fun b => ?_⟩
    · rcases List.mem_append.mp hg with hg | hg
      · exact e4 g hg b hb
      · rw [List.mem_singleton] at hg
        rw [hg] at hb
        exact ((cl_lt chg).mp hb).1
    · rw [ovl_app e1, hla b i hb hi]
      by_cases hbc : b ∈ cl chg m
      · obtain ⟨i0, h0, h1⟩ := List.getElem_of_mem hbc
        have h2 : (cl chg m)[i0]? = some b := by rw [List.getElem?_eq_getElem h0, h1]
        rw [ovg_get (cl_nd chg m) h2, (j3 i0 b h2).2, if_pos ((cl_lt chg).mp hbc).2]
      · have hc : ¬ chg b = true := fun h => hbc ((cl_lt chg).mpr ⟨hb, h⟩)
        rw [if_neg hc, ← e5 b i hb hi]
        have h1 : ∀ (g : List Nat) (k : Nat) (la : Nat → Nat → Nat), b ∉ g → ovg jr' g k la b = la b := by
          intro g
          induction g with
          | nil => intro k la _; rfl
          | cons y g ih =>
            intro k la hb
            rw [ovg, ih _ _ (fun e => hb (List.mem_cons_of_mem _ e)), fu_n _ _ (fun e => hb (by rw [e]; exact List.mem_cons_self ..))]
        rw [h1 _ _ _ hbc]
        exact congrArg (fun f => f i % 256) (ovl_at b e1 (fun i _ hi => (j1 i hi).2) (.inr rfl))
    · show (lj b || (decide (b < m) && chg b)) = _
      rw [e7 b, hfl]
      by_cases h1 : b ∈ Gs.flatten
      · simp [h1]
      · by_cases h2 : b ∈ cl chg m
        · have := (cl_lt chg).mp h2
          simp [h1, h2, this.1, this.2]
        · have h3 : (decide (b < m) && chg b) = false := by
            cases hh : (decide (b < m) && chg b) with
            | false => rfl
            | true =>
              rw [Bool.and_eq_true] at hh
              exact absurd ((cl_lt chg).mpr ⟨of_decide_eq_true hh.1, hh.2⟩) h2
          rw [h3]
          simp [h1, h2]
theorem n_drecover (hd : 4 ≤ d) (P : PK M p m J) {ju : Nat} {lj : Nat → Bool} (h : DJ M p m J wr lf off cm ju lj la) (hQ : ∀ M', De p J M M' → DJ M' p m J wr lf false cm ju lj la → Q (.returned none) M') : Wp d 119 0 [some (.ref (p + 205)), none] [] M Q := by
  obtain ⟨full, sg, jr, hm, Gs, D, e1, e2, e3, e4, e5, e6, e7⟩ := h
  refine c_recover hd P D e1 e2 e3 e4 (fun M' F P' D' => ?_)
  exact hQ M' F ⟨ju, sg, jr, hm, Gs, D'.eqr (fun b i hb hi => (e5 b i hb hi).symm), e1, Nat.le_refl _, fun i h1 h2 => by omega, e4, e5, fun _ => rfl, e7⟩
end CDj
