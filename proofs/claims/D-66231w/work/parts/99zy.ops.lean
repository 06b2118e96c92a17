/-! ===== THE COMPONENT'S CALLS, BY CODES ===== -/
section Ops
variable {d p q m J : Nat} {M M' : Mem} {A A' : Ad} {T T' Tc : Tr} {X X' Xc : Ob} {dt dtc la : Nat → Nat → Nat} {par parc : Nat → Nat} {v : Dv} {Q : Outcome → Mem → Prop}
theorem CX.m96 (C : CX M p m J A T X) : m ≤ 96 := C.1.2.2.2.2.2.2.2.2.2.2.2.1
theorem C_look (hd : 60 ≤ d) (C : CX M p m J A T X) (D : DR M p T dt) (w : WO m T X dt par) {off : Bool} (hoff : mF M 25 (p + 205) = I (bI off)) {z n : Int} (z0 : -2147483648 ≤ z) (z1 : z < 2147483648) (n0 : -2147483648 ≤ n) (n1 : n < 2147483648)
    (hX : loC off T X z ≠ 0 → Thr p m J A T X dt M Q (fun k => k = 10 + loC off T X z)) (hR : loC off T X z = 0 → ∀ M', CX M' p m J A T X → DR M' p T dt → CF p A A 0 M M' → Q (.returned (some (.int (I (tol T X z.toNat n))))) M') :
    Wp d 73 0 [some (.ref p), some (.int (I z)), some (.int (I n))] [] M Q := by
  unfold loC at hX hR
  refine c_look (by omega) C D w.ok.1 hoff z0 z1 n0 n1 (fun k M' A' a ka hP => ?_) (fun h1 h2 => ?_)
  · rcases hP with ⟨hk, h⟩ | ⟨h, hk, h'⟩
    · rw [if_pos h] at hX
      exact hX (by omega) k M' A' a ka hk
    · rw [if_neg (by rw [h]; simp), if_neg (by rw [h']; simp)] at hX
      exact hX (by omega) k M' A' a ka hk
  · rw [if_neg (by rw [h1]; simp), if_pos h2] at hR
    exact hR rfl
theorem C_make (hd : 60 ≤ d) (C : CX M p m J A T X) (D : DR M p T dt) (w : WO m T X dt par) {off : Bool} (hoff : mF M 25 (p + 205) = I (bI off)) {z n : Int} (z0 : -2147483648 ≤ z) (z1 : z < 2147483648) (n0 : -2147483648 ≤ n) (n1 : n < 2147483648) {dir : Bool} {u : Nat} (hu : u = fro (fun o => iso T o) 60 1)
    (hX : mkC m off T X z n dir ≠ 0 → Thr p m J A T X dt M Q (fun k => k = 10 + mkC m off T X z n dir))
    (hR : mkC m off T X z n dir = 0 → ∀ T1 T2, stT m (szO X) T (ky u 0 0) 6 = some (true, T1) → stT m (szO (vS X u (if dir = true then 1 else 2) 1 0)) T1 (ky z.toNat 1 n.toNat) 3 = some (true, T2) → ∀ M' A', CX M' p m J A' T2 (mkX X z.toNat n.toNat u (if dir = true then 1 else 2)) → DR M' p T2 dt → CF p A A' 0 M M' → WO m T2 (mkX X z.toNat n.toNat u (if dir = true then 1 else 2)) dt (if (if dir = true then 1 else 2) = 1 then fu par u z.toNat else par) → Q (.returned (some (.int (I (u : Nat))))) M') :
    Wp d 29 0 [some (.ref p), some (.int (I z)), some (.int (I n)), some (.int (I (bI dir))), none, none] [] M Q := by
  have hm := C.m96
  obtain ⟨s1, s2⟩ := w.sm
  obtain ⟨f1, f2, f3, f4⟩ := fro_cn (fun o => iso T o) 60 1
  rw [← hu] at f1 f2 f3 f4
  have hnu : u ≤ 60 → ky u 0 0 ∉ its T ∧ 1 ≤ u := by
    intro h60
    refine ⟨fun h => ?_, f3⟩
    have := f2 (by omega)
    rw [show iso T (u : Int) = true from decide_eq_true ⟨by omega, by omega, by rw [Int.toNat_natCast]; exact h⟩] at this
    cases this
  unfold mkC at hX hR
  rw [← hu] at hX hR
  refine c_make (by omega) C D w.ok.1 hoff z0 z1 n0 n1 hu hnu (fun o => by have := s1 o; omega) (fun k M' A' a ka hP => ?_) (fun h1 h2 h3 h4 h5 T1 T2 g1 g2 S1 S2 M' A' C' D' F' => ?_)
  · rcases hP with ⟨hk, h⟩ | ⟨h, hk, h'⟩ | ⟨h, h', hk, h''⟩ | ⟨h, h', h'', hk, h3⟩ | ⟨h, h', h'', hk, h3, h4, h5⟩
    · rw [if_pos h] at hX
      exact hX (by omega) k M' A' a ka hk
    · rw [if_neg (by rw [h]; simp), if_pos h'] at hX
      exact hX (by omega) k M' A' a ka hk
    · rw [if_neg (by rw [h]; simp), if_neg (by rw [h']; simp), if_pos h''] at hX
      exact hX (by omega) k M' A' a ka hk
    · rw [if_neg (by rw [h]; simp), if_neg (by rw [h']; simp), if_neg (fun hh => hh h''), if_pos h3] at hX
      exact hX (by omega) k M' A' a ka hk
    · rw [if_neg (by rw [h]; simp), if_neg (by rw [h']; simp), if_neg (fun hh => hh h''), if_neg (fun hh => hh ⟨h3, h4⟩)] at hX
      rcases h5 with ⟨T1, g⟩ | ⟨T1, T2, g, g'⟩
      · rw [g] at hX
        exact hX (by simp) k M' A' a ka hk
      · rw [g] at hX
        simp only [g'] at hX
        exact hX (by simp) k M' A' a ka hk
  · rw [if_neg (by rw [h1]; simp), if_neg (by rw [h2]; simp), if_neg (fun hh => hh h3), if_neg (fun hh => hh ⟨h4, h5⟩), g1] at hR
    simp only [g2] at hR
    obtain ⟨zo, rfl, o1, o2, o3, o4⟩ := isk_of h2
    obtain ⟨nn, rfl⟩ : ∃ nn : Nat, n = nn := ⟨n.toNat, by omega⟩
    simp only [Int.toNat_natCast] at *
    have hu0 : oK X u = 0 := by
      apply Classical.byContradiction
      intro h
      exact (hnu h5).1 ((w.2.2.2.2.1 u).1.mp h)
    obtain ⟨W1, _⟩ := stT_wf (sz := szO X) hm w.1.1 (by omega) g1
    exact hR trivial T1 T2 rfl g2 M' A' C' D' F' (WO.make hm w o4 (by omega) hu0 f3 h5 (by split <;> omega) (tol_no (by omega) h4) S1 W1 S2 C'.2.2.1)
theorem C_link (hd : 60 ≤ d) (C : CX M p m J A T X) (D : DR M p T dt) (w : WO m T X dt par) {off : Bool} (hoff : mF M 25 (p + 205) = I (bI off)) {z n x : Int} (z0 : -2147483648 ≤ z) (z1 : z < 2147483648) (n0 : -2147483648 ≤ n) (n1 : n < 2147483648) (x0 : -2147483648 ≤ x) (x1 : x < 2147483648)
    (hX : lkC m off T X z n x ≠ 0 → Thr p m J A T X dt M Q (fun k => k = 10 + lkC m off T X z n x))
    (hR : lkC m off T X z n x = 0 → ∀ T1, stT m (szO X) T (ky z.toNat 1 n.toNat) 3 = some (true, T1) → ∀ M' A', CX M' p m J A' T1 (lkX X z.toNat n.toNat x.toNat) → DR M' p T1 dt → CF p A A' 0 M M' → WO m T1 (lkX X z.toNat n.toNat x.toNat) dt par → Q (.returned (some (.int (I ((oL X x.toNat + 1 : Nat) : Int))))) M') :
    Wp d 51 0 [some (.ref p), some (.int (I z)), some (.int (I n)), some (.int (I x)), none] [] M Q := by
  have hm := C.m96
  obtain ⟨s1, s2⟩ := w.sm
  unfold lkC at hX hR
  refine c_link (by omega) C D w.ok.1 hoff z0 z1 n0 n1 x0 x1 (fun o => by have := s1 o; omega) (fun o => by have := s2 o; omega) (fun k M' A' a ka hP => ?_) (fun h1 h2 h3 h4 h5 T1 g1 S1 M' A' C' D' F' => ?_)
  · rcases hP with ⟨hk, h⟩ | ⟨h, hk, h'⟩ | ⟨h, h', hk, h''⟩ | ⟨h, h', h'', hk, h3⟩ | ⟨h, h', h'', hk, h3, T1, g⟩
    · rw [if_pos h] at hX
      exact hX (by omega) k M' A' a ka hk
    · rw [if_neg (by rw [h]; simp), if_pos h'] at hX
      exact hX (by omega) k M' A' a ka hk
    · rw [if_neg (by rw [h]; simp), if_neg (fun hh => hh h'), if_pos h''] at hX
      exact hX (by omega) k M' A' a ka hk
    · rw [if_neg (by rw [h]; simp), if_neg (fun hh => hh h'), if_neg (fun hh => hh h''), if_pos h3] at hX
      exact hX (by omega) k M' A' a ka hk
    · rw [if_neg (by rw [h]; simp), if_neg (fun hh => hh h'), if_neg (fun hh => hh h''), if_neg (fun hh => hh h3), g] at hX
      exact hX (by simp) k M' A' a ka hk
  · rw [if_neg (by rw [h1]; simp), if_neg (fun hh => hh ⟨h2, h3⟩), if_neg (fun hh => hh h4), if_neg (fun hh => hh h5), g1] at hR
    obtain ⟨zo, rfl, o1, o2, o3, o4⟩ := isk_of h2
    obtain ⟨xo, rfl, p1, p2, p3, p4⟩ := isk_of h3
    obtain ⟨nn, rfl⟩ : ∃ nn : Nat, n = nn := ⟨n.toNat, by omega⟩
    simp only [Int.toNat_natCast] at *
    exact hR trivial T1 rfl M' A' C' D' F' (WO.link w o4 (by omega) p4 (tol_no (by omega) h5) S1 C'.2.2.1)
/-- objects that are no more needn't be told -/
theorem CX.cl {u : Nat} (C : CX M p m J A T X) (h0 : ky u 0 0 ∉ its T) (h2 : ky u 2 0 ∉ its T) (h3 : ky u 3 0 ∉ its T) : CX M p m J A T (clX X u) := by
  have e : ∀ k ∈ its T, pyO (clX X u) k = pyO X k := by
    intro k hk
    unfold clX
    rw [pyO_vT, fu_n _ _ (fun e => h3 (by rw [← e]; exact hk)), pyO_vD, fu_n _ _ (fun e => h2 (by rw [← e]; exact hk)), pyO_vS, fu_n _ _ (fun e => h0 (by rw [← e]; exact hk))]
  obtain ⟨a1, a2, a3, a4, a5⟩ := C
  exact ⟨a1, a2.cpy (fun b k hk => e k (a3.1.mem hk)), ⟨a3.1.szs (fun k hk => by rw [e k hk]), a3.2.1, a3.2.2⟩, a4, a5⟩
theorem C_unlink (hd : 60 ≤ d) (C : CX M p m J A T X) (D : DR M p T dt) (w : WO m T X dt par) {off : Bool} (hoff : mF M 25 (p + 205) = I (bI off)) {z n : Int} (z0 : -2147483648 ≤ z) (z1 : z < 2147483648) (n0 : -2147483648 ≤ n) (n1 : n < 2147483648)
    (hX : ulC off T X z n ≠ 0 → Thr p m J A T X dt M Q (fun k => (k, ulC off T X z n) ∈ [(11, 1), (12, 2), (14, 3)]))
    (hR1 : ulC off T X z n = 0 → ∀ u, u = oE X (ky z.toNat 1 n.toNat) → 2 ≤ oL X u → ∀ M' A', CX M' p m J A' (dlT m (szO X) T (ky z.toNat 1 n.toNat)) (ulX X z.toNat u) → DR M' p (dlT m (szO X) T (ky z.toNat 1 n.toNat)) dt → CF p A A' 0 M M' → WO m (dlT m (szO X) T (ky z.toNat 1 n.toNat)) (ulX X z.toNat u) dt par → Q (.returned (some (.int (I ((oL X u - 1 : Nat) : Int))))) M')
    (hR2 : ulC off T X z n = 0 → ∀ u, u = oE X (ky z.toNat 1 n.toNat) → oL X u = 1 → ∀ M' A', CX M' p m J A' (rmT m (lvX X z.toNat) (dlT m (szO X) T (ky z.toNat 1 n.toNat)) u) (clX (lvX X z.toNat) u) → DR M' p (rmT m (lvX X z.toNat) (dlT m (szO X) T (ky z.toNat 1 n.toNat)) u) dt → CF p A A' 0 M M' → WO m (rmT m (lvX X z.toNat) (dlT m (szO X) T (ky z.toNat 1 n.toNat)) u) (clX (lvX X z.toNat) u) dt par → Q (.returned (some (.int (I 0)))) M') :
    Wp d 53 0 [some (.ref p), some (.int (I z)), some (.int (I n)), none, none] [] M Q := by
  have hm := C.m96
  unfold ulC at hX hR1 hR2
  have hok := w.ok
  refine c_unlink (by omega) C D w.ok.1 hoff z0 z1 n0 n1 w.he ((w.2.2.2.2.1 1).1.mp (by rw [w.2.2.2.2.2.1]; omega)) (fun u => ⟨(w.2.2.2.2.2.2.2.2.2.1 u).1, (w.2.2.2.2.2.2.2.2.2.1 u).2.2.2, ?_⟩) (fun k M' A' a ka hP => ?_) (fun h1 h2 h3 u hu h4 h5 M' A' C' D' F' => ?_) (fun h1 h2 h3 u hu h4 h5 M' A' X1 T1 hX1 hT1 C' D' F' => ?_)
  · by_cases h0 : oK X u = 0
    · rw [(w.2.2.2.2.2.2.1 u h0).1]; simp
    · have h60 := ((w.2.2.2.2.1 u).2.1 h0).2
      exact (hok.any h60 ((w.2.2.2.2.1 u).1.mp h0)).2.2.2.1
  · rcases hP with ⟨hk, h⟩ | ⟨h, hk, h'⟩ | ⟨h, h', hk, h''⟩
    · rw [if_pos h] at hX
      exact hX (by omega) k M' A' a ka (by rw [hk]; simp)
    · rw [if_neg (by rw [h]; simp), if_pos h'] at hX
      exact hX (by omega) k M' A' a ka (by rw [hk]; simp)
    · rw [if_neg (by rw [h]; simp), if_neg (fun hh => hh h'), if_pos h''] at hX
      exact hX (by omega) k M' A' a ka (by rw [hk]; simp)
  all_goals
    obtain ⟨zo, rfl, o1, o2, o3, o4⟩ := isk_of h2
    obtain ⟨nn, rfl⟩ : ∃ nn : Nat, n = nn := ⟨n.toNat, by omega⟩
    simp only [Int.toNat_natCast] at *
    obtain ⟨hi1, hi2, hi3⟩ := h3
    have etol : tol T X zo (nn : Int) = ((u : Nat) : Int) := by
      unfold tol
      rw [Int.toNat_natCast, if_pos ⟨hi1, hi2, hi3⟩, hu]
    have hne : ¬ ¬ (isk T X (zo : Int) 0 = true ∧ ((u : Nat) : Int) ≠ -1) := fun h => h ⟨h2, by omega⟩
    obtain ⟨S0, W1⟩ := dlT_st (key := ky zo 1 nn) (sz := szO X) hm w.1.1
  · simp only [etol, Int.toNat_natCast] at hR1
    rw [if_neg (by rw [h1]; simp), if_neg hne, if_neg (fun hh => hh h4)] at hR1
    exact hR1 rfl u hu h5 M' A' C' D' F' (WO.unlink1 w o4 (by omega) hu h5 hi3 S0 C'.2.2.1)
  · simp only [etol, Int.toNat_natCast] at hR2
    rw [if_neg (by rw [h1]; simp), if_neg hne, if_neg (fun hh => hh h4)] at hR2
    have hX1' : X1 = lvX X zo := hX1
    rw [hX1'] at C' hT1
    subst hT1
    have W1' : Wf m (szO X) (dlT m (szO X) T (ky zo 1 nn)) := W1
    have hB := (w.2.2.2.2.2.2.2.2.2.1 u).2.2
    have W4 : Wf m (szO X) (fes (oD X u).reverse (dlT m (szO X) T (ky zo 1 nn))) := W1'.fes (fun b' hb' => by
      rw [List.mem_reverse] at hb'
      obtain ⟨a1, a2, a3, a4⟩ := hB.2 b' hb'
      obtain ⟨d1, d2⟩ := S0.1 b' a3 a4
      exact ⟨d2, by omega⟩)
    have hrm : rmT m (lvX X zo) (dlT m (szO X) T (ky zo 1 nn)) u = dlT m (szO X) (dlT m (szO X) (dlT m (szO X) (fes (oD X u).reverse (dlT m (szO X) T (ky zo 1 nn))) (ky u 3 0)) (ky u 2 0)) (ky u 0 0) := by
      unfold rmT
      rw [show szO (lvX X zo) = szO X from szO_vS _ _ _ _ _, show oD (lvX X zo) u = oD X u from rfl]
    obtain ⟨S5, W5⟩ := dlT_st (key := ky u 3 0) hm W4
    obtain ⟨S6, W6⟩ := dlT_st (key := ky u 2 0) hm W5
    obtain ⟨S7, W7⟩ := dlT_st (key := ky u 0 0) hm W6
    rw [← hrm] at S7 W7
    have n0' : ky u 0 0 ∉ its (rmT m (lvX X zo) (dlT m (szO X) T (ky zo 1 nn)) u) := by
      rw [S7.mem W6]
      rintro (⟨_, h⟩ | ⟨h, _⟩)
      · exact h rfl
      · exact h rfl
    have n2' : ky u 2 0 ∉ its (rmT m (lvX X zo) (dlT m (szO X) T (ky zo 1 nn)) u) := by
      rw [S7.mem W6, S6.mem W5]
      rintro (⟨_, h⟩ | ⟨_, ⟨_, h⟩ | ⟨h, _⟩⟩)
      · exact h rfl
      · exact h rfl
      · exact h rfl
    have n3' : ky u 3 0 ∉ its (rmT m (lvX X zo) (dlT m (szO X) T (ky zo 1 nn)) u) := by
      rw [S7.mem W6, S6.mem W5, S5.mem W4]
      rintro (⟨_, h⟩ | ⟨_, ⟨_, h⟩ | ⟨_, ⟨_, h⟩ | ⟨h, _⟩⟩⟩)
      · exact h rfl
      · exact h rfl
      · exact h rfl
      · exact h rfl
    have C'' := C'.cl n0' n2' n3'
    exact hR2 rfl u hu h5 M' A' C'' D' F' (WO.unlink2 hm w o4 (by omega) hu h5 h4 hi3 rfl rfl C''.2.2.1)
theorem C_move (hd : 60 ≤ d) (C : CX M p m J A T X) (D : DR M p T dt) (w : WO m T X dt par) {off : Bool} (hoff : mF M 25 (p + 205) = I (bI off)) {z n x a : Int} (z0 : -2147483648 ≤ z) (z1 : z < 2147483648) (n0 : -2147483648 ≤ n) (n1 : n < 2147483648) (x0 : -2147483648 ≤ x) (x1 : x < 2147483648) (a0 : -2147483648 ≤ a) (a1 : a < 2147483648) {win : Bool} (hwin : ∀ nw, isk T X x 0 = true → itr par nw x.toNat = 1 → wth par (tol T X z.toNat n).toNat nw x.toNat = win)
    (hX : mvC m off T X z n x a win ≠ 0 → Thr p m J A T X dt M Q (fun k => k = 10 + mvC m off T X z n x a win))
    (hR : mvC m off T X z n x a win = 0 → ∀ u T2, u = oE X (ky z.toNat 1 n.toNat) → stT m (szO X) (dlT m (szO X) T (ky z.toNat 1 n.toNat)) (ky x.toNat 1 a.toNat) 3 = some (true, T2) → ∀ M' A', CX M' p m J A' T2 (enX (lvX X z.toNat) x.toNat a.toNat u) → DR M' p T2 dt → CF p A A' 0 M M' → WO m T2 (enX (lvX X z.toNat) x.toNat a.toNat u) dt (if oK X u = 1 then fu par u x.toNat else par) → Q (.returned (some (.int (I (u : Nat))))) M') :
    Wp d 58 0 [some (.ref p), some (.int (I z)), some (.int (I n)), some (.int (I x)), some (.int (I a)), none, none] [] M Q := by
  have hm := C.m96
  obtain ⟨s1, s2⟩ := w.sm
  unfold mvC at hX hR
  have hw2 : isk T X x 0 = true → ((oK X (tol T X z.toNat n).toNat = 2 ∨ ∀ nw, itr par nw x.toNat = 1 → wth par (tol T X z.toNat n).toNat nw x.toNat = false) ↔ (oK X (tol T X z.toNat n).toNat = 2 ∨ win = false)) := by
    intro hx
    refine or_congr_right ?_
    obtain ⟨xo, rfl, p1, p2, p3, p4⟩ := isk_of hx
    simp only [Int.toNat_natCast] at *
    obtain ⟨nx, hnx⟩ := w.2.2.2.2.2.2.2.2.2.2.2.2.2.2.2 xo p4
    constructor
    · intro h; rw [← hwin nx hx hnx]; exact h nx hnx
    · intro h nw hnw; rw [hwin nw hx hnw]; exact h
  refine c_move (by omega) C D w.ok.1 w.pa hoff z0 z1 n0 n1 x0 x1 a0 a1 (fun o => by have := s1 o; omega) (fun o nn h1 h2 => by obtain ⟨b1, b2, b3, b4, b5, b6⟩ := w.he o nn h1 h2; exact ⟨b1, b2, b3, b5⟩) (fun k M' A' a' ka hP => ?_) (fun h1 h2 h3 h4 h5 u hu h6 h7 T1 T2 hT1 g2 S1 S2 M' A' C' D' F' => ?_)
  · rcases hP with ⟨hk, h⟩ | ⟨h, hk, h'⟩ | ⟨h, h', hk, h''⟩ | ⟨h, h', h'', hk, h3⟩ | ⟨h, h', h'', hk, h3, T2, g⟩
    · rw [if_pos h] at hX
      exact hX (by omega) k M' A' a' ka hk
    · rw [if_neg (by rw [h]; simp), if_pos h'] at hX
      exact hX (by omega) k M' A' a' ka hk
    · rw [if_neg (by rw [h]; simp), if_neg (fun hh => hh h'), if_pos h''] at hX
      exact hX (by omega) k M' A' a' ka hk
    · rw [hw2 h'.1.2] at h3
      rw [if_neg (by rw [h]; simp), if_neg (fun hh => hh h'), if_neg (fun hh => hh h''), if_pos h3] at hX
      exact hX (by omega) k M' A' a' ka hk
    · rw [hw2 h'.1.2] at h3
      rw [if_neg (by rw [h]; simp), if_neg (fun hh => hh h'), if_neg (fun hh => hh h''), if_neg (fun hh => hh h3), g] at hX
      exact hX (by simp) k M' A' a' ka hk
  · obtain ⟨zo, rfl, o1, o2, o3, o4⟩ := isk_of h2
    obtain ⟨xo, rfl, p1, p2, p3, p4⟩ := isk_of h3
    obtain ⟨nn, rfl⟩ : ∃ nn : Nat, n = nn := ⟨n.toNat, by omega⟩
    obtain ⟨aa, rfl⟩ : ∃ aa : Nat, a = aa := ⟨a.toNat, by omega⟩
    simp only [Int.toNat_natCast] at *
    obtain ⟨hi1, hi2, hi3⟩ := h4
    have etol : tol T X zo (nn : Int) = ((u : Nat) : Int) := by
      unfold tol
      rw [Int.toNat_natCast, if_pos ⟨hi1, hi2, hi3⟩, hu]
    have hw3 := hw2 h3
    rw [etol] at hR hw3
    simp only [Int.toNat_natCast] at hR hw3
    have hne : ¬ ¬ ((isk T X (zo : Int) 0 = true ∧ isk T X (xo : Int) 0 = true) ∧ ((u : Nat) : Int) ≠ -1) := fun h => h ⟨⟨h2, h3⟩, by omega⟩
    have h7' := hw3.mp h7
    rw [if_neg (by rw [h1]; simp), if_neg hne, if_neg (fun hh => hh h5), if_neg (fun hh => hh ⟨h6, h7'⟩), ← hT1, g2] at hR
    obtain ⟨S0, W1⟩ := dlT_st (key := ky zo 1 nn) (sz := szO X) hm w.1.1
    rw [← hT1] at W1
    exact hR rfl u T2 hu rfl M' A' C' D' F' (WO.move hm w o4 p4 (by omega) (by omega) hu hi3 (tol_no (by omega) h6) h7 S1 W1 S2 C'.2.2.1)
end Ops
