/-! ===== THE LAW: what its cases share ===== -/
section Lw0
variable {d p o q a m J n i k N0 S0 : Nat} {sc : Nat → Int} {M M' : Mem} {A A' : Ad} {T T' T1 T3 Tc : Tr} {X X' Xc : Ob} {dt dtc la : Nat → Nat → Nat} {par parc : Nat → Nat} {v : Dv} {Q : Outcome → Mem → Prop} {f : Nat → Int} {s b c w : Int → Int} {j : Nat → Bool}
theorem lgc (x : Int64) : lg_cmp x x = I 0 := by
  unfold lg_cmp
  simp
  rfl
theorem MD.sL (h : MD M o f s b c w j) (hq : q < o ∨ o + 5 < q) (z : Int64) : MD (sL M q 0 z) o f s b c w j := h.sm (fun _ _ _ => rfl) (fun x h1 h2 => ⟨fun _ => rfl, fun _ => rfl, fun _ => rfl, fun _ => rfl, fun i => by rw [mL_sL, if_neg (by omega)]⟩)
/-- the loop goes on -/
def Nx (d p o q a m J n : Nat) (sc : Nat → Int) (N0 S0 k i : Nat) (Q : Outcome → Mem → Prop) : Prop := ∀ M' A' T' X' dt' par' Tc' Xc' dtc' parc' la' v' l5 l6, LWs M' p o q a m J n sc N0 S0 A' T' X' dt' par' Tc' Xc' dtc' parc' la' v' (k + 1) → Wp d 233 43 [some (.ref a), some (.ref p), some (.ref o), some (.ref q), some (.int (I ((i + 6 : Nat) : Int))), l5, l6] [] M' Q
theorem mem4 {c : Nat} (h1 : c ≠ 0) (h2 : c ≤ 4) : (10 + c, c) ∈ [(11, 1), (12, 2), (13, 3), (14, 4)] := by
  have : c = 1 ∨ c = 2 ∨ c = 3 ∨ c = 4 := by omega
  rcases this with rfl | rfl | rfl | rfl <;> simp
theorem mem3 {c : Nat} (h1 : c ≠ 0) (h2 : c ≤ 3) : (10 + c, c) ∈ [(11, 1), (12, 2), (13, 3)] := by
  have : c = 1 ∨ c = 2 ∨ c = 3 := by omega
  rcases this with rfl | rfl | rfl <;> simp
theorem mem2 {c : Nat} (h1 : c ≠ 0) (h2 : c ≤ 2) : (10 + c, c) ∈ [(11, 1), (12, 2)] := by
  have : c = 1 ∨ c = 2 := by omega
  rcases this with rfl | rfl <;> simp
theorem loC_le {off : Bool} {z : Int} : loC off T X z ≤ 2 := by unfold loC; split; omega; split <;> omega
theorem rdC_le {off : Bool} {z y : Int} : rdC off T X z y ≤ 2 := by unfold rdC; split; omega; split <;> omega
theorem nameC_le {off : Bool} {z y : Int} : nameC off T X z y ≤ 2 := by unfold nameC; split; omega; split <;> omega
theorem abC_le {off : Bool} {z y : Int} : abC off T X z y ≤ 3 := by unfold abC; split; omega; split; split <;> omega; omega
theorem noC_le {off : Bool} {z y u : Int} : noC off T z y u ≤ 3 := by unfold noC; split; omega; split; split <;> omega; omega
theorem itC_le {off : Bool} {z y : Int} : itC off T z y ≤ 3 := by unfold itC; split; omega; split; split <;> omega; omega
theorem mwC_le {off : Bool} {z t y u : Int} : mwC off T X z t y u ≤ 3 := by unfold mwC; split; omega; split; split <;> omega; omega
theorem wrC_le {off : Bool} {z t y u : Int} : wrC m off T X z t y u ≤ 4 := by
  have := mwC_le (T := T) (X := X) (off := off) (z := z) (t := t) (y := y) (u := u)
  unfold wrC; split; omega; split <;> omega
theorem cuC_le {off : Bool} {z y : Int} : cuC m off T X z y ≤ 4 := by unfold cuC; split; omega; split; split; split <;> omega; omega; omega
theorem mkC_le {off dir : Bool} {z y : Int} : mkC m off T X z y dir ≤ 4 := by unfold mkC; split; omega; split; omega; split; omega; split; omega; split; split <;> omega; omega
theorem lkC_le {off : Bool} {z y u : Int} : lkC m off T X z y u ≤ 4 := by unfold lkC; split; omega; split; omega; split; omega; split; omega; split <;> omega
theorem mvC_le {off win : Bool} {z y u e : Int} : mvC m off T X z y u e win ≤ 4 := by unfold mvC; split; omega; split; omega; split; omega; split; omega; split <;> omega
theorem ulC_le {off : Bool} {z y : Int} : ulC off T X z y ≤ 3 := by unfold ulC; split; omega; split; omega; split <;> omega
/-- files: what is laid is a world again -/
theorem tkn_wf {sz : Nat → Nat} : ∀ (n : Nat) {T : Tr} {l : List Nat} {T' : Tr}, Wf m sz T → tkn m n T = some (l, T') → Wf m sz T'
  | 0, T, l, T', W, h => by
    obtain ⟨_, e2⟩ := Prod.mk.inj (Option.some.inj h)
    rw [← e2]; exact W
  | n + 1, T, l, T', W, h => by
    rw [tkn] at h
    cases hf : fr (tU T) m 0 with
    | none => rw [hf] at h; cases h
    | some b =>
      rw [hf] at h
      simp only at h
      have hb : tU T b = false ∧ b < m := by
        rcases fr_spec (tU T) m 0 with h' | ⟨k', h', _, h3, h4, _⟩
        · rw [h'.1] at hf; cases hf
        · rw [hf] at h'
          rw [Option.some.inj h']; exact ⟨h4, by omega⟩
      obtain ⟨f1, f2⟩ := W.free hb.1
      cases hr : tkn m n (uU T b true) with
      | none => rw [hr] at h; cases h
      | some r =>
        obtain ⟨l2, T2⟩ := r
        rw [hr] at h
        obtain ⟨_, e2⟩ := Prod.mk.inj (Option.some.inj h)
        rw [← e2]
        exact tkn_wf n (W.uu f1 f2 (fun _ => hb.2)) hr
theorem WO.rf (hm : m ≤ 96) (w : WO m T X dt par) {u y : Nat} {l : List Nat} {F : Nat → Nat} (hu : oK X u = 2) (hy : y ≤ 2048) (hF : ∀ i, i < y → F i < 256) (hrf : rfT m X T u y = some (l, T1)) (hA : rfA m X T u y = some (l, T3)) (B : BL T1 l) (G : Gt m T3 (pyO (rfX X u l (tlL F y) y))) : WO m T3 (rfX X u l (tlL F y) y) (rfd dt l F y) par := by
  have hd := dtO_le hy
  have ht := tlO_le y
  have hBu := (w.2.2.2.2.2.2.2.2.2.1 u).2.2
  have W1 : Wf m (szO X) T1 := by
    unfold rfT at hrf
    split at hrf
    · obtain ⟨_, e2⟩ := Prod.mk.inj (Option.some.inj hrf)
      rw [← e2]
      refine w.1.1.fes (fun b hb => ?_)
      obtain ⟨a1, a2, a3, a4⟩ := hBu.2 b (List.mem_of_mem_drop (List.mem_reverse.mp hb))
      exact ⟨a4, by omega⟩
    · cases hr : tkn m (dtO y - (oD X u).length) T with
      | none => rw [hr] at hrf; cases hrf
      | some r =>
        obtain ⟨l2, T2⟩ := r
        rw [hr] at hrf
        obtain ⟨_, e2⟩ := Prod.mk.inj (Option.some.inj hrf)
        rw [← e2]
        exact tkn_wf _ w.1.1 hr
  unfold rfA at hA
  rw [hrf] at hA
  simp only at hA
  split at hA
  · rename_i T2 g1
    split at hA
    · rename_i T3' g2
      obtain ⟨_, e2⟩ := Prod.mk.inj (Option.some.inj hA)
      subst e2
      obtain ⟨W2, S2⟩ := stT_wf hm W1 (by omega) g1
      have hll := (rfT_at hrf).1
      have W2' : Wf m (szO (vD X u l)) T2 := by rw [szO_vD, hll]; exact W2
      obtain ⟨W3, S3⟩ := stT_wf hm W2' (by omega) g2
      exact WO.reform w hu hy hF hrf B W1 S2 W2' S3 G
    · cases hA
  · cases hA
theorem lby_lt (x : Int64) (k : Nat) : lby x k < 256 := by unfold lby; omega
theorem fby_lt (x : Int) (k : Nat) : fby x k < 256 := by unfold fby; omega
theorem ovr_lt (w : WO m T X dt par) {u t y : Nat} {G : Nat → Nat} (hu : oK X u = 2) (ht : t ≤ oS X u) (hG : ∀ k, G k < 256) : ∀ i, i < max (oS X u) (t + y) → ovr (fc X dt u) t y G i < 256 := by
  intro i hi
  unfold ovr
  split
  · exact hG _
  · exact w.fc hu (by omega)
theorem C_write (hd : 70 ≤ d) (C : CX M p m J A T X) (D : DR M p T dt) (w : WO m T X dt par) {off : Bool} (hoff : mF M 25 (p + 205) = I (bI off)) {z t n : Int} {x : Int64} (z0 : -2147483648 ≤ z) (z1 : z < 2147483648) (t0 : -2147483648 ≤ t) (t1 : t < 2147483648) (n0 : -2147483648 ≤ n) (n1 : n < 2147483648)
    (hX : Thr p m J A T X dt M Q (fun k => wrC m off T X z t n 8 ≠ 0 ∧ k = 10 + wrC m off T X z t n 8))
    (hR : wrC m off T X z t n 8 = 0 → ∀ l T3, rfA m X T z.toNat (wrN X z t n) = some (l, T3) → ∀ M' A', CX M' p m J A' T3 (rfX X z.toNat l (tlL (ovr (fc X dt z.toNat) t.toNat n.toNat (lby x)) (wrN X z t n)) (wrN X z t n)) → DR M' p T3 (rfd dt l (ovr (fc X dt z.toNat) t.toNat n.toNat (lby x)) (wrN X z t n)) → CF p A A' 0 M M' → WO m T3 (rfX X z.toNat l (tlL (ovr (fc X dt z.toNat) t.toNat n.toNat (lby x)) (wrN X z t n)) (wrN X z t n)) (rfd dt l (ovr (fc X dt z.toNat) t.toNat n.toNat (lby x)) (wrN X z t n)) par → Q (.returned (some (.int (I (wrN X z t n : Nat))))) M') :
    Wp d 63 0 [some (.ref p), some (.int (I z)), some (.int (I t)), some (.long x), none, some (.int (I n)), none] [] M Q := by
  refine c_write hd C D w.ok.1 w.ok.fo hoff z0 z1 t0 t1 n0 n1 hX (fun h l T1 T2 T3 a1 a2 a3 _ _ M' A' a6 a7 a8 => hR h l T3 a2 M' A' a6 a7 a8 ?_)
  have h0 : mwC off T X z t n 8 = 0 := by
    unfold wrC at h
    apply Classical.byContradiction
    intro hc
    rw [if_pos hc] at h
    exact hc h
  obtain ⟨_, zo, t, n, rfl, rfl, rfl, o1, o2, o3, o4, ht, hn1, hn2, hn3⟩ := mwC_0 h0
  have hs := (w.2.2.2.2.2.2.2.2.1 zo o4).1
  have hF := ovr_lt w (y := n) (G := lby x) o4 ht (lby_lt x)
  unfold wrN at a1 a2 a6 ⊢
  simp only [Int.toNat_natCast] at a1 a2 a6 ⊢
  exact WO.rf C.m96 w o4 (by omega) hF a1 a2 a3 a6.2.2.1
theorem C_fill (hd : 70 ≤ d) (C : CX M p m J A T X) (D : DR M p T dt) (w : WO m T X dt par) {off : Bool} (hoff : mF M 25 (p + 205) = I (bI off)) {z t n x : Int} (z0 : -2147483648 ≤ z) (z1 : z < 2147483648) (t0 : -2147483648 ≤ t) (t1 : t < 2147483648) (n0 : -2147483648 ≤ n) (n1 : n < 2147483648)
    (hX : Thr p m J A T X dt M Q (fun k => wrC m off T X z t n 512 ≠ 0 ∧ k = 10 + wrC m off T X z t n 512))
    (hR : wrC m off T X z t n 512 = 0 → ∀ l T3, rfA m X T z.toNat (wrN X z t n) = some (l, T3) → ∀ M' A', CX M' p m J A' T3 (rfX X z.toNat l (tlL (ovr (fc X dt z.toNat) t.toNat n.toNat (fby x)) (wrN X z t n)) (wrN X z t n)) → DR M' p T3 (rfd dt l (ovr (fc X dt z.toNat) t.toNat n.toNat (fby x)) (wrN X z t n)) → CF p A A' 0 M M' → WO m T3 (rfX X z.toNat l (tlL (ovr (fc X dt z.toNat) t.toNat n.toNat (fby x)) (wrN X z t n)) (wrN X z t n)) (rfd dt l (ovr (fc X dt z.toNat) t.toNat n.toNat (fby x)) (wrN X z t n)) par → Q (.returned (some (.int (I (wrN X z t n : Nat))))) M') :
    Wp d 70 0 [some (.ref p), some (.int (I z)), some (.int (I t)), some (.int (I x)), some (.int (I n)), none] [] M Q := by
  refine c_fill hd C D w.ok.1 w.ok.fo hoff z0 z1 t0 t1 n0 n1 hX (fun h l T1 T2 T3 a1 a2 a3 _ _ M' A' a6 a7 a8 => hR h l T3 a2 M' A' a6 a7 a8 ?_)
  have h0 : mwC off T X z t n 512 = 0 := by
    unfold wrC at h
    apply Classical.byContradiction
    intro hc
    rw [if_pos hc] at h
    exact hc h
  obtain ⟨_, zo, t, n, rfl, rfl, rfl, o1, o2, o3, o4, ht, hn1, hn2, hn3⟩ := mwC_0 h0
  have hs := (w.2.2.2.2.2.2.2.2.1 zo o4).1
  have hF := ovr_lt w (y := n) (G := fby x) o4 ht (fby_lt x)
  unfold wrN at a1 a2 a6 ⊢
  simp only [Int.toNat_natCast] at a1 a2 a6 ⊢
  exact WO.rf C.m96 w o4 (by omega) hF a1 a2 a3 a6.2.2.1
theorem C_cut (hd : 70 ≤ d) (C : CX M p m J A T X) (D : DR M p T dt) (w : WO m T X dt par) {off : Bool} (hoff : mF M 25 (p + 205) = I (bI off)) {z n : Int} (z0 : -2147483648 ≤ z) (z1 : z < 2147483648) (n0 : -2147483648 ≤ n) (n1 : n < 2147483648)
    (hX : Thr p m J A T X dt M Q (fun k => cuC m off T X z n ≠ 0 ∧ k = 10 + cuC m off T X z n))
    (hR : cuC m off T X z n = 0 → ∀ l T3, rfA m X T z.toNat n.toNat = some (l, T3) → ∀ M' A', CX M' p m J A' T3 (rfX X z.toNat l (tlL (fc X dt z.toNat) n.toNat) n.toNat) → DR M' p T3 (rfd dt l (fc X dt z.toNat) n.toNat) → CF p A A' 0 M M' → WO m T3 (rfX X z.toNat l (tlL (fc X dt z.toNat) n.toNat) n.toNat) (rfd dt l (fc X dt z.toNat) n.toNat) par → Q (.returned (some (.int (I (dtO n.toNat : Nat))))) M') :
    Wp d 71 0 [some (.ref p), some (.int (I z)), some (.int (I n))] [] M Q := by
  refine c_cut hd C D w.ok.1 w.ok.fo hoff z0 z1 n0 n1 hX (fun h l T1 T2 T3 a1 a2 a3 _ _ M' A' a6 a7 a8 => hR h l T3 a2 M' A' a6 a7 a8 ?_)
  unfold cuC at h
  split at h
  · cases h
  · split at h
    · rename_i hk
      split at h
      · rename_i hr
        obtain ⟨zo, rfl, o1, o2, o3, o4⟩ := isk_of hk
        have hs := (w.2.2.2.2.2.2.2.2.1 zo o4).1
        simp only [Int.toNat_natCast] at *
        exact WO.rf C.m96 w o4 (by omega) (fun i hi => w.fc o4 (by omega)) a1 a2 a3 a6.2.2.1
      · cases h
    · cases h
end Lw0
section Lw1
variable {d p o q a m J n i k N0 S0 : Nat} {sc : Nat → Int} {M M' : Mem} {A A' : Ad} {T T' Tc : Tr} {X X' Xc : Ob} {dt dtc la : Nat → Nat → Nat} {par parc : Nat → Nat} {v : Dv} {Q : Outcome → Mem → Prop}
set_option maxHeartbeats 1000000 in
theorem law_look (hd : 120 ≤ d) (hn : n ≤ 3074) (hsc : ∀ i, i32 (sc i)) (L : LWs M p o q a m J n sc N0 S0 A T X dt par Tc Xc dtc parc la v k) (hi : i + 6 ≤ n) {l5 l6 : Option Value} (next : Nx d p o q a m J n sc N0 S0 k i Q) : Wp d 233 844 [some (.ref a), some (.ref p), some (.ref o), some (.ref q), some (.int (I (i : Nat))), l5, l6] [] M Q := by
  have L0 := L
  obtain ⟨⟨C, D, V, K⟩, ⟨f, s, b, c, w, j, md, fv, S1, S2⟩, ⟨w1, w2, dv⟩, ⟨kq, ka, hs⟩, ap, hqo, hao, haq, _, _⟩ := L
  have ql := (ap q (.inr (.inl rfl))).1
  have hm := C.m96
  have hm1 : 1 ≤ m := by have := C.1.2.2.2.2.2.2.2.2.2.2.1; omega
  have kp1 := C.1.1.1
  have hoff := V.f.2.2.1
  have e1 := hs (i + 1) (by omega)
  have e2 := hs (i + 2) (by omega)
  have ha1 : (i : Int) + 1 = ((i + 1 : Nat) : Int) := by omega
  have ha2 : (i : Int) + 2 = ((i + 2 : Nat) : Int) := by omega
  have hl6 : (i : Int) + 6 = ((i + 6 : Nat) : Int) := by omega
  obtain ⟨z0, z1⟩ := hsc (i + 1)
  obtain ⟨y0, y1⟩ := hsc (i + 2)
  simp (disch := first | (simp only [dd, dr]; done) | omega) only [W_233_12, W_233_13, W_233_14, ha1, ha2, ka, e1, e2, I_lt, I_le, I_inj, inB_I, tc_I, Int.toNat_natCast, fkt, rf1, rf0, cq, Nat.reduceAdd, Nat.reduceEqDiff, Int.reduceToNat, eq_self, true_and, and_true, true_or, or_true, bI_0, bI_1, mm, rAm, mF_sF, mR_sR, false_and, and_false, if_false, if_true, false_or, or_false, not_true_eq_false, not_false_eq_true, and_self]
  refine cr_9 (by omega) (wr_9 (by omega) kp1 (C_look (by omega) C D w1 hoff z0 z1 y0 y1 (fun hc k' M' A' e ke hP C' D' F' => ?_) (fun hc M' C' D' F' => ?_)))
  · subst hP
    obtain ⟨g1, g2, g3, g4, g5⟩ := L0.mid (F'.cd J)
    have md1 := g1 _ _ _ _ _ _ md
    have hK := md1.1
    have k8 := hK.1
    have V1 := DJ.cf V C.2.2.2.1 C.2.2.2.2 hm F'
    refine .inr ⟨e, _, _, rfl, ke, mem2 hc loC_le, ?_⟩
    rw [← md1.eq]
    have e1m : mA (ms M' o f s b c w j) a (i + 1) = I (sc (i + 1)) := by rw [md1.eq]; exact g4 _ (by omega)
    have e2m : mA (ms M' o f s b c w j) a (i + 2) = I (sc (i + 2)) := by rw [md1.eq]; exact g4 _ (by omega)
    simp (disch := first | (simp only [dd, dr]; done) | omega) only [W_233_12, W_233_13, W_233_14, ha1, ha2, msK, g3, e1m, e2m, k8, I_lt, I_le, I_inj, inB_I, tc_I, Int.toNat_natCast, fkt, rf1, rf0, cq, Nat.reduceAdd, Nat.reduceEqDiff, Int.reduceToNat, eq_self, true_and, and_true, true_or, or_true, bI_0, bI_1, mm, rAm, mF_sF, mR_sR, false_and, and_false, if_false, if_true, false_or, or_false, not_true_eq_false, not_false_eq_true, and_self]
    refine ca_207 (by omega) (m_look hK (by omega) S1 w1.1.1 w1.ok w1.nm fv.2.2.2.2.1 z0 z1 y0 y1 (fun _ f' he h54 => ?_) (fun h => absurd h hc))
    simp (disch := first | (simp only [dd, dr]; done) | omega) only [W_233_12, W_233_13, W_233_14, msK, k8, I_lt, I_le, I_inj, inB_I, tc_I, Int.toNat_natCast, fkt, rf1, rf0, cq, Nat.reduceAdd, Nat.reduceEqDiff, Int.reduceToNat, eq_self, true_and, and_true, true_or, or_true, bI_0, bI_1, mm, rAm, mF_sF, mR_sR, false_and, and_false, if_false, if_true, false_or, or_false, not_true_eq_false, not_false_eq_true, and_self]
    refine ca_155 (by omega) (m_thrown hK ?_)
    rw [h54]
    have hle := loC_le (T := T) (X := X) (off := v.2.2.1) (z := sc (i + 1))
    generalize loC v.2.2.1 T X (sc (i + 1)) = cd at *
    simp (disch := first | (simp only [dd, dr]; done) | omega) only [W_233_12, W_233_13, W_233_14, I_lt, I_le, I_inj, inB_I, tc_I, Int.toNat_natCast, fkt, rf1, rf0, cq, Nat.reduceAdd, Nat.reduceEqDiff, Int.reduceToNat, eq_self, true_and, and_true, true_or, or_true, bI_0, bI_1, mm, rAm, mF_sF, mR_sR, false_and, and_false, if_false, if_true, false_or, or_false, not_true_eq_false, not_false_eq_true, and_self]
    refine ⟨fun _ => ?_, (fun h => by first | exact False.elim h | exact absurd trivial h | (exfalso; omega) | exact absurd rfl h | cases h)⟩
    simp (disch := first | (simp only [dd, dr]; done) | omega) only [W_233_12, W_233_13, W_233_14, I_lt, I_le, I_inj, inB_I, tc_I, Int.toNat_natCast, fkt, rf1, rf0, cq, Nat.reduceAdd, Nat.reduceEqDiff, Int.reduceToNat, eq_self, true_and, and_true, true_or, or_true, bI_0, bI_1, mm, rAm, mF_sF, mR_sR, false_and, and_false, if_false, if_true, false_or, or_false, not_true_eq_false, not_false_eq_true, and_self]
    refine ⟨fun _ => ?_, (fun h => by first | exact False.elim h | exact absurd trivial h | (exfalso; omega) | exact absurd rfl h | cases h)⟩
    simp (disch := first | (simp only [dd, dr]; done) | omega) only [W_233_12, W_233_13, W_233_14, W_233_22, W_233_23, hl6, I_lt, I_le, I_inj, inB_I, tc_I, Int.toNat_natCast, fkt, rf1, rf0, cq, Nat.reduceAdd, Nat.reduceEqDiff, Int.reduceToNat, eq_self, true_and, and_true, true_or, or_true, bI_0, bI_1, mm, rAm, mF_sF, mR_sR, false_and, and_false, if_false, if_true, false_or, or_false, not_true_eq_false, not_false_eq_true, and_self]
    exact next _ A' T X dt par Tc Xc dtc parc la v _ _ (L0.step (F'.cd J) (by omega) (.inl rfl) C' D' V1 K (fv.fe he) S1 S2 w1 w2 dv)
  · obtain ⟨g1, g2, g3, g4, g5⟩ := L0.mid (F'.cd J)
    have md1 := g1 _ _ _ _ _ _ md
    have V1 := DJ.cf V C.2.2.2.1 C.2.2.2.2 hm F'
    refine .inl ⟨_, rfl, g2, ?_⟩
    have md2 := md1.sL hqo (I (tol T X (sc (i + 1)).toNat (sc (i + 2)))).toInt64
    have hK := md2.1
    have k8 := hK.1
    rw [← md2.eq]
    have e1m : mA (ms (sL M' q 0 (I (tol T X (sc (i + 1)).toNat (sc (i + 2)))).toInt64) o f s b c w j) a (i + 1) = I (sc (i + 1)) := by rw [md2.eq]; exact g4 _ (by omega)
    have e2m : mA (ms (sL M' q 0 (I (tol T X (sc (i + 1)).toNat (sc (i + 2)))).toInt64) o f s b c w j) a (i + 2) = I (sc (i + 2)) := by rw [md2.eq]; exact g4 _ (by omega)
    simp (disch := first | (simp only [dd, dr]; done) | omega) only [W_233_12, W_233_13, W_233_14, ha1, ha2, msK, g3, e1m, e2m, k8, I_lt, I_le, I_inj, inB_I, tc_I, Int.toNat_natCast, fkt, rf1, rf0, cq, Nat.reduceAdd, Nat.reduceEqDiff, Int.reduceToNat, eq_self, true_and, and_true, true_or, or_true, bI_0, bI_1, mm, rAm, mF_sF, mR_sR, false_and, and_false, if_false, if_true, false_or, or_false, not_true_eq_false, not_false_eq_true, and_self]
    refine ca_207 (by omega) (m_look hK (by omega) S1 w1.1.1 w1.ok w1.nm fv.2.2.2.2.1 z0 z1 y0 y1 (fun h => absurd hc h) (fun _ f' he h54 => ?_))
    simp (disch := first | (simp only [dd, dr]; done) | omega) only [W_233_12, W_233_13, W_233_14, msK, k8, I_lt, I_le, I_inj, inB_I, tc_I, Int.toNat_natCast, fkt, rf1, rf0, cq, Nat.reduceAdd, Nat.reduceEqDiff, Int.reduceToNat, eq_self, true_and, and_true, true_or, or_true, bI_0, bI_1, mm, rAm, mF_sF, mR_sR, false_and, and_false, if_false, if_true, false_or, or_false, not_true_eq_false, not_false_eq_true, and_self]
    refine ca_155 (by omega) (m_thrown hK ?_)
    rw [h54]
    simp (disch := first | (simp only [dd, dr]; done) | omega) only [W_233_12, W_233_13, W_233_14, I_lt, I_le, I_inj, inB_I, tc_I, Int.toNat_natCast, fkt, rf1, rf0, cq, Nat.reduceAdd, Nat.reduceEqDiff, Int.reduceToNat, eq_self, true_and, and_true, true_or, or_true, bI_0, bI_1, mm, rAm, mF_sF, mR_sR, false_and, and_false, if_false, if_true, false_or, or_false, not_true_eq_false, not_false_eq_true, and_self]
    refine ⟨fun _ => ?_, (fun h => by first | exact False.elim h | exact absurd trivial h | (exfalso; omega) | exact absurd rfl h | cases h)⟩
    simp (disch := first | (simp only [dd, dr]; done) | omega) only [W_233_12, W_233_13, W_233_14, I_lt, I_le, I_inj, inB_I, tc_I, Int.toNat_natCast, fkt, rf1, rf0, cq, Nat.reduceAdd, Nat.reduceEqDiff, Int.reduceToNat, eq_self, true_and, and_true, true_or, or_true, bI_0, bI_1, mm, rAm, mF_sF, mR_sR, false_and, and_false, if_false, if_true, false_or, or_false, not_true_eq_false, not_false_eq_true, and_self]
    refine ⟨(fun h => by first | exact False.elim h | exact absurd trivial h | (exfalso; omega) | exact absurd rfl h | cases h), fun _ => ?_⟩
    simp (disch := first | (simp only [dd, dr]; done) | omega) only [W_233_12, W_233_13, W_233_14, msK, msR, g2, mL_sL, lgc, I_lt, I_le, I_inj, inB_I, tc_I, Int.toNat_natCast, fkt, rf1, rf0, cq, Nat.reduceAdd, Nat.reduceEqDiff, Int.reduceToNat, eq_self, true_and, and_true, true_or, or_true, bI_0, bI_1, mm, rAm, mF_sF, mR_sR, false_and, and_false, if_false, if_true, false_or, or_false, not_true_eq_false, not_false_eq_true, and_self]
    refine ⟨fun _ => ?_, (fun h => by first | exact False.elim h | exact absurd trivial h | (exfalso; omega) | exact absurd rfl h | cases h)⟩
    simp (disch := first | (simp only [dd, dr]; done) | omega) only [W_233_12, W_233_13, W_233_14, W_233_22, W_233_23, hl6, I_lt, I_le, I_inj, inB_I, tc_I, Int.toNat_natCast, fkt, rf1, rf0, cq, Nat.reduceAdd, Nat.reduceEqDiff, Int.reduceToNat, eq_self, true_and, and_true, true_or, or_true, bI_0, bI_1, mm, rAm, mF_sF, mR_sR, false_and, and_false, if_false, if_true, false_or, or_false, not_true_eq_false, not_false_eq_true, and_self]
    exact next _ A T X dt par Tc Xc dtc parc la v _ _ (L0.step (F'.cd J) (by omega) (.inr ⟨_, rfl⟩) C' D' V1 K (fv.fe he) S1 S2 w1 w2 dv)
end Lw1
