/-! DEPS: vn -/
/-! VO: TermLog takes a snapshot -/
/-- keys told are put down on both rows of keys -/
def skG (Hd X : Row) (n k : Int) : Row := fun x => if 244 * n + 15 ≤ x ∧ x < 244 * n + 15 + k then Hd (12 + (x - (244 * n + 15))) else if 244 * n + 23 ≤ x ∧ x < 244 * n + 23 + k then Hd (12 + (x - (244 * n + 23))) else X x
section
variable {B : Nat} {h g C Hd Mo X : Row} {M : Mem} {Λ : Law} {hs : His} {FL : Int → ELog} {R : Int} {D : DK}
theorem skSt {n k : Int} (k0 : 0 ≤ k) (k1 : k < 8) : st (st (skG Hd X n k) (244 * n + (23 + k)) (Hd (12 + k))) (244 * n + (15 + k)) (Hd (12 + k)) = skG Hd X n (k + 1) := by
  funext x
  unfold st skG
  by_cases c1 : x = 244 * n + (15 + k)
  · rw [if_pos c1, if_pos (by omega)]
    congr 1
    omega
  · rw [if_neg c1]
    by_cases c2 : x = 244 * n + (23 + k)
    · rw [if_pos c2, if_neg (by omega), if_pos (by omega)]
      congr 1
      omega
    · rw [if_neg c2]
      by_cases d1 : 244 * n + 15 ≤ x ∧ x < 244 * n + 15 + k
      · rw [if_pos d1, if_pos (by omega)]
      · rw [if_neg d1]
        by_cases d2 : 244 * n + 23 ≤ x ∧ x < 244 * n + 23 + k
        · rw [if_pos d2, if_neg (by omega), if_pos (by omega)]
        · rw [if_neg d2, if_neg (by omega), if_neg (by omega)]
theorem t_snap_177 (hL : LyC B M) {n fr i : Int} (n0 : 0 ≤ n) (n1 : n < 7) : ∀ (j : Nat) (k : Int) (fu : Nat), 8 - k = j → 0 ≤ k → j < fu →
    sX3_takesSnapshot_177 fu (some B) (iI n) (some (ndA B n)) (iI fr) (iI i) (iI k) (tl B (skG Hd X n k) C Hd Mo M) = cl (sX3_answers (some B) (iI n) (iI fr) (iI 5) (iI i) (iI (Hd 7)) (iI 0) (tl B (skG Hd X n 8) C Hd Mo M)) fun _ s => some ((), s)
  | 0, k, fu + 1, e1, e2, e3 => by
    have e : k = 8 := by omega
    subst e
    simp (disch := first | assumption | omega) only [sX3_takesSnapshot_177, sX3_takesSnapshot_177b, z10, z00, if_true, if_false, iv_add, iv_sub, iv_mul, iv_le, iv_lt, iv_eq, iv_mx, iv_mn, bI_z, bI_o, rZ0, rZ1, rZb, cl_some', lt_eq, rm_eq, dv_eq, iv_01, iv_10, the, lastA, lpA, st_eq, st_ne, sh_addM, cV_cl, cV_nd, cV_mo, cV_lt, gR_t0, aR_nd, gR_c0, gR_c1, gR_c2, gR_c3, gR_c4, gR_c5, gR_c6, gR_c15, gR_c16, gI_c7, pI_c7, gI_c8, pI_c8, gI_c9, pI_c9, gI_c10, pI_c10, gI_c11, pI_c11, gI_c12, pI_c12, gI_c13, pI_c13, gI_c14, pI_c14, gN_9, gN_10, gN_11, gN_12, gN_13, gN_14, gN_15, gN_16, gN_17, gN_18, gN_19, gN_20, gN_21, gN_22, gN_23, pN_9, pN_10, pN_11, pN_12, pN_13, pN_14, pN_15, pN_16, pN_17, pN_18, pN_19, pN_20, pN_21, pN_22, pZ_0, pZ_1, gR_n0, aI_n0, sI_n0, gR_n1, aI_n1, sI_n1, gR_n2, aI_n2, sI_n2, gR_n3, aI_n3, sI_n3, gR_n4, aI_n4, sI_n4, gR_n5, aI_n5, sI_n5, gR_n6, aI_n6, sI_n6, gR_n7, aI_n7, sI_n7, gR_n8, aI_n8, sI_n8, aR_s, aI_s, sI_s, aR_h, aI_h, sI_h, aR_r, aI_r, sI_r, aI_c, sI_c, aI_l, sI_l, aI_ca, aI_ha, sI_ca, sI_ha, gI_mo, pI_mo]
    rw [if_pos (by omega)]
  | j + 1, k, fu + 1, e1, e2, e3 => by
    have ih := t_snap_177 (fr := fr) (i := i) hL n0 n1 j (k + 1) fu (by omega) (by omega) (by omega)
    have s := skSt (Hd := Hd) (X := X) (n := n) e2 (show k < 8 by omega)
    show sX3_takesSnapshot_177b (sX3_takesSnapshot_177 fu) _ _ _ _ _ _ _ = _
    generalize sX3_takesSnapshot_177 fu = K at ih ⊢
    simp (disch := first | assumption | omega) only [sX3_takesSnapshot_177b, z10, z00, if_true, if_false, iv_add, iv_sub, iv_mul, iv_le, iv_lt, iv_eq, iv_mx, iv_mn, bI_z, bI_o, rZ0, rZ1, rZb, cl_some', lt_eq, rm_eq, dv_eq, iv_01, iv_10, the, lastA, lpA, st_eq, st_ne, sh_addM, cV_cl, cV_nd, cV_mo, cV_lt, gR_t0, aR_nd, gR_c0, gR_c1, gR_c2, gR_c3, gR_c4, gR_c5, gR_c6, gR_c15, gR_c16, gI_c7, pI_c7, gI_c8, pI_c8, gI_c9, pI_c9, gI_c10, pI_c10, gI_c11, pI_c11, gI_c12, pI_c12, gI_c13, pI_c13, gI_c14, pI_c14, gN_9, gN_10, gN_11, gN_12, gN_13, gN_14, gN_15, gN_16, gN_17, gN_18, gN_19, gN_20, gN_21, gN_22, gN_23, pN_9, pN_10, pN_11, pN_12, pN_13, pN_14, pN_15, pN_16, pN_17, pN_18, pN_19, pN_20, pN_21, pN_22, pZ_0, pZ_1, gR_n0, aI_n0, sI_n0, gR_n1, aI_n1, sI_n1, gR_n2, aI_n2, sI_n2, gR_n3, aI_n3, sI_n3, gR_n4, aI_n4, sI_n4, gR_n5, aI_n5, sI_n5, gR_n6, aI_n6, sI_n6, gR_n7, aI_n7, sI_n7, gR_n8, aI_n8, sI_n8, aR_s, aI_s, sI_s, aR_h, aI_h, sI_h, aR_r, aI_r, sI_r, aI_c, sI_c, aI_l, sI_l, aI_ca, aI_ha, sI_ca, sI_ha, gI_mo, pI_mo]
    rw [if_neg (by omega), s]
    exact ih
theorem sk0 {n : Int} : skG Hd X n 0 = X := by
  funext x
  unfold skG
  rw [if_neg (by omega), if_neg (by omega)]
/-- TermLog's row when the snapshot is taken -/
def snpH (h Hd : Row) (n c i : Int) : Row := skG Hd (st (st (st (st (st (goG h n c) (244 * n + 4) i) (244 * n + 5) (Hd 6)) (244 * n + 6) (Hd 10)) (244 * n + 7) (Hd 11)) (244 * n + 9) i) n 8
theorem snp_o {n c i x : Int} (h1 : x < 244 * n + 4 ∨ 244 * n + 10 ≤ x) (h2 : x < 244 * n + 15 ∨ 244 * n + 31 ≤ x) (h3 : x < 244 * n + 52 ∨ 244 * n + 52 + 4 * (h (244 * n + 8) - c) ≤ x) : snpH h Hd n c i x = h x := by
  unfold snpH skG
  rw [if_neg (by omega), if_neg (by omega), st_ne (by omega), st_ne (by omega), st_ne (by omega), st_ne (by omega), st_ne (by omega)]
  unfold goG gmG
  rw [st_ne (by omega), if_neg (by omega)]
theorem snp_at {n c i : Int} : snpH h Hd n c i (244 * n + 4) = i ∧ snpH h Hd n c i (244 * n + 5) = Hd 6 ∧ snpH h Hd n c i (244 * n + 6) = Hd 10 ∧ snpH h Hd n c i (244 * n + 7) = Hd 11 ∧ snpH h Hd n c i (244 * n + 9) = i ∧ snpH h Hd n c i (244 * n + 8) = h (244 * n + 8) - c := by
  unfold snpH skG
  refine ⟨?_, ?_, ?_, ?_, ?_, ?_⟩ <;> rw [if_neg (by omega), if_neg (by omega)] <;> simp (disch := omega) only [st_eq, st_ne, goG]
theorem snp_k {n c i w : Int} (w0 : 0 ≤ w) (w1 : w < 8) : snpH h Hd n c i (244 * n + (15 + w)) = Hd (12 + w) ∧ snpH h Hd n c i (244 * n + (23 + w)) = Hd (12 + w) := by
  unfold snpH skG
  constructor
  · rw [if_pos (by omega)]
    congr 1
    omega
  · rw [if_neg (by omega), if_pos (by omega)]
    congr 1
    omega
theorem snp_e {n c i x : Int} (x0 : 244 * n + 52 ≤ x) (x1 : x < 244 * n + 52 + 4 * (h (244 * n + 8) - c)) : snpH h Hd n c i x = h (x + 4 * c) := by
  unfold snpH skG
  rw [if_neg (by omega), if_neg (by omega), st_ne (by omega), st_ne (by omega), st_ne (by omega), st_ne (by omega), st_ne (by omega)]
  unfold goG gmG
  rw [st_ne (by omega), if_pos ⟨x0, x1⟩]
theorem Rel.snap {mi : Row} (r : Rel h g) (I : InvS g hs FL R D) (hm : MR Hd mi) (hk : mi 2 = 4) {n c : Int} (n0 : 0 ≤ n) (n1 : n < 7) (hr : g (244 * n + 3) ≠ 2) (hc : g (244 * n + 9) < mi 6)
    (ec : c = if hasEnt g n (mi 6) ∧ termA g n (mi 6) = mi 7 then mi 6 - g (244 * n + 4) else g (244 * n + 8)) : Rel (snpH h Hd n c (mi 6)) (snapG g mi n) := by
  obtain ⟨⟨s1, s2⟩, _⟩ := I.na n n0 n1
  have rn := r.nd n n0 n1
  have w4 := rn.s 4 (by omega) (by omega)
  have w8 := rn.s 8 (by omega) (by omega)
  obtain ⟨u1, u2, u3⟩ := hm.k4 hk
  have q6 := hm.k0 (Or.inr (Or.inr (Or.inr hk)))
  obtain ⟨a4, a5, a6, a7, a9, a8⟩ := snp_at (h := h) (Hd := Hd) (n := n) (c := c) (i := mi 6)
  have p5 : snapG g mi n (244 * n + 5) = mi 7 := if_pos rfl
  have p6 : snapG g mi n (244 * n + 6) = mi 8 := by rw [snapG_eq, if_neg (by omega), if_pos rfl]
  have p7 : snapG g mi n (244 * n + 7) = mi 9 := by rw [snapG_eq, if_neg (by omega), if_neg (by omega), if_pos rfl]
  have p9 : snapG g mi n (244 * n + 9) = mi 6 := by rw [snapG_eq, if_neg (by omega), if_neg (by omega), if_neg (by omega), if_pos rfl]
  have p4 : snapG g mi n (244 * n + 4) = mi 6 := by rw [snapG_eq, if_neg (by omega), if_neg (by omega), if_neg (by omega), if_neg (by omega), if_neg (by omega), if_neg (by omega), goesG_4]
  have pk : ∀ k, 0 ≤ k → k < 8 → snapG g mi n (244 * n + (15 + k)) = mi (11 + k) ∧ snapG g mi n (244 * n + (23 + k)) = mi (11 + k) := by
    intro k q0 q1
    constructor
    · rw [snapG_eq, if_neg (by omega), if_neg (by omega), if_neg (by omega), if_neg (by omega), if_pos (by omega)]
      congr 1
      omega
    · rw [snapG_eq, if_neg (by omega), if_neg (by omega), if_neg (by omega), if_neg (by omega), if_neg (by omega), if_pos (by omega)]
      congr 1
      omega
  have o := fun x a b c => snapG_o (g := g) (mi := mi) (n := n) (x := x) a b c (by omega) (by omega)
  have oh := fun x a b d => snp_o (h := h) (Hd := Hd) (n := n) (c := c) (i := mi 6) (x := x) a b d
  have cc : 0 ≤ c ∧ c ≤ g (244 * n + 8) := by
    rw [ec]
    split
    · rename_i q
      have := q.1.2
      simp only [lastA, the] at this
      omega
    · omega
  have p8 : snapG g mi n (244 * n + 8) = g (244 * n + 8) - c := by
    rw [snapG_eq, if_neg (by omega), if_neg (by omega), if_neg (by omega), if_neg (by omega), if_neg (by omega), if_neg (by omega), goesG_8, ec]
    by_cases d : hasEnt g n (mi 6) ∧ termA g n (mi 6) = mi 7
    · have := d.1.2
      simp only [lastA, the] at this
      rw [if_pos d, if_pos d]
      omega
    · rw [if_neg d, if_neg d, st_eq, st_ne (by omega)]
      omega
  refine r.node I.bd n0 n1 (fun x a => oh x (by omega) (by omega) (by omega)) (fun x a => o x (by omega) (by omega) (by omega)) ⟨fun w w0 w1 => ?_, fun w w0 w1 => ?_, fun q => ?_, fun x x0 x1 => ?_, fun q w w0 w1 => ?_⟩
  · by_cases c4 : w < 4 ∨ w = 10
    · rw [oh _ (by omega) (by omega) (by omega), o _ (by omega) (by omega) (by omega)]
      exact rn.s w w0 w1
    · rcases (show w = 4 ∨ w = 5 ∨ w = 6 ∨ w = 7 ∨ w = 8 ∨ w = 9 by omega) with e | e | e | e | e | e <;> subst e
      · rw [a4, p4]
      · rw [a5, p5, q6]
      · rw [a6, p6, u1]
      · rw [a7, p7, u2]
      · rw [a8, p8, w8]
      · rw [a9, p9]
  · by_cases c1 : w < 15
    · rw [oh _ (by omega) (by omega) (by omega), o _ (by omega) (by omega) (by omega)]
      exact rn.t w w0 w1
    · by_cases c2 : w < 23
      · have := (snp_k (h := h) (Hd := Hd) (n := n) (c := c) (i := mi 6) (w := w - 15) (by omega) (by omega)).1
        have q := (pk (w - 15) (by omega) (by omega)).1
        rw [show 15 + (w - 15) = w by omega] at this q
        rw [this, q]
        exact u3 _ (by omega) (by omega)
      · have := (snp_k (h := h) (Hd := Hd) (n := n) (c := c) (i := mi 6) (w := w - 23) (by omega) (by omega)).2
        have q := (pk (w - 23) (by omega) (by omega)).2
        rw [show 23 + (w - 23) = w by omega] at this q
        rw [this, q]
        exact u3 _ (by omega) (by omega)
  · rw [o _ (by omega) (by omega) (by omega)] at q
    rw [oh _ (by omega) (by omega) (by omega), o _ (by omega) (by omega) (by omega)]
    exact rn.k q
  · rw [p8] at x1
    rw [snp_e (by omega) (by omega)]
    have d : hasEnt g n (mi 6) ∧ termA g n (mi 6) = mi 7 := by
      apply Classical.byContradiction
      intro q
      rw [if_neg q] at ec
      omega
    rw [if_pos d] at ec
    rw [snapG_eq, if_neg (by omega), if_neg (by omega), if_neg (by omega), if_neg (by omega), if_neg (by omega), if_neg (by omega), if_pos d, goesG_log (by omega) (by omega), ← ec]
    exact rn.e _ (by omega) (by omega)
  · rw [o _ (by omega) (by omega) (by omega)] at q
    exact absurd q hr
theorem t_snapshot {mi : Row} (hL : LyC B M) (hΛ : LawL M Λ) (rel : Rel h g) (I : InvS g hs FL R D) (hm : MR Hd mi) (hM : MI hs R (g 11134) mi) {n : Int} (hn : mi 1 = n) (hk : mi 2 = 4) (hrs : mi 3 ≤ g (244 * n + 1)) (hup : g (244 * n + 0) = 1) :
    ∃ h' C' Mo', sX3_takesSnapshot (some B) (iI n) (tl B h C Hd Mo M) = some ((), tl B h' C' Hd Mo' M) ∧ Rel h' (snapshotG Λ g mi n) := by
  have hz := hM.s
  have n0 : 0 ≤ n := by omega
  have n1 : n < 7 := by omega
  have rr := I.rr
  obtain ⟨k1, k2, k3, k4, k5, k6, k7, k8⟩ := hM.k4 hk
  obtain ⟨q0, _, _, q3, q9, q5⟩ := hm.s
  obtain ⟨u1, u2, u3⟩ := hm.k4 hk
  have q6 := hm.k0 (Or.inr (Or.inr (Or.inr hk)))
  have q7 := hm.k3 (Or.inr hk)
  obtain ⟨⟨s1, s2⟩, _⟩ := I.na n n0 n1
  have rn := rel.nd n n0 n1
  have w1 := rn.s 1 (by omega) (by omega)
  unfold snapshotG
  simp only [the]
  by_cases c0 : mi 3 < g (244 * n + 1)
  · rw [if_pos c0]
    obtain ⟨h3, C3, Mo3, y3, r3⟩ := t_answers (C := C) (Hd := Hd) (Mo := Mo) (mi := mi) (k := 5) (a := 0) (x := 0) (y := 0) (w := 0) (z := 0) (rr := 0) hL hΛ rel I.bd (by omega) (by omega) (by rw [hn]; omega) (by rw [hn]; omega) (Or.inr (Or.inr ⟨rfl, rfl⟩))
    refine ⟨h3, C3, Mo3, ?_, r3⟩
    rw [hn] at y3
    simp (disch := first | assumption | omega) only [sX3_takesSnapshot, z10, z00, if_true, if_false, iv_add, iv_sub, iv_mul, iv_le, iv_lt, iv_eq, iv_mx, iv_mn, bI_z, bI_o, rZ0, rZ1, rZb, cl_some', lt_eq, rm_eq, dv_eq, iv_01, iv_10, the, lastA, lpA, st_eq, st_ne, sh_addM, cV_cl, cV_nd, cV_mo, cV_lt, gR_t0, aR_nd, gR_c0, gR_c1, gR_c2, gR_c3, gR_c4, gR_c5, gR_c6, gR_c15, gR_c16, gI_c7, pI_c7, gI_c8, pI_c8, gI_c9, pI_c9, gI_c10, pI_c10, gI_c11, pI_c11, gI_c12, pI_c12, gI_c13, pI_c13, gI_c14, pI_c14, gN_9, gN_10, gN_11, gN_12, gN_13, gN_14, gN_15, gN_16, gN_17, gN_18, gN_19, gN_20, gN_21, gN_22, gN_23, pN_9, pN_10, pN_11, pN_12, pN_13, pN_14, pN_15, pN_16, pN_17, pN_18, pN_19, pN_20, pN_21, pN_22, pZ_0, pZ_1, gR_n0, aI_n0, sI_n0, gR_n1, aI_n1, sI_n1, gR_n2, aI_n2, sI_n2, gR_n3, aI_n3, sI_n3, gR_n4, aI_n4, sI_n4, gR_n5, aI_n5, sI_n5, gR_n6, aI_n6, sI_n6, gR_n7, aI_n7, sI_n7, gR_n8, aI_n8, sI_n8, aR_s, aI_s, sI_s, aR_h, aI_h, sI_h, aR_r, aI_r, sI_r, aI_c, sI_c, aI_l, sI_l, aI_ca, aI_ha, sI_ca, sI_ha, gI_mo, pI_mo, q0, q3, w1, y3]
    rw [if_neg (by omega)]
  · rw [if_neg c0]
    have hA := I.ar
    have I0 := I.follow (w := mi 0) n0 n1 (by omega) (by omega) (Or.inl hup)
    have r0 := rel.follow I.bd (w := mi 0) n0 n1
    have f3 := rn.s 3 (by omega) (by omega)
    have y1 := t_follows (C := C) (Hd := Hd) (Mo := Mo) (w := mi 0) hL n0 n1 (rel.rdh hA I.rd) (by omega)
    obtain ⟨⟨v1, v2⟩, _⟩ := I0.na n n0 n1
    obtain ⟨h2, Mo2, y2, r2⟩ := t_setsTimer (C := C) (Hd := Hd) (Mo := Mo) hL hΛ r0 I0.bd n0 n1 (by omega) (by omega)
    have I1 := I0.timer (Λ := Λ) n0 n1
    have e3 : timerG Λ (followG g n (mi 0)) n (244 * n + 3) = 0 := by rw [timerG_ne (by omega) (by omega), followG_3]
    have e1 : timerG Λ (followG g n (mi 0)) n (244 * n + 1) = mi 3 := by
      rw [timerG_ne (by omega) (by omega), followG_ne (by omega) hA (by omega) (by omega)]
      omega
    have e34 : timerG Λ (followG g n (mi 0)) n 11134 = g 11134 := by rw [timerG_ne (by omega) (by omega), followG_ne (by omega) hA (by omega) (by omega)]
    rw [← e34] at hM
    generalize timerG Λ (followG g n (mi 0)) n = g1 at *
    generalize followG h n (mi 0) = h1 at *
    have rn2 := r2.nd n n0 n1
    have hg1 := I1.lg n0 n1
    have w4 := rn2.s 4 (by omega) (by omega)
    have w8 := rn2.s 8 (by omega) (by omega)
    have w9 := rn2.s 9 (by omega) (by omega)
    clear s1 s2 v1 v2
    obtain ⟨⟨s1, s2⟩, _⟩ := I1.na n n0 n1
    by_cases c1 : mi 6 ≤ g1 (244 * n + 9)
    · rw [if_pos c1]
      obtain ⟨h3, C3, Mo3, y3, r3⟩ := t_answers (C := C) (Hd := Hd) (Mo := Mo2) (mi := mi) (k := 5) (a := g1 (244 * n + 9)) (x := mi 10) (y := 0) (w := 0) (z := 0) (rr := mi 10) hL hΛ r2 I1.bd (by omega) (by omega) (by rw [hn]; omega) (by rw [hn]; omega) (Or.inr (Or.inr ⟨rfl, rfl⟩))
      refine ⟨h3, C3, Mo3, ?_, r3⟩
      rw [hn] at y3
      simp (disch := first | assumption | omega) only [sX3_takesSnapshot, t_last, z10, z00, if_true, if_false, iv_add, iv_sub, iv_mul, iv_le, iv_lt, iv_eq, iv_mx, iv_mn, bI_z, bI_o, rZ0, rZ1, rZb, cl_some', lt_eq, rm_eq, dv_eq, iv_01, iv_10, the, lastA, lpA, st_eq, st_ne, sh_addM, cV_cl, cV_nd, cV_mo, cV_lt, gR_t0, aR_nd, gR_c0, gR_c1, gR_c2, gR_c3, gR_c4, gR_c5, gR_c6, gR_c15, gR_c16, gI_c7, pI_c7, gI_c8, pI_c8, gI_c9, pI_c9, gI_c10, pI_c10, gI_c11, pI_c11, gI_c12, pI_c12, gI_c13, pI_c13, gI_c14, pI_c14, gN_9, gN_10, gN_11, gN_12, gN_13, gN_14, gN_15, gN_16, gN_17, gN_18, gN_19, gN_20, gN_21, gN_22, gN_23, pN_9, pN_10, pN_11, pN_12, pN_13, pN_14, pN_15, pN_16, pN_17, pN_18, pN_19, pN_20, pN_21, pN_22, pZ_0, pZ_1, gR_n0, aI_n0, sI_n0, gR_n1, aI_n1, sI_n1, gR_n2, aI_n2, sI_n2, gR_n3, aI_n3, sI_n3, gR_n4, aI_n4, sI_n4, gR_n5, aI_n5, sI_n5, gR_n6, aI_n6, sI_n6, gR_n7, aI_n7, sI_n7, gR_n8, aI_n8, sI_n8, aR_s, aI_s, sI_s, aR_h, aI_h, sI_h, aR_r, aI_r, sI_r, aI_c, sI_c, aI_l, sI_l, aI_ca, aI_ha, sI_ca, sI_ha, gI_mo, pI_mo, q0, q3, q5, q7, w1, y1, y2, w9, y3]
      rw [if_pos (by omega), if_neg (by omega)]
    · rw [if_neg c1]
      obtain ⟨FL2, I2, b1, b2, b3⟩ := I1.snapd hM hk n0 n1 e3 e1 (by omega)
      obtain ⟨c, ec⟩ : ∃ c, c = if hasEnt g1 n (mi 6) ∧ termA g1 n (mi 6) = mi 7 then mi 6 - g1 (244 * n + 4) else g1 (244 * n + 8) := ⟨_, rfl⟩
      have r3 := r2.snap I1 hm hk n0 n1 (by omega) (by omega) ec
      have cc : 0 ≤ c ∧ c ≤ g1 (244 * n + 8) := by
        rw [ec]
        split
        · rename_i q
          have := q.1.2
          simp only [lastA, the] at this
          omega
        · omega
      obtain ⟨h4, C4, Mo4, y4, r4⟩ := t_answers (C := C) (Hd := Hd) (Mo := Mo2) (mi := mi) (k := 5) (a := mi 6) (x := mi 10) (y := 0) (w := 0) (z := 0) (rr := mi 10) hL hΛ r3 I2.bd (by omega) (by omega) (by rw [hn]; omega) (by rw [hn]; omega) (Or.inr (Or.inr ⟨rfl, rfl⟩))
      refine ⟨h4, C4, Mo4, ?_, r4⟩
      rw [hn] at y4
      have x1 := t_goes (C := C) (Hd := Hd) (Mo := Mo2) (h := h2) (c := c) hL n0 n1 (by omega) (by omega) (by omega)
      have x2 := t_snap_177 (Hd := Hd) (C := C) (Mo := Mo2) (n := n) (fr := mi 0) (i := mi 6) (X := st (st (st (st (st (goG h2 n c) (244 * n + 4) (mi 6)) (244 * n + 5) (Hd 6)) (244 * n + 6) (Hd 10)) (244 * n + 7) (Hd 11)) (244 * n + 9) (mi 6)) hL n0 n1 8 0 FU (by omega) (by omega) (by unfold FU; omega)
      rw [sk0, q7] at x2
      have z1 : sX3_takesSnapshot_126 (some B) (iI n) (some (ndA B n)) (iI (mi 0)) (iI (mi 6)) (some (ndA B n)) (iI c) (tl B h2 C Hd Mo2 M) = some ((), tl B h4 C4 Hd Mo4 M) := by
        simp (disch := first | assumption | omega) only [sX3_takesSnapshot_126, z10, z00, if_true, if_false, iv_add, iv_sub, iv_mul, iv_le, iv_lt, iv_eq, iv_mx, iv_mn, bI_z, bI_o, rZ0, rZ1, rZb, cl_some', lt_eq, rm_eq, dv_eq, iv_01, iv_10, the, lastA, lpA, st_eq, st_ne, sh_addM, cV_cl, cV_nd, cV_mo, cV_lt, gR_t0, aR_nd, gR_c0, gR_c1, gR_c2, gR_c3, gR_c4, gR_c5, gR_c6, gR_c15, gR_c16, gI_c7, pI_c7, gI_c8, pI_c8, gI_c9, pI_c9, gI_c10, pI_c10, gI_c11, pI_c11, gI_c12, pI_c12, gI_c13, pI_c13, gI_c14, pI_c14, gN_9, gN_10, gN_11, gN_12, gN_13, gN_14, gN_15, gN_16, gN_17, gN_18, gN_19, gN_20, gN_21, gN_22, gN_23, pN_9, pN_10, pN_11, pN_12, pN_13, pN_14, pN_15, pN_16, pN_17, pN_18, pN_19, pN_20, pN_21, pN_22, pZ_0, pZ_1, gR_n0, aI_n0, sI_n0, gR_n1, aI_n1, sI_n1, gR_n2, aI_n2, sI_n2, gR_n3, aI_n3, sI_n3, gR_n4, aI_n4, sI_n4, gR_n5, aI_n5, sI_n5, gR_n6, aI_n6, sI_n6, gR_n7, aI_n7, sI_n7, gR_n8, aI_n8, sI_n8, aR_s, aI_s, sI_s, aR_h, aI_h, sI_h, aR_r, aI_r, sI_r, aI_c, sI_c, aI_l, sI_l, aI_ca, aI_ha, sI_ca, sI_ha, gI_mo, pI_mo, x1]
        rw [x2]
        unfold snpH at y4
        rw [y4]
        rfl
      have x3 := t_hasEntry (C := C) (Hd := Hd) (Mo := Mo2) (i := mi 6) hL (rn2.lg hg1) (by omega) (by omega)
      rw [bI_c rn2.ent] at x3
      by_cases d1 : hasEnt g1 n (mi 6)
      · have d2 := d1
        simp only [hasEnt, lastA, the] at d2
        have x4 := t_termAt (C := C) (Hd := Hd) (Mo := Mo2) (i := mi 6) hL (rn2.lg hg1) (by omega) (by omega)
        rw [rn2.term hg1 (by omega) (by omega)] at x4
        have tr := termR hg1 (i := mi 6) (by omega) (by omega)
        by_cases d3 : termA g1 n (mi 6) = mi 7
        · rw [if_pos ⟨d1, d3⟩] at ec
          rw [ec] at z1
          simp (disch := first | assumption | omega) only [sX3_takesSnapshot, z10, z00, if_true, if_false, iv_add, iv_sub, iv_mul, iv_le, iv_lt, iv_eq, iv_mx, iv_mn, bI_z, bI_o, rZ0, rZ1, rZb, cl_some', lt_eq, rm_eq, dv_eq, iv_01, iv_10, the, lastA, lpA, st_eq, st_ne, sh_addM, cV_cl, cV_nd, cV_mo, cV_lt, gR_t0, aR_nd, gR_c0, gR_c1, gR_c2, gR_c3, gR_c4, gR_c5, gR_c6, gR_c15, gR_c16, gI_c7, pI_c7, gI_c8, pI_c8, gI_c9, pI_c9, gI_c10, pI_c10, gI_c11, pI_c11, gI_c12, pI_c12, gI_c13, pI_c13, gI_c14, pI_c14, gN_9, gN_10, gN_11, gN_12, gN_13, gN_14, gN_15, gN_16, gN_17, gN_18, gN_19, gN_20, gN_21, gN_22, gN_23, pN_9, pN_10, pN_11, pN_12, pN_13, pN_14, pN_15, pN_16, pN_17, pN_18, pN_19, pN_20, pN_21, pN_22, pZ_0, pZ_1, gR_n0, aI_n0, sI_n0, gR_n1, aI_n1, sI_n1, gR_n2, aI_n2, sI_n2, gR_n3, aI_n3, sI_n3, gR_n4, aI_n4, sI_n4, gR_n5, aI_n5, sI_n5, gR_n6, aI_n6, sI_n6, gR_n7, aI_n7, sI_n7, gR_n8, aI_n8, sI_n8, aR_s, aI_s, sI_s, aR_h, aI_h, sI_h, aR_r, aI_r, sI_r, aI_c, sI_c, aI_l, sI_l, aI_ca, aI_ha, sI_ca, sI_ha, gI_mo, pI_mo, q0, q3, q5, q6, w1, y1, y2, w9, w4, x3, x4, z1]
          rw [if_pos (by omega), if_pos (by omega), if_neg (fun x => x d1), if_pos d3]
        · rw [if_neg (fun q => d3 q.2)] at ec
          rw [ec] at z1
          simp (disch := first | assumption | omega) only [sX3_takesSnapshot, sX3_takesSnapshot_122, z10, z00, if_true, if_false, iv_add, iv_sub, iv_mul, iv_le, iv_lt, iv_eq, iv_mx, iv_mn, bI_z, bI_o, rZ0, rZ1, rZb, cl_some', lt_eq, rm_eq, dv_eq, iv_01, iv_10, the, lastA, lpA, st_eq, st_ne, sh_addM, cV_cl, cV_nd, cV_mo, cV_lt, gR_t0, aR_nd, gR_c0, gR_c1, gR_c2, gR_c3, gR_c4, gR_c5, gR_c6, gR_c15, gR_c16, gI_c7, pI_c7, gI_c8, pI_c8, gI_c9, pI_c9, gI_c10, pI_c10, gI_c11, pI_c11, gI_c12, pI_c12, gI_c13, pI_c13, gI_c14, pI_c14, gN_9, gN_10, gN_11, gN_12, gN_13, gN_14, gN_15, gN_16, gN_17, gN_18, gN_19, gN_20, gN_21, gN_22, gN_23, pN_9, pN_10, pN_11, pN_12, pN_13, pN_14, pN_15, pN_16, pN_17, pN_18, pN_19, pN_20, pN_21, pN_22, pZ_0, pZ_1, gR_n0, aI_n0, sI_n0, gR_n1, aI_n1, sI_n1, gR_n2, aI_n2, sI_n2, gR_n3, aI_n3, sI_n3, gR_n4, aI_n4, sI_n4, gR_n5, aI_n5, sI_n5, gR_n6, aI_n6, sI_n6, gR_n7, aI_n7, sI_n7, gR_n8, aI_n8, sI_n8, aR_s, aI_s, sI_s, aR_h, aI_h, sI_h, aR_r, aI_r, sI_r, aI_c, sI_c, aI_l, sI_l, aI_ca, aI_ha, sI_ca, sI_ha, gI_mo, pI_mo, q0, q3, q5, q6, w1, y1, y2, w9, w4, w8, x3, x4, z1]
          rw [if_pos (by omega), if_pos (by omega), if_neg (fun x => x d1), if_neg d3]
      · rw [if_neg (fun q => d1 q.1)] at ec
        rw [ec] at z1
        simp (disch := first | assumption | omega) only [sX3_takesSnapshot, sX3_takesSnapshot_122, z10, z00, if_true, if_false, iv_add, iv_sub, iv_mul, iv_le, iv_lt, iv_eq, iv_mx, iv_mn, bI_z, bI_o, rZ0, rZ1, rZb, cl_some', lt_eq, rm_eq, dv_eq, iv_01, iv_10, the, lastA, lpA, st_eq, st_ne, sh_addM, cV_cl, cV_nd, cV_mo, cV_lt, gR_t0, aR_nd, gR_c0, gR_c1, gR_c2, gR_c3, gR_c4, gR_c5, gR_c6, gR_c15, gR_c16, gI_c7, pI_c7, gI_c8, pI_c8, gI_c9, pI_c9, gI_c10, pI_c10, gI_c11, pI_c11, gI_c12, pI_c12, gI_c13, pI_c13, gI_c14, pI_c14, gN_9, gN_10, gN_11, gN_12, gN_13, gN_14, gN_15, gN_16, gN_17, gN_18, gN_19, gN_20, gN_21, gN_22, gN_23, pN_9, pN_10, pN_11, pN_12, pN_13, pN_14, pN_15, pN_16, pN_17, pN_18, pN_19, pN_20, pN_21, pN_22, pZ_0, pZ_1, gR_n0, aI_n0, sI_n0, gR_n1, aI_n1, sI_n1, gR_n2, aI_n2, sI_n2, gR_n3, aI_n3, sI_n3, gR_n4, aI_n4, sI_n4, gR_n5, aI_n5, sI_n5, gR_n6, aI_n6, sI_n6, gR_n7, aI_n7, sI_n7, gR_n8, aI_n8, sI_n8, aR_s, aI_s, sI_s, aR_h, aI_h, sI_h, aR_r, aI_r, sI_r, aI_c, sI_c, aI_l, sI_l, aI_ca, aI_ha, sI_ca, sI_ha, gI_mo, pI_mo, q0, q3, q5, q6, w1, y1, y2, w9, w4, w8, x3, z1]
        rw [if_pos (by omega), if_pos (by omega), if_pos d1]
end
