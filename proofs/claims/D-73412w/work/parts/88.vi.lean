/-! DEPS: vh -/
/-! VI: TermLog follows, commits, holds -/
section
variable {B : Nat} {h g C Hd Mo : Row} {M : Mem} {Λ : Law} {hs : His} {FL : Int → ELog} {R : Int} {D : DK}
/-- what TermLog's rows of reads must hold: whose, and which state -/
abbrev RdH (h : Row) : Prop := 0 ≤ h 11135 ∧ h 11135 ≤ 16 ∧ ∀ r, 0 ≤ r → r < h 11135 → 0 ≤ h (11028 + 6 * r) ∧ h (11028 + 6 * r) ≤ 6 ∧ 0 ≤ h (11028 + 6 * r + 4) ∧ h (11028 + 6 * r + 4) ≤ 2
theorem Rel.rdh (r : Rel h g) (hA : 0 ≤ g 11135 ∧ g 11135 ≤ 16) (hR : RdA g) : RdH h := by
  have e := r.gl 11135 (by omega) (by omega)
  refine ⟨by omega, by omega, fun q a b => ?_⟩
  rw [e] at b
  obtain ⟨q1, q2, q3⟩ := r.rd q a b
  have := hR q a b
  have e0 := q1 0 (by omega) (by omega)
  rw [Int.add_zero] at e0
  rw [e0, q1 4 (by omega) (by omega)]
  omega
theorem t_loses_2 (hL : LyC B M) {n : Int} (n0 : 0 ≤ n) (n1 : n < 7) (hR : RdH h) : ∀ (j : Nat) (k : Int) (fu : Nat), h 11135 - k = j → 0 ≤ k → j < fu →
    sX3_losesReads_2 fu (some B) (iI n) (iI k) (tl B (lrG h n k) C Hd Mo M) = some ((), tl B (lrG h n (h 11135)) C Hd Mo M)
  | 0, k, fu + 1, e1, e2, e3 => by
    have e : h 11135 = k := by omega
    have ea : lrG h n k 11135 = h 11135 := lrG_ne (by omega)
    obtain ⟨_, _, _⟩ := hR
    simp (disch := first | assumption | omega) only [sX3_losesReads_2, sX3_losesReads_2b, z10, z00, if_true, if_false, iv_add, iv_sub, iv_mul, iv_le, iv_lt, iv_eq, iv_mx, iv_mn, bI_z, bI_o, rZ0, rZ1, rZb, cl_some', lt_eq, rm_eq, dv_eq, iv_01, iv_10, the, lastA, lpA, st_eq, st_ne, sh_addM, cV_cl, cV_nd, cV_mo, cV_lt, gR_t0, aR_nd, gR_c0, gR_c1, gR_c2, gR_c3, gR_c4, gR_c5, gR_c6, gR_c15, gR_c16, gI_c7, pI_c7, gI_c8, pI_c8, gI_c9, pI_c9, gI_c10, pI_c10, gI_c11, pI_c11, gI_c12, pI_c12, gI_c13, pI_c13, gI_c14, pI_c14, gN_9, gN_10, gN_11, gN_12, gN_13, gN_14, gN_15, gN_16, gN_17, gN_18, gN_19, gN_20, gN_21, gN_22, gN_23, pN_9, pN_10, pN_11, pN_12, pN_13, pN_14, pN_15, pN_16, pN_17, pN_18, pN_19, pN_20, pN_21, pN_22, pZ_0, pZ_1, gR_n0, aI_n0, sI_n0, gR_n1, aI_n1, sI_n1, gR_n2, aI_n2, sI_n2, gR_n3, aI_n3, sI_n3, gR_n4, aI_n4, sI_n4, gR_n5, aI_n5, sI_n5, gR_n6, aI_n6, sI_n6, gR_n7, aI_n7, sI_n7, gR_n8, aI_n8, sI_n8, aR_s, aI_s, sI_s, aR_h, aI_h, sI_h, aR_r, aI_r, sI_r, aI_c, sI_c, aI_l, sI_l, aI_ca, aI_ha, sI_ca, sI_ha, gI_mo, pI_mo, ea]
    rw [if_pos (by omega), e]
  | j + 1, k, fu + 1, e1, e2, e3 => by
    have ih := t_loses_2 hL n0 n1 hR j (k + 1) fu (by omega) (by omega) (by omega)
    obtain ⟨hr0, hr1, hr2⟩ := hR
    obtain ⟨_, _, _, _⟩ := hr2 k e2 (by omega)
    have ea : lrG h n k 11135 = h 11135 := lrG_ne (by omega)
    have eb : lrG h n k (11028 + 6 * k + 0) = h (11028 + 6 * k) := by rw [Int.add_zero]; exact lrG_ne (by omega)
    have ec : lrG h n k (11028 + 6 * k + 4) = h (11028 + 6 * k + 4) := lrG_ne (by omega)
    show sX3_losesReads_2b (sX3_losesReads_2 fu) _ _ _ _ = _
    generalize sX3_losesReads_2 fu = K at ih ⊢
    simp (disch := first | assumption | omega) only [sX3_losesReads_2b, sX3_losesReads_42, z10, z00, if_true, if_false, iv_add, iv_sub, iv_mul, iv_le, iv_lt, iv_eq, iv_mx, iv_mn, bI_z, bI_o, rZ0, rZ1, rZb, cl_some', lt_eq, rm_eq, dv_eq, iv_01, iv_10, the, lastA, lpA, st_eq, st_ne, sh_addM, cV_cl, cV_nd, cV_mo, cV_lt, gR_t0, aR_nd, gR_c0, gR_c1, gR_c2, gR_c3, gR_c4, gR_c5, gR_c6, gR_c15, gR_c16, gI_c7, pI_c7, gI_c8, pI_c8, gI_c9, pI_c9, gI_c10, pI_c10, gI_c11, pI_c11, gI_c12, pI_c12, gI_c13, pI_c13, gI_c14, pI_c14, gN_9, gN_10, gN_11, gN_12, gN_13, gN_14, gN_15, gN_16, gN_17, gN_18, gN_19, gN_20, gN_21, gN_22, gN_23, pN_9, pN_10, pN_11, pN_12, pN_13, pN_14, pN_15, pN_16, pN_17, pN_18, pN_19, pN_20, pN_21, pN_22, pZ_0, pZ_1, gR_n0, aI_n0, sI_n0, gR_n1, aI_n1, sI_n1, gR_n2, aI_n2, sI_n2, gR_n3, aI_n3, sI_n3, gR_n4, aI_n4, sI_n4, gR_n5, aI_n5, sI_n5, gR_n6, aI_n6, sI_n6, gR_n7, aI_n7, sI_n7, gR_n8, aI_n8, sI_n8, aR_s, aI_s, sI_s, aR_h, aI_h, sI_h, aR_r, aI_r, sI_r, aI_c, sI_c, aI_l, sI_l, aI_ca, aI_ha, sI_ca, sI_ha, gI_mo, pI_mo, ea, eb, ec]
    rw [if_neg (by omega)]
    by_cases c1 : h (11028 + 6 * k) = n
    · rw [if_pos c1]
      by_cases c2 : h (11028 + 6 * k + 4) = 0
      · rw [if_pos c2, lrS e2 c1 c2]
        exact ih
      · rw [if_neg c2, lrN e2 (fun hc => c2 hc.2)]
        exact ih
    · rw [if_neg c1, lrN e2 (fun hc => c1 hc.1)]
      exact ih
theorem t_losesReads (hL : LyC B M) {n : Int} (n0 : 0 ≤ n) (n1 : n < 7) (hR : RdH h) : sX3_losesReads (some B) (iI n) (tl B h C Hd Mo M) = some ((), tl B (readsG h n) C Hd Mo M) := by
  have := t_loses_2 (C := C) (Hd := Hd) (Mo := Mo) hL n0 n1 hR (h 11135).toNat 0 FU (by have := hR.1; omega) (by omega) (by have := hR.2.1; unfold FU; omega)
  rw [lr0] at this
  exact this
theorem Rel.reads (r : Rel h g) (b : BdA g) {n : Int} : Rel (readsG h n) (readsG g n) := by
  obtain ⟨b1, hG⟩ := b
  obtain ⟨_, _, _, _, _, _, _, _, _, _, _, _⟩ := hG
  have eA := r.gl 11135 (by omega) (by omega)
  have oh : ∀ x, (x < 11032 ∨ 11128 ≤ x) → readsG h n x = h x := fun x a => readsG_ne a (by omega)
  have og : ∀ x, (x < 11032 ∨ 11128 ≤ x) → readsG g n x = g x := fun x a => readsG_ne a (by omega)
  have ph : ∀ q w, 0 ≤ q → q < 16 → 0 ≤ w → w < 6 → w ≠ 4 → readsG h n (11028 + 6 * q + w) = h (11028 + 6 * q + w) := fun q w a b c d e => lrG_ne (k := h 11135) (by omega)
  have pg : ∀ q w, 0 ≤ q → q < 16 → 0 ≤ w → w < 6 → w ≠ 4 → readsG g n (11028 + 6 * q + w) = g (11028 + 6 * q + w) := fun q w a b c d e => lrG_ne (k := g 11135) (by omega)
  have st4 : ∀ q, 0 ≤ q → q < g 11135 → readsG h n (11028 + 6 * q + 4) = readsG g n (11028 + 6 * q + 4) ∧ (readsG g n (11028 + 6 * q + 4) = 1 ↔ g (11028 + 6 * q + 4) = 1) := by
    intro q a c
    obtain ⟨q1, q2, q3⟩ := r.rd q a c
    have e0 := q1 0 (by omega) (by omega)
    have e4 := q1 4 (by omega) (by omega)
    rw [Int.add_zero] at e0
    unfold readsG
    rw [show 11028 + 6 * q + 4 - 4 = 11028 + 6 * q by omega, e0, e4, eA]
    refine ⟨rfl, ?_⟩
    split
    · rename_i d
      constructor
      · intro z; omega
      · intro z; omega
    · exact Iff.rfl
  refine ⟨fun m m0 m1 => (r.nd m m0 m1).keep (fun x _ _ => oh x (by omega)) (fun x _ _ => og x (by omega)) (b1 m m0 m1), fun i a c w w0 w1 => ?_, fun x a c => by rw [oh x (by omega), og x (by omega)]; exact r.ld x a c, fun q a c => ?_, fun x a c => ?_, fun x a c => by rw [oh x (by omega), og x (by omega)]; exact r.gl x a c, fun i a c => ?_⟩
  · rw [og _ (by omega)] at c
    rw [oh _ (by omega), og _ (by omega)]
    exact r.hl i a c w w0 w1
  · rw [og _ (by omega)] at c
    obtain ⟨q1, q2, q3⟩ := r.rd q a c
    obtain ⟨t1, t2⟩ := st4 q a c
    refine ⟨fun w w0 w1 => ?_, fun d => ?_, fun d => ?_⟩
    · by_cases w4 : w = 4
      · rw [w4]; exact t1
      · rw [ph q w a (by omega) w0 (by omega) w4, pg q w a (by omega) w0 (by omega) w4]
        exact q1 w w0 w1
    · rw [ph q 5 a (by omega) (by omega) (by omega) (by omega), pg q 5 a (by omega) (by omega) (by omega) (by omega)]
      exact q2 (t2.mp d)
    · rw [ph q 5 a (by omega) (by omega) (by omega) (by omega)]
      exact q3 (fun z => d (t2.mpr z))
  · by_cases d : x < 11128
    · have e1 : readsG h n x = h x := lrG_ne (k := h 11135) (by omega)
      have e2 : readsG g n x = g x := lrG_ne (k := g 11135) (by omega)
      rw [e1, e2]; exact r.ct x a c
    · rw [oh x (by omega), og x (by omega)]; exact r.ct x a c
  · rw [og _ (by omega)] at c
    obtain ⟨q1, q2⟩ := r.ml i a c
    exact ⟨MR_ext q1 (fun f f0 f1 _ => oh _ (by omega)) (fun w w0 w1 _ => og _ (by omega)), by show readsG h n _ = readsG g n _; rw [oh _ (by omega), og _ (by omega)]; exact q2⟩
/-- a node takes the role of a follower and knows one -/
theorem Rel.roled (r : Rel h g) (b : BdA g) {n w : Int} (n0 : 0 ≤ n) (n1 : n < 7) : Rel (st (st h (244 * n + 3) 0) (244 * n + 11) w) (st (st g (244 * n + 3) 0) (244 * n + 11) w) := by
  obtain ⟨b1, hG⟩ := b
  obtain ⟨_, _, _, _, _, _, _, _, _, _, _, _⟩ := hG
  have o : ∀ (f : Row) x, ¬ x = 244 * n + 3 → ¬ x = 244 * n + 11 → st (st f (244 * n + 3) 0) (244 * n + 11) w x = f x := fun f x a c => by rw [st_ne c, st_ne a]
  refine r.upd (fun x a c => ?_) (fun m m0 m1 => ?_) b1 (o _ _ (by omega) (by omega)) (by omega) (o _ _ (by omega) (by omega)) (o _ _ (by omega) (by omega)) (by omega) (by omega) (fun x a c => ⟨o _ _ (by omega) (by omega), o _ _ (by omega) (by omega)⟩) (fun x a => o _ _ (by omega) (by omega)) (fun x a c => o _ _ (by omega) (by omega))
  · by_cases d1 : x = 244 * n + 11
    · rw [d1, st_eq, st_eq]; exact Or.inr rfl
    · by_cases d2 : x = 244 * n + 3
      · rw [d2, st_ne (by omega), st_eq, st_ne (by omega), st_eq]; exact Or.inr rfl
      · exact Or.inl ⟨o _ _ d2 d1, o _ _ d2 d1⟩
  · refine ⟨o _ _ (by omega) (by omega), fun q => ?_, fun q => ?_⟩
    · rw [o _ _ (by omega) (by omega)] at q; exact q
    · by_cases d : m = n
      · rw [d, st_ne (by omega), st_eq] at q; omega
      · rw [o _ _ (by omega) (by omega)] at q; exact q
theorem Rel.follow (r : Rel h g) (b : BdA g) {n w : Int} (n0 : 0 ≤ n) (n1 : n < 7) : Rel (followG h n w) (followG g n w) := by
  have e3 := (r.nd n n0 n1).s 3 (by omega) (by omega)
  have bd : BdA (readsG g n) := by
    obtain ⟨b1, hG⟩ := b
    have hG' := hG
    obtain ⟨_, _, _, _, _, _, _, _, _, _, _, _⟩ := hG
    exact ⟨fun m m0 m1 => by rw [readsG_ne (by omega) (by omega)]; exact b1 m m0 m1, GlA_blk (fun x _ => readsG_ne (by omega) (by omega)) hG'⟩
  unfold followG
  simp only [the]
  by_cases c : g (244 * n + 3) = 2
  · rw [if_pos c, if_pos (e3.trans c)]
    exact (r.reads b).roled bd n0 n1
  · rw [if_neg c, if_neg (fun q => c (e3.symm.trans q))]
    exact r.roled b n0 n1
theorem t_follows (hL : LyC B M) {n w : Int} (n0 : 0 ≤ n) (n1 : n < 7) (hR : RdH h) (h3 : 0 ≤ h (244 * n + 3) ∧ h (244 * n + 3) ≤ 2) : sX3_follows (some B) (iI n) (iI w) (tl B h C Hd Mo M) = some ((), tl B (followG h n w) C Hd Mo M) := by
  have x1 := t_losesReads (C := C) (Hd := Hd) (Mo := Mo) hL n0 n1 hR
  unfold followG
  simp only [the]
  simp (disch := first | assumption | omega) only [sX3_follows, sX3_follows_20, z10, z00, if_true, if_false, iv_add, iv_sub, iv_mul, iv_le, iv_lt, iv_eq, iv_mx, iv_mn, bI_z, bI_o, rZ0, rZ1, rZb, cl_some', lt_eq, rm_eq, dv_eq, iv_01, iv_10, the, lastA, lpA, st_eq, st_ne, sh_addM, cV_cl, cV_nd, cV_mo, cV_lt, gR_t0, aR_nd, gR_c0, gR_c1, gR_c2, gR_c3, gR_c4, gR_c5, gR_c6, gR_c15, gR_c16, gI_c7, pI_c7, gI_c8, pI_c8, gI_c9, pI_c9, gI_c10, pI_c10, gI_c11, pI_c11, gI_c12, pI_c12, gI_c13, pI_c13, gI_c14, pI_c14, gN_9, gN_10, gN_11, gN_12, gN_13, gN_14, gN_15, gN_16, gN_17, gN_18, gN_19, gN_20, gN_21, gN_22, gN_23, pN_9, pN_10, pN_11, pN_12, pN_13, pN_14, pN_15, pN_16, pN_17, pN_18, pN_19, pN_20, pN_21, pN_22, pZ_0, pZ_1, gR_n0, aI_n0, sI_n0, gR_n1, aI_n1, sI_n1, gR_n2, aI_n2, sI_n2, gR_n3, aI_n3, sI_n3, gR_n4, aI_n4, sI_n4, gR_n5, aI_n5, sI_n5, gR_n6, aI_n6, sI_n6, gR_n7, aI_n7, sI_n7, gR_n8, aI_n8, sI_n8, aR_s, aI_s, sI_s, aR_h, aI_h, sI_h, aR_r, aI_r, sI_r, aI_c, sI_c, aI_l, sI_l, aI_ca, aI_ha, sI_ca, sI_ha, gI_mo, pI_mo, x1]
  split <;> rfl
/-! who has matched, who was heard -/
def wmF (g : Row) (n i : Int) : Nat → Int → Int → Int
  | 0, s, _ => s
  | f + 1, s, k => wmF g n i f (if k = n ∨ i ≤ g (244 * n + (38 + k)) then orI s (bitI k) else s) (k + 1)
theorem orI_comm3 {a b c : Int} : orI (orI a b) c = orI (orI a c) b := by
  unfold orI
  congr 1
  simp only [Int.toNat_natCast]
  rw [Nat.or_assoc, Nat.or_comm b.toNat, ← Nat.or_assoc]
theorem orI_idem {a b : Int} : orI (orI a b) b = orI a b := by
  unfold orI
  congr 1
  simp only [Int.toNat_natCast]
  rw [Nat.or_assoc, Nat.or_self]
theorem wm_hi {n i : Int} : ∀ (f : Nat) (s k : Int), n < k → wmF g n i f s k = whoF g n 38 i f s k
  | 0, s, k, a => rfl
  | f + 1, s, k, a => by
    unfold wmF whoF
    simp only [the]
    rw [wm_hi f _ (k + 1) (by omega)]
    congr 1
    by_cases c : i ≤ g (244 * n + (38 + k))
    · rw [if_pos (Or.inr c), if_pos c]
    · rw [if_neg (by omega), if_neg c]
theorem wm_lo {n i : Int} : ∀ (f : Nat) (s k : Int), k ≤ n → n < k + f → wmF g n i f s k = whoF g n 38 i f (orI s (bitI n)) k
  | 0, s, k, a, b => by omega
  | f + 1, s, k, a, b => by
    unfold wmF whoF
    simp only [the]
    by_cases e : k = n
    · subst e
      rw [if_pos (Or.inl rfl), wm_hi f _ (k + 1) (by omega)]
      congr 1
      split
      · rw [orI_idem]
      · rfl
    · rw [wm_lo f _ (k + 1) (by omega) (by omega)]
      congr 1
      by_cases c : i ≤ g (244 * n + (38 + k))
      · rw [if_pos (Or.inr c), if_pos c, orI_comm3]
      · rw [if_neg (by omega), if_neg c]
theorem orI_0 {b : Int} (h : 0 ≤ b) : orI 0 b = b := by
  unfold orI
  rw [show (0 : Int).toNat = 0 from rfl, Nat.zero_or]
  omega
theorem orI_z {b : Int} (h : 0 ≤ b) : orI b 0 = b := by
  unfold orI
  rw [show (0 : Int).toNat = 0 from rfl, Nat.or_zero]
  omega
theorem t_match_5 (hL : LyC B M) {n i : Int} (n0 : 0 ≤ n) (n1 : n < 7) (hi : 0 ≤ i ∧ i ≤ h (244 * n + 4) + h (244 * n + 8)) (hl : 0 ≤ h (244 * n + 4) ∧ h (244 * n + 4) + h (244 * n + 8) ≤ 999 ∧ 0 ≤ h (244 * n + 8)) (hM : ∀ k, 0 ≤ k → k < 7 → 0 ≤ h (244 * n + (38 + k)) ∧ h (244 * n + (38 + k)) ≤ 999) : ∀ (j : Nat) (s k : Int) (fu : Nat), 7 - k = j → 0 ≤ k → j < fu → 0 ≤ s → s < 128 →
    sX3_withMatch_5 fu (some B) (iI n) (iI i) (iI s) (iI k) (tl B h C Hd Mo M) = some (iI (wmF h n i j s k), tl B h C Hd Mo M)
  | 0, s, k, fu + 1, e1, e2, e3, s0, s1 => by
    simp (disch := first | assumption | omega) only [sX3_withMatch_5, sX3_withMatch_5b, z10, z00, if_true, if_false, iv_add, iv_sub, iv_mul, iv_le, iv_lt, iv_eq, iv_mx, iv_mn, bI_z, bI_o, rZ0, rZ1, rZb, cl_some', lt_eq, rm_eq, dv_eq, iv_01, iv_10, the, lastA, lpA, st_eq, st_ne, sh_addM, cV_cl, cV_nd, cV_mo, cV_lt, gR_t0, aR_nd, gR_c0, gR_c1, gR_c2, gR_c3, gR_c4, gR_c5, gR_c6, gR_c15, gR_c16, gI_c7, pI_c7, gI_c8, pI_c8, gI_c9, pI_c9, gI_c10, pI_c10, gI_c11, pI_c11, gI_c12, pI_c12, gI_c13, pI_c13, gI_c14, pI_c14, gN_9, gN_10, gN_11, gN_12, gN_13, gN_14, gN_15, gN_16, gN_17, gN_18, gN_19, gN_20, gN_21, gN_22, gN_23, pN_9, pN_10, pN_11, pN_12, pN_13, pN_14, pN_15, pN_16, pN_17, pN_18, pN_19, pN_20, pN_21, pN_22, pZ_0, pZ_1, gR_n0, aI_n0, sI_n0, gR_n1, aI_n1, sI_n1, gR_n2, aI_n2, sI_n2, gR_n3, aI_n3, sI_n3, gR_n4, aI_n4, sI_n4, gR_n5, aI_n5, sI_n5, gR_n6, aI_n6, sI_n6, gR_n7, aI_n7, sI_n7, gR_n8, aI_n8, sI_n8, aR_s, aI_s, sI_s, aR_h, aI_h, sI_h, aR_r, aI_r, sI_r, aI_c, sI_c, aI_l, sI_l, aI_ca, aI_ha, sI_ca, sI_ha, gI_mo, pI_mo]
    rw [if_pos (by omega)]
    rfl
  | j + 1, s, k, fu + 1, e1, e2, e3, s0, s1 => by
    obtain ⟨_, _⟩ := hM k e2 (by omega)
    have hb := bitR e2 (show k < 7 by omega)
    have ho := orR s0 s1 (show 0 ≤ bitI k by omega) hb.2
    unfold wmF
    have ih1 := t_match_5 hL n0 n1 hi hl hM j (orI s (bitI k)) (k + 1) fu (by omega) (by omega) (by omega) ho.1 ho.2
    have ih2 := t_match_5 hL n0 n1 hi hl hM j s (k + 1) fu (by omega) (by omega) (by omega) s0 s1
    show sX3_withMatch_5b (sX3_withMatch_5 fu) _ _ _ _ _ _ = _
    generalize sX3_withMatch_5 fu = K at ih1 ih2 ⊢
    by_cases c1 : k = n
    · rw [if_pos (Or.inl c1)]
      simp (disch := first | assumption | omega) only [sX3_withMatch_5b, sX3_withMatch_43, sX3_withMatch_55, t_last, z10, z00, if_true, if_false, iv_add, iv_sub, iv_mul, iv_le, iv_lt, iv_eq, iv_mx, iv_mn, bI_z, bI_o, rZ0, rZ1, rZb, cl_some', lt_eq, rm_eq, dv_eq, iv_01, iv_10, the, lastA, lpA, st_eq, st_ne, sh_addM, cV_cl, cV_nd, cV_mo, cV_lt, gR_t0, aR_nd, gR_c0, gR_c1, gR_c2, gR_c3, gR_c4, gR_c5, gR_c6, gR_c15, gR_c16, gI_c7, pI_c7, gI_c8, pI_c8, gI_c9, pI_c9, gI_c10, pI_c10, gI_c11, pI_c11, gI_c12, pI_c12, gI_c13, pI_c13, gI_c14, pI_c14, gN_9, gN_10, gN_11, gN_12, gN_13, gN_14, gN_15, gN_16, gN_17, gN_18, gN_19, gN_20, gN_21, gN_22, gN_23, pN_9, pN_10, pN_11, pN_12, pN_13, pN_14, pN_15, pN_16, pN_17, pN_18, pN_19, pN_20, pN_21, pN_22, pZ_0, pZ_1, gR_n0, aI_n0, sI_n0, gR_n1, aI_n1, sI_n1, gR_n2, aI_n2, sI_n2, gR_n3, aI_n3, sI_n3, gR_n4, aI_n4, sI_n4, gR_n5, aI_n5, sI_n5, gR_n6, aI_n6, sI_n6, gR_n7, aI_n7, sI_n7, gR_n8, aI_n8, sI_n8, aR_s, aI_s, sI_s, aR_h, aI_h, sI_h, aR_r, aI_r, sI_r, aI_c, sI_c, aI_l, sI_l, aI_ca, aI_ha, sI_ca, sI_ha, gI_mo, pI_mo, iv_shl, iv_or]
      rw [if_neg (by omega), if_pos c1, if_neg (by omega)]
      exact ih1
    · by_cases c2 : i ≤ h (244 * n + (38 + k))
      · rw [if_pos (Or.inr c2)]
        simp (disch := first | assumption | omega) only [sX3_withMatch_5b, sX3_withMatch_43, sX3_withMatch_55, t_last, z10, z00, if_true, if_false, iv_add, iv_sub, iv_mul, iv_le, iv_lt, iv_eq, iv_mx, iv_mn, bI_z, bI_o, rZ0, rZ1, rZb, cl_some', lt_eq, rm_eq, dv_eq, iv_01, iv_10, the, lastA, lpA, st_eq, st_ne, sh_addM, cV_cl, cV_nd, cV_mo, cV_lt, gR_t0, aR_nd, gR_c0, gR_c1, gR_c2, gR_c3, gR_c4, gR_c5, gR_c6, gR_c15, gR_c16, gI_c7, pI_c7, gI_c8, pI_c8, gI_c9, pI_c9, gI_c10, pI_c10, gI_c11, pI_c11, gI_c12, pI_c12, gI_c13, pI_c13, gI_c14, pI_c14, gN_9, gN_10, gN_11, gN_12, gN_13, gN_14, gN_15, gN_16, gN_17, gN_18, gN_19, gN_20, gN_21, gN_22, gN_23, pN_9, pN_10, pN_11, pN_12, pN_13, pN_14, pN_15, pN_16, pN_17, pN_18, pN_19, pN_20, pN_21, pN_22, pZ_0, pZ_1, gR_n0, aI_n0, sI_n0, gR_n1, aI_n1, sI_n1, gR_n2, aI_n2, sI_n2, gR_n3, aI_n3, sI_n3, gR_n4, aI_n4, sI_n4, gR_n5, aI_n5, sI_n5, gR_n6, aI_n6, sI_n6, gR_n7, aI_n7, sI_n7, gR_n8, aI_n8, sI_n8, aR_s, aI_s, sI_s, aR_h, aI_h, sI_h, aR_r, aI_r, sI_r, aI_c, sI_c, aI_l, sI_l, aI_ca, aI_ha, sI_ca, sI_ha, gI_mo, pI_mo, iv_shl, iv_or]
        rw [if_neg (by omega), if_neg c1, if_neg (by omega)]
        exact ih1
      · rw [if_neg (by omega)]
        have z := orI_z s0
        simp (disch := first | assumption | omega) only [sX3_withMatch_5b, sX3_withMatch_43, sX3_withMatch_55, t_last, z10, z00, if_true, if_false, iv_add, iv_sub, iv_mul, iv_le, iv_lt, iv_eq, iv_mx, iv_mn, bI_z, bI_o, rZ0, rZ1, rZb, cl_some', lt_eq, rm_eq, dv_eq, iv_01, iv_10, the, lastA, lpA, st_eq, st_ne, sh_addM, cV_cl, cV_nd, cV_mo, cV_lt, gR_t0, aR_nd, gR_c0, gR_c1, gR_c2, gR_c3, gR_c4, gR_c5, gR_c6, gR_c15, gR_c16, gI_c7, pI_c7, gI_c8, pI_c8, gI_c9, pI_c9, gI_c10, pI_c10, gI_c11, pI_c11, gI_c12, pI_c12, gI_c13, pI_c13, gI_c14, pI_c14, gN_9, gN_10, gN_11, gN_12, gN_13, gN_14, gN_15, gN_16, gN_17, gN_18, gN_19, gN_20, gN_21, gN_22, gN_23, pN_9, pN_10, pN_11, pN_12, pN_13, pN_14, pN_15, pN_16, pN_17, pN_18, pN_19, pN_20, pN_21, pN_22, pZ_0, pZ_1, gR_n0, aI_n0, sI_n0, gR_n1, aI_n1, sI_n1, gR_n2, aI_n2, sI_n2, gR_n3, aI_n3, sI_n3, gR_n4, aI_n4, sI_n4, gR_n5, aI_n5, sI_n5, gR_n6, aI_n6, sI_n6, gR_n7, aI_n7, sI_n7, gR_n8, aI_n8, sI_n8, aR_s, aI_s, sI_s, aR_h, aI_h, sI_h, aR_r, aI_r, sI_r, aI_c, sI_c, aI_l, sI_l, aI_ca, aI_ha, sI_ca, sI_ha, gI_mo, pI_mo, iv_shl, iv_or, z]
        rw [if_neg (by omega), if_neg c1, if_pos (by omega)]
        exact ih2
theorem whoF_ext {h g : Row} {n w i : Int} (e : ∀ k, 0 ≤ k → k < 7 → h (244 * n + (w + k)) = g (244 * n + (w + k))) : ∀ (f : Nat) (s k : Int), 0 ≤ k → k + f ≤ 7 → whoF h n w i f s k = whoF g n w i f s k
  | 0, s, k, a, b => rfl
  | f + 1, s, k, a, b => by
    unfold whoF
    simp only [the]
    have ek := e k a (by omega)
    by_cases c : i ≤ g (244 * n + (w + k))
    · rw [if_pos (by rw [ek]; exact c), if_pos c]
      exact whoF_ext e f _ (k + 1) (by omega) (by omega)
    · rw [if_neg (by rw [ek]; exact c), if_neg c]
      exact whoF_ext e f _ (k + 1) (by omega) (by omega)
theorem t_withMatch (hL : LyC B M) (r : Rel h g) (I : InvS g hs FL R D) {n i : Int} (n0 : 0 ≤ n) (n1 : n < 7) (hr : g (244 * n + 3) = 2) (i0 : 0 ≤ i) (i1 : i ≤ g (244 * n + 4) + g (244 * n + 8)) :
    sX3_withMatch (some B) (iI n) (iI i) (tl B h C Hd Mo M) = some (iI (whoMatchA g n i), tl B h C Hd Mo M) := by
  have rn := r.nd n n0 n1
  obtain ⟨⟨s1, s2⟩, _⟩ := I.na n n0 n1
  have w4 := rn.s 4 (by omega) (by omega)
  have w8 := rn.s 8 (by omega) (by omega)
  have em : ∀ k, 0 ≤ k → k < 7 → h (244 * n + (38 + k)) = g (244 * n + (38 + k)) := fun k a b => rn.l hr (38 + k) (by omega) (by omega)
  have x1 := t_match_5 (h := h) (C := C) (Hd := Hd) (Mo := Mo) hL n0 n1 (i := i) (by omega) (by omega) (fun k a b => by
    rw [em k a b]
    have := (I.na n n0 n1).lr hr k a b
    have := I.mt n0 n1 hr a b
    omega) 7 0 0 FU (by omega) (by omega) (by unfold FU; omega) (by omega) (by omega)
  have hb := bitR n0 n1
  rw [wm_lo 7 0 0 n0 (by omega), orI_0 (by omega), whoF_ext em 7 _ 0 (by omega) (by omega)] at x1
  exact x1
theorem t_heard_7 (hL : LyC B M) {n i : Int} (n0 : 0 ≤ n) (n1 : n < 7) (hi : -2147483648 ≤ i ∧ i ≤ 2147483647) (hM : ∀ k, 0 ≤ k → k < 7 → 0 ≤ h (244 * n + (45 + k)) ∧ h (244 * n + (45 + k)) ≤ 1000000) : ∀ (j : Nat) (s k : Int) (fu : Nat), 7 - k = j → 0 ≤ k → j < fu → 0 ≤ s → s < 128 →
    sX3_withHeard_7 fu (some B) (iI n) (iI i) (iI s) (iI k) (tl B h C Hd Mo M) = some (iI (whoF h n 45 i j s k), tl B h C Hd Mo M)
  | 0, s, k, fu + 1, e1, e2, e3, s0, s1 => by
    simp (disch := first | assumption | omega) only [sX3_withHeard_7, sX3_withHeard_7b, z10, z00, if_true, if_false, iv_add, iv_sub, iv_mul, iv_le, iv_lt, iv_eq, iv_mx, iv_mn, bI_z, bI_o, rZ0, rZ1, rZb, cl_some', lt_eq, rm_eq, dv_eq, iv_01, iv_10, the, lastA, lpA, st_eq, st_ne, sh_addM, cV_cl, cV_nd, cV_mo, cV_lt, gR_t0, aR_nd, gR_c0, gR_c1, gR_c2, gR_c3, gR_c4, gR_c5, gR_c6, gR_c15, gR_c16, gI_c7, pI_c7, gI_c8, pI_c8, gI_c9, pI_c9, gI_c10, pI_c10, gI_c11, pI_c11, gI_c12, pI_c12, gI_c13, pI_c13, gI_c14, pI_c14, gN_9, gN_10, gN_11, gN_12, gN_13, gN_14, gN_15, gN_16, gN_17, gN_18, gN_19, gN_20, gN_21, gN_22, gN_23, pN_9, pN_10, pN_11, pN_12, pN_13, pN_14, pN_15, pN_16, pN_17, pN_18, pN_19, pN_20, pN_21, pN_22, pZ_0, pZ_1, gR_n0, aI_n0, sI_n0, gR_n1, aI_n1, sI_n1, gR_n2, aI_n2, sI_n2, gR_n3, aI_n3, sI_n3, gR_n4, aI_n4, sI_n4, gR_n5, aI_n5, sI_n5, gR_n6, aI_n6, sI_n6, gR_n7, aI_n7, sI_n7, gR_n8, aI_n8, sI_n8, aR_s, aI_s, sI_s, aR_h, aI_h, sI_h, aR_r, aI_r, sI_r, aI_c, sI_c, aI_l, sI_l, aI_ca, aI_ha, sI_ca, sI_ha, gI_mo, pI_mo]
    rw [if_pos (by omega)]
    rfl
  | j + 1, s, k, fu + 1, e1, e2, e3, s0, s1 => by
    obtain ⟨_, _⟩ := hM k e2 (by omega)
    have hb := bitR e2 (show k < 7 by omega)
    have ho := orR s0 s1 (show 0 ≤ bitI k by omega) hb.2
    unfold whoF
    simp only [the]
    have ih1 := t_heard_7 hL n0 n1 hi hM j (orI s (bitI k)) (k + 1) fu (by omega) (by omega) (by omega) ho.1 ho.2
    have ih2 := t_heard_7 hL n0 n1 hi hM j s (k + 1) fu (by omega) (by omega) (by omega) s0 s1
    show sX3_withHeard_7b (sX3_withHeard_7 fu) _ _ _ _ _ _ = _
    generalize sX3_withHeard_7 fu = K at ih1 ih2 ⊢
    by_cases c2 : i ≤ h (244 * n + (45 + k))
    · rw [if_pos c2]
      simp (disch := first | assumption | omega) only [sX3_withHeard_7b, sX3_withHeard_39, z10, z00, if_true, if_false, iv_add, iv_sub, iv_mul, iv_le, iv_lt, iv_eq, iv_mx, iv_mn, bI_z, bI_o, rZ0, rZ1, rZb, cl_some', lt_eq, rm_eq, dv_eq, iv_01, iv_10, the, lastA, lpA, st_eq, st_ne, sh_addM, cV_cl, cV_nd, cV_mo, cV_lt, gR_t0, aR_nd, gR_c0, gR_c1, gR_c2, gR_c3, gR_c4, gR_c5, gR_c6, gR_c15, gR_c16, gI_c7, pI_c7, gI_c8, pI_c8, gI_c9, pI_c9, gI_c10, pI_c10, gI_c11, pI_c11, gI_c12, pI_c12, gI_c13, pI_c13, gI_c14, pI_c14, gN_9, gN_10, gN_11, gN_12, gN_13, gN_14, gN_15, gN_16, gN_17, gN_18, gN_19, gN_20, gN_21, gN_22, gN_23, pN_9, pN_10, pN_11, pN_12, pN_13, pN_14, pN_15, pN_16, pN_17, pN_18, pN_19, pN_20, pN_21, pN_22, pZ_0, pZ_1, gR_n0, aI_n0, sI_n0, gR_n1, aI_n1, sI_n1, gR_n2, aI_n2, sI_n2, gR_n3, aI_n3, sI_n3, gR_n4, aI_n4, sI_n4, gR_n5, aI_n5, sI_n5, gR_n6, aI_n6, sI_n6, gR_n7, aI_n7, sI_n7, gR_n8, aI_n8, sI_n8, aR_s, aI_s, sI_s, aR_h, aI_h, sI_h, aR_r, aI_r, sI_r, aI_c, sI_c, aI_l, sI_l, aI_ca, aI_ha, sI_ca, sI_ha, gI_mo, pI_mo, iv_shl, iv_or]
      rw [if_neg (by omega), if_neg (by omega)]
      exact ih1
    · rw [if_neg c2]
      have z := orI_z s0
      simp (disch := first | assumption | omega) only [sX3_withHeard_7b, sX3_withHeard_39, z10, z00, if_true, if_false, iv_add, iv_sub, iv_mul, iv_le, iv_lt, iv_eq, iv_mx, iv_mn, bI_z, bI_o, rZ0, rZ1, rZb, cl_some', lt_eq, rm_eq, dv_eq, iv_01, iv_10, the, lastA, lpA, st_eq, st_ne, sh_addM, cV_cl, cV_nd, cV_mo, cV_lt, gR_t0, aR_nd, gR_c0, gR_c1, gR_c2, gR_c3, gR_c4, gR_c5, gR_c6, gR_c15, gR_c16, gI_c7, pI_c7, gI_c8, pI_c8, gI_c9, pI_c9, gI_c10, pI_c10, gI_c11, pI_c11, gI_c12, pI_c12, gI_c13, pI_c13, gI_c14, pI_c14, gN_9, gN_10, gN_11, gN_12, gN_13, gN_14, gN_15, gN_16, gN_17, gN_18, gN_19, gN_20, gN_21, gN_22, gN_23, pN_9, pN_10, pN_11, pN_12, pN_13, pN_14, pN_15, pN_16, pN_17, pN_18, pN_19, pN_20, pN_21, pN_22, pZ_0, pZ_1, gR_n0, aI_n0, sI_n0, gR_n1, aI_n1, sI_n1, gR_n2, aI_n2, sI_n2, gR_n3, aI_n3, sI_n3, gR_n4, aI_n4, sI_n4, gR_n5, aI_n5, sI_n5, gR_n6, aI_n6, sI_n6, gR_n7, aI_n7, sI_n7, gR_n8, aI_n8, sI_n8, aR_s, aI_s, sI_s, aR_h, aI_h, sI_h, aR_r, aI_r, sI_r, aI_c, sI_c, aI_l, sI_l, aI_ca, aI_ha, sI_ca, sI_ha, gI_mo, pI_mo, iv_shl, iv_or, z]
      rw [if_neg (by omega), if_pos (by omega)]
      exact ih2
theorem t_withHeard (hL : LyC B M) (r : Rel h g) (I : InvS g hs FL R D) {n i : Int} (n0 : 0 ≤ n) (n1 : n < 7) (hr : g (244 * n + 3) = 2) (hi : -2147483648 ≤ i ∧ i ≤ 2147483647) :
    sX3_withHeard (some B) (iI n) (iI i) (tl B h C Hd Mo M) = some (iI (whoHeardA g n i), tl B h C Hd Mo M) := by
  have rn := r.nd n n0 n1
  have rr := I.rr
  have em : ∀ k, 0 ≤ k → k < 7 → h (244 * n + (45 + k)) = g (244 * n + (45 + k)) := fun k a b => rn.l hr (45 + k) (by omega) (by omega)
  have hb := bitR n0 n1
  have x1 := t_heard_7 (h := h) (C := C) (Hd := Hd) (Mo := Mo) hL n0 n1 (i := i) hi (fun k a b => by
    rw [em k a b]
    have := (I.na n n0 n1).lr hr k a b
    omega) 7 (bitI n) 0 FU (by omega) (by omega) (by unfold FU; omega) (by omega) hb.2
  rw [whoF_ext em 7 _ 0 (by omega) (by omega)] at x1
  simp (disch := first | assumption | omega) only [sX3_withHeard, iv_shl]
  exact x1
end
