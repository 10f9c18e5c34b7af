/-! DEPS: vp -/
/-! VQ: TermLog hears answers, a message is handed over -/
section
variable {B : Nat} {h g C Hd Mo : Row} {M : Mem} {Λ : Law} {hs : His} {FL : Int → ELog} {R : Int} {D : DK}
theorem t_answersReads (hL : LyC B M) (rel : Rel h g) (I : InvS g hs FL R D) {n : Int} (n0 : 0 ≤ n) (n1 : n < 7) (hr : g (244 * n + 3) = 2) :
    ∃ h', sX3_answersReads (some B) (iI n) (tl B h C Hd Mo M) = some ((), tl B h' C Hd Mo M) ∧ Rel h' (readG g n) := by
  have hA := I.ar
  obtain ⟨h', q1, q2⟩ := t_reads_9 (C := C) (Hd := Hd) (Mo := Mo) hL n0 n1 (g 11135).toNat h g 0 FU rel I hr (by omega) (by omega) (by unfold FU; omega)
  refine ⟨h', ?_, by unfold readG; rw [if_pos hr]; exact q2⟩
  simp (disch := first | assumption | omega) only [sX3_answersReads, z10, z00, if_true, if_false, iv_add, iv_sub, iv_mul, iv_le, iv_lt, iv_eq, iv_mx, iv_mn, bI_z, bI_o, rZ0, rZ1, rZb, cl_some', lt_eq, rm_eq, dv_eq, iv_01, iv_10, the, lastA, lpA, st_eq, st_ne, sh_addM, cV_cl, cV_nd, cV_mo, cV_lt, gR_t0, aR_nd, gR_c0, gR_c1, gR_c2, gR_c3, gR_c4, gR_c5, gR_c6, gR_c15, gR_c16, gI_c7, pI_c7, gI_c8, pI_c8, gI_c9, pI_c9, gI_c10, pI_c10, gI_c11, pI_c11, gI_c12, pI_c12, gI_c13, pI_c13, gI_c14, pI_c14, gN_9, gN_10, gN_11, gN_12, gN_13, gN_14, gN_15, gN_16, gN_17, gN_18, gN_19, gN_20, gN_21, gN_22, gN_23, pN_9, pN_10, pN_11, pN_12, pN_13, pN_14, pN_15, pN_16, pN_17, pN_18, pN_19, pN_20, pN_21, pN_22, pZ_0, pZ_1, gR_n0, aI_n0, sI_n0, gR_n1, aI_n1, sI_n1, gR_n2, aI_n2, sI_n2, gR_n3, aI_n3, sI_n3, gR_n4, aI_n4, sI_n4, gR_n5, aI_n5, sI_n5, gR_n6, aI_n6, sI_n6, gR_n7, aI_n7, sI_n7, gR_n8, aI_n8, sI_n8, aR_s, aI_s, sI_s, aR_h, aI_h, sI_h, aR_r, aI_r, sI_r, aI_c, sI_c, aI_l, sI_l, aI_ca, aI_ha, sI_ca, sI_ha, gI_mo, pI_mo]
  exact q1
theorem t_leadersOwn {mi : Row} (hL : LyC B M) (rel : Rel h g) (I : InvS g hs FL R D) (hm : MR Hd mi) (hM : MI hs R (g 11134) mi) {n : Int} (n0 : 0 ≤ n) (n1 : n < 7) :
    sX3_isLeadersOwn (some B) (iI n) (tl B h C Hd Mo M) = some (bI (leadsOwn g mi n), tl B h C Hd Mo M) := by
  obtain ⟨⟨s1, s2⟩, _⟩ := I.na n n0 n1
  have hz := hM.s
  have rn := rel.nd n n0 n1
  have w1 := rn.s 1 (by omega) (by omega)
  have w3 := rn.s 3 (by omega) (by omega)
  obtain ⟨q0, q1, q2, q3, q9, q5⟩ := hm.s
  unfold leadsOwn
  simp only [the]
  simp (disch := first | assumption | omega) only [sX3_isLeadersOwn, z10, z00, if_true, if_false, iv_add, iv_sub, iv_mul, iv_le, iv_lt, iv_eq, iv_mx, iv_mn, bI_z, bI_o, rZ0, rZ1, rZb, cl_some', lt_eq, rm_eq, dv_eq, iv_01, iv_10, the, lastA, lpA, st_eq, st_ne, sh_addM, cV_cl, cV_nd, cV_mo, cV_lt, gR_t0, aR_nd, gR_c0, gR_c1, gR_c2, gR_c3, gR_c4, gR_c5, gR_c6, gR_c15, gR_c16, gI_c7, pI_c7, gI_c8, pI_c8, gI_c9, pI_c9, gI_c10, pI_c10, gI_c11, pI_c11, gI_c12, pI_c12, gI_c13, pI_c13, gI_c14, pI_c14, gN_9, gN_10, gN_11, gN_12, gN_13, gN_14, gN_15, gN_16, gN_17, gN_18, gN_19, gN_20, gN_21, gN_22, gN_23, pN_9, pN_10, pN_11, pN_12, pN_13, pN_14, pN_15, pN_16, pN_17, pN_18, pN_19, pN_20, pN_21, pN_22, pZ_0, pZ_1, gR_n0, aI_n0, sI_n0, gR_n1, aI_n1, sI_n1, gR_n2, aI_n2, sI_n2, gR_n3, aI_n3, sI_n3, gR_n4, aI_n4, sI_n4, gR_n5, aI_n5, sI_n5, gR_n6, aI_n6, sI_n6, gR_n7, aI_n7, sI_n7, gR_n8, aI_n8, sI_n8, aR_s, aI_s, sI_s, aR_h, aI_h, sI_h, aR_r, aI_r, sI_r, aI_c, sI_c, aI_l, sI_l, aI_ca, aI_ha, sI_ca, sI_ha, gI_mo, pI_mo, q3, w1, w3]
  by_cases c1 : g (244 * n + 3) = 2
  · rw [if_pos c1]
    by_cases c2 : mi 3 = g (244 * n + 1)
    · rw [if_pos c2, bI_t ⟨c1, c2⟩]
    · rw [if_neg c2, bI_f (fun q => c2 q.2)]
  · rw [if_neg c1, bI_f (fun q => c1 q.1)]
theorem Rel.heard {mi : Row} (rel : Rel h g) (b : BdA g) {n : Int} (n0 : 0 ≤ n) (n1 : n < 7) (p0 : 0 ≤ mi 0) (p1 : mi 0 < 7) : Rel (st h (244 * n + (45 + mi 0)) (max (g (244 * n + (45 + mi 0))) (mi 10))) (heardG g mi n) := by
  have := rel.set b (w := 45 + mi 0) (v := max (g (244 * n + (45 + mi 0))) (mi 10)) n0 n1 (by omega) (by omega) (by omega) (by omega)
  unfold heardG
  simp only [the]
  rw [show 244 * n + 45 + mi 0 = 244 * n + (45 + mi 0) by omega]
  exact this
theorem BdA.set {n w v : Int} (b : BdA g) (n0 : 0 ≤ n) (n1 : n < 7) (w0 : 0 ≤ w) (w1 : w < 244) (w8 : w ≠ 8) : BdA (st g (244 * n + w) v) := by
  obtain ⟨b1, b2⟩ := b
  exact ⟨fun m m0 m1 => by rw [st_ne (by omega)]; exact b1 m m0 m1, GlA_blk (fun x _ => st_ne (by omega)) b2⟩
theorem Rel.matchd {mi : Row} (rel : Rel h g) (b : BdA g) {n i : Int} (n0 : 0 ≤ n) (n1 : n < 7) (p0 : 0 ≤ mi 0) (p1 : mi 0 < 7) : Rel (st (st h (244 * n + (38 + mi 0)) (max (g (244 * n + (38 + mi 0))) i)) (244 * n + (31 + mi 0)) (max (g (244 * n + (38 + mi 0))) i + 1)) (matchG g mi n i) := by
  have r1 := rel.set b (w := 38 + mi 0) (v := max (g (244 * n + (38 + mi 0))) i) n0 n1 (by omega) (by omega) (by omega) (by omega)
  have r2 := r1.set (b.set n0 n1 (by omega) (by omega) (by omega)) (w := 31 + mi 0) (v := max (g (244 * n + (38 + mi 0))) i + 1) n0 n1 (by omega) (by omega) (by omega) (by omega)
  have em : st (st g (244 * n + (38 + mi 0)) (max (g (244 * n + (38 + mi 0))) i)) (244 * n + (31 + mi 0)) (max (g (244 * n + (38 + mi 0))) i + 1) = matchG g mi n i := by
    unfold matchG
    simp only [the]
    rw [show 244 * n + 38 + mi 0 = 244 * n + (38 + mi 0) by omega, st_eq, show 244 * n + 31 + mi 0 = 244 * n + (31 + mi 0) by omega]
  rw [← em]
  exact r2
/-- a leader hears how far a node has matched -/
theorem t_hears {mi : Row} (hL : LyC B M) (hΛ : LawL M Λ) (rel : Rel h g) (I : InvS g hs FL R D) (hm : MR Hd mi) (hM : MI hs R (g 11134) mi) {n i : Int} (n0 : 0 ≤ n) (n1 : n < 7) (hr : g (244 * n + 3) = 2) (hi : i ≤ 0 ∨ i ≤ hs.ak (g (244 * n + 1)) (mi 0)) (i0 : -1000000 ≤ i) (i1 : i ≤ 1000000) :
    ∃ h' C' Mo', sX3_hears (some B) (iI n) (iI i) (iI (mi 10)) (tl B h C Hd Mo M) = some ((), tl B h' C' Hd Mo' M) ∧ Rel h' (matchedG Λ (heardG g mi n) mi n i) ∧ Ex (matchedG Λ (heardG g mi n) mi n i) hs R D := by
  have hz := hM.s
  have p0 : 0 ≤ mi 0 := by omega
  have p1 : mi 0 < 7 := by omega
  have rr := I.rr
  obtain ⟨⟨s1, s2⟩, _⟩ := I.na n n0 n1
  obtain ⟨q0, q1, q2, q3, q9, q5⟩ := hm.s
  have rn := rel.nd n n0 n1
  have hl0 := (I.na n n0 n1).lr hr (mi 0) p0 p1
  have hmt := I.mt n0 n1 hr p0 p1
  have lq := rn.l hr
  have l45 := lq (45 + mi 0) (by omega) (by omega)
  have l38 := lq (38 + mi 0) (by omega) (by omega)
  have l31 := lq (31 + mi 0) (by omega) (by omega)
  have I1 := I.heard (mi := mi) n0 n1 p0 p1 (by omega) (by omega)
  have r1 := rel.heard (mi := mi) I.bd n0 n1 p0 p1
  have o : ∀ x, ¬ x = 244 * n + 45 + mi 0 → heardG g mi n x = g x := fun x a => st_ne a
  have e38 : heardG g mi n (244 * n + (38 + mi 0)) = g (244 * n + (38 + mi 0)) := o _ (by omega)
  have e3 : heardG g mi n (244 * n + 3) = 2 := by rw [o _ (by omega)]; exact hr
  have e1 : heardG g mi n (244 * n + 1) = g (244 * n + 1) := o _ (by omega)
  have I2 := I1.matchd (mi := mi) (i := i) n0 n1 e3 p0 p1 (by rw [e1]; exact hi)
  have r2 := r1.matchd (mi := mi) (i := i) I1.bd n0 n1 p0 p1
  rw [e38] at r2
  have e32 : matchG (heardG g mi n) mi n i (244 * n + 3) = 2 := by
    unfold matchG
    simp only [the]
    rw [st_ne (by omega), st_ne (by omega)]
    exact e3
  obtain ⟨h3, C3, Mo3, y3, r3⟩ := t_holds (C := C) (Hd := Hd) (Mo := Mo) hL hΛ r2 I2 n0 n1 e32
  have hx := I1.matched (Λ := Λ) (mi := mi) (i := i) n0 n1 p0 p1 e3 (by rw [e1]; exact hi)
  obtain ⟨hs3, FL3, G3, I3⟩ := I2.hold (Λ := Λ) n0 n1 e32
  unfold matchedG at hx ⊢
  simp only [the, lastA] at hx ⊢
  generalize holdG Λ (matchG (heardG g mi n) mi n i) n = g3 at *
  have rn3 := r3.nd n n0 n1
  have w3 := rn3.s 3 (by omega) (by omega)
  have w4 := rn3.s 4 (by omega) (by omega)
  have w8 := rn3.s 8 (by omega) (by omega)
  obtain ⟨⟨u1, u2⟩, _⟩ := I3.na n n0 n1
  have z : ∀ h' C' Mo', (if g3 (244 * n + 3) = 2 then (if g3 (244 * n + 4) + g3 (244 * n + 8) < g3 (244 * n + (31 + mi 0)) then some ((), tl B h3 C3 Hd Mo3 M) else cl (sX3_sendsOn (some B) (iI n) (iI (mi 0)) (tl B h3 C3 Hd Mo3 M)) fun _ s => some ((), s)) else some ((), tl B h3 C3 Hd Mo3 M)) = some ((), tl B h' C' Hd Mo' M) →
      sX3_hears (some B) (iI n) (iI i) (iI (mi 10)) (tl B h C Hd Mo M) = some ((), tl B h' C' Hd Mo' M) := by
    intro h' C' Mo' k
    simp (disch := first | assumption | omega) only [sX3_hears, z10, z00, if_true, if_false, iv_add, iv_sub, iv_mul, iv_le, iv_lt, iv_eq, iv_mx, iv_mn, bI_z, bI_o, rZ0, rZ1, rZb, cl_some', lt_eq, rm_eq, dv_eq, iv_01, iv_10, the, lastA, lpA, st_eq, st_ne, sh_addM, cV_cl, cV_nd, cV_mo, cV_lt, gR_t0, aR_nd, gR_c0, gR_c1, gR_c2, gR_c3, gR_c4, gR_c5, gR_c6, gR_c15, gR_c16, gI_c7, pI_c7, gI_c8, pI_c8, gI_c9, pI_c9, gI_c10, pI_c10, gI_c11, pI_c11, gI_c12, pI_c12, gI_c13, pI_c13, gI_c14, pI_c14, gN_9, gN_10, gN_11, gN_12, gN_13, gN_14, gN_15, gN_16, gN_17, gN_18, gN_19, gN_20, gN_21, gN_22, gN_23, pN_9, pN_10, pN_11, pN_12, pN_13, pN_14, pN_15, pN_16, pN_17, pN_18, pN_19, pN_20, pN_21, pN_22, pZ_0, pZ_1, gR_n0, aI_n0, sI_n0, gR_n1, aI_n1, sI_n1, gR_n2, aI_n2, sI_n2, gR_n3, aI_n3, sI_n3, gR_n4, aI_n4, sI_n4, gR_n5, aI_n5, sI_n5, gR_n6, aI_n6, sI_n6, gR_n7, aI_n7, sI_n7, gR_n8, aI_n8, sI_n8, aR_s, aI_s, sI_s, aR_h, aI_h, sI_h, aR_r, aI_r, sI_r, aI_c, sI_c, aI_l, sI_l, aI_ca, aI_ha, sI_ca, sI_ha, gI_mo, pI_mo, q0, l45, l38, y3]
    by_cases c1 : g3 (244 * n + 3) = 2
    · have l3 := rn3.l c1 (31 + mi 0) (by omega) (by omega)
      have hl3 := (I3.na n n0 n1).lr c1 (mi 0) p0 p1
      rw [if_pos c1] at k
      simp (disch := first | assumption | omega) only [t_last, z10, z00, if_true, if_false, iv_add, iv_sub, iv_mul, iv_le, iv_lt, iv_eq, iv_mx, iv_mn, bI_z, bI_o, rZ0, rZ1, rZb, cl_some', lt_eq, rm_eq, dv_eq, iv_01, iv_10, the, lastA, lpA, st_eq, st_ne, sh_addM, cV_cl, cV_nd, cV_mo, cV_lt, gR_t0, aR_nd, gR_c0, gR_c1, gR_c2, gR_c3, gR_c4, gR_c5, gR_c6, gR_c15, gR_c16, gI_c7, pI_c7, gI_c8, pI_c8, gI_c9, pI_c9, gI_c10, pI_c10, gI_c11, pI_c11, gI_c12, pI_c12, gI_c13, pI_c13, gI_c14, pI_c14, gN_9, gN_10, gN_11, gN_12, gN_13, gN_14, gN_15, gN_16, gN_17, gN_18, gN_19, gN_20, gN_21, gN_22, gN_23, pN_9, pN_10, pN_11, pN_12, pN_13, pN_14, pN_15, pN_16, pN_17, pN_18, pN_19, pN_20, pN_21, pN_22, pZ_0, pZ_1, gR_n0, aI_n0, sI_n0, gR_n1, aI_n1, sI_n1, gR_n2, aI_n2, sI_n2, gR_n3, aI_n3, sI_n3, gR_n4, aI_n4, sI_n4, gR_n5, aI_n5, sI_n5, gR_n6, aI_n6, sI_n6, gR_n7, aI_n7, sI_n7, gR_n8, aI_n8, sI_n8, aR_s, aI_s, sI_s, aR_h, aI_h, sI_h, aR_r, aI_r, sI_r, aI_c, sI_c, aI_l, sI_l, aI_ca, aI_ha, sI_ca, sI_ha, gI_mo, pI_mo, w3, w4, w8, l3]
      rw [if_pos c1]
      exact k
    · rw [if_neg c1] at k
      simp (disch := first | assumption | omega) only [z10, z00, if_true, if_false, iv_add, iv_sub, iv_mul, iv_le, iv_lt, iv_eq, iv_mx, iv_mn, bI_z, bI_o, rZ0, rZ1, rZb, cl_some', lt_eq, rm_eq, dv_eq, iv_01, iv_10, the, lastA, lpA, st_eq, st_ne, sh_addM, cV_cl, cV_nd, cV_mo, cV_lt, gR_t0, aR_nd, gR_c0, gR_c1, gR_c2, gR_c3, gR_c4, gR_c5, gR_c6, gR_c15, gR_c16, gI_c7, pI_c7, gI_c8, pI_c8, gI_c9, pI_c9, gI_c10, pI_c10, gI_c11, pI_c11, gI_c12, pI_c12, gI_c13, pI_c13, gI_c14, pI_c14, gN_9, gN_10, gN_11, gN_12, gN_13, gN_14, gN_15, gN_16, gN_17, gN_18, gN_19, gN_20, gN_21, gN_22, gN_23, pN_9, pN_10, pN_11, pN_12, pN_13, pN_14, pN_15, pN_16, pN_17, pN_18, pN_19, pN_20, pN_21, pN_22, pZ_0, pZ_1, gR_n0, aI_n0, sI_n0, gR_n1, aI_n1, sI_n1, gR_n2, aI_n2, sI_n2, gR_n3, aI_n3, sI_n3, gR_n4, aI_n4, sI_n4, gR_n5, aI_n5, sI_n5, gR_n6, aI_n6, sI_n6, gR_n7, aI_n7, sI_n7, gR_n8, aI_n8, sI_n8, aR_s, aI_s, sI_s, aR_h, aI_h, sI_h, aR_r, aI_r, sI_r, aI_c, sI_c, aI_l, sI_l, aI_ca, aI_ha, sI_ca, sI_ha, gI_mo, pI_mo, w3]
      rw [if_neg c1]
      exact k
  by_cases c : g3 (244 * n + 3) = 2 ∧ g3 (244 * n + (31 + mi 0)) ≤ g3 (244 * n + 4) + g3 (244 * n + 8)
  · rw [if_pos c] at hx ⊢
    obtain ⟨h4, C4, Mo4, y4, r4⟩ := t_sendsOn (C := C3) (Hd := Hd) (Mo := Mo3) hL hΛ r3 I3 n0 n1 c.1 p0 p1
    refine ⟨h4, C4, Mo4, z _ _ _ ?_, r4, hx⟩
    rw [if_pos c.1, if_neg (by omega), y4]
    rfl
  · rw [if_neg c] at hx ⊢
    refine ⟨h3, C3, Mo3, z _ _ _ ?_, r3, hx⟩
    by_cases c1 : g3 (244 * n + 3) = 2
    · rw [if_pos c1, if_pos (by omega)]
    · rw [if_neg c1]
theorem t_147 (hL : LyC B M) (rel : Rel h g) (I : InvS g hs FL R D) {n : Int} (n0 : 0 ≤ n) (n1 : n < 7) :
    ∃ h', sX3_isAnswered_147 (some B) (iI n) (some (ndA B n)) (tl B h C Hd Mo M) = some ((), tl B h' C Hd Mo M) ∧ Rel h' (readG g n) := by
  have w3 := (rel.nd n n0 n1).s 3 (by omega) (by omega)
  obtain ⟨⟨s1, s2⟩, _⟩ := I.na n n0 n1
  by_cases c : g (244 * n + 3) = 2
  · obtain ⟨h', q1, q2⟩ := t_answersReads (C := C) (Hd := Hd) (Mo := Mo) hL rel I n0 n1 c
    refine ⟨h', ?_, q2⟩
    simp (disch := first | assumption | omega) only [sX3_isAnswered_147, z10, z00, if_true, if_false, iv_add, iv_sub, iv_mul, iv_le, iv_lt, iv_eq, iv_mx, iv_mn, bI_z, bI_o, rZ0, rZ1, rZb, cl_some', lt_eq, rm_eq, dv_eq, iv_01, iv_10, the, lastA, lpA, st_eq, st_ne, sh_addM, cV_cl, cV_nd, cV_mo, cV_lt, gR_t0, aR_nd, gR_c0, gR_c1, gR_c2, gR_c3, gR_c4, gR_c5, gR_c6, gR_c15, gR_c16, gI_c7, pI_c7, gI_c8, pI_c8, gI_c9, pI_c9, gI_c10, pI_c10, gI_c11, pI_c11, gI_c12, pI_c12, gI_c13, pI_c13, gI_c14, pI_c14, gN_9, gN_10, gN_11, gN_12, gN_13, gN_14, gN_15, gN_16, gN_17, gN_18, gN_19, gN_20, gN_21, gN_22, gN_23, pN_9, pN_10, pN_11, pN_12, pN_13, pN_14, pN_15, pN_16, pN_17, pN_18, pN_19, pN_20, pN_21, pN_22, pZ_0, pZ_1, gR_n0, aI_n0, sI_n0, gR_n1, aI_n1, sI_n1, gR_n2, aI_n2, sI_n2, gR_n3, aI_n3, sI_n3, gR_n4, aI_n4, sI_n4, gR_n5, aI_n5, sI_n5, gR_n6, aI_n6, sI_n6, gR_n7, aI_n7, sI_n7, gR_n8, aI_n8, sI_n8, aR_s, aI_s, sI_s, aR_h, aI_h, sI_h, aR_r, aI_r, sI_r, aI_c, sI_c, aI_l, sI_l, aI_ca, aI_ha, sI_ca, sI_ha, gI_mo, pI_mo, w3, q1]
    rw [if_pos c]
  · refine ⟨h, ?_, by unfold readG; rw [if_neg c]; exact rel⟩
    simp (disch := first | assumption | omega) only [sX3_isAnswered_147, z10, z00, if_true, if_false, iv_add, iv_sub, iv_mul, iv_le, iv_lt, iv_eq, iv_mx, iv_mn, bI_z, bI_o, rZ0, rZ1, rZb, cl_some', lt_eq, rm_eq, dv_eq, iv_01, iv_10, the, lastA, lpA, st_eq, st_ne, sh_addM, cV_cl, cV_nd, cV_mo, cV_lt, gR_t0, aR_nd, gR_c0, gR_c1, gR_c2, gR_c3, gR_c4, gR_c5, gR_c6, gR_c15, gR_c16, gI_c7, pI_c7, gI_c8, pI_c8, gI_c9, pI_c9, gI_c10, pI_c10, gI_c11, pI_c11, gI_c12, pI_c12, gI_c13, pI_c13, gI_c14, pI_c14, gN_9, gN_10, gN_11, gN_12, gN_13, gN_14, gN_15, gN_16, gN_17, gN_18, gN_19, gN_20, gN_21, gN_22, gN_23, pN_9, pN_10, pN_11, pN_12, pN_13, pN_14, pN_15, pN_16, pN_17, pN_18, pN_19, pN_20, pN_21, pN_22, pZ_0, pZ_1, gR_n0, aI_n0, sI_n0, gR_n1, aI_n1, sI_n1, gR_n2, aI_n2, sI_n2, gR_n3, aI_n3, sI_n3, gR_n4, aI_n4, sI_n4, gR_n5, aI_n5, sI_n5, gR_n6, aI_n6, sI_n6, gR_n7, aI_n7, sI_n7, gR_n8, aI_n8, sI_n8, aR_s, aI_s, sI_s, aR_h, aI_h, sI_h, aR_r, aI_r, sI_r, aI_c, sI_c, aI_l, sI_l, aI_ca, aI_ha, sI_ca, sI_ha, gI_mo, pI_mo, w3]
    rw [if_neg c]
theorem t_isAnswered {mi : Row} (hL : LyC B M) (hΛ : LawL M Λ) (rel : Rel h g) (I : InvS g hs FL R D) (hm : MR Hd mi) (hM : MI hs R (g 11134) mi) {n : Int} (hn : mi 1 = n) (hk : mi 2 = 3 ∨ mi 2 = 5) :
    ∃ h' C' Mo', sX3_isAnswered (some B) (iI n) (tl B h C Hd Mo M) = some ((), tl B h' C' Hd Mo' M) ∧ Rel h' (if mi 2 = 3 then hearEG Λ g mi n else hearSG Λ g mi n) := by
  have hz := hM.s
  have n0 : 0 ≤ n := by omega
  have n1 : n < 7 := by omega
  have p0 : 0 ≤ mi 0 := by omega
  have p1 : mi 0 < 7 := by omega
  have rr := I.rr
  obtain ⟨⟨s1, s2⟩, _⟩ := I.na n n0 n1
  obtain ⟨q0, q1, q2, q3, q9, q5⟩ := hm.s
  have rn := rel.nd n n0 n1
  have x0 := t_leadersOwn (C := C) (Mo := Mo) hL rel I hm hM n0 n1
  unfold hearEG hearSG
  by_cases c : leadsOwn g mi n
  · rw [if_pos c, if_pos c]
    have c1 : g (244 * n + 3) = 2 := c.1
    have c2 : mi 3 = g (244 * n + 1) := c.2
    by_cases d5 : mi 2 = 5
    · rw [if_neg (by omega)]
      have k5 := hM.k5 d5
      have q6 := hm.k5 d5
      obtain ⟨h1, C1, Mo1, y1, r1, hs1, FL1, G1, I1⟩ := t_hears (C := C) (Hd := Hd) (Mo := Mo) (i := mi 6) hL hΛ rel I hm hM n0 n1 c1 (by rw [← c2]; omega) (by omega) (by omega)
      obtain ⟨h2, y2, r2⟩ := t_147 (C := C1) (Hd := Hd) (Mo := Mo1) hL r1 I1 n0 n1
      refine ⟨h2, C1, Mo1, ?_, r2⟩
      simp (disch := first | assumption | omega) only [sX3_isAnswered, z10, z00, if_true, if_false, iv_add, iv_sub, iv_mul, iv_le, iv_lt, iv_eq, iv_mx, iv_mn, bI_z, bI_o, rZ0, rZ1, rZb, cl_some', lt_eq, rm_eq, dv_eq, iv_01, iv_10, the, lastA, lpA, st_eq, st_ne, sh_addM, cV_cl, cV_nd, cV_mo, cV_lt, gR_t0, aR_nd, gR_c0, gR_c1, gR_c2, gR_c3, gR_c4, gR_c5, gR_c6, gR_c15, gR_c16, gI_c7, pI_c7, gI_c8, pI_c8, gI_c9, pI_c9, gI_c10, pI_c10, gI_c11, pI_c11, gI_c12, pI_c12, gI_c13, pI_c13, gI_c14, pI_c14, gN_9, gN_10, gN_11, gN_12, gN_13, gN_14, gN_15, gN_16, gN_17, gN_18, gN_19, gN_20, gN_21, gN_22, gN_23, pN_9, pN_10, pN_11, pN_12, pN_13, pN_14, pN_15, pN_16, pN_17, pN_18, pN_19, pN_20, pN_21, pN_22, pZ_0, pZ_1, gR_n0, aI_n0, sI_n0, gR_n1, aI_n1, sI_n1, gR_n2, aI_n2, sI_n2, gR_n3, aI_n3, sI_n3, gR_n4, aI_n4, sI_n4, gR_n5, aI_n5, sI_n5, gR_n6, aI_n6, sI_n6, gR_n7, aI_n7, sI_n7, gR_n8, aI_n8, sI_n8, aR_s, aI_s, sI_s, aR_h, aI_h, sI_h, aR_r, aI_r, sI_r, aI_c, sI_c, aI_l, sI_l, aI_ca, aI_ha, sI_ca, sI_ha, gI_mo, pI_mo, x0, q0, q2, q5, q6, y1]
      rw [if_neg (fun q => q c), if_pos d5]
      exact y2
    · have d3 : mi 2 = 3 := by omega
      rw [if_pos d3]
      have k3 := hM.k3 d3
      have q6 := hm.k0 (by omega)
      have q7 := hm.k3 (Or.inl d3)
      by_cases d1 : mi 6 = 1
      · rw [if_pos d1]
        obtain ⟨h1, C1, Mo1, y1, r1, hs1, FL1, G1, I1⟩ := t_hears (C := C) (Hd := Hd) (Mo := Mo) (i := mi 7) hL hΛ rel I hm hM n0 n1 c1 (by rw [← c2]; omega) (by omega) (by omega)
        obtain ⟨h2, y2, r2⟩ := t_147 (C := C1) (Hd := Hd) (Mo := Mo1) hL r1 I1 n0 n1
        refine ⟨h2, C1, Mo1, ?_, r2⟩
        simp (disch := first | assumption | omega) only [sX3_isAnswered, z10, z00, if_true, if_false, iv_add, iv_sub, iv_mul, iv_le, iv_lt, iv_eq, iv_mx, iv_mn, bI_z, bI_o, rZ0, rZ1, rZb, cl_some', lt_eq, rm_eq, dv_eq, iv_01, iv_10, the, lastA, lpA, st_eq, st_ne, sh_addM, cV_cl, cV_nd, cV_mo, cV_lt, gR_t0, aR_nd, gR_c0, gR_c1, gR_c2, gR_c3, gR_c4, gR_c5, gR_c6, gR_c15, gR_c16, gI_c7, pI_c7, gI_c8, pI_c8, gI_c9, pI_c9, gI_c10, pI_c10, gI_c11, pI_c11, gI_c12, pI_c12, gI_c13, pI_c13, gI_c14, pI_c14, gN_9, gN_10, gN_11, gN_12, gN_13, gN_14, gN_15, gN_16, gN_17, gN_18, gN_19, gN_20, gN_21, gN_22, gN_23, pN_9, pN_10, pN_11, pN_12, pN_13, pN_14, pN_15, pN_16, pN_17, pN_18, pN_19, pN_20, pN_21, pN_22, pZ_0, pZ_1, gR_n0, aI_n0, sI_n0, gR_n1, aI_n1, sI_n1, gR_n2, aI_n2, sI_n2, gR_n3, aI_n3, sI_n3, gR_n4, aI_n4, sI_n4, gR_n5, aI_n5, sI_n5, gR_n6, aI_n6, sI_n6, gR_n7, aI_n7, sI_n7, gR_n8, aI_n8, sI_n8, aR_s, aI_s, sI_s, aR_h, aI_h, sI_h, aR_r, aI_r, sI_r, aI_c, sI_c, aI_l, sI_l, aI_ca, aI_ha, sI_ca, sI_ha, gI_mo, pI_mo, x0, q0, q2, q5, q6, q7, y1]
        rw [if_neg (fun q => q c), if_neg d5, if_pos d1]
        exact y2
      · rw [if_neg d1]
        have hl0 := (I.na n n0 n1).lr c1 (mi 0) p0 p1
        have hmt := I.mt n0 n1 c1 p0 p1
        have l45 := rn.l c1 (45 + mi 0) (by omega) (by omega)
        have l38 := rn.l c1 (38 + mi 0) (by omega) (by omega)
        have l31 := rn.l c1 (31 + mi 0) (by omega) (by omega)
        have I1 := I.heard (mi := mi) n0 n1 p0 p1 (by omega) (by omega)
        have r1 := rel.heard (mi := mi) I.bd n0 n1 p0 p1
        have o : ∀ x, ¬ x = 244 * n + 45 + mi 0 → heardG g mi n x = g x := fun x a => st_ne a
        have e3 : heardG g mi n (244 * n + 3) = 2 := by rw [o _ (by omega)]; exact c1
        have I2 := I1.backd (mi := mi) n0 n1 e3 p0 p1
        have r2 := r1.set (w := 31 + mi 0) (v := max (g (244 * n + (38 + mi 0)) + 1) (min (g (244 * n + (31 + mi 0))) (mi 7))) I1.bd n0 n1 (by omega) (by omega) (by omega) (by omega)
        have eb : st (heardG g mi n) (244 * n + (31 + mi 0)) (max (g (244 * n + (38 + mi 0)) + 1) (min (g (244 * n + (31 + mi 0))) (mi 7))) = backG (heardG g mi n) mi n := by
          unfold backG
          simp only [the]
          rw [o _ (by omega), o _ (by omega), show 244 * n + 31 + mi 0 = 244 * n + (31 + mi 0) by omega]
        rw [eb] at r2
        have e32 : backG (heardG g mi n) mi n (244 * n + 3) = 2 := by
          unfold backG
          rw [st_ne (by omega)]; exact e3
        obtain ⟨h3, C3, Mo3, y3, r3⟩ := t_sendsOn (C := C) (Hd := Hd) (Mo := Mo) hL hΛ r2 I2 n0 n1 e32 p0 p1
        have I3 := I2.send (Λ := Λ) n0 n1 e32 p0 p1
        obtain ⟨h4, y4, r4⟩ := t_147 (C := C3) (Hd := Hd) (Mo := Mo3) hL r3 I3 n0 n1
        refine ⟨h4, C3, Mo3, ?_, r4⟩
        simp (disch := first | assumption | omega) only [sX3_isAnswered, z10, z00, if_true, if_false, iv_add, iv_sub, iv_mul, iv_le, iv_lt, iv_eq, iv_mx, iv_mn, bI_z, bI_o, rZ0, rZ1, rZb, cl_some', lt_eq, rm_eq, dv_eq, iv_01, iv_10, the, lastA, lpA, st_eq, st_ne, sh_addM, cV_cl, cV_nd, cV_mo, cV_lt, gR_t0, aR_nd, gR_c0, gR_c1, gR_c2, gR_c3, gR_c4, gR_c5, gR_c6, gR_c15, gR_c16, gI_c7, pI_c7, gI_c8, pI_c8, gI_c9, pI_c9, gI_c10, pI_c10, gI_c11, pI_c11, gI_c12, pI_c12, gI_c13, pI_c13, gI_c14, pI_c14, gN_9, gN_10, gN_11, gN_12, gN_13, gN_14, gN_15, gN_16, gN_17, gN_18, gN_19, gN_20, gN_21, gN_22, gN_23, pN_9, pN_10, pN_11, pN_12, pN_13, pN_14, pN_15, pN_16, pN_17, pN_18, pN_19, pN_20, pN_21, pN_22, pZ_0, pZ_1, gR_n0, aI_n0, sI_n0, gR_n1, aI_n1, sI_n1, gR_n2, aI_n2, sI_n2, gR_n3, aI_n3, sI_n3, gR_n4, aI_n4, sI_n4, gR_n5, aI_n5, sI_n5, gR_n6, aI_n6, sI_n6, gR_n7, aI_n7, sI_n7, gR_n8, aI_n8, sI_n8, aR_s, aI_s, sI_s, aR_h, aI_h, sI_h, aR_r, aI_r, sI_r, aI_c, sI_c, aI_l, sI_l, aI_ca, aI_ha, sI_ca, sI_ha, gI_mo, pI_mo, x0, q0, q2, q5, q6, q7, l45, l38, l31, y3]
        rw [if_neg (fun q => q c), if_neg d5, if_neg d1]
        exact y4
  · rw [if_neg c, if_neg c]
    refine ⟨h, C, Mo, ?_, by split <;> exact rel⟩
    simp (disch := first | assumption | omega) only [sX3_isAnswered, z10, z00, if_true, if_false, iv_add, iv_sub, iv_mul, iv_le, iv_lt, iv_eq, iv_mx, iv_mn, bI_z, bI_o, rZ0, rZ1, rZb, cl_some', lt_eq, rm_eq, dv_eq, iv_01, iv_10, the, lastA, lpA, st_eq, st_ne, sh_addM, cV_cl, cV_nd, cV_mo, cV_lt, gR_t0, aR_nd, gR_c0, gR_c1, gR_c2, gR_c3, gR_c4, gR_c5, gR_c6, gR_c15, gR_c16, gI_c7, pI_c7, gI_c8, pI_c8, gI_c9, pI_c9, gI_c10, pI_c10, gI_c11, pI_c11, gI_c12, pI_c12, gI_c13, pI_c13, gI_c14, pI_c14, gN_9, gN_10, gN_11, gN_12, gN_13, gN_14, gN_15, gN_16, gN_17, gN_18, gN_19, gN_20, gN_21, gN_22, gN_23, pN_9, pN_10, pN_11, pN_12, pN_13, pN_14, pN_15, pN_16, pN_17, pN_18, pN_19, pN_20, pN_21, pN_22, pZ_0, pZ_1, gR_n0, aI_n0, sI_n0, gR_n1, aI_n1, sI_n1, gR_n2, aI_n2, sI_n2, gR_n3, aI_n3, sI_n3, gR_n4, aI_n4, sI_n4, gR_n5, aI_n5, sI_n5, gR_n6, aI_n6, sI_n6, gR_n7, aI_n7, sI_n7, gR_n8, aI_n8, sI_n8, aR_s, aI_s, sI_s, aR_h, aI_h, sI_h, aR_r, aI_r, sI_r, aI_c, sI_c, aI_l, sI_l, aI_ca, aI_ha, sI_ca, sI_ha, gI_mo, pI_mo, x0]
    rw [if_pos c]
end
