/-! DEPS: vz -/
/-! WA: what is asked of both: keys, entries, reads -/
def keyS (g : Row) (n k : Int) : Int := if ¬ isNd n then -1 else if ¬ ((0 ≤ k ∧ k < 8) ∨ (10 ≤ k ∧ k < 18)) then -1 else if k < 10 then (if g (244 * n + 0) = 1 then g (244 * n + (15 + k)) else -2) else g (244 * n + (23 + (k - 10)))
def entryS (g : Row) (n i w : Int) : Int := if ¬ isNd n then -1 else if ¬ (1 ≤ i ∧ i ≤ 999) then -1 else if ¬ (0 ≤ w ∧ w < 4) then -1 else if hasEnt g n i then g (lpA g n i + w) else -2
def readS (g : Row) (r w : Int) : Int := if ¬ (0 ≤ r ∧ r < g 11135) then -1 else if w = 0 then g (11028 + 6 * r + 4) else if w = 1 then (if g (11028 + 6 * r + 4) = 1 then g (11028 + 6 * r + 5) else -2) else if w = 2 then g (11028 + 6 * r) else if w = 3 then g (11028 + 6 * r + 1) else -1
section
variable {B : Nat} {h g C Hd Mo : Row} {M : Mem} {Λ : Law} {hs : His} {FL : Int → ELog} {R : Int} {D : DK}
theorem t_keyOf (hL : LyC B M) (hN : mP M 0 1 = some B) (rel : Rel h g) (I : InvS g hs FL R D) {n k : Int} (c0 : -2147483648 ≤ n) (c1 : n ≤ 2147483647) (k0 : -2147483638 ≤ k) (k1 : k ≤ 2147483647) :
    sX0_keyOf (some 0) (iI n) (iI k) (tl B h C Hd Mo M) = some (iI (keyS g n k), tl B h C Hd Mo M) := by
  unfold keyS isNd
  by_cases d : 0 ≤ n ∧ n < 7
  · rw [if_neg (fun hc => hc d)]
    have n0 := d.1
    have n1 := d.2
    obtain ⟨⟨s1, s2⟩, _⟩ := I.na n n0 n1
    have rn := rel.nd n n0 n1
    have e0 := rn.s 0 (by omega) (by omega)
    by_cases e : 0 ≤ k ∧ k < 8
    · have ek := rn.t (15 + k) (by omega) (by omega)
      rw [if_neg (fun hc => hc (Or.inl e)), if_pos (by omega)]
      simp (disch := first | assumption | omega) only [sX0_keyOf, sX0_keyOf_30, sX0_ofUp, t_isNode, t_in, gR_t1, z10, z00, if_true, if_false, iv_add, iv_sub, iv_mul, iv_le, iv_lt, iv_eq, iv_mx, iv_mn, bI_z, bI_o, rZ0, rZ1, rZb, cl_some', lt_eq, rm_eq, dv_eq, iv_01, iv_10, the, lastA, lpA, st_eq, st_ne, sh_addM, cV_cl, cV_nd, cV_mo, cV_lt, gR_t0, aR_nd, gR_c0, gR_c1, gR_c2, gR_c3, gR_c4, gR_c5, gR_c6, gR_c15, gR_c16, gI_c7, pI_c7, gI_c8, pI_c8, gI_c9, pI_c9, gI_c10, pI_c10, gI_c11, pI_c11, gI_c12, pI_c12, gI_c13, pI_c13, gI_c14, pI_c14, gN_9, gN_10, gN_11, gN_12, gN_13, gN_14, gN_15, gN_16, gN_17, gN_18, gN_19, gN_20, gN_21, gN_22, gN_23, pN_9, pN_10, pN_11, pN_12, pN_13, pN_14, pN_15, pN_16, pN_17, pN_18, pN_19, pN_20, pN_21, pN_22, pZ_0, pZ_1, gR_n0, aI_n0, sI_n0, gR_n1, aI_n1, sI_n1, gR_n2, aI_n2, sI_n2, gR_n3, aI_n3, sI_n3, gR_n4, aI_n4, sI_n4, gR_n5, aI_n5, sI_n5, gR_n6, aI_n6, sI_n6, gR_n7, aI_n7, sI_n7, gR_n8, aI_n8, sI_n8, aR_s, aI_s, sI_s, aR_h, aI_h, sI_h, aR_r, aI_r, sI_r, aI_c, sI_c, aI_l, sI_l, aI_ca, aI_ha, sI_ca, sI_ha, gI_mo, pI_mo, e0, ek]
      rw [if_neg (fun hc => hc d), if_neg (fun hc => hc e), if_pos (by omega)]
      by_cases u : g (244 * n + 0) = 1
      · rw [if_pos u, if_neg (by omega)]; rfl
      · rw [if_neg u, if_pos (by omega)]; rfl
    · by_cases f : 10 ≤ k ∧ k < 18
      · have ek := rn.t (23 + (k - 10)) (by omega) (by omega)
        rw [if_neg (fun hc => hc (Or.inr f)), if_neg (by omega)]
        simp (disch := first | assumption | omega) only [sX0_keyOf, sX0_keyOf_30, t_isNode, t_in, gR_t1, z10, z00, if_true, if_false, iv_add, iv_sub, iv_mul, iv_le, iv_lt, iv_eq, iv_mx, iv_mn, bI_z, bI_o, rZ0, rZ1, rZb, cl_some', lt_eq, rm_eq, dv_eq, iv_01, iv_10, the, lastA, lpA, st_eq, st_ne, sh_addM, cV_cl, cV_nd, cV_mo, cV_lt, gR_t0, aR_nd, gR_c0, gR_c1, gR_c2, gR_c3, gR_c4, gR_c5, gR_c6, gR_c15, gR_c16, gI_c7, pI_c7, gI_c8, pI_c8, gI_c9, pI_c9, gI_c10, pI_c10, gI_c11, pI_c11, gI_c12, pI_c12, gI_c13, pI_c13, gI_c14, pI_c14, gN_9, gN_10, gN_11, gN_12, gN_13, gN_14, gN_15, gN_16, gN_17, gN_18, gN_19, gN_20, gN_21, gN_22, gN_23, pN_9, pN_10, pN_11, pN_12, pN_13, pN_14, pN_15, pN_16, pN_17, pN_18, pN_19, pN_20, pN_21, pN_22, pZ_0, pZ_1, gR_n0, aI_n0, sI_n0, gR_n1, aI_n1, sI_n1, gR_n2, aI_n2, sI_n2, gR_n3, aI_n3, sI_n3, gR_n4, aI_n4, sI_n4, gR_n5, aI_n5, sI_n5, gR_n6, aI_n6, sI_n6, gR_n7, aI_n7, sI_n7, gR_n8, aI_n8, sI_n8, aR_s, aI_s, sI_s, aR_h, aI_h, sI_h, aR_r, aI_r, sI_r, aI_c, sI_c, aI_l, sI_l, aI_ca, aI_ha, sI_ca, sI_ha, gI_mo, pI_mo, ek]
        rw [if_neg (fun hc => hc d), if_pos e, if_neg (by omega), if_neg (by omega)]
      · rw [if_pos (by omega)]
        simp (disch := first | assumption | omega) only [sX0_keyOf, t_isNode, t_in, z10, z00, if_true, if_false, iv_add, iv_sub, iv_mul, iv_le, iv_lt, iv_eq, iv_mx, iv_mn, bI_z, bI_o, rZ0, rZ1, rZb, cl_some', lt_eq, rm_eq, dv_eq, iv_01, iv_10, the, lastA, lpA, st_eq, st_ne, sh_addM, cV_cl, cV_nd, cV_mo, cV_lt, gR_t0, aR_nd, gR_c0, gR_c1, gR_c2, gR_c3, gR_c4, gR_c5, gR_c6, gR_c15, gR_c16, gI_c7, pI_c7, gI_c8, pI_c8, gI_c9, pI_c9, gI_c10, pI_c10, gI_c11, pI_c11, gI_c12, pI_c12, gI_c13, pI_c13, gI_c14, pI_c14, gN_9, gN_10, gN_11, gN_12, gN_13, gN_14, gN_15, gN_16, gN_17, gN_18, gN_19, gN_20, gN_21, gN_22, gN_23, pN_9, pN_10, pN_11, pN_12, pN_13, pN_14, pN_15, pN_16, pN_17, pN_18, pN_19, pN_20, pN_21, pN_22, pZ_0, pZ_1, gR_n0, aI_n0, sI_n0, gR_n1, aI_n1, sI_n1, gR_n2, aI_n2, sI_n2, gR_n3, aI_n3, sI_n3, gR_n4, aI_n4, sI_n4, gR_n5, aI_n5, sI_n5, gR_n6, aI_n6, sI_n6, gR_n7, aI_n7, sI_n7, gR_n8, aI_n8, sI_n8, aR_s, aI_s, sI_s, aR_h, aI_h, sI_h, aR_r, aI_r, sI_r, aI_c, sI_c, aI_l, sI_l, aI_ca, aI_ha, sI_ca, sI_ha, gI_mo, pI_mo]
        rw [if_neg (fun hc => hc d), if_pos e, if_pos (by omega)]
  · rw [if_pos d]
    simp (disch := first | assumption | omega) only [sX0_keyOf, t_isNode, z10, z00, if_true, if_false, iv_add, iv_sub, iv_mul, iv_le, iv_lt, iv_eq, iv_mx, iv_mn, bI_z, bI_o, rZ0, rZ1, rZb, cl_some', lt_eq, rm_eq, dv_eq, iv_01, iv_10, the, lastA, lpA, st_eq, st_ne, sh_addM, cV_cl, cV_nd, cV_mo, cV_lt, gR_t0, aR_nd, gR_c0, gR_c1, gR_c2, gR_c3, gR_c4, gR_c5, gR_c6, gR_c15, gR_c16, gI_c7, pI_c7, gI_c8, pI_c8, gI_c9, pI_c9, gI_c10, pI_c10, gI_c11, pI_c11, gI_c12, pI_c12, gI_c13, pI_c13, gI_c14, pI_c14, gN_9, gN_10, gN_11, gN_12, gN_13, gN_14, gN_15, gN_16, gN_17, gN_18, gN_19, gN_20, gN_21, gN_22, gN_23, pN_9, pN_10, pN_11, pN_12, pN_13, pN_14, pN_15, pN_16, pN_17, pN_18, pN_19, pN_20, pN_21, pN_22, pZ_0, pZ_1, gR_n0, aI_n0, sI_n0, gR_n1, aI_n1, sI_n1, gR_n2, aI_n2, sI_n2, gR_n3, aI_n3, sI_n3, gR_n4, aI_n4, sI_n4, gR_n5, aI_n5, sI_n5, gR_n6, aI_n6, sI_n6, gR_n7, aI_n7, sI_n7, gR_n8, aI_n8, sI_n8, aR_s, aI_s, sI_s, aR_h, aI_h, sI_h, aR_r, aI_r, sI_r, aI_c, sI_c, aI_l, sI_l, aI_ca, aI_ha, sI_ca, sI_ha, gI_mo, pI_mo]
    rw [if_pos d]
theorem t_entryAt (hL : LyC B M) (hN : mP M 0 1 = some B) (rel : Rel h g) (I : InvS g hs FL R D) {n i w : Int} (c0 : -2147483648 ≤ n) (c1 : n ≤ 2147483647) (i0 : -2147483648 ≤ i) (i1 : i ≤ 2147483647) (w0 : -2147483648 ≤ w) (w1 : w ≤ 2147483647) :
    sX0_entryAt (some 0) (iI n) (iI i) (iI w) (tl B h C Hd Mo M) = some (iI (entryS g n i w), tl B h C Hd Mo M) := by
  unfold entryS isNd
  by_cases d : 0 ≤ n ∧ n < 7
  · rw [if_neg (fun hc => hc d)]
    have n0 := d.1
    have n1 := d.2
    obtain ⟨⟨s1, s2⟩, _⟩ := I.na n n0 n1
    have rn := rel.nd n n0 n1
    have hg := I.lg n0 n1
    have w4 := rn.s 4 (by omega) (by omega)
    by_cases e : 1 ≤ i ∧ i ≤ 999
    · rw [if_neg (fun hc => hc e)]
      have x1 := t_hasEntry (C := C) (Hd := Hd) (Mo := Mo) (i := i) hL (rn.lg hg) (by omega) (by omega)
      rw [bI_c rn.ent] at x1
      by_cases f : 0 ≤ w ∧ w < 4
      · rw [if_neg (fun hc => hc f)]
        by_cases k : hasEnt g n i
        · rw [if_pos k]
          have k' := k
          unfold hasEnt at k'
          simp only [lastA, the] at k'
          have el := rn.e (244 * n + 52 + 4 * (i - g (244 * n + 4) - 1) + w) (by omega) (by omega)
          simp only [lpA, the]
          rcases (show w = 0 ∨ w = 1 ∨ w = 2 ∨ w = 3 by omega) with q | q | q | q <;> subst q
          · rw [Int.add_zero] at el ⊢
            simp (disch := first | assumption | omega) only [sX0_entryAt, sX0_partOf, t_isNode, t_in, t_within, gR_t1, z10, z00, if_true, if_false, iv_add, iv_sub, iv_mul, iv_le, iv_lt, iv_eq, iv_mx, iv_mn, bI_z, bI_o, rZ0, rZ1, rZb, cl_some', lt_eq, rm_eq, dv_eq, iv_01, iv_10, the, lastA, lpA, st_eq, st_ne, sh_addM, cV_cl, cV_nd, cV_mo, cV_lt, gR_t0, aR_nd, gR_c0, gR_c1, gR_c2, gR_c3, gR_c4, gR_c5, gR_c6, gR_c15, gR_c16, gI_c7, pI_c7, gI_c8, pI_c8, gI_c9, pI_c9, gI_c10, pI_c10, gI_c11, pI_c11, gI_c12, pI_c12, gI_c13, pI_c13, gI_c14, pI_c14, gN_9, gN_10, gN_11, gN_12, gN_13, gN_14, gN_15, gN_16, gN_17, gN_18, gN_19, gN_20, gN_21, gN_22, gN_23, pN_9, pN_10, pN_11, pN_12, pN_13, pN_14, pN_15, pN_16, pN_17, pN_18, pN_19, pN_20, pN_21, pN_22, pZ_0, pZ_1, gR_n0, aI_n0, sI_n0, gR_n1, aI_n1, sI_n1, gR_n2, aI_n2, sI_n2, gR_n3, aI_n3, sI_n3, gR_n4, aI_n4, sI_n4, gR_n5, aI_n5, sI_n5, gR_n6, aI_n6, sI_n6, gR_n7, aI_n7, sI_n7, gR_n8, aI_n8, sI_n8, aR_s, aI_s, sI_s, aR_h, aI_h, sI_h, aR_r, aI_r, sI_r, aI_c, sI_c, aI_l, sI_l, aI_ca, aI_ha, sI_ca, sI_ha, gI_mo, pI_mo, x1, w4, el]
            rw [if_neg (fun hc => hc d), if_neg (fun hc => hc e), if_neg (fun hc => hc f), if_neg (fun hc => hc k)]
          · simp (disch := first | assumption | omega) only [sX0_entryAt, sX0_partOf, t_isNode, t_in, t_within, gR_t1, z10, z00, if_true, if_false, iv_add, iv_sub, iv_mul, iv_le, iv_lt, iv_eq, iv_mx, iv_mn, bI_z, bI_o, rZ0, rZ1, rZb, cl_some', lt_eq, rm_eq, dv_eq, iv_01, iv_10, the, lastA, lpA, st_eq, st_ne, sh_addM, cV_cl, cV_nd, cV_mo, cV_lt, gR_t0, aR_nd, gR_c0, gR_c1, gR_c2, gR_c3, gR_c4, gR_c5, gR_c6, gR_c15, gR_c16, gI_c7, pI_c7, gI_c8, pI_c8, gI_c9, pI_c9, gI_c10, pI_c10, gI_c11, pI_c11, gI_c12, pI_c12, gI_c13, pI_c13, gI_c14, pI_c14, gN_9, gN_10, gN_11, gN_12, gN_13, gN_14, gN_15, gN_16, gN_17, gN_18, gN_19, gN_20, gN_21, gN_22, gN_23, pN_9, pN_10, pN_11, pN_12, pN_13, pN_14, pN_15, pN_16, pN_17, pN_18, pN_19, pN_20, pN_21, pN_22, pZ_0, pZ_1, gR_n0, aI_n0, sI_n0, gR_n1, aI_n1, sI_n1, gR_n2, aI_n2, sI_n2, gR_n3, aI_n3, sI_n3, gR_n4, aI_n4, sI_n4, gR_n5, aI_n5, sI_n5, gR_n6, aI_n6, sI_n6, gR_n7, aI_n7, sI_n7, gR_n8, aI_n8, sI_n8, aR_s, aI_s, sI_s, aR_h, aI_h, sI_h, aR_r, aI_r, sI_r, aI_c, sI_c, aI_l, sI_l, aI_ca, aI_ha, sI_ca, sI_ha, gI_mo, pI_mo, x1, w4, el]
            rw [if_neg (fun hc => hc d), if_neg (fun hc => hc e), if_neg (fun hc => hc f), if_neg (fun hc => hc k)]
            all_goals rfl
          · simp (disch := first | assumption | omega) only [sX0_entryAt, sX0_partOf, t_isNode, t_in, t_within, gR_t1, z10, z00, if_true, if_false, iv_add, iv_sub, iv_mul, iv_le, iv_lt, iv_eq, iv_mx, iv_mn, bI_z, bI_o, rZ0, rZ1, rZb, cl_some', lt_eq, rm_eq, dv_eq, iv_01, iv_10, the, lastA, lpA, st_eq, st_ne, sh_addM, cV_cl, cV_nd, cV_mo, cV_lt, gR_t0, aR_nd, gR_c0, gR_c1, gR_c2, gR_c3, gR_c4, gR_c5, gR_c6, gR_c15, gR_c16, gI_c7, pI_c7, gI_c8, pI_c8, gI_c9, pI_c9, gI_c10, pI_c10, gI_c11, pI_c11, gI_c12, pI_c12, gI_c13, pI_c13, gI_c14, pI_c14, gN_9, gN_10, gN_11, gN_12, gN_13, gN_14, gN_15, gN_16, gN_17, gN_18, gN_19, gN_20, gN_21, gN_22, gN_23, pN_9, pN_10, pN_11, pN_12, pN_13, pN_14, pN_15, pN_16, pN_17, pN_18, pN_19, pN_20, pN_21, pN_22, pZ_0, pZ_1, gR_n0, aI_n0, sI_n0, gR_n1, aI_n1, sI_n1, gR_n2, aI_n2, sI_n2, gR_n3, aI_n3, sI_n3, gR_n4, aI_n4, sI_n4, gR_n5, aI_n5, sI_n5, gR_n6, aI_n6, sI_n6, gR_n7, aI_n7, sI_n7, gR_n8, aI_n8, sI_n8, aR_s, aI_s, sI_s, aR_h, aI_h, sI_h, aR_r, aI_r, sI_r, aI_c, sI_c, aI_l, sI_l, aI_ca, aI_ha, sI_ca, sI_ha, gI_mo, pI_mo, x1, w4, el]
            rw [if_neg (fun hc => hc d), if_neg (fun hc => hc e), if_neg (fun hc => hc f), if_neg (fun hc => hc k)]
            all_goals rfl
          · simp (disch := first | assumption | omega) only [sX0_entryAt, sX0_partOf, t_isNode, t_in, t_within, gR_t1, z10, z00, if_true, if_false, iv_add, iv_sub, iv_mul, iv_le, iv_lt, iv_eq, iv_mx, iv_mn, bI_z, bI_o, rZ0, rZ1, rZb, cl_some', lt_eq, rm_eq, dv_eq, iv_01, iv_10, the, lastA, lpA, st_eq, st_ne, sh_addM, cV_cl, cV_nd, cV_mo, cV_lt, gR_t0, aR_nd, gR_c0, gR_c1, gR_c2, gR_c3, gR_c4, gR_c5, gR_c6, gR_c15, gR_c16, gI_c7, pI_c7, gI_c8, pI_c8, gI_c9, pI_c9, gI_c10, pI_c10, gI_c11, pI_c11, gI_c12, pI_c12, gI_c13, pI_c13, gI_c14, pI_c14, gN_9, gN_10, gN_11, gN_12, gN_13, gN_14, gN_15, gN_16, gN_17, gN_18, gN_19, gN_20, gN_21, gN_22, gN_23, pN_9, pN_10, pN_11, pN_12, pN_13, pN_14, pN_15, pN_16, pN_17, pN_18, pN_19, pN_20, pN_21, pN_22, pZ_0, pZ_1, gR_n0, aI_n0, sI_n0, gR_n1, aI_n1, sI_n1, gR_n2, aI_n2, sI_n2, gR_n3, aI_n3, sI_n3, gR_n4, aI_n4, sI_n4, gR_n5, aI_n5, sI_n5, gR_n6, aI_n6, sI_n6, gR_n7, aI_n7, sI_n7, gR_n8, aI_n8, sI_n8, aR_s, aI_s, sI_s, aR_h, aI_h, sI_h, aR_r, aI_r, sI_r, aI_c, sI_c, aI_l, sI_l, aI_ca, aI_ha, sI_ca, sI_ha, gI_mo, pI_mo, x1, w4, el]
            rw [if_neg (fun hc => hc d), if_neg (fun hc => hc e), if_neg (fun hc => hc f), if_neg (fun hc => hc k)]
            all_goals rfl
        · rw [if_neg k]
          simp (disch := first | assumption | omega) only [sX0_entryAt, t_isNode, t_in, t_within, gR_t1, z10, z00, if_true, if_false, iv_add, iv_sub, iv_mul, iv_le, iv_lt, iv_eq, iv_mx, iv_mn, bI_z, bI_o, rZ0, rZ1, rZb, cl_some', lt_eq, rm_eq, dv_eq, iv_01, iv_10, the, lastA, lpA, st_eq, st_ne, sh_addM, cV_cl, cV_nd, cV_mo, cV_lt, gR_t0, aR_nd, gR_c0, gR_c1, gR_c2, gR_c3, gR_c4, gR_c5, gR_c6, gR_c15, gR_c16, gI_c7, pI_c7, gI_c8, pI_c8, gI_c9, pI_c9, gI_c10, pI_c10, gI_c11, pI_c11, gI_c12, pI_c12, gI_c13, pI_c13, gI_c14, pI_c14, gN_9, gN_10, gN_11, gN_12, gN_13, gN_14, gN_15, gN_16, gN_17, gN_18, gN_19, gN_20, gN_21, gN_22, gN_23, pN_9, pN_10, pN_11, pN_12, pN_13, pN_14, pN_15, pN_16, pN_17, pN_18, pN_19, pN_20, pN_21, pN_22, pZ_0, pZ_1, gR_n0, aI_n0, sI_n0, gR_n1, aI_n1, sI_n1, gR_n2, aI_n2, sI_n2, gR_n3, aI_n3, sI_n3, gR_n4, aI_n4, sI_n4, gR_n5, aI_n5, sI_n5, gR_n6, aI_n6, sI_n6, gR_n7, aI_n7, sI_n7, gR_n8, aI_n8, sI_n8, aR_s, aI_s, sI_s, aR_h, aI_h, sI_h, aR_r, aI_r, sI_r, aI_c, sI_c, aI_l, sI_l, aI_ca, aI_ha, sI_ca, sI_ha, gI_mo, pI_mo, x1]
          rw [if_neg (fun hc => hc d), if_neg (fun hc => hc e), if_neg (fun hc => hc f), if_pos k]
      · rw [if_pos f]
        simp (disch := first | assumption | omega) only [sX0_entryAt, t_isNode, t_in, t_within, z10, z00, if_true, if_false, iv_add, iv_sub, iv_mul, iv_le, iv_lt, iv_eq, iv_mx, iv_mn, bI_z, bI_o, rZ0, rZ1, rZb, cl_some', lt_eq, rm_eq, dv_eq, iv_01, iv_10, the, lastA, lpA, st_eq, st_ne, sh_addM, cV_cl, cV_nd, cV_mo, cV_lt, gR_t0, aR_nd, gR_c0, gR_c1, gR_c2, gR_c3, gR_c4, gR_c5, gR_c6, gR_c15, gR_c16, gI_c7, pI_c7, gI_c8, pI_c8, gI_c9, pI_c9, gI_c10, pI_c10, gI_c11, pI_c11, gI_c12, pI_c12, gI_c13, pI_c13, gI_c14, pI_c14, gN_9, gN_10, gN_11, gN_12, gN_13, gN_14, gN_15, gN_16, gN_17, gN_18, gN_19, gN_20, gN_21, gN_22, gN_23, pN_9, pN_10, pN_11, pN_12, pN_13, pN_14, pN_15, pN_16, pN_17, pN_18, pN_19, pN_20, pN_21, pN_22, pZ_0, pZ_1, gR_n0, aI_n0, sI_n0, gR_n1, aI_n1, sI_n1, gR_n2, aI_n2, sI_n2, gR_n3, aI_n3, sI_n3, gR_n4, aI_n4, sI_n4, gR_n5, aI_n5, sI_n5, gR_n6, aI_n6, sI_n6, gR_n7, aI_n7, sI_n7, gR_n8, aI_n8, sI_n8, aR_s, aI_s, sI_s, aR_h, aI_h, sI_h, aR_r, aI_r, sI_r, aI_c, sI_c, aI_l, sI_l, aI_ca, aI_ha, sI_ca, sI_ha, gI_mo, pI_mo]
        rw [if_neg (fun hc => hc d), if_neg (fun hc => hc e), if_pos f]
    · rw [if_pos e]
      simp (disch := first | assumption | omega) only [sX0_entryAt, t_isNode, t_within, z10, z00, if_true, if_false, iv_add, iv_sub, iv_mul, iv_le, iv_lt, iv_eq, iv_mx, iv_mn, bI_z, bI_o, rZ0, rZ1, rZb, cl_some', lt_eq, rm_eq, dv_eq, iv_01, iv_10, the, lastA, lpA, st_eq, st_ne, sh_addM, cV_cl, cV_nd, cV_mo, cV_lt, gR_t0, aR_nd, gR_c0, gR_c1, gR_c2, gR_c3, gR_c4, gR_c5, gR_c6, gR_c15, gR_c16, gI_c7, pI_c7, gI_c8, pI_c8, gI_c9, pI_c9, gI_c10, pI_c10, gI_c11, pI_c11, gI_c12, pI_c12, gI_c13, pI_c13, gI_c14, pI_c14, gN_9, gN_10, gN_11, gN_12, gN_13, gN_14, gN_15, gN_16, gN_17, gN_18, gN_19, gN_20, gN_21, gN_22, gN_23, pN_9, pN_10, pN_11, pN_12, pN_13, pN_14, pN_15, pN_16, pN_17, pN_18, pN_19, pN_20, pN_21, pN_22, pZ_0, pZ_1, gR_n0, aI_n0, sI_n0, gR_n1, aI_n1, sI_n1, gR_n2, aI_n2, sI_n2, gR_n3, aI_n3, sI_n3, gR_n4, aI_n4, sI_n4, gR_n5, aI_n5, sI_n5, gR_n6, aI_n6, sI_n6, gR_n7, aI_n7, sI_n7, gR_n8, aI_n8, sI_n8, aR_s, aI_s, sI_s, aR_h, aI_h, sI_h, aR_r, aI_r, sI_r, aI_c, sI_c, aI_l, sI_l, aI_ca, aI_ha, sI_ca, sI_ha, gI_mo, pI_mo]
      rw [if_neg (fun hc => hc d), if_pos e]
  · rw [if_pos d]
    simp (disch := first | assumption | omega) only [sX0_entryAt, t_isNode, z10, z00, if_true, if_false, iv_add, iv_sub, iv_mul, iv_le, iv_lt, iv_eq, iv_mx, iv_mn, bI_z, bI_o, rZ0, rZ1, rZb, cl_some', lt_eq, rm_eq, dv_eq, iv_01, iv_10, the, lastA, lpA, st_eq, st_ne, sh_addM, cV_cl, cV_nd, cV_mo, cV_lt, gR_t0, aR_nd, gR_c0, gR_c1, gR_c2, gR_c3, gR_c4, gR_c5, gR_c6, gR_c15, gR_c16, gI_c7, pI_c7, gI_c8, pI_c8, gI_c9, pI_c9, gI_c10, pI_c10, gI_c11, pI_c11, gI_c12, pI_c12, gI_c13, pI_c13, gI_c14, pI_c14, gN_9, gN_10, gN_11, gN_12, gN_13, gN_14, gN_15, gN_16, gN_17, gN_18, gN_19, gN_20, gN_21, gN_22, gN_23, pN_9, pN_10, pN_11, pN_12, pN_13, pN_14, pN_15, pN_16, pN_17, pN_18, pN_19, pN_20, pN_21, pN_22, pZ_0, pZ_1, gR_n0, aI_n0, sI_n0, gR_n1, aI_n1, sI_n1, gR_n2, aI_n2, sI_n2, gR_n3, aI_n3, sI_n3, gR_n4, aI_n4, sI_n4, gR_n5, aI_n5, sI_n5, gR_n6, aI_n6, sI_n6, gR_n7, aI_n7, sI_n7, gR_n8, aI_n8, sI_n8, aR_s, aI_s, sI_s, aR_h, aI_h, sI_h, aR_r, aI_r, sI_r, aI_c, sI_c, aI_l, sI_l, aI_ca, aI_ha, sI_ca, sI_ha, gI_mo, pI_mo]
    rw [if_pos d]
theorem t_readIs (hL : LyC B M) (hN : mP M 0 1 = some B) (rel : Rel h g) (I : InvS g hs FL R D) {r w : Int} (c0 : -2147483648 ≤ r) (c1 : r ≤ 2147483647) (w0 : -2147483648 ≤ w) (w1 : w ≤ 2147483647) :
    sX0_readIs (some 0) (iI r) (iI w) (tl B h C Hd Mo M) = some (iI (readS g r w), tl B h C Hd Mo M) := by
  have hA := I.ar
  have e35 := rel.gl 11135 (by omega) (by omega)
  unfold readS
  by_cases d : 0 ≤ r ∧ r < g 11135
  · rw [if_neg (fun hc => hc d)]
    obtain ⟨z1, z2, z3⟩ := rel.rd r d.1 d.2
    have y0 := z1 0 (by omega) (by omega)
    have y1 := z1 1 (by omega) (by omega)
    have y4 := z1 4 (by omega) (by omega)
    have y5 : h (11028 + 6 * r + 5) = if g (11028 + 6 * r + 4) = 1 then g (11028 + 6 * r + 5) else -2 := by
      by_cases q : g (11028 + 6 * r + 4) = 1
      · rw [if_pos q]; exact z2 q
      · rw [if_neg q]; exact z3 q
    have y0' : h (11028 + 6 * r + 0) = g (11028 + 6 * r) := by rw [y0, Int.add_zero]
    simp (disch := first | assumption | omega) only [sX0_readIs, t_in, gR_t1, z10, z00, if_true, if_false, iv_add, iv_sub, iv_mul, iv_le, iv_lt, iv_eq, iv_mx, iv_mn, bI_z, bI_o, rZ0, rZ1, rZb, cl_some', lt_eq, rm_eq, dv_eq, iv_01, iv_10, the, lastA, lpA, st_eq, st_ne, sh_addM, cV_cl, cV_nd, cV_mo, cV_lt, gR_t0, aR_nd, gR_c0, gR_c1, gR_c2, gR_c3, gR_c4, gR_c5, gR_c6, gR_c15, gR_c16, gI_c7, pI_c7, gI_c8, pI_c8, gI_c9, pI_c9, gI_c10, pI_c10, gI_c11, pI_c11, gI_c12, pI_c12, gI_c13, pI_c13, gI_c14, pI_c14, gN_9, gN_10, gN_11, gN_12, gN_13, gN_14, gN_15, gN_16, gN_17, gN_18, gN_19, gN_20, gN_21, gN_22, gN_23, pN_9, pN_10, pN_11, pN_12, pN_13, pN_14, pN_15, pN_16, pN_17, pN_18, pN_19, pN_20, pN_21, pN_22, pZ_0, pZ_1, gR_n0, aI_n0, sI_n0, gR_n1, aI_n1, sI_n1, gR_n2, aI_n2, sI_n2, gR_n3, aI_n3, sI_n3, gR_n4, aI_n4, sI_n4, gR_n5, aI_n5, sI_n5, gR_n6, aI_n6, sI_n6, gR_n7, aI_n7, sI_n7, gR_n8, aI_n8, sI_n8, aR_s, aI_s, sI_s, aR_h, aI_h, sI_h, aR_r, aI_r, sI_r, aI_c, sI_c, aI_l, sI_l, aI_ca, aI_ha, sI_ca, sI_ha, gI_mo, pI_mo, e35, y0', y1, y4, y5]
    rw [if_neg (fun hc => hc d)]
    by_cases c0 : w = 0
    · rw [if_pos c0, if_pos c0]
    · rw [if_neg c0, if_neg c0]
      by_cases c1 : w = 1
      · rw [if_pos c1, if_pos c1]
      · rw [if_neg c1, if_neg c1]
        by_cases c2 : w = 2
        · rw [if_pos c2, if_pos c2]
        · rw [if_neg c2, if_neg c2]
          by_cases c3 : w = 3
          · rw [if_pos c3, if_pos c3]
          · rw [if_neg c3, if_neg c3]
  · rw [if_pos d]
    simp (disch := first | assumption | omega) only [sX0_readIs, t_in, gR_t1, z10, z00, if_true, if_false, iv_add, iv_sub, iv_mul, iv_le, iv_lt, iv_eq, iv_mx, iv_mn, bI_z, bI_o, rZ0, rZ1, rZb, cl_some', lt_eq, rm_eq, dv_eq, iv_01, iv_10, the, lastA, lpA, st_eq, st_ne, sh_addM, cV_cl, cV_nd, cV_mo, cV_lt, gR_t0, aR_nd, gR_c0, gR_c1, gR_c2, gR_c3, gR_c4, gR_c5, gR_c6, gR_c15, gR_c16, gI_c7, pI_c7, gI_c8, pI_c8, gI_c9, pI_c9, gI_c10, pI_c10, gI_c11, pI_c11, gI_c12, pI_c12, gI_c13, pI_c13, gI_c14, pI_c14, gN_9, gN_10, gN_11, gN_12, gN_13, gN_14, gN_15, gN_16, gN_17, gN_18, gN_19, gN_20, gN_21, gN_22, gN_23, pN_9, pN_10, pN_11, pN_12, pN_13, pN_14, pN_15, pN_16, pN_17, pN_18, pN_19, pN_20, pN_21, pN_22, pZ_0, pZ_1, gR_n0, aI_n0, sI_n0, gR_n1, aI_n1, sI_n1, gR_n2, aI_n2, sI_n2, gR_n3, aI_n3, sI_n3, gR_n4, aI_n4, sI_n4, gR_n5, aI_n5, sI_n5, gR_n6, aI_n6, sI_n6, gR_n7, aI_n7, sI_n7, gR_n8, aI_n8, sI_n8, aR_s, aI_s, sI_s, aR_h, aI_h, sI_h, aR_r, aI_r, sI_r, aI_c, sI_c, aI_l, sI_l, aI_ca, aI_ha, sI_ca, sI_ha, gI_mo, pI_mo, e35]
    rw [if_pos d]
end
section
variable {g mi mn F : Row} {S : Nat → Int32} {M : Mem} {Λ : Law} {h : His} {FL : Int → ELog} {R : Int} {D : DK}
theorem m_keyOf (hT : LT M) (I : InvS g h FL R D) {n k : Int} (c0 : -2147483648 ≤ n) (c1 : n ≤ 2147483647) (k0 : -2147483648 ≤ k) (k1 : k ≤ 2147483647) :
    sX8_keyOf (some 3772) (iI n) (iI k) (tw g mi mn F S M) = some (iI (keyS g n k), tw g mi mn F S M) := by
  have y1 : ∀ σ, sX8_in (iI k) (iI 0) (iI 7) σ = some (bI (0 ≤ k ∧ k ≤ 7), σ) := fun σ => m_in k0 k1 (by omega) (by omega) (by omega) (by omega)
  have y2 : ∀ σ, sX8_in (iI k) (iI 10) (iI 17) σ = some (bI (10 ≤ k ∧ k ≤ 17), σ) := fun σ => m_in k0 k1 (by omega) (by omega) (by omega) (by omega)
  unfold keyS isNd
  by_cases d : 0 ≤ n ∧ n < 7
  · rw [if_neg (fun hc => hc d)]
    have n0 := d.1
    have n1 := d.2
    obtain ⟨⟨s1, s2⟩, _⟩ := I.na n n0 n1
    have y3 := m_isUp (g := g) (mi := mi) (mn := mn) (F := F) (S := S) (n := n) hT c0 c1 (fun _ => ⟨by omega, by omega⟩)
    by_cases e : 0 ≤ k ∧ k < 8
    · rw [if_neg (fun hc => hc (Or.inl e)), if_pos (by omega)]
      simp (disch := first | assumption | omega) only [sX8_keyOf, sX8_keyOf_30, m_isNode, m_the, z10, z00, if_true, if_false, iv_add, iv_sub, iv_mul, iv_le, iv_lt, iv_eq, iv_mx, iv_mn, bI_z, bI_o, rZ0, rZ1, rZb, cl_some', lt_eq, rm_eq, dv_eq, iv_01, iv_10, the, lastA, lpA, st_eq, st_ne, cV_tw, gR_0, gR_3, gR_4, gR_27, gR_28, gI_29, aI_now, aI_mn, aI_mi, aI_fa, sI_now, sI_mn, sI_mi, sI_fa, pI_29, y1, y2, y3]
      rw [if_neg (fun hc => hc d), if_neg (by omega), if_pos (by omega)]
      by_cases u : g (244 * n + 0) = 1
      · rw [if_pos u, if_neg (fun hc => hc ⟨d, u⟩)]
      · rw [if_neg u, if_pos (fun hc => u hc.2)]
    · by_cases f : 10 ≤ k ∧ k < 18
      · rw [if_neg (fun hc => hc (Or.inr f)), if_neg (by omega)]
        simp (disch := first | assumption | omega) only [sX8_keyOf, sX8_keyOf_30, m_isNode, m_the, z10, z00, if_true, if_false, iv_add, iv_sub, iv_mul, iv_le, iv_lt, iv_eq, iv_mx, iv_mn, bI_z, bI_o, rZ0, rZ1, rZb, cl_some', lt_eq, rm_eq, dv_eq, iv_01, iv_10, the, lastA, lpA, st_eq, st_ne, cV_tw, gR_0, gR_3, gR_4, gR_27, gR_28, gI_29, aI_now, aI_mn, aI_mi, aI_fa, sI_now, sI_mn, sI_mi, sI_fa, pI_29, y1, y2]
        rw [if_neg (fun hc => hc d), if_pos (by omega), if_neg (by omega), if_neg (by omega), show 23 + (k - 10) = 23 + k - 10 by omega]
      · rw [if_pos (by omega)]
        simp (disch := first | assumption | omega) only [sX8_keyOf, m_isNode, z10, z00, if_true, if_false, iv_add, iv_sub, iv_mul, iv_le, iv_lt, iv_eq, iv_mx, iv_mn, bI_z, bI_o, rZ0, rZ1, rZb, cl_some', lt_eq, rm_eq, dv_eq, iv_01, iv_10, the, lastA, lpA, st_eq, st_ne, cV_tw, gR_0, gR_3, gR_4, gR_27, gR_28, gI_29, aI_now, aI_mn, aI_mi, aI_fa, sI_now, sI_mn, sI_mi, sI_fa, pI_29, y1, y2]
        rw [if_neg (fun hc => hc d), if_pos (by omega), if_pos (by omega)]
  · rw [if_pos d]
    simp (disch := first | assumption | omega) only [sX8_keyOf, m_isNode, z10, z00, if_true, if_false, iv_add, iv_sub, iv_mul, iv_le, iv_lt, iv_eq, iv_mx, iv_mn, bI_z, bI_o, rZ0, rZ1, rZb, cl_some', lt_eq, rm_eq, dv_eq, iv_01, iv_10, the, lastA, lpA, st_eq, st_ne, cV_tw, gR_0, gR_3, gR_4, gR_27, gR_28, gI_29, aI_now, aI_mn, aI_mi, aI_fa, sI_now, sI_mn, sI_mi, sI_fa, pI_29]
    rw [if_pos d]
theorem m_entryAt (hT : LT M) (I : InvS g h FL R D) {n i w : Int} (c0 : -2147483648 ≤ n) (c1 : n ≤ 2147483647) (i0 : -2147483648 ≤ i) (i1 : i ≤ 2147483647) (w0 : -2147483648 ≤ w) (w1 : w ≤ 2147483647) :
    sX8_entryAt (some 3772) (iI n) (iI i) (iI w) (tw g mi mn F S M) = some (iI (entryS g n i w), tw g mi mn F S M) := by
  have y1 : ∀ σ, sX8_in (iI i) (iI 1) (iI 999) σ = some (bI (1 ≤ i ∧ i ≤ 999), σ) := fun σ => m_in i0 i1 (by omega) (by omega) (by omega) (by omega)
  have y2 : ∀ σ, sX8_in (iI w) (iI 0) (iI 3) σ = some (bI (0 ≤ w ∧ w ≤ 3), σ) := fun σ => m_in w0 w1 (by omega) (by omega) (by omega) (by omega)
  unfold entryS isNd
  by_cases d : 0 ≤ n ∧ n < 7
  · rw [if_neg (fun hc => hc d)]
    have n0 := d.1
    have n1 := d.2
    obtain ⟨⟨s1, s2⟩, _⟩ := I.na n n0 n1
    by_cases e : 1 ≤ i ∧ i ≤ 999
    · rw [if_neg (fun hc => hc e)]
      have x1 := m_hasEntry (mi := mi) (mn := mn) (F := F) (S := S) (i := i) hT (I.lg n0 n1) (by omega) (by omega)
      by_cases f : 0 ≤ w ∧ w < 4
      · rw [if_neg (fun hc => hc f)]
        by_cases k : hasEnt g n i
        · rw [if_pos k]
          have k' := k
          unfold hasEnt at k'
          simp only [lastA, the] at k'
          simp (disch := first | assumption | omega) only [sX8_entryAt, m_isNode, m_logPlace, z10, z00, if_true, if_false, iv_add, iv_sub, iv_mul, iv_le, iv_lt, iv_eq, iv_mx, iv_mn, bI_z, bI_o, rZ0, rZ1, rZb, cl_some', lt_eq, rm_eq, dv_eq, iv_01, iv_10, the, lastA, lpA, st_eq, st_ne, cV_tw, gR_0, gR_3, gR_4, gR_27, gR_28, gI_29, aI_now, aI_mn, aI_mi, aI_fa, sI_now, sI_mn, sI_mi, sI_fa, pI_29, y1, y2, x1]
          rw [if_neg (fun hc => hc d), if_neg (fun hc => hc e), if_neg (by omega), if_neg (fun hc => hc k)]
        · rw [if_neg k]
          simp (disch := first | assumption | omega) only [sX8_entryAt, m_isNode, m_logPlace, z10, z00, if_true, if_false, iv_add, iv_sub, iv_mul, iv_le, iv_lt, iv_eq, iv_mx, iv_mn, bI_z, bI_o, rZ0, rZ1, rZb, cl_some', lt_eq, rm_eq, dv_eq, iv_01, iv_10, the, lastA, lpA, st_eq, st_ne, cV_tw, gR_0, gR_3, gR_4, gR_27, gR_28, gI_29, aI_now, aI_mn, aI_mi, aI_fa, sI_now, sI_mn, sI_mi, sI_fa, pI_29, y1, y2, x1]
          rw [if_neg (fun hc => hc d), if_neg (fun hc => hc e), if_neg (by omega), if_pos k]
      · rw [if_pos f]
        simp (disch := first | assumption | omega) only [sX8_entryAt, m_isNode, z10, z00, if_true, if_false, iv_add, iv_sub, iv_mul, iv_le, iv_lt, iv_eq, iv_mx, iv_mn, bI_z, bI_o, rZ0, rZ1, rZb, cl_some', lt_eq, rm_eq, dv_eq, iv_01, iv_10, the, lastA, lpA, st_eq, st_ne, cV_tw, gR_0, gR_3, gR_4, gR_27, gR_28, gI_29, aI_now, aI_mn, aI_mi, aI_fa, sI_now, sI_mn, sI_mi, sI_fa, pI_29, y1, y2]
        rw [if_neg (fun hc => hc d), if_neg (fun hc => hc e), if_pos (by omega)]
    · rw [if_pos e]
      simp (disch := first | assumption | omega) only [sX8_entryAt, m_isNode, z10, z00, if_true, if_false, iv_add, iv_sub, iv_mul, iv_le, iv_lt, iv_eq, iv_mx, iv_mn, bI_z, bI_o, rZ0, rZ1, rZb, cl_some', lt_eq, rm_eq, dv_eq, iv_01, iv_10, the, lastA, lpA, st_eq, st_ne, cV_tw, gR_0, gR_3, gR_4, gR_27, gR_28, gI_29, aI_now, aI_mn, aI_mi, aI_fa, sI_now, sI_mn, sI_mi, sI_fa, pI_29, y1]
      rw [if_neg (fun hc => hc d), if_pos e]
  · rw [if_pos d]
    simp (disch := first | assumption | omega) only [sX8_entryAt, m_isNode, z10, z00, if_true, if_false, iv_add, iv_sub, iv_mul, iv_le, iv_lt, iv_eq, iv_mx, iv_mn, bI_z, bI_o, rZ0, rZ1, rZb, cl_some', lt_eq, rm_eq, dv_eq, iv_01, iv_10, the, lastA, lpA, st_eq, st_ne, cV_tw, gR_0, gR_3, gR_4, gR_27, gR_28, gI_29, aI_now, aI_mn, aI_mi, aI_fa, sI_now, sI_mn, sI_mi, sI_fa, pI_29]
    rw [if_pos d]
theorem m_readIs (hT : LT M) (I : InvS g h FL R D) {r w : Int} (c0 : -2147483648 ≤ r) (c1 : r ≤ 2147483647) (w0 : -2147483648 ≤ w) (w1 : w ≤ 2147483647) :
    sX8_readIs (some 3772) (iI r) (iI w) (tw g mi mn F S M) = some (iI (readS g r w), tw g mi mn F S M) := by
  have hA := I.ar
  have y1 : ∀ σ, sX8_in (iI r) (iI 0) (iI (g 11135 - 1)) σ = some (bI (0 ≤ r ∧ r ≤ g 11135 - 1), σ) := fun σ => m_in c0 c1 (by omega) (by omega) (by omega) (by omega)
  unfold readS
  by_cases d : 0 ≤ r ∧ r < g 11135
  · rw [if_neg (fun hc => hc d)]
    obtain ⟨d0, d1, d2, d3, d4, d5, d6, d7, d8, d9⟩ := I.rd r d.1 d.2
    simp (disch := first | assumption | omega) only [sX8_readIs, z10, z00, if_true, if_false, iv_add, iv_sub, iv_mul, iv_le, iv_lt, iv_eq, iv_mx, iv_mn, bI_z, bI_o, rZ0, rZ1, rZb, cl_some', lt_eq, rm_eq, dv_eq, iv_01, iv_10, the, lastA, lpA, st_eq, st_ne, cV_tw, gR_0, gR_3, gR_4, gR_27, gR_28, gI_29, aI_now, aI_mn, aI_mi, aI_fa, sI_now, sI_mn, sI_mi, sI_fa, pI_29, y1]
    rw [if_neg (by omega)]
    by_cases c0 : w = 0
    · rw [if_pos c0, if_pos c0]
    · rw [if_neg c0, if_neg c0]
      by_cases c1 : w = 1
      · rw [if_pos c1, if_pos c1]
        by_cases q : g (11028 + 6 * r + 4) = 1
        · rw [if_pos q, if_pos q]
        · rw [if_neg q, if_neg q]
      · rw [if_neg c1, if_neg c1]
        by_cases c2 : w = 2
        · rw [if_pos c2, if_pos c2]
        · rw [if_neg c2, if_neg c2]
          by_cases c3 : w = 3
          · rw [if_pos c3, if_pos c3]
          · rw [if_neg c3, if_neg c3]
  · rw [if_pos d]
    simp (disch := first | assumption | omega) only [sX8_readIs, z10, z00, if_true, if_false, iv_add, iv_sub, iv_mul, iv_le, iv_lt, iv_eq, iv_mx, iv_mn, bI_z, bI_o, rZ0, rZ1, rZb, cl_some', lt_eq, rm_eq, dv_eq, iv_01, iv_10, the, lastA, lpA, st_eq, st_ne, cV_tw, gR_0, gR_3, gR_4, gR_27, gR_28, gI_29, aI_now, aI_mn, aI_mi, aI_fa, sI_now, sI_mn, sI_mi, sI_fa, pI_29, y1]
    rw [if_pos (by omega)]
end
