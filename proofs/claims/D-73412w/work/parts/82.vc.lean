/-! DEPS: vb -/
/-! VC: TermLog's nodes -/
section
variable {B : Nat} {h C Hd Mo : Row} {M : Mem}
theorem t_last (hL : LyC B M) {n : Int} (n0 : 0 ≤ n) (n1 : n < 7) : sX4_last (some (ndA B n)) (tl B h C Hd Mo M) = some (iI (h (244 * n + 4) + h (244 * n + 8)), tl B h C Hd Mo M) := by
  simp (disch := first | assumption | omega) only [sX4_last, z10, z00, if_true, if_false, iv_add, iv_sub, iv_mul, iv_le, iv_lt, iv_eq, iv_mx, iv_mn, bI_z, bI_o, rZ0, rZ1, rZb, cl_some', lt_eq, rm_eq, dv_eq, iv_01, iv_10, the, lastA, lpA, st_eq, st_ne, sh_addM, cV_cl, cV_nd, cV_mo, cV_lt, gR_t0, aR_nd, gR_c0, gR_c1, gR_c2, gR_c3, gR_c4, gR_c5, gR_c6, gR_c15, gR_c16, gI_c7, pI_c7, gI_c8, pI_c8, gI_c9, pI_c9, gI_c10, pI_c10, gI_c11, pI_c11, gI_c12, pI_c12, gI_c13, pI_c13, gI_c14, pI_c14, gN_9, gN_10, gN_11, gN_12, gN_13, gN_14, gN_15, gN_16, gN_17, gN_18, gN_19, gN_20, gN_21, gN_22, gN_23, pN_9, pN_10, pN_11, pN_12, pN_13, pN_14, pN_15, pN_16, pN_17, pN_18, pN_19, pN_20, pN_21, pN_22, pZ_0, pZ_1, gR_n0, aI_n0, sI_n0, gR_n1, aI_n1, sI_n1, gR_n2, aI_n2, sI_n2, gR_n3, aI_n3, sI_n3, gR_n4, aI_n4, sI_n4, gR_n5, aI_n5, sI_n5, gR_n6, aI_n6, sI_n6, gR_n7, aI_n7, sI_n7, gR_n8, aI_n8, sI_n8, aR_s, aI_s, sI_s, aR_h, aI_h, sI_h, aR_r, aI_r, sI_r, aI_c, sI_c, aI_l, sI_l, aI_ca, aI_ha, sI_ca, sI_ha, gI_mo, pI_mo]
theorem t_kindAt (hL : LyC B M) {n i : Int} (hg : LgA h n) (h0 : h (244 * n + 4) < i) (hi : i ≤ h (244 * n + 4) + h (244 * n + 8)) : sX4_kindAt (some (ndA B n)) (iI i) (tl B h C Hd Mo M) = some (iI (h (lpA h n i + 1)), tl B h C Hd Mo M) := by
  obtain ⟨⟨_, _, _, _, _, _, _, _, _, _, _, _, _, _⟩, hE⟩ := hg
  simp (disch := first | assumption | omega) only [sX4_kindAt, z10, z00, if_true, if_false, iv_add, iv_sub, iv_mul, iv_le, iv_lt, iv_eq, iv_mx, iv_mn, bI_z, bI_o, rZ0, rZ1, rZb, cl_some', lt_eq, rm_eq, dv_eq, iv_01, iv_10, the, lastA, lpA, st_eq, st_ne, sh_addM, cV_cl, cV_nd, cV_mo, cV_lt, gR_t0, aR_nd, gR_c0, gR_c1, gR_c2, gR_c3, gR_c4, gR_c5, gR_c6, gR_c15, gR_c16, gI_c7, pI_c7, gI_c8, pI_c8, gI_c9, pI_c9, gI_c10, pI_c10, gI_c11, pI_c11, gI_c12, pI_c12, gI_c13, pI_c13, gI_c14, pI_c14, gN_9, gN_10, gN_11, gN_12, gN_13, gN_14, gN_15, gN_16, gN_17, gN_18, gN_19, gN_20, gN_21, gN_22, gN_23, pN_9, pN_10, pN_11, pN_12, pN_13, pN_14, pN_15, pN_16, pN_17, pN_18, pN_19, pN_20, pN_21, pN_22, pZ_0, pZ_1, gR_n0, aI_n0, sI_n0, gR_n1, aI_n1, sI_n1, gR_n2, aI_n2, sI_n2, gR_n3, aI_n3, sI_n3, gR_n4, aI_n4, sI_n4, gR_n5, aI_n5, sI_n5, gR_n6, aI_n6, sI_n6, gR_n7, aI_n7, sI_n7, gR_n8, aI_n8, sI_n8, aR_s, aI_s, sI_s, aR_h, aI_h, sI_h, aR_r, aI_r, sI_r, aI_c, sI_c, aI_l, sI_l, aI_ca, aI_ha, sI_ca, sI_ha, gI_mo, pI_mo]
theorem t_configAt_2 (hL : LyC B M) {n : Int} (hg : LgA h n) : ∀ (k : Nat) (i : Int) (f : Nat), i - h (244 * n + 4) = k → i ≤ h (244 * n + 4) + h (244 * n + 8) → k < f →
    sX4_configAt_2 f (some (ndA B n)) (iI i) (tl B h C Hd Mo M) = some (iI (cfgF h n k i), tl B h C Hd Mo M)
  | 0, i, f + 1, h1, h2, h3 => by
    obtain ⟨⟨_, _, _, _, _, _, _, _, _, _, _, _, _, _⟩, hE⟩ := hg
    simp (disch := first | assumption | omega) only [sX4_configAt_2, sX4_configAt_2b, z10, z00, if_true, if_false, iv_add, iv_sub, iv_mul, iv_le, iv_lt, iv_eq, iv_mx, iv_mn, bI_z, bI_o, rZ0, rZ1, rZb, cl_some', lt_eq, rm_eq, dv_eq, iv_01, iv_10, the, lastA, lpA, st_eq, st_ne, sh_addM, cV_cl, cV_nd, cV_mo, cV_lt, gR_t0, aR_nd, gR_c0, gR_c1, gR_c2, gR_c3, gR_c4, gR_c5, gR_c6, gR_c15, gR_c16, gI_c7, pI_c7, gI_c8, pI_c8, gI_c9, pI_c9, gI_c10, pI_c10, gI_c11, pI_c11, gI_c12, pI_c12, gI_c13, pI_c13, gI_c14, pI_c14, gN_9, gN_10, gN_11, gN_12, gN_13, gN_14, gN_15, gN_16, gN_17, gN_18, gN_19, gN_20, gN_21, gN_22, gN_23, pN_9, pN_10, pN_11, pN_12, pN_13, pN_14, pN_15, pN_16, pN_17, pN_18, pN_19, pN_20, pN_21, pN_22, pZ_0, pZ_1, gR_n0, aI_n0, sI_n0, gR_n1, aI_n1, sI_n1, gR_n2, aI_n2, sI_n2, gR_n3, aI_n3, sI_n3, gR_n4, aI_n4, sI_n4, gR_n5, aI_n5, sI_n5, gR_n6, aI_n6, sI_n6, gR_n7, aI_n7, sI_n7, gR_n8, aI_n8, sI_n8, aR_s, aI_s, sI_s, aR_h, aI_h, sI_h, aR_r, aI_r, sI_r, aI_c, sI_c, aI_l, sI_l, aI_ca, aI_ha, sI_ca, sI_ha, gI_mo, pI_mo]
    rw [if_pos (by omega)]
    rfl
  | k + 1, i, f + 1, h1, h2, h3 => by
    have ih := t_configAt_2 hL hg k (i - 1) f (by omega) (by omega) (by omega)
    have hk := t_kindAt (C := C) (Hd := Hd) (Mo := Mo) hL hg (i := i) (by omega) h2
    obtain ⟨⟨_, _, _, _, _, _, _, _, _, _, _, _, _, _⟩, hE⟩ := hg
    have hE1 := hE i (by omega) (by omega)
    unfold EntA at hE1
    simp only [lpA, the] at hk
    simp (disch := first | assumption | omega) only [sX4_configAt_2, sX4_configAt_2b, z10, z00, if_true, if_false, iv_add, iv_sub, iv_mul, iv_le, iv_lt, iv_eq, iv_mx, iv_mn, bI_z, bI_o, rZ0, rZ1, rZb, cl_some', lt_eq, rm_eq, dv_eq, iv_01, iv_10, the, lastA, lpA, st_eq, st_ne, sh_addM, cV_cl, cV_nd, cV_mo, cV_lt, gR_t0, aR_nd, gR_c0, gR_c1, gR_c2, gR_c3, gR_c4, gR_c5, gR_c6, gR_c15, gR_c16, gI_c7, pI_c7, gI_c8, pI_c8, gI_c9, pI_c9, gI_c10, pI_c10, gI_c11, pI_c11, gI_c12, pI_c12, gI_c13, pI_c13, gI_c14, pI_c14, gN_9, gN_10, gN_11, gN_12, gN_13, gN_14, gN_15, gN_16, gN_17, gN_18, gN_19, gN_20, gN_21, gN_22, gN_23, pN_9, pN_10, pN_11, pN_12, pN_13, pN_14, pN_15, pN_16, pN_17, pN_18, pN_19, pN_20, pN_21, pN_22, pZ_0, pZ_1, gR_n0, aI_n0, sI_n0, gR_n1, aI_n1, sI_n1, gR_n2, aI_n2, sI_n2, gR_n3, aI_n3, sI_n3, gR_n4, aI_n4, sI_n4, gR_n5, aI_n5, sI_n5, gR_n6, aI_n6, sI_n6, gR_n7, aI_n7, sI_n7, gR_n8, aI_n8, sI_n8, aR_s, aI_s, sI_s, aR_h, aI_h, sI_h, aR_r, aI_r, sI_r, aI_c, sI_c, aI_l, sI_l, aI_ca, aI_ha, sI_ca, sI_ha, gI_mo, pI_mo, hk]
    rw [if_neg (by omega)]
    unfold cfgF
    simp only [the, lpA]
    rw [if_neg (show ¬ i ≤ h (244 * n + 4) by omega)]
    by_cases c : h (244 * n + 52 + 4 * (i - h (244 * n + 4) - 1) + 1) = 1
    · rw [if_pos c, if_pos c]
    · rw [if_neg c, if_neg c, show i + -1 = i - 1 by omega]
      exact ih
theorem t_configAt (hL : LyC B M) {n up : Int} (hg : LgA h n) (h0 : h (244 * n + 4) ≤ up) (h1 : up ≤ h (244 * n + 4) + h (244 * n + 8)) : sX4_configAt (some (ndA B n)) (iI up) (tl B h C Hd Mo M) = some (iI (cfgA h n up), tl B h C Hd Mo M) := by
  have hb := hg.1
  exact t_configAt_2 hL hg _ _ FU (by simp only [the]; omega) h1 (by unfold FU; simp only [the]; omega)
theorem t_oldAt (hL : LyC B M) {n c : Int} (hg : LgA h n) (h0 : h (244 * n + 4) ≤ c) (h1 : c ≤ h (244 * n + 4) + h (244 * n + 8)) : sX4_oldAt (some (ndA B n)) (iI c) (tl B h C Hd Mo M) = some (iI (if c = h (244 * n + 4) then h (244 * n + 6) else h (lpA h n c + 2)), tl B h C Hd Mo M) := by
  obtain ⟨⟨_, _, _, _, _, _, _, _, _, _, _, _, _, _⟩, hE⟩ := hg
  by_cases e : c = h (244 * n + 4)
  · simp (disch := first | assumption | omega) only [sX4_oldAt, z10, z00, if_true, if_false, iv_add, iv_sub, iv_mul, iv_le, iv_lt, iv_eq, iv_mx, iv_mn, bI_z, bI_o, rZ0, rZ1, rZb, cl_some', lt_eq, rm_eq, dv_eq, iv_01, iv_10, the, lastA, lpA, st_eq, st_ne, sh_addM, cV_cl, cV_nd, cV_mo, cV_lt, gR_t0, aR_nd, gR_c0, gR_c1, gR_c2, gR_c3, gR_c4, gR_c5, gR_c6, gR_c15, gR_c16, gI_c7, pI_c7, gI_c8, pI_c8, gI_c9, pI_c9, gI_c10, pI_c10, gI_c11, pI_c11, gI_c12, pI_c12, gI_c13, pI_c13, gI_c14, pI_c14, gN_9, gN_10, gN_11, gN_12, gN_13, gN_14, gN_15, gN_16, gN_17, gN_18, gN_19, gN_20, gN_21, gN_22, gN_23, pN_9, pN_10, pN_11, pN_12, pN_13, pN_14, pN_15, pN_16, pN_17, pN_18, pN_19, pN_20, pN_21, pN_22, pZ_0, pZ_1, gR_n0, aI_n0, sI_n0, gR_n1, aI_n1, sI_n1, gR_n2, aI_n2, sI_n2, gR_n3, aI_n3, sI_n3, gR_n4, aI_n4, sI_n4, gR_n5, aI_n5, sI_n5, gR_n6, aI_n6, sI_n6, gR_n7, aI_n7, sI_n7, gR_n8, aI_n8, sI_n8, aR_s, aI_s, sI_s, aR_h, aI_h, sI_h, aR_r, aI_r, sI_r, aI_c, sI_c, aI_l, sI_l, aI_ca, aI_ha, sI_ca, sI_ha, gI_mo, pI_mo]
    rw [if_pos e, if_pos e]
  · simp (disch := first | assumption | omega) only [sX4_oldAt, z10, z00, if_true, if_false, iv_add, iv_sub, iv_mul, iv_le, iv_lt, iv_eq, iv_mx, iv_mn, bI_z, bI_o, rZ0, rZ1, rZb, cl_some', lt_eq, rm_eq, dv_eq, iv_01, iv_10, the, lastA, lpA, st_eq, st_ne, sh_addM, cV_cl, cV_nd, cV_mo, cV_lt, gR_t0, aR_nd, gR_c0, gR_c1, gR_c2, gR_c3, gR_c4, gR_c5, gR_c6, gR_c15, gR_c16, gI_c7, pI_c7, gI_c8, pI_c8, gI_c9, pI_c9, gI_c10, pI_c10, gI_c11, pI_c11, gI_c12, pI_c12, gI_c13, pI_c13, gI_c14, pI_c14, gN_9, gN_10, gN_11, gN_12, gN_13, gN_14, gN_15, gN_16, gN_17, gN_18, gN_19, gN_20, gN_21, gN_22, gN_23, pN_9, pN_10, pN_11, pN_12, pN_13, pN_14, pN_15, pN_16, pN_17, pN_18, pN_19, pN_20, pN_21, pN_22, pZ_0, pZ_1, gR_n0, aI_n0, sI_n0, gR_n1, aI_n1, sI_n1, gR_n2, aI_n2, sI_n2, gR_n3, aI_n3, sI_n3, gR_n4, aI_n4, sI_n4, gR_n5, aI_n5, sI_n5, gR_n6, aI_n6, sI_n6, gR_n7, aI_n7, sI_n7, gR_n8, aI_n8, sI_n8, aR_s, aI_s, sI_s, aR_h, aI_h, sI_h, aR_r, aI_r, sI_r, aI_c, sI_c, aI_l, sI_l, aI_ca, aI_ha, sI_ca, sI_ha, gI_mo, pI_mo]
    rw [if_neg e, if_neg e]
theorem t_newAt (hL : LyC B M) {n c : Int} (hg : LgA h n) (h0 : h (244 * n + 4) ≤ c) (h1 : c ≤ h (244 * n + 4) + h (244 * n + 8)) : sX4_newAt (some (ndA B n)) (iI c) (tl B h C Hd Mo M) = some (iI (if c = h (244 * n + 4) then h (244 * n + 7) else h (lpA h n c + 3)), tl B h C Hd Mo M) := by
  obtain ⟨⟨_, _, _, _, _, _, _, _, _, _, _, _, _, _⟩, hE⟩ := hg
  by_cases e : c = h (244 * n + 4)
  · simp (disch := first | assumption | omega) only [sX4_newAt, z10, z00, if_true, if_false, iv_add, iv_sub, iv_mul, iv_le, iv_lt, iv_eq, iv_mx, iv_mn, bI_z, bI_o, rZ0, rZ1, rZb, cl_some', lt_eq, rm_eq, dv_eq, iv_01, iv_10, the, lastA, lpA, st_eq, st_ne, sh_addM, cV_cl, cV_nd, cV_mo, cV_lt, gR_t0, aR_nd, gR_c0, gR_c1, gR_c2, gR_c3, gR_c4, gR_c5, gR_c6, gR_c15, gR_c16, gI_c7, pI_c7, gI_c8, pI_c8, gI_c9, pI_c9, gI_c10, pI_c10, gI_c11, pI_c11, gI_c12, pI_c12, gI_c13, pI_c13, gI_c14, pI_c14, gN_9, gN_10, gN_11, gN_12, gN_13, gN_14, gN_15, gN_16, gN_17, gN_18, gN_19, gN_20, gN_21, gN_22, gN_23, pN_9, pN_10, pN_11, pN_12, pN_13, pN_14, pN_15, pN_16, pN_17, pN_18, pN_19, pN_20, pN_21, pN_22, pZ_0, pZ_1, gR_n0, aI_n0, sI_n0, gR_n1, aI_n1, sI_n1, gR_n2, aI_n2, sI_n2, gR_n3, aI_n3, sI_n3, gR_n4, aI_n4, sI_n4, gR_n5, aI_n5, sI_n5, gR_n6, aI_n6, sI_n6, gR_n7, aI_n7, sI_n7, gR_n8, aI_n8, sI_n8, aR_s, aI_s, sI_s, aR_h, aI_h, sI_h, aR_r, aI_r, sI_r, aI_c, sI_c, aI_l, sI_l, aI_ca, aI_ha, sI_ca, sI_ha, gI_mo, pI_mo]
    rw [if_pos e, if_pos e]
  · simp (disch := first | assumption | omega) only [sX4_newAt, z10, z00, if_true, if_false, iv_add, iv_sub, iv_mul, iv_le, iv_lt, iv_eq, iv_mx, iv_mn, bI_z, bI_o, rZ0, rZ1, rZb, cl_some', lt_eq, rm_eq, dv_eq, iv_01, iv_10, the, lastA, lpA, st_eq, st_ne, sh_addM, cV_cl, cV_nd, cV_mo, cV_lt, gR_t0, aR_nd, gR_c0, gR_c1, gR_c2, gR_c3, gR_c4, gR_c5, gR_c6, gR_c15, gR_c16, gI_c7, pI_c7, gI_c8, pI_c8, gI_c9, pI_c9, gI_c10, pI_c10, gI_c11, pI_c11, gI_c12, pI_c12, gI_c13, pI_c13, gI_c14, pI_c14, gN_9, gN_10, gN_11, gN_12, gN_13, gN_14, gN_15, gN_16, gN_17, gN_18, gN_19, gN_20, gN_21, gN_22, gN_23, pN_9, pN_10, pN_11, pN_12, pN_13, pN_14, pN_15, pN_16, pN_17, pN_18, pN_19, pN_20, pN_21, pN_22, pZ_0, pZ_1, gR_n0, aI_n0, sI_n0, gR_n1, aI_n1, sI_n1, gR_n2, aI_n2, sI_n2, gR_n3, aI_n3, sI_n3, gR_n4, aI_n4, sI_n4, gR_n5, aI_n5, sI_n5, gR_n6, aI_n6, sI_n6, gR_n7, aI_n7, sI_n7, gR_n8, aI_n8, sI_n8, aR_s, aI_s, sI_s, aR_h, aI_h, sI_h, aR_r, aI_r, sI_r, aI_c, sI_c, aI_l, sI_l, aI_ca, aI_ha, sI_ca, sI_ha, gI_mo, pI_mo]
    rw [if_neg e, if_neg e]
theorem t_termAt (hL : LyC B M) {n i : Int} (hg : LgA h n) (h0 : h (244 * n + 4) ≤ i) (h1 : i ≤ h (244 * n + 4) + h (244 * n + 8)) : sX4_termAt (some (ndA B n)) (iI i) (tl B h C Hd Mo M) = some (iI (termA h n i), tl B h C Hd Mo M) := by
  obtain ⟨⟨_, _, _, _, _, _, _, _, _, _, _, _, _, _⟩, hE⟩ := hg
  unfold termA
  simp only [the, lpA]
  by_cases e : i = h (244 * n + 4)
  · simp (disch := first | assumption | omega) only [sX4_termAt, z10, z00, if_true, if_false, iv_add, iv_sub, iv_mul, iv_le, iv_lt, iv_eq, iv_mx, iv_mn, bI_z, bI_o, rZ0, rZ1, rZb, cl_some', lt_eq, rm_eq, dv_eq, iv_01, iv_10, the, lastA, lpA, st_eq, st_ne, sh_addM, cV_cl, cV_nd, cV_mo, cV_lt, gR_t0, aR_nd, gR_c0, gR_c1, gR_c2, gR_c3, gR_c4, gR_c5, gR_c6, gR_c15, gR_c16, gI_c7, pI_c7, gI_c8, pI_c8, gI_c9, pI_c9, gI_c10, pI_c10, gI_c11, pI_c11, gI_c12, pI_c12, gI_c13, pI_c13, gI_c14, pI_c14, gN_9, gN_10, gN_11, gN_12, gN_13, gN_14, gN_15, gN_16, gN_17, gN_18, gN_19, gN_20, gN_21, gN_22, gN_23, pN_9, pN_10, pN_11, pN_12, pN_13, pN_14, pN_15, pN_16, pN_17, pN_18, pN_19, pN_20, pN_21, pN_22, pZ_0, pZ_1, gR_n0, aI_n0, sI_n0, gR_n1, aI_n1, sI_n1, gR_n2, aI_n2, sI_n2, gR_n3, aI_n3, sI_n3, gR_n4, aI_n4, sI_n4, gR_n5, aI_n5, sI_n5, gR_n6, aI_n6, sI_n6, gR_n7, aI_n7, sI_n7, gR_n8, aI_n8, sI_n8, aR_s, aI_s, sI_s, aR_h, aI_h, sI_h, aR_r, aI_r, sI_r, aI_c, sI_c, aI_l, sI_l, aI_ca, aI_ha, sI_ca, sI_ha, gI_mo, pI_mo]
    rw [if_pos e, if_pos e]
  · simp (disch := first | assumption | omega) only [sX4_termAt, z10, z00, if_true, if_false, iv_add, iv_sub, iv_mul, iv_le, iv_lt, iv_eq, iv_mx, iv_mn, bI_z, bI_o, rZ0, rZ1, rZb, cl_some', lt_eq, rm_eq, dv_eq, iv_01, iv_10, the, lastA, lpA, st_eq, st_ne, sh_addM, cV_cl, cV_nd, cV_mo, cV_lt, gR_t0, aR_nd, gR_c0, gR_c1, gR_c2, gR_c3, gR_c4, gR_c5, gR_c6, gR_c15, gR_c16, gI_c7, pI_c7, gI_c8, pI_c8, gI_c9, pI_c9, gI_c10, pI_c10, gI_c11, pI_c11, gI_c12, pI_c12, gI_c13, pI_c13, gI_c14, pI_c14, gN_9, gN_10, gN_11, gN_12, gN_13, gN_14, gN_15, gN_16, gN_17, gN_18, gN_19, gN_20, gN_21, gN_22, gN_23, pN_9, pN_10, pN_11, pN_12, pN_13, pN_14, pN_15, pN_16, pN_17, pN_18, pN_19, pN_20, pN_21, pN_22, pZ_0, pZ_1, gR_n0, aI_n0, sI_n0, gR_n1, aI_n1, sI_n1, gR_n2, aI_n2, sI_n2, gR_n3, aI_n3, sI_n3, gR_n4, aI_n4, sI_n4, gR_n5, aI_n5, sI_n5, gR_n6, aI_n6, sI_n6, gR_n7, aI_n7, sI_n7, gR_n8, aI_n8, sI_n8, aR_s, aI_s, sI_s, aR_h, aI_h, sI_h, aR_r, aI_r, sI_r, aI_c, sI_c, aI_l, sI_l, aI_ca, aI_ha, sI_ca, sI_ha, gI_mo, pI_mo]
    rw [if_neg e, if_neg e]
theorem t_olds (hL : LyC B M) {n : Int} (hg : LgA h n) : sX4_olds (some (ndA B n)) (tl B h C Hd Mo M) = some (iI (oldA h n), tl B h C Hd Mo M) := by
  have hb := hg.1
  have a := cfgA_le h n (h (244 * n + 4) + h (244 * n + 8)) (by omega)
  have e1 := t_configAt (C := C) (Hd := Hd) (Mo := Mo) hL hg (up := h (244 * n + 4) + h (244 * n + 8)) (by omega) (by omega)
  have e2 := t_oldAt (C := C) (Hd := Hd) (Mo := Mo) hL hg a.1 a.2
  simp (disch := first | assumption | omega) only [sX4_olds, t_last, z10, z00, if_true, if_false, iv_add, iv_sub, iv_mul, iv_le, iv_lt, iv_eq, iv_mx, iv_mn, bI_z, bI_o, rZ0, rZ1, rZb, cl_some', lt_eq, rm_eq, dv_eq, iv_01, iv_10, the, lastA, lpA, st_eq, st_ne, sh_addM, cV_cl, cV_nd, cV_mo, cV_lt, gR_t0, aR_nd, gR_c0, gR_c1, gR_c2, gR_c3, gR_c4, gR_c5, gR_c6, gR_c15, gR_c16, gI_c7, pI_c7, gI_c8, pI_c8, gI_c9, pI_c9, gI_c10, pI_c10, gI_c11, pI_c11, gI_c12, pI_c12, gI_c13, pI_c13, gI_c14, pI_c14, gN_9, gN_10, gN_11, gN_12, gN_13, gN_14, gN_15, gN_16, gN_17, gN_18, gN_19, gN_20, gN_21, gN_22, gN_23, pN_9, pN_10, pN_11, pN_12, pN_13, pN_14, pN_15, pN_16, pN_17, pN_18, pN_19, pN_20, pN_21, pN_22, pZ_0, pZ_1, gR_n0, aI_n0, sI_n0, gR_n1, aI_n1, sI_n1, gR_n2, aI_n2, sI_n2, gR_n3, aI_n3, sI_n3, gR_n4, aI_n4, sI_n4, gR_n5, aI_n5, sI_n5, gR_n6, aI_n6, sI_n6, gR_n7, aI_n7, sI_n7, gR_n8, aI_n8, sI_n8, aR_s, aI_s, sI_s, aR_h, aI_h, sI_h, aR_r, aI_r, sI_r, aI_c, sI_c, aI_l, sI_l, aI_ca, aI_ha, sI_ca, sI_ha, gI_mo, pI_mo, e1, e2]
  rfl
theorem t_news (hL : LyC B M) {n : Int} (hg : LgA h n) : sX4_news (some (ndA B n)) (tl B h C Hd Mo M) = some (iI (newA h n), tl B h C Hd Mo M) := by
  have hb := hg.1
  have a := cfgA_le h n (h (244 * n + 4) + h (244 * n + 8)) (by omega)
  have e1 := t_configAt (C := C) (Hd := Hd) (Mo := Mo) hL hg (up := h (244 * n + 4) + h (244 * n + 8)) (by omega) (by omega)
  have e2 := t_newAt (C := C) (Hd := Hd) (Mo := Mo) hL hg a.1 a.2
  simp (disch := first | assumption | omega) only [sX4_news, t_last, z10, z00, if_true, if_false, iv_add, iv_sub, iv_mul, iv_le, iv_lt, iv_eq, iv_mx, iv_mn, bI_z, bI_o, rZ0, rZ1, rZb, cl_some', lt_eq, rm_eq, dv_eq, iv_01, iv_10, the, lastA, lpA, st_eq, st_ne, sh_addM, cV_cl, cV_nd, cV_mo, cV_lt, gR_t0, aR_nd, gR_c0, gR_c1, gR_c2, gR_c3, gR_c4, gR_c5, gR_c6, gR_c15, gR_c16, gI_c7, pI_c7, gI_c8, pI_c8, gI_c9, pI_c9, gI_c10, pI_c10, gI_c11, pI_c11, gI_c12, pI_c12, gI_c13, pI_c13, gI_c14, pI_c14, gN_9, gN_10, gN_11, gN_12, gN_13, gN_14, gN_15, gN_16, gN_17, gN_18, gN_19, gN_20, gN_21, gN_22, gN_23, pN_9, pN_10, pN_11, pN_12, pN_13, pN_14, pN_15, pN_16, pN_17, pN_18, pN_19, pN_20, pN_21, pN_22, pZ_0, pZ_1, gR_n0, aI_n0, sI_n0, gR_n1, aI_n1, sI_n1, gR_n2, aI_n2, sI_n2, gR_n3, aI_n3, sI_n3, gR_n4, aI_n4, sI_n4, gR_n5, aI_n5, sI_n5, gR_n6, aI_n6, sI_n6, gR_n7, aI_n7, sI_n7, gR_n8, aI_n8, sI_n8, aR_s, aI_s, sI_s, aR_h, aI_h, sI_h, aR_r, aI_r, sI_r, aI_c, sI_c, aI_l, sI_l, aI_ca, aI_ha, sI_ca, sI_ha, gI_mo, pI_mo, e1, e2]
  rfl
theorem t_members (hL : LyC B M) {n : Int} (hg : LgA h n) : sX4_members (some (ndA B n)) (tl B h C Hd Mo M) = some (iI (membA h n), tl B h C Hd Mo M) := by
  have hb := hg.1
  have r1 := oldR hg
  have r2 := newR hg
  have e1 := t_olds (C := C) (Hd := Hd) (Mo := Mo) hL hg
  have e2 := t_news (C := C) (Hd := Hd) (Mo := Mo) hL hg
  unfold membA
  simp (disch := first | assumption | omega) only [sX4_members, z10, z00, if_true, if_false, iv_add, iv_sub, iv_mul, iv_le, iv_lt, iv_eq, iv_mx, iv_mn, bI_z, bI_o, rZ0, rZ1, rZb, cl_some', lt_eq, rm_eq, dv_eq, iv_01, iv_10, the, lastA, lpA, st_eq, st_ne, sh_addM, cV_cl, cV_nd, cV_mo, cV_lt, gR_t0, aR_nd, gR_c0, gR_c1, gR_c2, gR_c3, gR_c4, gR_c5, gR_c6, gR_c15, gR_c16, gI_c7, pI_c7, gI_c8, pI_c8, gI_c9, pI_c9, gI_c10, pI_c10, gI_c11, pI_c11, gI_c12, pI_c12, gI_c13, pI_c13, gI_c14, pI_c14, gN_9, gN_10, gN_11, gN_12, gN_13, gN_14, gN_15, gN_16, gN_17, gN_18, gN_19, gN_20, gN_21, gN_22, gN_23, pN_9, pN_10, pN_11, pN_12, pN_13, pN_14, pN_15, pN_16, pN_17, pN_18, pN_19, pN_20, pN_21, pN_22, pZ_0, pZ_1, gR_n0, aI_n0, sI_n0, gR_n1, aI_n1, sI_n1, gR_n2, aI_n2, sI_n2, gR_n3, aI_n3, sI_n3, gR_n4, aI_n4, sI_n4, gR_n5, aI_n5, sI_n5, gR_n6, aI_n6, sI_n6, gR_n7, aI_n7, sI_n7, gR_n8, aI_n8, sI_n8, aR_s, aI_s, sI_s, aR_h, aI_h, sI_h, aR_r, aI_r, sI_r, aI_c, sI_c, aI_l, sI_l, aI_ca, aI_ha, sI_ca, sI_ha, gI_mo, pI_mo, e1, e2, iv_or]
theorem t_isMore {σ : Mem} {s o : Int} (s0 : 0 ≤ s) (s1 : s < 128) (o0 : 0 ≤ o) (o1 : o < 128) : sX4_isMore (iI s) (iI o) σ = some (bI (bitsI o < 2 * bitsI (andI s o)), σ) := by
  have ra := andR s0 s1 o0 o1
  have b1 := bitsR o0 o1
  have b2 := bitsR ra.1 ra.2
  simp (disch := first | assumption | omega) only [sX4_isMore, iv_and, iv_cnt, z10, z00, if_true, if_false, iv_add, iv_sub, iv_mul, iv_le, iv_lt, iv_eq, iv_mx, iv_mn, bI_z, bI_o, rZ0, rZ1, rZb, cl_some', lt_eq, rm_eq, dv_eq, iv_01, iv_10]
  by_cases c : bitsI o < 2 * bitsI (andI s o)
  · rw [if_neg (by omega), bI_t c]
  · rw [if_pos (by omega), bI_f c]
theorem t_isMajority (hL : LyC B M) {n s : Int} (hg : LgA h n) (s0 : 0 ≤ s) (s1 : s < 128) : sX4_isMajority (some (ndA B n)) (iI s) (tl B h C Hd Mo M) = some (bI (mostA h n s), tl B h C Hd Mo M) := by
  have hb := hg.1
  have r1 := oldR hg
  have r2 := newR hg
  have e1 := t_olds (C := C) (Hd := Hd) (Mo := Mo) hL hg
  have e2 := t_news (C := C) (Hd := Hd) (Mo := Mo) hL hg
  unfold mostA
  simp (disch := first | assumption | omega) only [sX4_isMajority, t_isMore, z10, z00, if_true, if_false, iv_add, iv_sub, iv_mul, iv_le, iv_lt, iv_eq, iv_mx, iv_mn, bI_z, bI_o, rZ0, rZ1, rZb, cl_some', lt_eq, rm_eq, dv_eq, iv_01, iv_10, the, lastA, lpA, st_eq, st_ne, sh_addM, cV_cl, cV_nd, cV_mo, cV_lt, gR_t0, aR_nd, gR_c0, gR_c1, gR_c2, gR_c3, gR_c4, gR_c5, gR_c6, gR_c15, gR_c16, gI_c7, pI_c7, gI_c8, pI_c8, gI_c9, pI_c9, gI_c10, pI_c10, gI_c11, pI_c11, gI_c12, pI_c12, gI_c13, pI_c13, gI_c14, pI_c14, gN_9, gN_10, gN_11, gN_12, gN_13, gN_14, gN_15, gN_16, gN_17, gN_18, gN_19, gN_20, gN_21, gN_22, gN_23, pN_9, pN_10, pN_11, pN_12, pN_13, pN_14, pN_15, pN_16, pN_17, pN_18, pN_19, pN_20, pN_21, pN_22, pZ_0, pZ_1, gR_n0, aI_n0, sI_n0, gR_n1, aI_n1, sI_n1, gR_n2, aI_n2, sI_n2, gR_n3, aI_n3, sI_n3, gR_n4, aI_n4, sI_n4, gR_n5, aI_n5, sI_n5, gR_n6, aI_n6, sI_n6, gR_n7, aI_n7, sI_n7, gR_n8, aI_n8, sI_n8, aR_s, aI_s, sI_s, aR_h, aI_h, sI_h, aR_r, aI_r, sI_r, aI_c, sI_c, aI_l, sI_l, aI_ca, aI_ha, sI_ca, sI_ha, gI_mo, pI_mo, e1, e2]
  by_cases c1 : bitsI (oldA h n) < 2 * bitsI (andI s (oldA h n))
  · rw [if_neg (fun hc => hc c1)]
    by_cases c2 : newA h n = 0
    · rw [if_pos c2, bI_t ⟨c1, Or.inl c2⟩]
    · rw [if_neg c2]
      by_cases c3 : bitsI (newA h n) < 2 * bitsI (andI s (newA h n))
      · rw [if_neg (fun hc => hc c3), bI_t ⟨c1, Or.inr c3⟩]
      · rw [if_pos c3, bI_f (fun hc => by rcases hc.2 with q | q <;> contradiction)]
  · rw [if_pos c1, bI_f (fun hc => c1 hc.1)]
theorem t_isConfigHeld (hL : LyC B M) {n : Int} (hg : LgA h n) : sX4_isConfigHeld (some (ndA B n)) (tl B h C Hd Mo M) = some (bI (cfgHeld h n), tl B h C Hd Mo M) := by
  have hb := hg.1
  have a := cfgA_le h n (h (244 * n + 4) + h (244 * n + 8)) (by omega)
  have e1 := t_configAt (C := C) (Hd := Hd) (Mo := Mo) hL hg (up := h (244 * n + 4) + h (244 * n + 8)) (by omega) (by omega)
  unfold cfgHeld
  simp only [the, lastA]
  simp (disch := first | assumption | omega) only [sX4_isConfigHeld, t_last, z10, z00, if_true, if_false, iv_add, iv_sub, iv_mul, iv_le, iv_lt, iv_eq, iv_mx, iv_mn, bI_z, bI_o, rZ0, rZ1, rZb, cl_some', lt_eq, rm_eq, dv_eq, iv_01, iv_10, the, lastA, lpA, st_eq, st_ne, sh_addM, cV_cl, cV_nd, cV_mo, cV_lt, gR_t0, aR_nd, gR_c0, gR_c1, gR_c2, gR_c3, gR_c4, gR_c5, gR_c6, gR_c15, gR_c16, gI_c7, pI_c7, gI_c8, pI_c8, gI_c9, pI_c9, gI_c10, pI_c10, gI_c11, pI_c11, gI_c12, pI_c12, gI_c13, pI_c13, gI_c14, pI_c14, gN_9, gN_10, gN_11, gN_12, gN_13, gN_14, gN_15, gN_16, gN_17, gN_18, gN_19, gN_20, gN_21, gN_22, gN_23, pN_9, pN_10, pN_11, pN_12, pN_13, pN_14, pN_15, pN_16, pN_17, pN_18, pN_19, pN_20, pN_21, pN_22, pZ_0, pZ_1, gR_n0, aI_n0, sI_n0, gR_n1, aI_n1, sI_n1, gR_n2, aI_n2, sI_n2, gR_n3, aI_n3, sI_n3, gR_n4, aI_n4, sI_n4, gR_n5, aI_n5, sI_n5, gR_n6, aI_n6, sI_n6, gR_n7, aI_n7, sI_n7, gR_n8, aI_n8, sI_n8, aR_s, aI_s, sI_s, aR_h, aI_h, sI_h, aR_r, aI_r, sI_r, aI_c, sI_c, aI_l, sI_l, aI_ca, aI_ha, sI_ca, sI_ha, gI_mo, pI_mo, e1]
  by_cases c : cfgA h n (h (244 * n + 4) + h (244 * n + 8)) ≤ h (244 * n + 9)
  · rw [if_neg (by omega), bI_t c]
  · rw [if_pos (by omega), bI_f c]
theorem t_isNoLess (hL : LyC B M) {n l t : Int} (hg : LgA h n) (hl : -1000000 ≤ l ∧ l ≤ 1000000) (ht : -1000000 ≤ t ∧ t ≤ 1000000) : sX4_isNoLess (some (ndA B n)) (iI t) (iI l) (tl B h C Hd Mo M) = some (bI (noLess h n l t), tl B h C Hd Mo M) := by
  have hb := hg.1
  have hr := termR hg (i := h (244 * n + 4) + h (244 * n + 8)) (by omega) (by omega)
  have e1 := t_termAt (C := C) (Hd := Hd) (Mo := Mo) hL hg (i := h (244 * n + 4) + h (244 * n + 8)) (by omega) (by omega)
  unfold noLess
  simp only [the, lastA]
  simp (disch := first | assumption | omega) only [sX4_isNoLess, t_last, z10, z00, if_true, if_false, iv_add, iv_sub, iv_mul, iv_le, iv_lt, iv_eq, iv_mx, iv_mn, bI_z, bI_o, rZ0, rZ1, rZb, cl_some', lt_eq, rm_eq, dv_eq, iv_01, iv_10, the, lastA, lpA, st_eq, st_ne, sh_addM, cV_cl, cV_nd, cV_mo, cV_lt, gR_t0, aR_nd, gR_c0, gR_c1, gR_c2, gR_c3, gR_c4, gR_c5, gR_c6, gR_c15, gR_c16, gI_c7, pI_c7, gI_c8, pI_c8, gI_c9, pI_c9, gI_c10, pI_c10, gI_c11, pI_c11, gI_c12, pI_c12, gI_c13, pI_c13, gI_c14, pI_c14, gN_9, gN_10, gN_11, gN_12, gN_13, gN_14, gN_15, gN_16, gN_17, gN_18, gN_19, gN_20, gN_21, gN_22, gN_23, pN_9, pN_10, pN_11, pN_12, pN_13, pN_14, pN_15, pN_16, pN_17, pN_18, pN_19, pN_20, pN_21, pN_22, pZ_0, pZ_1, gR_n0, aI_n0, sI_n0, gR_n1, aI_n1, sI_n1, gR_n2, aI_n2, sI_n2, gR_n3, aI_n3, sI_n3, gR_n4, aI_n4, sI_n4, gR_n5, aI_n5, sI_n5, gR_n6, aI_n6, sI_n6, gR_n7, aI_n7, sI_n7, gR_n8, aI_n8, sI_n8, aR_s, aI_s, sI_s, aR_h, aI_h, sI_h, aR_r, aI_r, sI_r, aI_c, sI_c, aI_l, sI_l, aI_ca, aI_ha, sI_ca, sI_ha, gI_mo, pI_mo, e1]
  by_cases c1 : termA h n (h (244 * n + 4) + h (244 * n + 8)) < t
  · rw [if_pos c1, bI_t (Or.inl c1)]
  · rw [if_neg c1]
    by_cases c2 : t = termA h n (h (244 * n + 4) + h (244 * n + 8))
    · rw [if_pos c2]
      by_cases c3 : l < h (244 * n + 4) + h (244 * n + 8)
      · rw [if_pos c3, bI_f (by omega)]
      · rw [if_neg c3, bI_t (by omega)]
    · rw [if_neg c2, bI_f (by omega)]
theorem t_firstOf_2 (hL : LyC B M) {n i : Int} (hg : LgA h n) (h0 : h (244 * n + 4) ≤ i) (hi : i ≤ h (244 * n + 4) + h (244 * n + 8)) : ∀ (j : Nat) (k : Int) (f : Nat), k - h (244 * n + 4) = j → k ≤ i → j < f →
    sX4_firstOfTerm_2 f (some (ndA B n)) (iI i) (iI k) (tl B h C Hd Mo M) = some (iI (max 1 (firstF h n i j k)), tl B h C Hd Mo M)
  | 0, k, f + 1, e1, e2, e3 => by
    have hb := hg.1
    simp (disch := first | assumption | omega) only [sX4_firstOfTerm_2, sX4_firstOfTerm_2b, sX4_firstOfTerm_33, z10, z00, if_true, if_false, iv_add, iv_sub, iv_mul, iv_le, iv_lt, iv_eq, iv_mx, iv_mn, bI_z, bI_o, rZ0, rZ1, rZb, cl_some', lt_eq, rm_eq, dv_eq, iv_01, iv_10, the, lastA, lpA, st_eq, st_ne, sh_addM, cV_cl, cV_nd, cV_mo, cV_lt, gR_t0, aR_nd, gR_c0, gR_c1, gR_c2, gR_c3, gR_c4, gR_c5, gR_c6, gR_c15, gR_c16, gI_c7, pI_c7, gI_c8, pI_c8, gI_c9, pI_c9, gI_c10, pI_c10, gI_c11, pI_c11, gI_c12, pI_c12, gI_c13, pI_c13, gI_c14, pI_c14, gN_9, gN_10, gN_11, gN_12, gN_13, gN_14, gN_15, gN_16, gN_17, gN_18, gN_19, gN_20, gN_21, gN_22, gN_23, pN_9, pN_10, pN_11, pN_12, pN_13, pN_14, pN_15, pN_16, pN_17, pN_18, pN_19, pN_20, pN_21, pN_22, pZ_0, pZ_1, gR_n0, aI_n0, sI_n0, gR_n1, aI_n1, sI_n1, gR_n2, aI_n2, sI_n2, gR_n3, aI_n3, sI_n3, gR_n4, aI_n4, sI_n4, gR_n5, aI_n5, sI_n5, gR_n6, aI_n6, sI_n6, gR_n7, aI_n7, sI_n7, gR_n8, aI_n8, sI_n8, aR_s, aI_s, sI_s, aR_h, aI_h, sI_h, aR_r, aI_r, sI_r, aI_c, sI_c, aI_l, sI_l, aI_ca, aI_ha, sI_ca, sI_ha, gI_mo, pI_mo]
    rw [if_pos (by omega)]
    rfl
  | j + 1, k, f + 1, e1, e2, e3 => by
    have ih := t_firstOf_2 hL hg h0 hi j (k - 1) f (by omega) (by omega) (by omega)
    have hb := hg.1
    have t1 := t_termAt (C := C) (Hd := Hd) (Mo := Mo) hL hg h0 hi
    have r1 := termR hg h0 hi
    unfold firstF
    simp only [the]
    show sX4_firstOfTerm_2b (sX4_firstOfTerm_2 f) _ _ _ _ = _
    generalize sX4_firstOfTerm_2 f = K at ih ⊢
    by_cases c1 : k - 1 ≤ h (244 * n + 4)
    · rw [if_neg (by omega)]
      simp (disch := first | assumption | omega) only [sX4_firstOfTerm_2b, sX4_firstOfTerm_33, z10, z00, if_true, if_false, iv_add, iv_sub, iv_mul, iv_le, iv_lt, iv_eq, iv_mx, iv_mn, bI_z, bI_o, rZ0, rZ1, rZb, cl_some', lt_eq, rm_eq, dv_eq, iv_01, iv_10, the, lastA, lpA, st_eq, st_ne, sh_addM, cV_cl, cV_nd, cV_mo, cV_lt, gR_t0, aR_nd, gR_c0, gR_c1, gR_c2, gR_c3, gR_c4, gR_c5, gR_c6, gR_c15, gR_c16, gI_c7, pI_c7, gI_c8, pI_c8, gI_c9, pI_c9, gI_c10, pI_c10, gI_c11, pI_c11, gI_c12, pI_c12, gI_c13, pI_c13, gI_c14, pI_c14, gN_9, gN_10, gN_11, gN_12, gN_13, gN_14, gN_15, gN_16, gN_17, gN_18, gN_19, gN_20, gN_21, gN_22, gN_23, pN_9, pN_10, pN_11, pN_12, pN_13, pN_14, pN_15, pN_16, pN_17, pN_18, pN_19, pN_20, pN_21, pN_22, pZ_0, pZ_1, gR_n0, aI_n0, sI_n0, gR_n1, aI_n1, sI_n1, gR_n2, aI_n2, sI_n2, gR_n3, aI_n3, sI_n3, gR_n4, aI_n4, sI_n4, gR_n5, aI_n5, sI_n5, gR_n6, aI_n6, sI_n6, gR_n7, aI_n7, sI_n7, gR_n8, aI_n8, sI_n8, aR_s, aI_s, sI_s, aR_h, aI_h, sI_h, aR_r, aI_r, sI_r, aI_c, sI_c, aI_l, sI_l, aI_ca, aI_ha, sI_ca, sI_ha, gI_mo, pI_mo]
      rw [if_pos c1]
    · have t2 := t_termAt (C := C) (Hd := Hd) (Mo := Mo) hL hg (i := k - 1) (by omega) (by omega)
      have r2 := termR hg (i := k - 1) (by omega) (by omega)
      simp (disch := first | assumption | omega) only [sX4_firstOfTerm_2b, sX4_firstOfTerm_33, z10, z00, if_true, if_false, iv_add, iv_sub, iv_mul, iv_le, iv_lt, iv_eq, iv_mx, iv_mn, bI_z, bI_o, rZ0, rZ1, rZb, cl_some', lt_eq, rm_eq, dv_eq, iv_01, iv_10, the, lastA, lpA, st_eq, st_ne, sh_addM, cV_cl, cV_nd, cV_mo, cV_lt, gR_t0, aR_nd, gR_c0, gR_c1, gR_c2, gR_c3, gR_c4, gR_c5, gR_c6, gR_c15, gR_c16, gI_c7, pI_c7, gI_c8, pI_c8, gI_c9, pI_c9, gI_c10, pI_c10, gI_c11, pI_c11, gI_c12, pI_c12, gI_c13, pI_c13, gI_c14, pI_c14, gN_9, gN_10, gN_11, gN_12, gN_13, gN_14, gN_15, gN_16, gN_17, gN_18, gN_19, gN_20, gN_21, gN_22, gN_23, pN_9, pN_10, pN_11, pN_12, pN_13, pN_14, pN_15, pN_16, pN_17, pN_18, pN_19, pN_20, pN_21, pN_22, pZ_0, pZ_1, gR_n0, aI_n0, sI_n0, gR_n1, aI_n1, sI_n1, gR_n2, aI_n2, sI_n2, gR_n3, aI_n3, sI_n3, gR_n4, aI_n4, sI_n4, gR_n5, aI_n5, sI_n5, gR_n6, aI_n6, sI_n6, gR_n7, aI_n7, sI_n7, gR_n8, aI_n8, sI_n8, aR_s, aI_s, sI_s, aR_h, aI_h, sI_h, aR_r, aI_r, sI_r, aI_c, sI_c, aI_l, sI_l, aI_ca, aI_ha, sI_ca, sI_ha, gI_mo, pI_mo, t1, t2]
      rw [if_neg c1]
      by_cases c2 : termA h n (k - 1) = termA h n i
      · rw [if_pos c2, if_pos ⟨by omega, c2⟩, show k + -1 = k - 1 by omega]
        exact ih
      · rw [if_neg c2, if_neg (fun q => c2 q.2)]
theorem t_firstOfTerm (hL : LyC B M) {n i : Int} (hg : LgA h n) (h0 : h (244 * n + 4) ≤ i) (hi : i ≤ h (244 * n + 4) + h (244 * n + 8)) :
    sX4_firstOfTerm (some (ndA B n)) (iI i) (tl B h C Hd Mo M) = some (iI (firstA h n i), tl B h C Hd Mo M) := by
  have hb := hg.1
  exact t_firstOf_2 hL hg h0 hi _ i FU (by simp only [the]; omega) (by omega) (by unfold FU; simp only [the]; omega)
theorem t_hasEntry (hL : LyC B M) {n i : Int} (hg : LgA h n) (_ : -2147483648 ≤ i) (_ : i ≤ 2147483647) : sX4_hasEntry (some (ndA B n)) (iI i) (tl B h C Hd Mo M) = some (bI (hasEnt h n i), tl B h C Hd Mo M) := by
  have hb := hg.1
  unfold hasEnt
  simp only [the, lastA]
  simp (disch := first | assumption | omega) only [sX4_hasEntry, t_last, z10, z00, if_true, if_false, iv_add, iv_sub, iv_mul, iv_le, iv_lt, iv_eq, iv_mx, iv_mn, bI_z, bI_o, rZ0, rZ1, rZb, cl_some', lt_eq, rm_eq, dv_eq, iv_01, iv_10, the, lastA, lpA, st_eq, st_ne, sh_addM, cV_cl, cV_nd, cV_mo, cV_lt, gR_t0, aR_nd, gR_c0, gR_c1, gR_c2, gR_c3, gR_c4, gR_c5, gR_c6, gR_c15, gR_c16, gI_c7, pI_c7, gI_c8, pI_c8, gI_c9, pI_c9, gI_c10, pI_c10, gI_c11, pI_c11, gI_c12, pI_c12, gI_c13, pI_c13, gI_c14, pI_c14, gN_9, gN_10, gN_11, gN_12, gN_13, gN_14, gN_15, gN_16, gN_17, gN_18, gN_19, gN_20, gN_21, gN_22, gN_23, pN_9, pN_10, pN_11, pN_12, pN_13, pN_14, pN_15, pN_16, pN_17, pN_18, pN_19, pN_20, pN_21, pN_22, pZ_0, pZ_1, gR_n0, aI_n0, sI_n0, gR_n1, aI_n1, sI_n1, gR_n2, aI_n2, sI_n2, gR_n3, aI_n3, sI_n3, gR_n4, aI_n4, sI_n4, gR_n5, aI_n5, sI_n5, gR_n6, aI_n6, sI_n6, gR_n7, aI_n7, sI_n7, gR_n8, aI_n8, sI_n8, aR_s, aI_s, sI_s, aR_h, aI_h, sI_h, aR_r, aI_r, sI_r, aI_c, sI_c, aI_l, sI_l, aI_ca, aI_ha, sI_ca, sI_ha, gI_mo, pI_mo]
  by_cases c1 : i ≤ h (244 * n + 4)
  · rw [if_pos c1, bI_f (by omega)]
  · rw [if_neg c1]
    by_cases c2 : h (244 * n + 4) + h (244 * n + 8) < i
    · rw [if_pos c2, bI_f (by omega)]
    · rw [if_neg c2, bI_t (by omega)]
/-- entries go from the front -/
def gmG (h : Row) (n c k : Int) : Row := fun x => if 244 * n + 52 ≤ x ∧ x < 244 * n + 52 + 4 * (k - c) then h (x + 4 * c) else h x
def goG (h : Row) (n c : Int) : Row := st (gmG h n c (h (244 * n + 8))) (244 * n + 8) (h (244 * n + 8) - c)
theorem gmSt {n c k : Int} (c0 : 0 ≤ c) (k0 : c ≤ k) : st (st (st (st (gmG h n c k) (244 * n + 52 + 4 * (k - c)) (h (244 * n + 52 + 4 * k))) (244 * n + 52 + 4 * (k - c) + 1) (h (244 * n + 52 + 4 * k + 1))) (244 * n + 52 + 4 * (k - c) + 2) (h (244 * n + 52 + 4 * k + 2))) (244 * n + 52 + 4 * (k - c) + 3) (h (244 * n + 52 + 4 * k + 3)) = gmG h n c (k + 1) := by
  funext x
  unfold st gmG
  by_cases q3 : x = 244 * n + 52 + 4 * (k - c) + 3
  · rw [if_pos q3, if_pos (by omega)]
    congr 1
    omega
  · rw [if_neg q3]
    by_cases q2 : x = 244 * n + 52 + 4 * (k - c) + 2
    · rw [if_pos q2, if_pos (by omega)]
      congr 1
      omega
    · rw [if_neg q2]
      by_cases q1 : x = 244 * n + 52 + 4 * (k - c) + 1
      · rw [if_pos q1, if_pos (by omega)]
        congr 1
        omega
      · rw [if_neg q1]
        by_cases q0 : x = 244 * n + 52 + 4 * (k - c)
        · rw [if_pos q0, if_pos (by omega)]
          congr 1
          omega
        · rw [if_neg q0]
          by_cases d : 244 * n + 52 ≤ x ∧ x < 244 * n + 52 + 4 * (k - c)
          · rw [if_pos d, if_pos (by omega)]
          · rw [if_neg d, if_neg (by omega)]
theorem t_goes_2 (hL : LyC B M) {n c : Int} (n0 : 0 ≤ n) (n1 : n < 7) (c0 : 0 ≤ c) (h8 : h (244 * n + 8) ≤ 48) : ∀ (j : Nat) (k : Int) (f : Nat), h (244 * n + 8) - k = j → c ≤ k → j < f →
    sX4_goes_2 f (some (ndA B n)) (iI c) (iI k) (tl B (gmG h n c k) C Hd Mo M) = some ((), tl B (goG h n c) C Hd Mo M)
  | 0, k, f + 1, e1, e2, e3 => by
    have o : gmG h n c k (244 * n + 8) = h (244 * n + 8) := if_neg (by omega)
    have e : k = h (244 * n + 8) := by omega
    simp (disch := first | assumption | omega) only [sX4_goes_2, sX4_goes_2b, z10, z00, if_true, if_false, iv_add, iv_sub, iv_mul, iv_le, iv_lt, iv_eq, iv_mx, iv_mn, bI_z, bI_o, rZ0, rZ1, rZb, cl_some', lt_eq, rm_eq, dv_eq, iv_01, iv_10, the, lastA, lpA, st_eq, st_ne, sh_addM, cV_cl, cV_nd, cV_mo, cV_lt, gR_t0, aR_nd, gR_c0, gR_c1, gR_c2, gR_c3, gR_c4, gR_c5, gR_c6, gR_c15, gR_c16, gI_c7, pI_c7, gI_c8, pI_c8, gI_c9, pI_c9, gI_c10, pI_c10, gI_c11, pI_c11, gI_c12, pI_c12, gI_c13, pI_c13, gI_c14, pI_c14, gN_9, gN_10, gN_11, gN_12, gN_13, gN_14, gN_15, gN_16, gN_17, gN_18, gN_19, gN_20, gN_21, gN_22, gN_23, pN_9, pN_10, pN_11, pN_12, pN_13, pN_14, pN_15, pN_16, pN_17, pN_18, pN_19, pN_20, pN_21, pN_22, pZ_0, pZ_1, gR_n0, aI_n0, sI_n0, gR_n1, aI_n1, sI_n1, gR_n2, aI_n2, sI_n2, gR_n3, aI_n3, sI_n3, gR_n4, aI_n4, sI_n4, gR_n5, aI_n5, sI_n5, gR_n6, aI_n6, sI_n6, gR_n7, aI_n7, sI_n7, gR_n8, aI_n8, sI_n8, aR_s, aI_s, sI_s, aR_h, aI_h, sI_h, aR_r, aI_r, sI_r, aI_c, sI_c, aI_l, sI_l, aI_ca, aI_ha, sI_ca, sI_ha, gI_mo, pI_mo, o]
    rw [if_pos (by omega), e]
    rfl
  | j + 1, k, f + 1, e1, e2, e3 => by
    have ih := t_goes_2 hL n0 n1 c0 h8 j (k + 1) f (by omega) (by omega) (by omega)
    have o : gmG h n c k (244 * n + 8) = h (244 * n + 8) := if_neg (by omega)
    have o0 : gmG h n c k (244 * n + 52 + 4 * k) = h (244 * n + 52 + 4 * k) := if_neg (by omega)
    have o1 : gmG h n c k (244 * n + 52 + 4 * k + 1) = h (244 * n + 52 + 4 * k + 1) := if_neg (by omega)
    have o2 : gmG h n c k (244 * n + 52 + 4 * k + 2) = h (244 * n + 52 + 4 * k + 2) := if_neg (by omega)
    have o3 : gmG h n c k (244 * n + 52 + 4 * k + 3) = h (244 * n + 52 + 4 * k + 3) := if_neg (by omega)
    have s := gmSt (h := h) (n := n) c0 e2
    show sX4_goes_2b (sX4_goes_2 f) _ _ _ _ = _
    generalize sX4_goes_2 f = K at ih ⊢
    by_cases cc : c = 0
    · subst cc
      rw [show k - 0 = k by omega] at s
      simp (disch := first | assumption | omega) only [sX4_goes_2b, z10, z00, if_true, if_false, iv_add, iv_sub, iv_mul, iv_le, iv_lt, iv_eq, iv_mx, iv_mn, bI_z, bI_o, rZ0, rZ1, rZb, cl_some', lt_eq, rm_eq, dv_eq, iv_01, iv_10, the, lastA, lpA, st_eq, st_ne, sh_addM, cV_cl, cV_nd, cV_mo, cV_lt, gR_t0, aR_nd, gR_c0, gR_c1, gR_c2, gR_c3, gR_c4, gR_c5, gR_c6, gR_c15, gR_c16, gI_c7, pI_c7, gI_c8, pI_c8, gI_c9, pI_c9, gI_c10, pI_c10, gI_c11, pI_c11, gI_c12, pI_c12, gI_c13, pI_c13, gI_c14, pI_c14, gN_9, gN_10, gN_11, gN_12, gN_13, gN_14, gN_15, gN_16, gN_17, gN_18, gN_19, gN_20, gN_21, gN_22, gN_23, pN_9, pN_10, pN_11, pN_12, pN_13, pN_14, pN_15, pN_16, pN_17, pN_18, pN_19, pN_20, pN_21, pN_22, pZ_0, pZ_1, gR_n0, aI_n0, sI_n0, gR_n1, aI_n1, sI_n1, gR_n2, aI_n2, sI_n2, gR_n3, aI_n3, sI_n3, gR_n4, aI_n4, sI_n4, gR_n5, aI_n5, sI_n5, gR_n6, aI_n6, sI_n6, gR_n7, aI_n7, sI_n7, gR_n8, aI_n8, sI_n8, aR_s, aI_s, sI_s, aR_h, aI_h, sI_h, aR_r, aI_r, sI_r, aI_c, sI_c, aI_l, sI_l, aI_ca, aI_ha, sI_ca, sI_ha, gI_mo, pI_mo, o, o0, o1, o2, o3, show k - 0 = k by omega]
      rw [if_neg (by omega), s]
      exact ih
    · simp (disch := first | assumption | omega) only [sX4_goes_2b, z10, z00, if_true, if_false, iv_add, iv_sub, iv_mul, iv_le, iv_lt, iv_eq, iv_mx, iv_mn, bI_z, bI_o, rZ0, rZ1, rZb, cl_some', lt_eq, rm_eq, dv_eq, iv_01, iv_10, the, lastA, lpA, st_eq, st_ne, sh_addM, cV_cl, cV_nd, cV_mo, cV_lt, gR_t0, aR_nd, gR_c0, gR_c1, gR_c2, gR_c3, gR_c4, gR_c5, gR_c6, gR_c15, gR_c16, gI_c7, pI_c7, gI_c8, pI_c8, gI_c9, pI_c9, gI_c10, pI_c10, gI_c11, pI_c11, gI_c12, pI_c12, gI_c13, pI_c13, gI_c14, pI_c14, gN_9, gN_10, gN_11, gN_12, gN_13, gN_14, gN_15, gN_16, gN_17, gN_18, gN_19, gN_20, gN_21, gN_22, gN_23, pN_9, pN_10, pN_11, pN_12, pN_13, pN_14, pN_15, pN_16, pN_17, pN_18, pN_19, pN_20, pN_21, pN_22, pZ_0, pZ_1, gR_n0, aI_n0, sI_n0, gR_n1, aI_n1, sI_n1, gR_n2, aI_n2, sI_n2, gR_n3, aI_n3, sI_n3, gR_n4, aI_n4, sI_n4, gR_n5, aI_n5, sI_n5, gR_n6, aI_n6, sI_n6, gR_n7, aI_n7, sI_n7, gR_n8, aI_n8, sI_n8, aR_s, aI_s, sI_s, aR_h, aI_h, sI_h, aR_r, aI_r, sI_r, aI_c, sI_c, aI_l, sI_l, aI_ca, aI_ha, sI_ca, sI_ha, gI_mo, pI_mo, o, o0, o1, o2, o3]
      rw [if_neg (by omega), s]
      exact ih
theorem t_goes (hL : LyC B M) {n c : Int} (n0 : 0 ≤ n) (n1 : n < 7) (c0 : 0 ≤ c) (c1 : c ≤ h (244 * n + 8)) (h8 : h (244 * n + 8) ≤ 48) :
    sX4_goes (some (ndA B n)) (iI c) (tl B h C Hd Mo M) = some ((), tl B (goG h n c) C Hd Mo M) := by
  have e : gmG h n c c = h := by
    funext x
    unfold gmG
    rw [if_neg (by omega)]
  have := t_goes_2 (h := h) (C := C) (Hd := Hd) (Mo := Mo) hL n0 n1 c0 h8 (h (244 * n + 8) - c).toNat c FU (by omega) (by omega) (by unfold FU; omega)
  rw [e] at this
  exact this
end
