/-! DEPS: vc -/
/-! VD: TermLog's nodes compact and lay; rows of TermLog against rows of the twin -/
theorem compG_id {h : Row} {n : Int} (hg : LgA h n) (e : h (244 * n + 9) = h (244 * n + 4)) (kb : KbA h n) : compG h n = h := by
  have hL := hg
  obtain ⟨⟨_, _, _, _, _, _, _, _, _, _, _, _, _, _⟩, hE⟩ := hL
  have a := cfgA_le h n (h (244 * n + 4)) (Int.le_refl _)
  have ec : cfgA h n (h (244 * n + 9)) = h (244 * n + 4) := by rw [e]; omega
  have cc : compC h n = h := if_pos ec
  funext x
  unfold compG
  simp only [the]
  rw [cc]
  by_cases c1 : 244 * n + 23 ≤ x ∧ x < 244 * n + 31
  · rw [if_pos c1]
    have := kb (x - 244 * n - 23) (by omega) (by omega)
    rw [show 244 * n + (15 + (x - 244 * n - 23)) = x - 8 by omega, show 244 * n + (23 + (x - 244 * n - 23)) = x by omega] at this
    exact this
  · rw [if_neg c1]
    unfold st
    by_cases c2 : x = 244 * n + 5
    · rw [if_pos c2, c2, e]
      unfold termA
      rw [if_pos rfl]
    · rw [if_neg c2]
      unfold goesG
      simp only [the]
      by_cases c3 : x = 244 * n + 4
      · rw [if_pos c3, c3, e]
      · rw [if_neg c3]
        by_cases c4 : x = 244 * n + 8
        · rw [if_pos c4, c4]
          omega
        · rw [if_neg c4]
          split
          · rw [e, show x + 4 * (h (244 * n + 4) - h (244 * n + 4)) = x by omega]
          · rfl
section
variable {B : Nat} {h C Hd Mo : Row} {M : Mem}
def kqG (h : Row) (n k : Int) : Row := fun x => if 244 * n + 23 ≤ x ∧ x < 244 * n + 23 + k then h (x - 8) else h x
theorem kqSt {n k : Int} (k0 : 0 ≤ k) (k1 : k < 8) : st (kqG h n k) (244 * n + (23 + k)) (h (244 * n + (15 + k))) = kqG h n (k + 1) := by
  funext x
  unfold st kqG
  by_cases c1 : x = 244 * n + (23 + k)
  · rw [if_pos c1, if_pos (by omega), c1]
    congr 1
    omega
  · rw [if_neg c1]
    by_cases c2 : 244 * n + 23 ≤ x ∧ x < 244 * n + 23 + k
    · rw [if_pos c2, if_pos (by omega)]
    · rw [if_neg c2, if_neg (by omega)]
theorem t_comp_46 (hL : LyC B M) {n : Int} (n0 : 0 ≤ n) (n1 : n < 7) (h0 : h (244 * n + 4) ≤ h (244 * n + 9)) (h1 : h (244 * n + 9) ≤ h (244 * n + 4) + h (244 * n + 8)) (h8 : h (244 * n + 8) ≤ 48) (h4 : 0 ≤ h (244 * n + 4)) (h9 : h (244 * n + 9) ≤ 999) : ∀ (j : Nat) (k : Int) (f : Nat), 8 - k = j → 0 ≤ k → j < f →
    sX4_compacts_46 f (some (ndA B n)) (iI k) (tl B (kqG h n k) C Hd Mo M) = some ((), tl B (st (goG (kqG h n 8) n (h (244 * n + 9) - h (244 * n + 4))) (244 * n + 4) (h (244 * n + 9))) C Hd Mo M)
  | 0, k, f + 1, e1, e2, e3 => by
    have e : k = 8 := by omega
    subst e
    have o : ∀ x, (x < 244 * n + 23 ∨ 244 * n + 31 ≤ x) → kqG h n 8 x = h x := by
      intro x hx
      unfold kqG
      rw [if_neg (by omega)]
    have o4 := o (244 * n + 4) (by omega)
    have o8 := o (244 * n + 8) (by omega)
    have o9 := o (244 * n + 9) (by omega)
    have g1 := t_goes (h := kqG h n 8) (C := C) (Hd := Hd) (Mo := Mo) hL n0 n1 (c := h (244 * n + 9) - h (244 * n + 4)) (by omega) (by rw [o8]; omega) (by rw [o8]; exact h8)
    have o99 : goG (kqG h n 8) n (h (244 * n + 9) - h (244 * n + 4)) (244 * n + 9) = h (244 * n + 9) := by
      unfold goG gmG
      rw [st_ne (by omega), if_neg (by omega), o9]
    simp (disch := first | assumption | omega) only [sX4_compacts_46, sX4_compacts_46b, z10, z00, if_true, if_false, iv_add, iv_sub, iv_mul, iv_le, iv_lt, iv_eq, iv_mx, iv_mn, bI_z, bI_o, rZ0, rZ1, rZb, cl_some', lt_eq, rm_eq, dv_eq, iv_01, iv_10, the, lastA, lpA, st_eq, st_ne, sh_addM, cV_cl, cV_nd, cV_mo, cV_lt, gR_t0, aR_nd, gR_c0, gR_c1, gR_c2, gR_c3, gR_c4, gR_c5, gR_c6, gR_c15, gR_c16, gI_c7, pI_c7, gI_c8, pI_c8, gI_c9, pI_c9, gI_c10, pI_c10, gI_c11, pI_c11, gI_c12, pI_c12, gI_c13, pI_c13, gI_c14, pI_c14, gN_9, gN_10, gN_11, gN_12, gN_13, gN_14, gN_15, gN_16, gN_17, gN_18, gN_19, gN_20, gN_21, gN_22, gN_23, pN_9, pN_10, pN_11, pN_12, pN_13, pN_14, pN_15, pN_16, pN_17, pN_18, pN_19, pN_20, pN_21, pN_22, pZ_0, pZ_1, gR_n0, aI_n0, sI_n0, gR_n1, aI_n1, sI_n1, gR_n2, aI_n2, sI_n2, gR_n3, aI_n3, sI_n3, gR_n4, aI_n4, sI_n4, gR_n5, aI_n5, sI_n5, gR_n6, aI_n6, sI_n6, gR_n7, aI_n7, sI_n7, gR_n8, aI_n8, sI_n8, aR_s, aI_s, sI_s, aR_h, aI_h, sI_h, aR_r, aI_r, sI_r, aI_c, sI_c, aI_l, sI_l, aI_ca, aI_ha, sI_ca, sI_ha, gI_mo, pI_mo, o4, o9, g1, o99]
    rw [if_pos (by omega)]
  | j + 1, k, f + 1, e1, e2, e3 => by
    have ih := t_comp_46 hL n0 n1 h0 h1 h8 h4 h9 j (k + 1) f (by omega) (by omega) (by omega)
    have o : kqG h n k (244 * n + (15 + k)) = h (244 * n + (15 + k)) := by
      unfold kqG
      rw [if_neg (by omega)]
    have s := kqSt (h := h) (n := n) e2 (by omega)
    show sX4_compacts_46b (sX4_compacts_46 f) _ _ _ = _
    generalize sX4_compacts_46 f = K at ih ⊢
    simp (disch := first | assumption | omega) only [sX4_compacts_46b, z10, z00, if_true, if_false, iv_add, iv_sub, iv_mul, iv_le, iv_lt, iv_eq, iv_mx, iv_mn, bI_z, bI_o, rZ0, rZ1, rZb, cl_some', lt_eq, rm_eq, dv_eq, iv_01, iv_10, the, lastA, lpA, st_eq, st_ne, sh_addM, cV_cl, cV_nd, cV_mo, cV_lt, gR_t0, aR_nd, gR_c0, gR_c1, gR_c2, gR_c3, gR_c4, gR_c5, gR_c6, gR_c15, gR_c16, gI_c7, pI_c7, gI_c8, pI_c8, gI_c9, pI_c9, gI_c10, pI_c10, gI_c11, pI_c11, gI_c12, pI_c12, gI_c13, pI_c13, gI_c14, pI_c14, gN_9, gN_10, gN_11, gN_12, gN_13, gN_14, gN_15, gN_16, gN_17, gN_18, gN_19, gN_20, gN_21, gN_22, gN_23, pN_9, pN_10, pN_11, pN_12, pN_13, pN_14, pN_15, pN_16, pN_17, pN_18, pN_19, pN_20, pN_21, pN_22, pZ_0, pZ_1, gR_n0, aI_n0, sI_n0, gR_n1, aI_n1, sI_n1, gR_n2, aI_n2, sI_n2, gR_n3, aI_n3, sI_n3, gR_n4, aI_n4, sI_n4, gR_n5, aI_n5, sI_n5, gR_n6, aI_n6, sI_n6, gR_n7, aI_n7, sI_n7, gR_n8, aI_n8, sI_n8, aR_s, aI_s, sI_s, aR_h, aI_h, sI_h, aR_r, aI_r, sI_r, aI_c, sI_c, aI_l, sI_l, aI_ca, aI_ha, sI_ca, sI_ha, gI_mo, pI_mo, o]
    rw [if_neg (by omega), s]
    exact ih
theorem t_compacts (hL : LyC B M) {n : Int} (hg : LgA h n) : sX4_compacts (some (ndA B n)) (tl B h C Hd Mo M) = some ((), tl B (compG h n) C Hd Mo M) := by
  have hb := hg.1
  have a := cfgA_le h n (h (244 * n + 9)) (by omega)
  have tr := termR hg (i := h (244 * n + 9)) (by omega) (by omega)
  have e1 := t_configAt (C := C) (Hd := Hd) (Mo := Mo) hL hg (up := h (244 * n + 9)) (by omega) (by omega)
  have e2 := t_oldAt (C := C) (Hd := Hd) (Mo := Mo) hL hg (c := cfgA h n (h (244 * n + 9))) a.1 (by omega)
  have e3 := t_newAt (C := C) (Hd := Hd) (Mo := Mo) hL hg (c := cfgA h n (h (244 * n + 9))) a.1 (by omega)
  have e4 := t_termAt (C := C) (Hd := Hd) (Mo := Mo) hL hg (i := h (244 * n + 9)) (by omega) (by omega)
  obtain ⟨o, ho⟩ : ∃ o, (if cfgA h n (h (244 * n + 9)) = h (244 * n + 4) then h (244 * n + 6) else h (lpA h n (cfgA h n (h (244 * n + 9))) + 2)) = o := ⟨_, rfl⟩
  obtain ⟨w, hw⟩ : ∃ w, (if cfgA h n (h (244 * n + 9)) = h (244 * n + 4) then h (244 * n + 7) else h (lpA h n (cfgA h n (h (244 * n + 9))) + 3)) = w := ⟨_, rfl⟩
  rw [ho] at e2
  rw [hw] at e3
  obtain ⟨h1, hh1⟩ : ∃ h1, st (st (st h (244 * n + 5) (termA h n (h (244 * n + 9)))) (244 * n + 6) o) (244 * n + 7) w = h1 := ⟨_, rfl⟩
  have q : ∀ x, (x < 244 * n + 5 ∨ 244 * n + 8 ≤ x) → h1 x = h x := by
    intro x hx
    rw [← hh1, st_ne (by omega), st_ne (by omega), st_ne (by omega)]
  have q4 := q (244 * n + 4) (by omega)
  have q8 := q (244 * n + 8) (by omega)
  have q9 := q (244 * n + 9) (by omega)
  have e5 := t_comp_46 (h := h1) (C := C) (Hd := Hd) (Mo := Mo) hL (n := n) (by omega) (by omega) (by omega) (by omega) (by omega) (by omega) (by omega) 8 0 FU (by omega) (by omega) (by unfold FU; omega)
  have k0 : kqG h1 n 0 = h1 := by
    funext x
    unfold kqG
    rw [if_neg (by omega)]
  rw [k0, q4, q9] at e5
  have fin : st (goG (kqG h1 n 8) n (h (244 * n + 9) - h (244 * n + 4))) (244 * n + 4) (h (244 * n + 9)) = compG h n := by
    funext x
    have cC : ∀ y, ¬ y = 244 * n + 6 → ¬ y = 244 * n + 7 → compC h n y = h y := fun y a b => compC_ne a b
    have c6 : compC h n (244 * n + 6) = o := by
      rw [← ho]
      unfold compC
      simp only [the, lpA]
      split
      · rfl
      · rw [st_ne (by omega), st_eq]
    have c7 : compC h n (244 * n + 7) = w := by
      rw [← hw]
      unfold compC
      simp only [the, lpA]
      split
      · rfl
      · rw [st_eq]
    by_cases c1 : 244 * n + 23 ≤ x ∧ x < 244 * n + 31
    · rw [compG_snap c1.1 c1.2, st_ne (by omega)]
      unfold goG
      rw [st_ne (by omega)]
      unfold gmG
      rw [if_neg (by omega)]
      unfold kqG
      rw [if_pos (by omega), q _ (by omega)]
    · have kq : ∀ y, ¬ (244 * n + 23 ≤ y ∧ y < 244 * n + 31) → kqG h1 n 8 y = h1 y := by
        intro y hy
        unfold kqG
        rw [if_neg (by omega)]
      by_cases c4 : x = 244 * n + 4
      · rw [c4, st_eq, compG_4]
      · rw [st_ne c4]
        unfold goG
        by_cases c8 : x = 244 * n + 8
        · rw [c8, st_eq, compG_8, kq _ (by omega), q8]
          omega
        · rw [st_ne c8]
          unfold gmG
          rw [kq (244 * n + 8) (by omega), q8]
          by_cases cl : 244 * n + 52 ≤ x ∧ x < 244 * n + 52 + 4 * (h (244 * n + 8) - (h (244 * n + 9) - h (244 * n + 4)))
          · rw [if_pos cl, kq _ (by omega), q _ (by omega), compG_log (by omega) cl.1 (by omega)]
          · rw [if_neg cl, kq _ c1]
            by_cases c5 : x = 244 * n + 5
            · rw [c5, compG_5, ← hh1, st_ne (by omega), st_ne (by omega), st_eq]
            · by_cases d6 : x = 244 * n + 6
              · rw [d6, compG_6, ← hh1, st_ne (by omega), st_eq, ← ho]
              · by_cases d7 : x = 244 * n + 7
                · rw [d7, compG_7, ← hh1, st_eq, ← hw]
                · rw [q _ (by omega), compG_ne (by omega) (by omega) (by omega)]
  rw [fin] at e5
  simp (disch := first | assumption | omega) only [sX4_compacts, z10, z00, if_true, if_false, iv_add, iv_sub, iv_mul, iv_le, iv_lt, iv_eq, iv_mx, iv_mn, bI_z, bI_o, rZ0, rZ1, rZb, cl_some', lt_eq, rm_eq, dv_eq, iv_01, iv_10, the, lastA, lpA, st_eq, st_ne, sh_addM, cV_cl, cV_nd, cV_mo, cV_lt, gR_t0, aR_nd, gR_c0, gR_c1, gR_c2, gR_c3, gR_c4, gR_c5, gR_c6, gR_c15, gR_c16, gI_c7, pI_c7, gI_c8, pI_c8, gI_c9, pI_c9, gI_c10, pI_c10, gI_c11, pI_c11, gI_c12, pI_c12, gI_c13, pI_c13, gI_c14, pI_c14, gN_9, gN_10, gN_11, gN_12, gN_13, gN_14, gN_15, gN_16, gN_17, gN_18, gN_19, gN_20, gN_21, gN_22, gN_23, pN_9, pN_10, pN_11, pN_12, pN_13, pN_14, pN_15, pN_16, pN_17, pN_18, pN_19, pN_20, pN_21, pN_22, pZ_0, pZ_1, gR_n0, aI_n0, sI_n0, gR_n1, aI_n1, sI_n1, gR_n2, aI_n2, sI_n2, gR_n3, aI_n3, sI_n3, gR_n4, aI_n4, sI_n4, gR_n5, aI_n5, sI_n5, gR_n6, aI_n6, sI_n6, gR_n7, aI_n7, sI_n7, gR_n8, aI_n8, sI_n8, aR_s, aI_s, sI_s, aR_h, aI_h, sI_h, aR_r, aI_r, sI_r, aI_c, sI_c, aI_l, sI_l, aI_ca, aI_ha, sI_ca, sI_ha, gI_mo, pI_mo, e1, e2, e3, e4, hh1, e5]
theorem t_lays_24 (hL : LyC B M) {n t k a b : Int} (hg : LgA h n) : sX4_lays_24 (some (ndA B n)) (iI t) (iI k) (iI a) (iI b) (tl B h C Hd Mo M) = some (bI (¬ the h n 8 = 48 ∧ ¬ lastA h n = 999), tl B (if ¬ the h n 8 = 48 ∧ ¬ lastA h n = 999 then lay0 h n t k a b else h) C Hd Mo M) := by
  have hb := hg.1
  simp only [the, lastA]
  by_cases c1 : h (244 * n + 8) = 48
  · simp (disch := first | assumption | omega) only [sX4_lays_24, z10, z00, if_true, if_false, iv_add, iv_sub, iv_mul, iv_le, iv_lt, iv_eq, iv_mx, iv_mn, bI_z, bI_o, rZ0, rZ1, rZb, cl_some', lt_eq, rm_eq, dv_eq, iv_01, iv_10, the, lastA, lpA, st_eq, st_ne, sh_addM, cV_cl, cV_nd, cV_mo, cV_lt, gR_t0, aR_nd, gR_c0, gR_c1, gR_c2, gR_c3, gR_c4, gR_c5, gR_c6, gR_c15, gR_c16, gI_c7, pI_c7, gI_c8, pI_c8, gI_c9, pI_c9, gI_c10, pI_c10, gI_c11, pI_c11, gI_c12, pI_c12, gI_c13, pI_c13, gI_c14, pI_c14, gN_9, gN_10, gN_11, gN_12, gN_13, gN_14, gN_15, gN_16, gN_17, gN_18, gN_19, gN_20, gN_21, gN_22, gN_23, pN_9, pN_10, pN_11, pN_12, pN_13, pN_14, pN_15, pN_16, pN_17, pN_18, pN_19, pN_20, pN_21, pN_22, pZ_0, pZ_1, gR_n0, aI_n0, sI_n0, gR_n1, aI_n1, sI_n1, gR_n2, aI_n2, sI_n2, gR_n3, aI_n3, sI_n3, gR_n4, aI_n4, sI_n4, gR_n5, aI_n5, sI_n5, gR_n6, aI_n6, sI_n6, gR_n7, aI_n7, sI_n7, gR_n8, aI_n8, sI_n8, aR_s, aI_s, sI_s, aR_h, aI_h, sI_h, aR_r, aI_r, sI_r, aI_c, sI_c, aI_l, sI_l, aI_ca, aI_ha, sI_ca, sI_ha, gI_mo, pI_mo]
    rw [if_pos c1, if_neg (by omega), bI_f (by omega)]
  · by_cases c2 : h (244 * n + 4) + h (244 * n + 8) = 999
    · simp (disch := first | assumption | omega) only [sX4_lays_24, t_last, z10, z00, if_true, if_false, iv_add, iv_sub, iv_mul, iv_le, iv_lt, iv_eq, iv_mx, iv_mn, bI_z, bI_o, rZ0, rZ1, rZb, cl_some', lt_eq, rm_eq, dv_eq, iv_01, iv_10, the, lastA, lpA, st_eq, st_ne, sh_addM, cV_cl, cV_nd, cV_mo, cV_lt, gR_t0, aR_nd, gR_c0, gR_c1, gR_c2, gR_c3, gR_c4, gR_c5, gR_c6, gR_c15, gR_c16, gI_c7, pI_c7, gI_c8, pI_c8, gI_c9, pI_c9, gI_c10, pI_c10, gI_c11, pI_c11, gI_c12, pI_c12, gI_c13, pI_c13, gI_c14, pI_c14, gN_9, gN_10, gN_11, gN_12, gN_13, gN_14, gN_15, gN_16, gN_17, gN_18, gN_19, gN_20, gN_21, gN_22, gN_23, pN_9, pN_10, pN_11, pN_12, pN_13, pN_14, pN_15, pN_16, pN_17, pN_18, pN_19, pN_20, pN_21, pN_22, pZ_0, pZ_1, gR_n0, aI_n0, sI_n0, gR_n1, aI_n1, sI_n1, gR_n2, aI_n2, sI_n2, gR_n3, aI_n3, sI_n3, gR_n4, aI_n4, sI_n4, gR_n5, aI_n5, sI_n5, gR_n6, aI_n6, sI_n6, gR_n7, aI_n7, sI_n7, gR_n8, aI_n8, sI_n8, aR_s, aI_s, sI_s, aR_h, aI_h, sI_h, aR_r, aI_r, sI_r, aI_c, sI_c, aI_l, sI_l, aI_ca, aI_ha, sI_ca, sI_ha, gI_mo, pI_mo]
      rw [if_neg c1, if_pos c2, if_neg (by omega), bI_f (by omega)]
    · simp (disch := first | assumption | omega) only [sX4_lays_24, t_last, z10, z00, if_true, if_false, iv_add, iv_sub, iv_mul, iv_le, iv_lt, iv_eq, iv_mx, iv_mn, bI_z, bI_o, rZ0, rZ1, rZb, cl_some', lt_eq, rm_eq, dv_eq, iv_01, iv_10, the, lastA, lpA, st_eq, st_ne, sh_addM, cV_cl, cV_nd, cV_mo, cV_lt, gR_t0, aR_nd, gR_c0, gR_c1, gR_c2, gR_c3, gR_c4, gR_c5, gR_c6, gR_c15, gR_c16, gI_c7, pI_c7, gI_c8, pI_c8, gI_c9, pI_c9, gI_c10, pI_c10, gI_c11, pI_c11, gI_c12, pI_c12, gI_c13, pI_c13, gI_c14, pI_c14, gN_9, gN_10, gN_11, gN_12, gN_13, gN_14, gN_15, gN_16, gN_17, gN_18, gN_19, gN_20, gN_21, gN_22, gN_23, pN_9, pN_10, pN_11, pN_12, pN_13, pN_14, pN_15, pN_16, pN_17, pN_18, pN_19, pN_20, pN_21, pN_22, pZ_0, pZ_1, gR_n0, aI_n0, sI_n0, gR_n1, aI_n1, sI_n1, gR_n2, aI_n2, sI_n2, gR_n3, aI_n3, sI_n3, gR_n4, aI_n4, sI_n4, gR_n5, aI_n5, sI_n5, gR_n6, aI_n6, sI_n6, gR_n7, aI_n7, sI_n7, gR_n8, aI_n8, sI_n8, aR_s, aI_s, sI_s, aR_h, aI_h, sI_h, aR_r, aI_r, sI_r, aI_c, sI_c, aI_l, sI_l, aI_ca, aI_ha, sI_ca, sI_ha, gI_mo, pI_mo]
      rw [if_neg c1, if_neg c2, if_pos ⟨c1, c2⟩, bI_t ⟨c1, c2⟩]
      congr 3
      funext x
      unfold st lay0
      simp only [the]
      by_cases d0 : x = 244 * n + 8
      · rw [if_pos d0, if_pos d0]
      · rw [if_neg d0, if_neg d0]
        by_cases d1 : x = 244 * n + 52 + 4 * h (244 * n + 8) + 3
        · rw [if_pos d1, if_neg (by omega), if_neg (by omega), if_neg (by omega), if_pos (by omega)]
        · rw [if_neg d1]
          by_cases d2 : x = 244 * n + 52 + 4 * h (244 * n + 8) + 2
          · rw [if_pos d2, if_neg (by omega), if_neg (by omega), if_pos (by omega)]
          · rw [if_neg d2]
            by_cases d3 : x = 244 * n + 52 + 4 * h (244 * n + 8) + 1
            · rw [if_pos d3, if_neg (by omega), if_pos (by omega)]
            · rw [if_neg d3]
              by_cases d4 : x = 244 * n + 52 + 4 * h (244 * n + 8)
              · rw [if_pos d4, if_pos (by omega)]
              · rw [if_neg d4, if_neg (by omega), if_neg (by omega), if_neg (by omega), if_neg (by omega)]
theorem tn_lays (hL : LyC B M) {n t k a b : Int} (hg : LgA h n) (kb : h (244 * n + 9) = h (244 * n + 4) → KbA h n) : sX4_lays (some (ndA B n)) (iI t) (iI k) (iI a) (iI b) (tl B h C Hd Mo M) = some (bI (layOk h n), tl B (layG h n t k a b) C Hd Mo M) := by
  have hb := hg.1
  unfold layG layOk
  by_cases c1 : h (244 * n + 8) = 48
  · have e : lay1 h n = compG h n := if_pos c1
    rw [e]
    by_cases c2 : h (244 * n + 9) ≤ h (244 * n + 4)
    · have ei := compG_id hg (by omega) (kb (by omega))
      rw [ei]
      have e2 := t_lays_24 (C := C) (Hd := Hd) (Mo := Mo) (t := t) (k := k) (a := a) (b := b) hL hg
      simp (disch := first | assumption | omega) only [sX4_lays, z10, z00, if_true, if_false, iv_add, iv_sub, iv_mul, iv_le, iv_lt, iv_eq, iv_mx, iv_mn, bI_z, bI_o, rZ0, rZ1, rZb, cl_some', lt_eq, rm_eq, dv_eq, iv_01, iv_10, the, lastA, lpA, st_eq, st_ne, sh_addM, cV_cl, cV_nd, cV_mo, cV_lt, gR_t0, aR_nd, gR_c0, gR_c1, gR_c2, gR_c3, gR_c4, gR_c5, gR_c6, gR_c15, gR_c16, gI_c7, pI_c7, gI_c8, pI_c8, gI_c9, pI_c9, gI_c10, pI_c10, gI_c11, pI_c11, gI_c12, pI_c12, gI_c13, pI_c13, gI_c14, pI_c14, gN_9, gN_10, gN_11, gN_12, gN_13, gN_14, gN_15, gN_16, gN_17, gN_18, gN_19, gN_20, gN_21, gN_22, gN_23, pN_9, pN_10, pN_11, pN_12, pN_13, pN_14, pN_15, pN_16, pN_17, pN_18, pN_19, pN_20, pN_21, pN_22, pZ_0, pZ_1, gR_n0, aI_n0, sI_n0, gR_n1, aI_n1, sI_n1, gR_n2, aI_n2, sI_n2, gR_n3, aI_n3, sI_n3, gR_n4, aI_n4, sI_n4, gR_n5, aI_n5, sI_n5, gR_n6, aI_n6, sI_n6, gR_n7, aI_n7, sI_n7, gR_n8, aI_n8, sI_n8, aR_s, aI_s, sI_s, aR_h, aI_h, sI_h, aR_r, aI_r, sI_r, aI_c, sI_c, aI_l, sI_l, aI_ca, aI_ha, sI_ca, sI_ha, gI_mo, pI_mo, e2]
      rw [if_pos c1, if_pos c2]
    · have e1 := t_compacts (C := C) (Hd := Hd) (Mo := Mo) hL hg
      have e2 := t_lays_24 (C := C) (Hd := Hd) (Mo := Mo) (t := t) (k := k) (a := a) (b := b) hL (compG_Lg hg)
      simp (disch := first | assumption | omega) only [sX4_lays, z10, z00, if_true, if_false, iv_add, iv_sub, iv_mul, iv_le, iv_lt, iv_eq, iv_mx, iv_mn, bI_z, bI_o, rZ0, rZ1, rZb, cl_some', lt_eq, rm_eq, dv_eq, iv_01, iv_10, the, lastA, lpA, st_eq, st_ne, sh_addM, cV_cl, cV_nd, cV_mo, cV_lt, gR_t0, aR_nd, gR_c0, gR_c1, gR_c2, gR_c3, gR_c4, gR_c5, gR_c6, gR_c15, gR_c16, gI_c7, pI_c7, gI_c8, pI_c8, gI_c9, pI_c9, gI_c10, pI_c10, gI_c11, pI_c11, gI_c12, pI_c12, gI_c13, pI_c13, gI_c14, pI_c14, gN_9, gN_10, gN_11, gN_12, gN_13, gN_14, gN_15, gN_16, gN_17, gN_18, gN_19, gN_20, gN_21, gN_22, gN_23, pN_9, pN_10, pN_11, pN_12, pN_13, pN_14, pN_15, pN_16, pN_17, pN_18, pN_19, pN_20, pN_21, pN_22, pZ_0, pZ_1, gR_n0, aI_n0, sI_n0, gR_n1, aI_n1, sI_n1, gR_n2, aI_n2, sI_n2, gR_n3, aI_n3, sI_n3, gR_n4, aI_n4, sI_n4, gR_n5, aI_n5, sI_n5, gR_n6, aI_n6, sI_n6, gR_n7, aI_n7, sI_n7, gR_n8, aI_n8, sI_n8, aR_s, aI_s, sI_s, aR_h, aI_h, sI_h, aR_r, aI_r, sI_r, aI_c, sI_c, aI_l, sI_l, aI_ca, aI_ha, sI_ca, sI_ha, gI_mo, pI_mo, e1, e2]
      rw [if_pos c1, if_neg c2]
  · have e : lay1 h n = h := if_neg c1
    rw [e]
    have e2 := t_lays_24 (C := C) (Hd := Hd) (Mo := Mo) (t := t) (k := k) (a := a) (b := b) hL hg
    simp (disch := first | assumption | omega) only [sX4_lays, z10, z00, if_true, if_false, iv_add, iv_sub, iv_mul, iv_le, iv_lt, iv_eq, iv_mx, iv_mn, bI_z, bI_o, rZ0, rZ1, rZb, cl_some', lt_eq, rm_eq, dv_eq, iv_01, iv_10, the, lastA, lpA, st_eq, st_ne, sh_addM, cV_cl, cV_nd, cV_mo, cV_lt, gR_t0, aR_nd, gR_c0, gR_c1, gR_c2, gR_c3, gR_c4, gR_c5, gR_c6, gR_c15, gR_c16, gI_c7, pI_c7, gI_c8, pI_c8, gI_c9, pI_c9, gI_c10, pI_c10, gI_c11, pI_c11, gI_c12, pI_c12, gI_c13, pI_c13, gI_c14, pI_c14, gN_9, gN_10, gN_11, gN_12, gN_13, gN_14, gN_15, gN_16, gN_17, gN_18, gN_19, gN_20, gN_21, gN_22, gN_23, pN_9, pN_10, pN_11, pN_12, pN_13, pN_14, pN_15, pN_16, pN_17, pN_18, pN_19, pN_20, pN_21, pN_22, pZ_0, pZ_1, gR_n0, aI_n0, sI_n0, gR_n1, aI_n1, sI_n1, gR_n2, aI_n2, sI_n2, gR_n3, aI_n3, sI_n3, gR_n4, aI_n4, sI_n4, gR_n5, aI_n5, sI_n5, gR_n6, aI_n6, sI_n6, gR_n7, aI_n7, sI_n7, gR_n8, aI_n8, sI_n8, aR_s, aI_s, sI_s, aR_h, aI_h, sI_h, aR_r, aI_r, sI_r, aI_c, sI_c, aI_l, sI_l, aI_ca, aI_ha, sI_ca, sI_ha, gI_mo, pI_mo, e2]
    rw [if_neg c1]
end
/-! a row of TermLog and a row of the twin -/
/-- a node -/
def RelN (h g : Row) (n : Int) : Prop :=
  (∀ w, 0 ≤ w → w < 11 → h (244 * n + w) = g (244 * n + w)) ∧
  (∀ w, 12 ≤ w → w < 31 → h (244 * n + w) = g (244 * n + w)) ∧
  (g (244 * n + 0) = 1 → h (244 * n + 11) = g (244 * n + 11)) ∧
  (∀ x, 244 * n + 52 ≤ x → x < 244 * n + 52 + 4 * g (244 * n + 8) → h x = g x) ∧
  (g (244 * n + 3) = 2 → ∀ w, 31 ≤ w → w < 52 → h (244 * n + w) = g (244 * n + w))
theorem RelN.s {h g : Row} {n : Int} (self : RelN h g n) : ∀ w, 0 ≤ w → w < 11 → h (244 * n + w) = g (244 * n + w) := self.1
theorem RelN.t {h g : Row} {n : Int} (self : RelN h g n) : ∀ w, 12 ≤ w → w < 31 → h (244 * n + w) = g (244 * n + w) := self.2.1
theorem RelN.k {h g : Row} {n : Int} (self : RelN h g n) : g (244 * n + 0) = 1 → h (244 * n + 11) = g (244 * n + 11) := self.2.2.1
theorem RelN.e {h g : Row} {n : Int} (self : RelN h g n) : ∀ x, 244 * n + 52 ≤ x → x < 244 * n + 52 + 4 * g (244 * n + 8) → h x = g x := self.2.2.2.1
theorem RelN.l {h g : Row} {n : Int} (self : RelN h g n) : g (244 * n + 3) = 2 → ∀ w, 31 ≤ w → w < 52 → h (244 * n + w) = g (244 * n + w) := self.2.2.2.2
/-- a message: TermLog's fields and the twin's words -/
def MR (c m : Row) : Prop :=
  (c 0 = m 0 ∧ c 1 = m 1 ∧ c 2 = m 2 ∧ c 3 = m 3 ∧ c 9 = m 5 ∧ c 5 = m 6) ∧
  (m 2 = 0 ∨ m 2 = 2 ∨ m 2 = 3 ∨ m 2 = 4 → c 6 = m 7) ∧
  (m 2 = 2 → c 7 = m 8 ∧ c 8 = m 10 ∧ ∀ x, 0 ≤ x → x < 16 → x < 4 * m 5 → c (10 + x) = m (11 + x)) ∧
  (m 2 = 3 ∨ m 2 = 4 → c 7 = m 10) ∧
  (m 2 = 4 → c 10 = m 8 ∧ c 11 = m 9 ∧ ∀ k, 0 ≤ k → k < 8 → c (12 + k) = m (11 + k)) ∧
  (m 2 = 5 → c 6 = m 10)
theorem MR.s {c m : Row} (self : MR c m) : c 0 = m 0 ∧ c 1 = m 1 ∧ c 2 = m 2 ∧ c 3 = m 3 ∧ c 9 = m 5 ∧ c 5 = m 6 := self.1
theorem MR.k0 {c m : Row} (self : MR c m) : m 2 = 0 ∨ m 2 = 2 ∨ m 2 = 3 ∨ m 2 = 4 → c 6 = m 7 := self.2.1
theorem MR.k2 {c m : Row} (self : MR c m) : m 2 = 2 → c 7 = m 8 ∧ c 8 = m 10 ∧ ∀ x, 0 ≤ x → x < 16 → x < 4 * m 5 → c (10 + x) = m (11 + x) := self.2.2.1
theorem MR.k3 {c m : Row} (self : MR c m) : m 2 = 3 ∨ m 2 = 4 → c 7 = m 10 := self.2.2.2.1
theorem MR.k4 {c m : Row} (self : MR c m) : m 2 = 4 → c 10 = m 8 ∧ c 11 = m 9 ∧ ∀ k, 0 ≤ k → k < 8 → c (12 + k) = m (11 + k) := self.2.2.2.2.1
theorem MR.k5 {c m : Row} (self : MR c m) : m 2 = 5 → c 6 = m 10 := self.2.2.2.2.2
abbrev smg (h : Row) (i : Int) : Row := fun f => h (100000 + 32 * i + f)
def Rel (h g : Row) : Prop :=
  (∀ n, 0 ≤ n → n < 7 → RelN h g n) ∧
  (∀ i, 1 ≤ i → i ≤ g 11134 → ∀ w, 0 ≤ w → w < 4 → h (6028 + 4 * i + w) = g (6028 + 4 * i + w)) ∧
  (∀ x, 10028 ≤ x → x < 11028 → h x = g x) ∧
  (∀ r, 0 ≤ r → r < g 11135 → (∀ w, 0 ≤ w → w < 5 → h (11028 + 6 * r + w) = g (11028 + 6 * r + w)) ∧ (g (11028 + 6 * r + 4) = 1 → h (11028 + 6 * r + 5) = g (11028 + 6 * r + 5)) ∧ (g (11028 + 6 * r + 4) ≠ 1 → h (11028 + 6 * r + 5) = -2)) ∧
  (∀ x, 11124 ≤ x → x < 11131 → h x = g x) ∧
  (∀ x, 11131 ≤ x → x ≤ 11138 → h x = g x) ∧
  (∀ i, 0 ≤ i → i < g 11133 → MR (smg h i) (msg g i) ∧ smg h i 4 = msg g i 4)
theorem Rel.nd {h g : Row} (self : Rel h g) : ∀ n, 0 ≤ n → n < 7 → RelN h g n := self.1
theorem Rel.hl {h g : Row} (self : Rel h g) : ∀ i, 1 ≤ i → i ≤ g 11134 → ∀ w, 0 ≤ w → w < 4 → h (6028 + 4 * i + w) = g (6028 + 4 * i + w) := self.2.1
theorem Rel.ld {h g : Row} (self : Rel h g) : ∀ x, 10028 ≤ x → x < 11028 → h x = g x := self.2.2.1
theorem Rel.rd {h g : Row} (self : Rel h g) : ∀ r, 0 ≤ r → r < g 11135 → (∀ w, 0 ≤ w → w < 5 → h (11028 + 6 * r + w) = g (11028 + 6 * r + w)) ∧ (g (11028 + 6 * r + 4) = 1 → h (11028 + 6 * r + 5) = g (11028 + 6 * r + 5)) ∧ (g (11028 + 6 * r + 4) ≠ 1 → h (11028 + 6 * r + 5) = -2) := self.2.2.2.1
theorem Rel.ct {h g : Row} (self : Rel h g) : ∀ x, 11124 ≤ x → x < 11131 → h x = g x := self.2.2.2.2.1
theorem Rel.gl {h g : Row} (self : Rel h g) : ∀ x, 11131 ≤ x → x ≤ 11138 → h x = g x := self.2.2.2.2.2.1
theorem Rel.ml {h g : Row} (self : Rel h g) : ∀ i, 0 ≤ i → i < g 11133 → MR (smg h i) (msg g i) ∧ smg h i 4 = msg g i 4 := self.2.2.2.2.2.2
section
variable {h g : Row} {n : Int}
theorem RelN.lg (r : RelN h g n) (hg : LgA g n) : LgA h n := by
  obtain ⟨⟨_, _, _, _, _, _, _, _, _, _, _, _, _, _⟩, hE⟩ := hg
  have s := r.s
  unfold LgA
  rw [s 4 (by omega) (by omega), s 5 (by omega) (by omega), s 6 (by omega) (by omega), s 7 (by omega) (by omega), s 8 (by omega) (by omega), s 9 (by omega) (by omega)]
  refine ⟨by omega, fun i i0 i1 => ?_⟩
  have := hE i i0 i1
  unfold EntA at this ⊢
  rw [r.e _ (by omega) (by omega), r.e _ (by omega) (by omega), r.e _ (by omega) (by omega), r.e _ (by omega) (by omega)]
  exact this
theorem RelN.term (r : RelN h g n) (hg : LgA g n) {i : Int} (h0 : g (244 * n + 4) ≤ i) (h1 : i ≤ g (244 * n + 4) + g (244 * n + 8)) : termA h n i = termA g n i := by
  unfold termA
  simp only [the, lpA]
  rw [r.s 4 (by omega) (by omega), r.s 5 (by omega) (by omega)]
  split
  · rfl
  · exact r.e _ (by omega) (by omega)
theorem RelN.cfg (r : RelN h g n) (hg : LgA g n) {up : Int} (h0 : g (244 * n + 4) ≤ up) (h1 : up ≤ g (244 * n + 4) + g (244 * n + 8)) : cfgA h n up = cfgA g n up := by
  unfold cfgA
  simp only [the]
  rw [r.s 4 (by omega) (by omega)]
  exact cfgF_ext (r.s 4 (by omega) (by omega)) _ _ (fun x x0 x1 => r.e x x0 (by omega))
theorem RelN.conf (r : RelN h g n) (hg : LgA g n) : oldA h n = oldA g n ∧ newA h n = newA g n ∧ cfgA h n (h (244 * n + 4) + h (244 * n + 8)) = cfgA g n (g (244 * n + 4) + g (244 * n + 8)) := by
  have hb := hg.1
  have c := r.cfg hg (up := g (244 * n + 4) + g (244 * n + 8)) (by omega) (Int.le_refl _)
  have a := cfgA_le g n (g (244 * n + 4) + g (244 * n + 8)) (by omega)
  have s := r.s
  rw [oldA_raw, oldA_raw, newA_raw, newA_raw, s 4 (by omega) (by omega), s 8 (by omega) (by omega), c, s 6 (by omega) (by omega), s 7 (by omega) (by omega)]
  refine ⟨?_, ?_, rfl⟩
  · split
    · rfl
    · exact r.e _ (by omega) (by omega)
  · split
    · rfl
    · exact r.e _ (by omega) (by omega)
theorem RelN.memb (r : RelN h g n) (hg : LgA g n) : membA h n = membA g n := by
  unfold membA
  rw [(r.conf hg).1, (r.conf hg).2.1]
theorem RelN.most (r : RelN h g n) (hg : LgA g n) {s : Int} : mostA h n s ↔ mostA g n s := by
  unfold mostA
  rw [(r.conf hg).1, (r.conf hg).2.1]
theorem RelN.held (r : RelN h g n) (hg : LgA g n) : cfgHeld h n ↔ cfgHeld g n := by
  unfold cfgHeld
  simp only [the, lastA]
  rw [(r.conf hg).2.2, r.s 9 (by omega) (by omega)]
theorem RelN.first (r : RelN h g n) (hg : LgA g n) {i : Int} (h0 : g (244 * n + 4) ≤ i) (h1 : i ≤ g (244 * n + 4) + g (244 * n + 8)) : firstA h n i = firstA g n i := by
  have key : ∀ (j : Nat) (k : Int), k ≤ i → firstF h n i j k = firstF g n i j k := by
    intro j
    induction j with
    | zero => intro k _; rfl
    | succ j ih =>
      intro k hk
      unfold firstF
      simp only [the]
      have e4 := r.s 4 (by omega) (by omega)
      have ei := r.term hg h0 h1
      by_cases c : g (244 * n + 4) < k - 1 ∧ termA g n (k - 1) = termA g n i
      · have ek := r.term hg (i := k - 1) (by omega) (by omega)
        rw [if_pos c, if_pos ⟨by rw [e4]; exact c.1, by rw [ek, ei]; exact c.2⟩, ih (k - 1) (by omega)]
      · rw [if_neg c, if_neg]
        intro q
        rw [e4] at q
        have ek := r.term hg (i := k - 1) (by omega) (by omega)
        rw [ek, ei] at q
        exact c q
  unfold firstA
  simp only [the]
  rw [r.s 4 (by omega) (by omega), key _ _ (Int.le_refl _)]
theorem RelN.noless (r : RelN h g n) (hg : LgA g n) {l t : Int} : noLess h n l t ↔ noLess g n l t := by
  have hb := hg.1
  unfold noLess
  simp only [the, lastA]
  rw [r.s 4 (by omega) (by omega), r.s 8 (by omega) (by omega), r.term hg (by omega) (by omega)]
theorem RelN.ent {i : Int} (r : RelN h g n) : hasEnt h n i ↔ hasEnt g n i := by
  unfold hasEnt
  simp only [the, lastA]
  rw [r.s 4 (by omega) (by omega), r.s 8 (by omega) (by omega)]
/-- the node's block is kept on both sides -/
theorem RelN.keep {h' g' : Row} (r : RelN h g n) (hh : ∀ x, 244 * n ≤ x → x < 244 * n + 244 → h' x = h x) (hg : ∀ x, 244 * n ≤ x → x < 244 * n + 244 → g' x = g x) (hb : g (244 * n + 8) ≤ 48) : RelN h' g' n := by
  refine ⟨fun w a b => ?_, fun w a b => ?_, fun c => ?_, fun x a b => ?_, fun c w a b => ?_⟩
  · rw [hh _ (by omega) (by omega), hg _ (by omega) (by omega)]; exact r.s w a b
  · rw [hh _ (by omega) (by omega), hg _ (by omega) (by omega)]; exact r.t w a b
  · rw [hg _ (by omega) (by omega)] at c
    rw [hh _ (by omega) (by omega), hg _ (by omega) (by omega)]; exact r.k c
  · rw [hg (244 * n + 8) (by omega) (by omega)] at b
    rw [hh _ (by omega) (by omega), hg _ (by omega) (by omega)]; exact r.e x a b
  · rw [hg _ (by omega) (by omega)] at c
    rw [hh _ (by omega) (by omega), hg _ (by omega) (by omega)]; exact r.l c w a b
end
