/-! DEPS: vw -/
/-! VX: a cluster is founded on TermLog -/
/-- a node's places when it begins -/
def bvA (c w : Int) : Int := if w = 0 then 1 else if w = 2 then -1 else if w = 11 then -1 else if w = 6 then c else 0
section
variable {B : Nat} {h g C Hd Mo : Row} {M : Mem} {Λ : Law} {hs : His} {FL : Int → ELog} {R : Int} {D : DK}
def zkG (X : Row) (n k : Int) : Row := fun x => if 244 * n + 23 ≤ x ∧ x < 244 * n + 23 + k then 0 else X x
theorem t_begins_37 {X : Row} (hL : LyC B M) {n : Int} (n0 : 0 ≤ n) (n1 : n < 7) : ∀ (j : Nat) (k : Int) (f : Nat), 8 - k = j → 0 ≤ k → j < f →
    sX4_begins_37 f (some (ndA B n)) (iI k) (tl B (zkG X n k) C Hd Mo M) = some ((), tl B (upH (zkG X n 8) n) C Hd Mo M)
  | 0, k, f + 1, e1, e2, e3 => by
    have q : k = 8 := by omega
    subst q
    have x1 := t_comesUp (h := zkG X n 8) (C := C) (Hd := Hd) (Mo := Mo) hL n0 n1
    simp (disch := first | assumption | omega) only [sX4_begins_37, sX4_begins_37b, z10, z00, if_true, if_false, iv_add, iv_sub, iv_mul, iv_le, iv_lt, iv_eq, iv_mx, iv_mn, bI_z, bI_o, rZ0, rZ1, rZb, cl_some', lt_eq, rm_eq, dv_eq, iv_01, iv_10, the, lastA, lpA, st_eq, st_ne, sh_addM, cV_cl, cV_nd, cV_mo, cV_lt, gR_t0, aR_nd, gR_c0, gR_c1, gR_c2, gR_c3, gR_c4, gR_c5, gR_c6, gR_c15, gR_c16, gI_c7, pI_c7, gI_c8, pI_c8, gI_c9, pI_c9, gI_c10, pI_c10, gI_c11, pI_c11, gI_c12, pI_c12, gI_c13, pI_c13, gI_c14, pI_c14, gN_9, gN_10, gN_11, gN_12, gN_13, gN_14, gN_15, gN_16, gN_17, gN_18, gN_19, gN_20, gN_21, gN_22, gN_23, pN_9, pN_10, pN_11, pN_12, pN_13, pN_14, pN_15, pN_16, pN_17, pN_18, pN_19, pN_20, pN_21, pN_22, pZ_0, pZ_1, gR_n0, aI_n0, sI_n0, gR_n1, aI_n1, sI_n1, gR_n2, aI_n2, sI_n2, gR_n3, aI_n3, sI_n3, gR_n4, aI_n4, sI_n4, gR_n5, aI_n5, sI_n5, gR_n6, aI_n6, sI_n6, gR_n7, aI_n7, sI_n7, gR_n8, aI_n8, sI_n8, aR_s, aI_s, sI_s, aR_h, aI_h, sI_h, aR_r, aI_r, sI_r, aI_c, sI_c, aI_l, sI_l, aI_ca, aI_ha, sI_ca, sI_ha, gI_mo, pI_mo, x1]
    rw [if_pos (by omega)]
  | j + 1, k, f + 1, e1, e2, e3 => by
    have ih := t_begins_37 (X := X) hL n0 n1 j (k + 1) f (by omega) (by omega) (by omega)
    have s : st (zkG X n k) (244 * n + (23 + k)) 0 = zkG X n (k + 1) := by
      funext x
      unfold st zkG
      by_cases c1 : x = 244 * n + (23 + k)
      · rw [if_pos c1, if_pos (by omega)]
      · rw [if_neg c1]
        by_cases c2 : 244 * n + 23 ≤ x ∧ x < 244 * n + 23 + k
        · rw [if_pos c2, if_pos (by omega)]
        · rw [if_neg c2, if_neg (by omega)]
    show sX4_begins_37b (sX4_begins_37 f) _ _ _ = _
    generalize sX4_begins_37 f = K at ih ⊢
    simp (disch := first | assumption | omega) only [sX4_begins_37b, z10, z00, if_true, if_false, iv_add, iv_sub, iv_mul, iv_le, iv_lt, iv_eq, iv_mx, iv_mn, bI_z, bI_o, rZ0, rZ1, rZb, cl_some', lt_eq, rm_eq, dv_eq, iv_01, iv_10, the, lastA, lpA, st_eq, st_ne, sh_addM, cV_cl, cV_nd, cV_mo, cV_lt, gR_t0, aR_nd, gR_c0, gR_c1, gR_c2, gR_c3, gR_c4, gR_c5, gR_c6, gR_c15, gR_c16, gI_c7, pI_c7, gI_c8, pI_c8, gI_c9, pI_c9, gI_c10, pI_c10, gI_c11, pI_c11, gI_c12, pI_c12, gI_c13, pI_c13, gI_c14, pI_c14, gN_9, gN_10, gN_11, gN_12, gN_13, gN_14, gN_15, gN_16, gN_17, gN_18, gN_19, gN_20, gN_21, gN_22, gN_23, pN_9, pN_10, pN_11, pN_12, pN_13, pN_14, pN_15, pN_16, pN_17, pN_18, pN_19, pN_20, pN_21, pN_22, pZ_0, pZ_1, gR_n0, aI_n0, sI_n0, gR_n1, aI_n1, sI_n1, gR_n2, aI_n2, sI_n2, gR_n3, aI_n3, sI_n3, gR_n4, aI_n4, sI_n4, gR_n5, aI_n5, sI_n5, gR_n6, aI_n6, sI_n6, gR_n7, aI_n7, sI_n7, gR_n8, aI_n8, sI_n8, aR_s, aI_s, sI_s, aR_h, aI_h, sI_h, aR_r, aI_r, sI_r, aI_c, sI_c, aI_l, sI_l, aI_ca, aI_ha, sI_ca, sI_ha, gI_mo, pI_mo]
    rw [if_neg (by omega), s]
    exact ih
def bgH (h : Row) (n c : Int) : Row := upH (zkG (st (st (st (st (st (st (st h (244 * n + 1) 0) (244 * n + 2) (-1)) (244 * n + 4) 0) (244 * n + 5) 0) (244 * n + 6) c) (244 * n + 7) 0) (244 * n + 8) 0) n 8) n
theorem t_begins (hL : LyC B M) {n c : Int} (n0 : 0 ≤ n) (n1 : n < 7) : sX4_begins (some (ndA B n)) (iI c) (tl B h C Hd Mo M) = some ((), tl B (bgH h n c) C Hd Mo M) := by
  have x1 := t_begins_37 (X := st (st (st (st (st (st (st h (244 * n + 1) 0) (244 * n + 2) (-1)) (244 * n + 4) 0) (244 * n + 5) 0) (244 * n + 6) c) (244 * n + 7) 0) (244 * n + 8) 0) (C := C) (Hd := Hd) (Mo := Mo) hL n0 n1 8 0 FU (by omega) (by omega) (by unfold FU; omega)
  have e : ∀ X : Row, zkG X n 0 = X := by
    intro X
    funext x
    unfold zkG
    rw [if_neg (by omega)]
  rw [e] at x1
  simp (disch := first | assumption | omega) only [sX4_begins, z10, z00, if_true, if_false, iv_add, iv_sub, iv_mul, iv_le, iv_lt, iv_eq, iv_mx, iv_mn, bI_z, bI_o, rZ0, rZ1, rZb, cl_some', lt_eq, rm_eq, dv_eq, iv_01, iv_10, the, lastA, lpA, st_eq, st_ne, sh_addM, cV_cl, cV_nd, cV_mo, cV_lt, gR_t0, aR_nd, gR_c0, gR_c1, gR_c2, gR_c3, gR_c4, gR_c5, gR_c6, gR_c15, gR_c16, gI_c7, pI_c7, gI_c8, pI_c8, gI_c9, pI_c9, gI_c10, pI_c10, gI_c11, pI_c11, gI_c12, pI_c12, gI_c13, pI_c13, gI_c14, pI_c14, gN_9, gN_10, gN_11, gN_12, gN_13, gN_14, gN_15, gN_16, gN_17, gN_18, gN_19, gN_20, gN_21, gN_22, gN_23, pN_9, pN_10, pN_11, pN_12, pN_13, pN_14, pN_15, pN_16, pN_17, pN_18, pN_19, pN_20, pN_21, pN_22, pZ_0, pZ_1, gR_n0, aI_n0, sI_n0, gR_n1, aI_n1, sI_n1, gR_n2, aI_n2, sI_n2, gR_n3, aI_n3, sI_n3, gR_n4, aI_n4, sI_n4, gR_n5, aI_n5, sI_n5, gR_n6, aI_n6, sI_n6, gR_n7, aI_n7, sI_n7, gR_n8, aI_n8, sI_n8, aR_s, aI_s, sI_s, aR_h, aI_h, sI_h, aR_r, aI_r, sI_r, aI_c, sI_c, aI_l, sI_l, aI_ca, aI_ha, sI_ca, sI_ha, gI_mo, pI_mo]
  exact x1
theorem bg_o {n c x : Int} (a : x < 244 * n ∨ 244 * n + 31 ≤ x ∨ x = 244 * n + 10) : bgH h n c x = h x := by
  unfold bgH
  rw [upH_o (by omega)]
  unfold zkG
  rw [if_neg (by omega), st_ne (by omega), st_ne (by omega), st_ne (by omega), st_ne (by omega), st_ne (by omega), st_ne (by omega), st_ne (by omega)]
theorem bg_v {n c w : Int} (w0 : 0 ≤ w) (w1 : w < 31) (w10 : w ≠ 10) : bgH h n c (244 * n + w) = bvA c w := by
  have zo : ∀ X : Row, ∀ v, 0 ≤ v → v < 23 → zkG X n 8 (244 * n + v) = X (244 * n + v) := fun X v a b => if_neg (by omega)
  have zk : ∀ X : Row, ∀ v, 23 ≤ v → v < 31 → zkG X n 8 (244 * n + v) = 0 := fun X v a b => if_pos (by omega)
  unfold bgH
  obtain ⟨a0, a3, a9, a11, a12, a13, a14⟩ := upH_at (h := zkG (st (st (st (st (st (st (st h (244 * n + 1) 0) (244 * n + 2) (-1)) (244 * n + 4) 0) (244 * n + 5) 0) (244 * n + 6) c) (244 * n + 7) 0) (244 * n + 8) 0) n 8) (n := n)
  by_cases c1 : 15 ≤ w
  · have eb : bvA c w = 0 := by
      unfold bvA
      rw [if_neg (by omega), if_neg (by omega), if_neg (by omega), if_neg (by omega)]
    rw [eb]
    by_cases c2 : w < 23
    · rw [upH_k (by omega) (by omega), show 244 * n + w + 8 = 244 * n + (w + 8) by omega, zk _ _ (by omega) (by omega)]
    · rw [upH_o (by omega), zk _ _ (by omega) (by omega)]
  · rcases (show w = 0 ∨ w = 1 ∨ w = 2 ∨ w = 3 ∨ w = 4 ∨ w = 5 ∨ w = 6 ∨ w = 7 ∨ w = 8 ∨ w = 9 ∨ w = 11 ∨ w = 12 ∨ w = 13 ∨ w = 14 by omega) with e | e | e | e | e | e | e | e | e | e | e | e | e | e <;> subst e
    · exact a0
    · rw [upH_o (by omega), zo _ _ (by omega) (by omega)]; simp (disch := omega) only [st_eq, st_ne]; rfl
    · rw [upH_o (by omega), zo _ _ (by omega) (by omega)]; simp (disch := omega) only [st_eq, st_ne]; rfl
    · exact a3
    · rw [upH_o (by omega), zo _ _ (by omega) (by omega)]; simp (disch := omega) only [st_eq, st_ne]; rfl
    · rw [upH_o (by omega), zo _ _ (by omega) (by omega)]; simp (disch := omega) only [st_eq, st_ne]; rfl
    · rw [upH_o (by omega), zo _ _ (by omega) (by omega)]; simp (disch := omega) only [st_eq, st_ne]; rfl
    · rw [upH_o (by omega), zo _ _ (by omega) (by omega)]; simp (disch := omega) only [st_eq, st_ne]; rfl
    · rw [upH_o (by omega), zo _ _ (by omega) (by omega)]; simp (disch := omega) only [st_eq, st_ne]; rfl
    · rw [a9, zo _ _ (by omega) (by omega)]; simp (disch := omega) only [st_eq, st_ne]; rfl
    · exact a11
    · exact a12
    · exact a13
    · exact a14
theorem t_found_54 (hL : LyC B M) {c : Int} : ∀ (j : Nat) (h : Row) (n : Int) (f : Nat), 7 - n = j → 0 ≤ n → j < f →
    ∃ h', sX3_founded_54 f (some B) (iI c) (iI n) (tl B h C Hd Mo M) = sX3_founded_85 FU (some B) (iI 0) (tl B h' C Hd Mo M) ∧ (∀ m, n ≤ m → m < 7 → ∀ w, 0 ≤ w → w < 31 → w ≠ 10 → h' (244 * m + w) = bvA c w) ∧ (∀ m, n ≤ m → m < 7 → h' (11124 + m) = 0) ∧ (∀ x, (∀ m, n ≤ m → m < 7 → x < 244 * m ∨ 244 * m + 31 ≤ x ∨ x = 244 * m + 10) → (x < 11124 + n ∨ 11131 ≤ x) → h' x = h x)
  | 0, h, n, f + 1, e1, e2, e3 => by
    refine ⟨h, ?_, fun m a b => by omega, fun m a b => by omega, fun x _ _ => rfl⟩
    simp (disch := first | assumption | omega) only [sX3_founded_54, sX3_founded_54b, z10, z00, if_true, if_false, iv_add, iv_sub, iv_mul, iv_le, iv_lt, iv_eq, iv_mx, iv_mn, bI_z, bI_o, rZ0, rZ1, rZb, cl_some', lt_eq, rm_eq, dv_eq, iv_01, iv_10, the, lastA, lpA, st_eq, st_ne, sh_addM, cV_cl, cV_nd, cV_mo, cV_lt, gR_t0, aR_nd, gR_c0, gR_c1, gR_c2, gR_c3, gR_c4, gR_c5, gR_c6, gR_c15, gR_c16, gI_c7, pI_c7, gI_c8, pI_c8, gI_c9, pI_c9, gI_c10, pI_c10, gI_c11, pI_c11, gI_c12, pI_c12, gI_c13, pI_c13, gI_c14, pI_c14, gN_9, gN_10, gN_11, gN_12, gN_13, gN_14, gN_15, gN_16, gN_17, gN_18, gN_19, gN_20, gN_21, gN_22, gN_23, pN_9, pN_10, pN_11, pN_12, pN_13, pN_14, pN_15, pN_16, pN_17, pN_18, pN_19, pN_20, pN_21, pN_22, pZ_0, pZ_1, gR_n0, aI_n0, sI_n0, gR_n1, aI_n1, sI_n1, gR_n2, aI_n2, sI_n2, gR_n3, aI_n3, sI_n3, gR_n4, aI_n4, sI_n4, gR_n5, aI_n5, sI_n5, gR_n6, aI_n6, sI_n6, gR_n7, aI_n7, sI_n7, gR_n8, aI_n8, sI_n8, aR_s, aI_s, sI_s, aR_h, aI_h, sI_h, aR_r, aI_r, sI_r, aI_c, sI_c, aI_l, sI_l, aI_ca, aI_ha, sI_ca, sI_ha, gI_mo, pI_mo]
    rw [if_pos (by omega)]
  | j + 1, h, n, f + 1, e1, e2, e3 => by
    obtain ⟨h', y1, y2, y3, y4⟩ := t_found_54 hL (c := c) j (bgH (st h (11124 + n) 0) n c) (n + 1) f (by omega) (by omega) (by omega)
    have x1 := t_begins (h := st h (11124 + n) 0) (C := C) (Hd := Hd) (Mo := Mo) (c := c) hL e2 (show n < 7 by omega)
    refine ⟨h', ?_, fun m a b w w0 w1 w10 => ?_, fun m a b => ?_, fun x a b => ?_⟩
    · rw [← y1]
      show sX3_founded_54b (sX3_founded_54 f) _ _ _ _ = _
      generalize sX3_founded_54 f = K
      simp (disch := first | assumption | omega) only [sX3_founded_54b, z10, z00, if_true, if_false, iv_add, iv_sub, iv_mul, iv_le, iv_lt, iv_eq, iv_mx, iv_mn, bI_z, bI_o, rZ0, rZ1, rZb, cl_some', lt_eq, rm_eq, dv_eq, iv_01, iv_10, the, lastA, lpA, st_eq, st_ne, sh_addM, cV_cl, cV_nd, cV_mo, cV_lt, gR_t0, aR_nd, gR_c0, gR_c1, gR_c2, gR_c3, gR_c4, gR_c5, gR_c6, gR_c15, gR_c16, gI_c7, pI_c7, gI_c8, pI_c8, gI_c9, pI_c9, gI_c10, pI_c10, gI_c11, pI_c11, gI_c12, pI_c12, gI_c13, pI_c13, gI_c14, pI_c14, gN_9, gN_10, gN_11, gN_12, gN_13, gN_14, gN_15, gN_16, gN_17, gN_18, gN_19, gN_20, gN_21, gN_22, gN_23, pN_9, pN_10, pN_11, pN_12, pN_13, pN_14, pN_15, pN_16, pN_17, pN_18, pN_19, pN_20, pN_21, pN_22, pZ_0, pZ_1, gR_n0, aI_n0, sI_n0, gR_n1, aI_n1, sI_n1, gR_n2, aI_n2, sI_n2, gR_n3, aI_n3, sI_n3, gR_n4, aI_n4, sI_n4, gR_n5, aI_n5, sI_n5, gR_n6, aI_n6, sI_n6, gR_n7, aI_n7, sI_n7, gR_n8, aI_n8, sI_n8, aR_s, aI_s, sI_s, aR_h, aI_h, sI_h, aR_r, aI_r, sI_r, aI_c, sI_c, aI_l, sI_l, aI_ca, aI_ha, sI_ca, sI_ha, gI_mo, pI_mo, x1]
      rw [if_neg (by omega)]
    · by_cases d : m = n
      · rw [d, y4 _ (fun m' a' b' => by omega) (by omega)]
        exact bg_v w0 w1 w10
      · exact y2 m (by omega) b w w0 w1 w10
    · by_cases d : m = n
      · rw [d, y4 _ (fun m' a' b' => by omega) (by omega), bg_o (by omega), st_eq]
      · exact y3 m (by omega) b
    · rw [y4 x (fun m' a' b' => a m' (by omega) b') (by omega), bg_o (a n (by omega) (by omega)), st_ne (by omega)]
def zlG (X : Row) (k : Int) : Row := fun x => if 10028 ≤ x ∧ x < 10028 + k then 0 else X x
theorem t_found_32 (hL : LyC B M) {c : Int} {X : Row} : ∀ (j : Nat) (k : Int) (f : Nat), 1000 - k = j → 0 ≤ k → j < f →
    sX3_founded_32 f (some B) (iI c) (iI k) (tl B (zlG X k) C Hd Mo M) = sX3_founded_54 FU (some B) (iI c) (iI 0) (tl B (zlG X 1000) C Hd Mo M)
  | 0, k, f + 1, e1, e2, e3 => by
    have q : k = 1000 := by omega
    subst q
    simp (disch := first | assumption | omega) only [sX3_founded_32, sX3_founded_32b, z10, z00, if_true, if_false, iv_add, iv_sub, iv_mul, iv_le, iv_lt, iv_eq, iv_mx, iv_mn, bI_z, bI_o, rZ0, rZ1, rZb, cl_some', lt_eq, rm_eq, dv_eq, iv_01, iv_10, the, lastA, lpA, st_eq, st_ne, sh_addM, cV_cl, cV_nd, cV_mo, cV_lt, gR_t0, aR_nd, gR_c0, gR_c1, gR_c2, gR_c3, gR_c4, gR_c5, gR_c6, gR_c15, gR_c16, gI_c7, pI_c7, gI_c8, pI_c8, gI_c9, pI_c9, gI_c10, pI_c10, gI_c11, pI_c11, gI_c12, pI_c12, gI_c13, pI_c13, gI_c14, pI_c14, gN_9, gN_10, gN_11, gN_12, gN_13, gN_14, gN_15, gN_16, gN_17, gN_18, gN_19, gN_20, gN_21, gN_22, gN_23, pN_9, pN_10, pN_11, pN_12, pN_13, pN_14, pN_15, pN_16, pN_17, pN_18, pN_19, pN_20, pN_21, pN_22, pZ_0, pZ_1, gR_n0, aI_n0, sI_n0, gR_n1, aI_n1, sI_n1, gR_n2, aI_n2, sI_n2, gR_n3, aI_n3, sI_n3, gR_n4, aI_n4, sI_n4, gR_n5, aI_n5, sI_n5, gR_n6, aI_n6, sI_n6, gR_n7, aI_n7, sI_n7, gR_n8, aI_n8, sI_n8, aR_s, aI_s, sI_s, aR_h, aI_h, sI_h, aR_r, aI_r, sI_r, aI_c, sI_c, aI_l, sI_l, aI_ca, aI_ha, sI_ca, sI_ha, gI_mo, pI_mo]
    rw [if_pos (by omega)]
  | j + 1, k, f + 1, e1, e2, e3 => by
    have ih := t_found_32 hL (c := c) (X := X) j (k + 1) f (by omega) (by omega) (by omega)
    have s : st (zlG X k) (10028 + k) (-1 + 1) = zlG X (k + 1) := by
      funext x
      unfold st zlG
      by_cases c1 : x = 10028 + k
      · rw [if_pos c1, if_pos (by omega)]; rfl
      · rw [if_neg c1]
        by_cases c2 : 10028 ≤ x ∧ x < 10028 + k
        · rw [if_pos c2, if_pos (by omega)]
        · rw [if_neg c2, if_neg (by omega)]
    show sX3_founded_32b (sX3_founded_32 f) _ _ _ _ = _
    generalize sX3_founded_32 f = K at ih ⊢
    simp (disch := first | assumption | omega) only [sX3_founded_32b, z10, z00, if_true, if_false, iv_add, iv_sub, iv_mul, iv_le, iv_lt, iv_eq, iv_mx, iv_mn, bI_z, bI_o, rZ0, rZ1, rZb, cl_some', lt_eq, rm_eq, dv_eq, iv_01, iv_10, the, lastA, lpA, st_eq, st_ne, sh_addM, cV_cl, cV_nd, cV_mo, cV_lt, gR_t0, aR_nd, gR_c0, gR_c1, gR_c2, gR_c3, gR_c4, gR_c5, gR_c6, gR_c15, gR_c16, gI_c7, pI_c7, gI_c8, pI_c8, gI_c9, pI_c9, gI_c10, pI_c10, gI_c11, pI_c11, gI_c12, pI_c12, gI_c13, pI_c13, gI_c14, pI_c14, gN_9, gN_10, gN_11, gN_12, gN_13, gN_14, gN_15, gN_16, gN_17, gN_18, gN_19, gN_20, gN_21, gN_22, gN_23, pN_9, pN_10, pN_11, pN_12, pN_13, pN_14, pN_15, pN_16, pN_17, pN_18, pN_19, pN_20, pN_21, pN_22, pZ_0, pZ_1, gR_n0, aI_n0, sI_n0, gR_n1, aI_n1, sI_n1, gR_n2, aI_n2, sI_n2, gR_n3, aI_n3, sI_n3, gR_n4, aI_n4, sI_n4, gR_n5, aI_n5, sI_n5, gR_n6, aI_n6, sI_n6, gR_n7, aI_n7, sI_n7, gR_n8, aI_n8, sI_n8, aR_s, aI_s, sI_s, aR_h, aI_h, sI_h, aR_r, aI_r, sI_r, aI_c, sI_c, aI_l, sI_l, aI_ca, aI_ha, sI_ca, sI_ha, gI_mo, pI_mo]
    rw [if_neg (by omega), s]
    exact ih
theorem t_found_85 (hL : LyC B M) (hΛ : LawL M Λ) : ∀ (j : Nat) (h g : Row) (n : Int) (Mo : Row) (f : Nat), Rel h g → BdA g → (∀ p, 0 ≤ p → p < 7 → 0 ≤ g (244 * p + 1) ∧ g (244 * p + 1) ≤ 999) → 7 - n = j → 0 ≤ n → j < f →
    ∃ h' Mo', sX3_founded_85 f (some B) (iI n) (tl B h C Hd Mo M) = some ((), tl B h' C Hd Mo' M) ∧ Rel h' (timersF Λ j g n)
  | 0, h, g, n, Mo, f + 1, rel, b, ht, e1, e2, e3 => by
    refine ⟨h, Mo, ?_, rel⟩
    simp (disch := first | assumption | omega) only [sX3_founded_85, sX3_founded_85b, z10, z00, if_true, if_false, iv_add, iv_sub, iv_mul, iv_le, iv_lt, iv_eq, iv_mx, iv_mn, bI_z, bI_o, rZ0, rZ1, rZb, cl_some', lt_eq, rm_eq, dv_eq, iv_01, iv_10, the, lastA, lpA, st_eq, st_ne, sh_addM, cV_cl, cV_nd, cV_mo, cV_lt, gR_t0, aR_nd, gR_c0, gR_c1, gR_c2, gR_c3, gR_c4, gR_c5, gR_c6, gR_c15, gR_c16, gI_c7, pI_c7, gI_c8, pI_c8, gI_c9, pI_c9, gI_c10, pI_c10, gI_c11, pI_c11, gI_c12, pI_c12, gI_c13, pI_c13, gI_c14, pI_c14, gN_9, gN_10, gN_11, gN_12, gN_13, gN_14, gN_15, gN_16, gN_17, gN_18, gN_19, gN_20, gN_21, gN_22, gN_23, pN_9, pN_10, pN_11, pN_12, pN_13, pN_14, pN_15, pN_16, pN_17, pN_18, pN_19, pN_20, pN_21, pN_22, pZ_0, pZ_1, gR_n0, aI_n0, sI_n0, gR_n1, aI_n1, sI_n1, gR_n2, aI_n2, sI_n2, gR_n3, aI_n3, sI_n3, gR_n4, aI_n4, sI_n4, gR_n5, aI_n5, sI_n5, gR_n6, aI_n6, sI_n6, gR_n7, aI_n7, sI_n7, gR_n8, aI_n8, sI_n8, aR_s, aI_s, sI_s, aR_h, aI_h, sI_h, aR_r, aI_r, sI_r, aI_c, sI_c, aI_l, sI_l, aI_ca, aI_ha, sI_ca, sI_ha, gI_mo, pI_mo]
    rw [if_pos (by omega)]
  | j + 1, h, g, n, Mo, f + 1, rel, b, ht, e1, e2, e3 => by
    obtain ⟨h1, M1, x1, r1⟩ := t_setsTimer (C := C) (Hd := Hd) (Mo := Mo) hL hΛ rel b e2 (show n < 7 by omega) (ht n e2 (by omega)).1 (ht n e2 (by omega)).2
    have b1 : BdA (timerG Λ g n) := by
      obtain ⟨u1, u2⟩ := b
      exact ⟨fun m m0 m1 => by rw [timerG_ne (by omega) (by omega)]; exact u1 m m0 m1, timerG_Gl (by omega) u2⟩
    obtain ⟨h2, M2, x2, r2⟩ := t_found_85 hL hΛ j h1 (timerG Λ g n) (n + 1) M1 f r1 b1 (fun p p0 p1 => by rw [timerG_ne (by omega) (by omega)]; exact ht p p0 p1) (by omega) (by omega) (by omega)
    refine ⟨h2, M2, ?_, r2⟩
    show sX3_founded_85b (sX3_founded_85 f) _ _ _ = _
    generalize sX3_founded_85 f = K at x2 ⊢
    simp (disch := first | assumption | omega) only [sX3_founded_85b, z10, z00, if_true, if_false, iv_add, iv_sub, iv_mul, iv_le, iv_lt, iv_eq, iv_mx, iv_mn, bI_z, bI_o, rZ0, rZ1, rZb, cl_some', lt_eq, rm_eq, dv_eq, iv_01, iv_10, the, lastA, lpA, st_eq, st_ne, sh_addM, cV_cl, cV_nd, cV_mo, cV_lt, gR_t0, aR_nd, gR_c0, gR_c1, gR_c2, gR_c3, gR_c4, gR_c5, gR_c6, gR_c15, gR_c16, gI_c7, pI_c7, gI_c8, pI_c8, gI_c9, pI_c9, gI_c10, pI_c10, gI_c11, pI_c11, gI_c12, pI_c12, gI_c13, pI_c13, gI_c14, pI_c14, gN_9, gN_10, gN_11, gN_12, gN_13, gN_14, gN_15, gN_16, gN_17, gN_18, gN_19, gN_20, gN_21, gN_22, gN_23, pN_9, pN_10, pN_11, pN_12, pN_13, pN_14, pN_15, pN_16, pN_17, pN_18, pN_19, pN_20, pN_21, pN_22, pZ_0, pZ_1, gR_n0, aI_n0, sI_n0, gR_n1, aI_n1, sI_n1, gR_n2, aI_n2, sI_n2, gR_n3, aI_n3, sI_n3, gR_n4, aI_n4, sI_n4, gR_n5, aI_n5, sI_n5, gR_n6, aI_n6, sI_n6, gR_n7, aI_n7, sI_n7, gR_n8, aI_n8, sI_n8, aR_s, aI_s, sI_s, aR_h, aI_h, sI_h, aR_r, aI_r, sI_r, aI_c, sI_c, aI_l, sI_l, aI_ca, aI_ha, sI_ca, sI_ha, gI_mo, pI_mo, x1]
    rw [if_neg (by omega)]
    exact x2
theorem timers_tm {m v : Int} : ∀ (j : Nat) (g : Row) (n : Int), 0 ≤ n → n + j ≤ 7 → n ≤ m → m < n + j → timersF Λ j (st g (244 * m + 10) v) n = timersF Λ j g n
  | 0, g, n, a, b, c, d => by omega
  | j + 1, g, n, a, b, c, d => by
    unfold timersF
    by_cases e : m = n
    · rw [e, timer_tm a (by omega)]
    · have : timerG Λ (st g (244 * m + 10) v) n = st (timerG Λ g n) (244 * m + 10) v := by
        have hd : drawG (st g (244 * m + 10) v) = st (drawG g) (244 * m + 10) v := by
          unfold drawG
          rw [st_ne (show ¬ (11132 : Int) = 244 * m + 10 by omega), st_com (by omega)]
        unfold timerG
        rw [hd, st_ne (show ¬ (11132 : Int) = 244 * m + 10 by omega)]
        have : factsA (st (drawG g) (244 * m + 10) v) n n 6 = factsA (drawG g) n n 6 := by
          unfold factsA
          simp only [the]
          rw [st_ne (show ¬ 244 * n + 1 = 244 * m + 10 by omega), st_ne (show ¬ (11133 : Int) = 244 * m + 10 by omega), st_ne (show ¬ (11131 : Int) = 244 * m + 10 by omega), st_ne (show ¬ (11132 : Int) = 244 * m + 10 by omega)]
        rw [this, st_com (by omega)]
      rw [this]
      exact timers_tm j _ (n + 1) (by omega) (by omega) (by omega) (by omega)
/-- the twin's bare row with TermLog's old timers -/
def bareT (X g : Row) (c : Int) : Row := fun x => if (0 ≤ x ∧ x < 1708) ∧ x % 244 = 10 then X x else bare g c x
theorem bareT_timers {X : Row} {c : Int} : timersF Λ 7 (bareT X g c) 0 = timersF Λ 7 (bare g c) 0 := by
  have e : bareT X g c = st (st (st (st (st (st (st (bare g c) (244 * 0 + 10) (X (244 * 0 + 10))) (244 * 1 + 10) (X (244 * 1 + 10))) (244 * 2 + 10) (X (244 * 2 + 10))) (244 * 3 + 10) (X (244 * 3 + 10))) (244 * 4 + 10) (X (244 * 4 + 10))) (244 * 5 + 10) (X (244 * 5 + 10))) (244 * 6 + 10) (X (244 * 6 + 10)) := by
    funext x
    unfold bareT
    by_cases q : (0 ≤ x ∧ x < 1708) ∧ x % 244 = 10
    · rw [if_pos q]
      rcases (show x = 244 * 0 + 10 ∨ x = 244 * 1 + 10 ∨ x = 244 * 2 + 10 ∨ x = 244 * 3 + 10 ∨ x = 244 * 4 + 10 ∨ x = 244 * 5 + 10 ∨ x = 244 * 6 + 10 by omega) with d | d | d | d | d | d | d <;> subst d
      · rw [st_ne (by omega), st_ne (by omega), st_ne (by omega), st_ne (by omega), st_ne (by omega), st_ne (by omega), st_eq]
      · rw [st_ne (by omega), st_ne (by omega), st_ne (by omega), st_ne (by omega), st_ne (by omega), st_eq]
      · rw [st_ne (by omega), st_ne (by omega), st_ne (by omega), st_ne (by omega), st_eq]
      · rw [st_ne (by omega), st_ne (by omega), st_ne (by omega), st_eq]
      · rw [st_ne (by omega), st_ne (by omega), st_eq]
      · rw [st_ne (by omega), st_eq]
      · rw [st_eq]
    · rw [if_neg q, st_ne (by omega), st_ne (by omega), st_ne (by omega), st_ne (by omega), st_ne (by omega), st_ne (by omega), st_ne (by omega)]
  rw [e, timers_tm 7 _ 0 (by omega) (by omega) (by omega) (by omega), timers_tm 7 _ 0 (by omega) (by omega) (by omega) (by omega), timers_tm 7 _ 0 (by omega) (by omega) (by omega) (by omega), timers_tm 7 _ 0 (by omega) (by omega) (by omega) (by omega), timers_tm 7 _ 0 (by omega) (by omega) (by omega) (by omega), timers_tm 7 _ 0 (by omega) (by omega) (by omega) (by omega), timers_tm 7 _ 0 (by omega) (by omega) (by omega) (by omega)]
theorem bare_v {c m w : Int} (m0 : 0 ≤ m) (m1 : m < 7) (w0 : 0 ≤ w) (w1 : w < 244) : bare g c (244 * m + w) = bvA c w := by
  unfold bare bvA
  rw [if_neg (by omega), if_neg (by omega), if_pos (by omega), show (244 * m + w) % 244 = w by omega]
theorem t_founded (hL : LyC B M) (hΛ : LawL M Λ) {c : Int} (hl : 0 ≤ g 11132 ∧ g 11132 < 65536) (e32 : h 11132 = g 11132) (e38 : h 11138 = g 11138) :
    ∃ h' Mo', sX3_founded (some B) (iI c) (tl B h C Hd Mo M) = some ((), tl B h' C Hd Mo' M) ∧ Rel h' (foundG Λ g c) := by
  obtain ⟨h0, hh0⟩ : ∃ h0, st (st (st (st (st (st h 11133 0) 11131 0) 11136 0) 11137 0) 11134 0) 11135 0 = h0 := ⟨_, rfl⟩
  have z0 : ∀ x, x = 11133 ∨ x = 11131 ∨ x = 11136 ∨ x = 11137 ∨ x = 11134 ∨ x = 11135 → h0 x = 0 := by
    intro x a
    rw [← hh0]
    rcases a with e | e | e | e | e | e <;> subst e <;> simp (disch := omega) only [st_eq, st_ne]
  have o0 : ∀ x, ¬ x = 11133 → ¬ x = 11131 → ¬ x = 11136 → ¬ x = 11137 → ¬ x = 11134 → ¬ x = 11135 → h0 x = h x := by
    intro x a b c d e f
    rw [← hh0, st_ne f, st_ne e, st_ne d, st_ne c, st_ne b, st_ne a]
  have x1 := t_found_32 (X := h0) (c := c) (C := C) (Hd := Hd) (Mo := Mo) hL 1000 0 FU (by omega) (by omega) (by unfold FU; omega)
  have ez : zlG h0 0 = h0 := by
    funext x
    unfold zlG
    rw [if_neg (by omega)]
  rw [ez] at x1
  obtain ⟨h2, y1, y2, y3, y4⟩ := t_found_54 (C := C) (Hd := Hd) (Mo := Mo) hL (c := c) 7 (zlG h0 1000) 0 FU (by omega) (by omega) (by unfold FU; omega)
  have bo : ∀ x, 1708 ≤ x → bareT h2 g c x = bare g c x := fun x a => if_neg (by omega)
  have po : ∀ x, 1708 ≤ x → x < 11138 → ¬ x = 11132 → bare g c x = 0 := by
    intro x a b d
    unfold bare
    rw [if_neg d, if_neg (by omega), if_neg (by omega)]
  have p32 : bare g c 11132 = g 11132 := if_pos rfl
  have p38 : bare g c 11138 = g 11138 := by unfold bare; rw [if_neg (by omega), if_pos (by omega)]
  have bn : ∀ m w, 0 ≤ m → m < 7 → 0 ≤ w → w < 244 → w ≠ 10 → bareT h2 g c (244 * m + w) = bvA c w := by
    intro m w m0 m1 w0 w1 w10
    rw [← bare_v (g := g) (c := c) m0 m1 w0 w1]
    exact if_neg (by omega)
  have b8 : bvA c 8 = 0 := rfl
  have b3 : bvA c 3 = 0 := rfl
  have oh : ∀ x, 1708 ≤ x → (x < 11124 ∨ 11131 ≤ x) → h2 x = zlG h0 1000 x := fun x a b => y4 x (fun m a b => by omega) (by omega)
  have oz : ∀ x, (x < 10028 ∨ 11028 ≤ x) → zlG h0 1000 x = h0 x := fun x a => if_neg (by omega)
  have rel : Rel h2 (bareT h2 g c) := by
    refine ⟨fun m m0 m1 => ⟨fun w w0 w1 => ?_, fun w w0 w1 => ?_, fun _ => ?_, fun x x0 x1 => ?_, fun q => ?_⟩, fun i a b => ?_, fun x a b => ?_, fun q a b => ?_, fun x a b => ?_, fun x a b => ?_, fun i a b => ?_⟩
    · by_cases d : w = 10
      · rw [d]
        exact (if_pos (by omega)).symm
      · rw [y2 m m0 m1 w w0 (by omega) d, bn m w m0 m1 w0 (by omega) d]
    · rw [y2 m m0 m1 w (by omega) w1 (by omega), bn m w m0 m1 (by omega) (by omega) (by omega)]
    · rw [y2 m m0 m1 11 (by omega) (by omega) (by omega), bn m 11 m0 m1 (by omega) (by omega) (by omega)]
    · rw [bn m 8 m0 m1 (by omega) (by omega) (by omega), b8] at x1
      omega
    · rw [bn m 3 m0 m1 (by omega) (by omega) (by omega), b3] at q
      omega
    · rw [bo _ (by omega), po _ (by omega) (by omega) (by omega)] at b
      omega
    · rw [bo _ (by omega), po _ (by omega) (by omega) (by omega), oh _ (by omega) (by omega)]
      exact if_pos (by omega)
    · rw [bo _ (by omega), po _ (by omega) (by omega) (by omega)] at b
      omega
    · rw [bo _ (by omega), po _ (by omega) (by omega) (by omega)]
      have := y3 (x - 11124) (by omega) (by omega)
      rw [show 11124 + (x - 11124) = x by omega] at this
      exact this
    · rw [bo _ (by omega), oh _ (by omega) (by omega), oz _ (by omega)]
      by_cases d : x = 11132
      · rw [d, p32, o0 _ (by omega) (by omega) (by omega) (by omega) (by omega) (by omega)]
        exact e32
      · by_cases e : x = 11138
        · rw [e, p38, o0 _ (by omega) (by omega) (by omega) (by omega) (by omega) (by omega)]
          exact e38
        · rw [po _ (by omega) (by omega) d]
          exact z0 x (by omega)
    · rw [bo _ (by omega), po _ (by omega) (by omega) (by omega)] at b
      omega
  obtain ⟨r1, r2⟩ := bareR (g := g) (c := c) hl
  have bd : BdA (bareT h2 g c) := ⟨fun m m0 m1 => by rw [bn m 8 m0 m1 (by omega) (by omega) (by omega), b8]; omega, GlA_blk (fun x a => bo x (by omega)) r1⟩
  have bt : ∀ p, 0 ≤ p → p < 7 → 0 ≤ bareT h2 g c (244 * p + 1) ∧ bareT h2 g c (244 * p + 1) ≤ 999 := by
    intro p p0 p1
    have : bvA c 1 = 0 := rfl
    rw [bn p 1 p0 p1 (by omega) (by omega) (by omega), this]
    omega
  obtain ⟨h3, M3, x3, r3⟩ := t_found_85 (C := C) (Hd := Hd) hL hΛ 7 h2 (bareT h2 g c) 0 Mo FU rel bd bt (by omega) (by omega) (by unfold FU; omega)
  rw [bareT_timers] at r3
  refine ⟨h3, M3, ?_, r3⟩
  simp (disch := first | assumption | omega) only [sX3_founded, z10, z00, if_true, if_false, iv_add, iv_sub, iv_mul, iv_le, iv_lt, iv_eq, iv_mx, iv_mn, bI_z, bI_o, rZ0, rZ1, rZb, cl_some', lt_eq, rm_eq, dv_eq, iv_01, iv_10, the, lastA, lpA, st_eq, st_ne, sh_addM, cV_cl, cV_nd, cV_mo, cV_lt, gR_t0, aR_nd, gR_c0, gR_c1, gR_c2, gR_c3, gR_c4, gR_c5, gR_c6, gR_c15, gR_c16, gI_c7, pI_c7, gI_c8, pI_c8, gI_c9, pI_c9, gI_c10, pI_c10, gI_c11, pI_c11, gI_c12, pI_c12, gI_c13, pI_c13, gI_c14, pI_c14, gN_9, gN_10, gN_11, gN_12, gN_13, gN_14, gN_15, gN_16, gN_17, gN_18, gN_19, gN_20, gN_21, gN_22, gN_23, pN_9, pN_10, pN_11, pN_12, pN_13, pN_14, pN_15, pN_16, pN_17, pN_18, pN_19, pN_20, pN_21, pN_22, pZ_0, pZ_1, gR_n0, aI_n0, sI_n0, gR_n1, aI_n1, sI_n1, gR_n2, aI_n2, sI_n2, gR_n3, aI_n3, sI_n3, gR_n4, aI_n4, sI_n4, gR_n5, aI_n5, sI_n5, gR_n6, aI_n6, sI_n6, gR_n7, aI_n7, sI_n7, gR_n8, aI_n8, sI_n8, aR_s, aI_s, sI_s, aR_h, aI_h, sI_h, aR_r, aI_r, sI_r, aI_c, sI_c, aI_l, sI_l, aI_ca, aI_ha, sI_ca, sI_ha, gI_mo, pI_mo, hh0]
  rw [x1, y1, x3]
theorem t_found (hL : LyC B M) (hN : mP M 0 1 = some B) (hΛ : LawL M Λ) {c : Int} (c0 : -2147483648 ≤ c) (c1 : c ≤ 2147483647) (hl : 0 ≤ g 11132 ∧ g 11132 < 65536) (e32 : h 11132 = g 11132) (e38 : h 11138 = g 11138) :
    ∃ h' Mo', sX0_found (some 0) (iI c) (tl B h C Hd Mo M) = some (iI (foundS Λ g c).1, tl B h' C Hd Mo' M) ∧ (1 ≤ c ∧ c ≤ 127 → Rel h' (foundS Λ g c).2) ∧ (¬ (1 ≤ c ∧ c ≤ 127) → h' = h) := by
  unfold foundS
  by_cases d : 1 ≤ c ∧ c ≤ 127
  · obtain ⟨h', M', x1, r1⟩ := t_founded (C := C) (Hd := Hd) (Mo := Mo) hL hΛ (c := c) hl e32 e38
    rw [if_pos d]
    refine ⟨h', M', ?_, fun _ => r1, fun q => absurd d q⟩
    simp (disch := first | assumption | omega) only [sX0_found, t_within, gR_t1, z10, z00, if_true, if_false, iv_add, iv_sub, iv_mul, iv_le, iv_lt, iv_eq, iv_mx, iv_mn, bI_z, bI_o, rZ0, rZ1, rZb, cl_some', lt_eq, rm_eq, dv_eq, iv_01, iv_10, the, lastA, lpA, st_eq, st_ne, sh_addM, cV_cl, cV_nd, cV_mo, cV_lt, gR_t0, aR_nd, gR_c0, gR_c1, gR_c2, gR_c3, gR_c4, gR_c5, gR_c6, gR_c15, gR_c16, gI_c7, pI_c7, gI_c8, pI_c8, gI_c9, pI_c9, gI_c10, pI_c10, gI_c11, pI_c11, gI_c12, pI_c12, gI_c13, pI_c13, gI_c14, pI_c14, gN_9, gN_10, gN_11, gN_12, gN_13, gN_14, gN_15, gN_16, gN_17, gN_18, gN_19, gN_20, gN_21, gN_22, gN_23, pN_9, pN_10, pN_11, pN_12, pN_13, pN_14, pN_15, pN_16, pN_17, pN_18, pN_19, pN_20, pN_21, pN_22, pZ_0, pZ_1, gR_n0, aI_n0, sI_n0, gR_n1, aI_n1, sI_n1, gR_n2, aI_n2, sI_n2, gR_n3, aI_n3, sI_n3, gR_n4, aI_n4, sI_n4, gR_n5, aI_n5, sI_n5, gR_n6, aI_n6, sI_n6, gR_n7, aI_n7, sI_n7, gR_n8, aI_n8, sI_n8, aR_s, aI_s, sI_s, aR_h, aI_h, sI_h, aR_r, aI_r, sI_r, aI_c, sI_c, aI_l, sI_l, aI_ca, aI_ha, sI_ca, sI_ha, gI_mo, pI_mo, x1]
    rw [if_neg (fun hc => hc d)]
  · rw [if_neg d]
    refine ⟨h, Mo, ?_, fun q => absurd q d, fun _ => rfl⟩
    simp (disch := first | assumption | omega) only [sX0_found, t_within, z10, z00, if_true, if_false, iv_add, iv_sub, iv_mul, iv_le, iv_lt, iv_eq, iv_mx, iv_mn, bI_z, bI_o, rZ0, rZ1, rZb, cl_some', lt_eq, rm_eq, dv_eq, iv_01, iv_10, the, lastA, lpA, st_eq, st_ne, sh_addM, cV_cl, cV_nd, cV_mo, cV_lt, gR_t0, aR_nd, gR_c0, gR_c1, gR_c2, gR_c3, gR_c4, gR_c5, gR_c6, gR_c15, gR_c16, gI_c7, pI_c7, gI_c8, pI_c8, gI_c9, pI_c9, gI_c10, pI_c10, gI_c11, pI_c11, gI_c12, pI_c12, gI_c13, pI_c13, gI_c14, pI_c14, gN_9, gN_10, gN_11, gN_12, gN_13, gN_14, gN_15, gN_16, gN_17, gN_18, gN_19, gN_20, gN_21, gN_22, gN_23, pN_9, pN_10, pN_11, pN_12, pN_13, pN_14, pN_15, pN_16, pN_17, pN_18, pN_19, pN_20, pN_21, pN_22, pZ_0, pZ_1, gR_n0, aI_n0, sI_n0, gR_n1, aI_n1, sI_n1, gR_n2, aI_n2, sI_n2, gR_n3, aI_n3, sI_n3, gR_n4, aI_n4, sI_n4, gR_n5, aI_n5, sI_n5, gR_n6, aI_n6, sI_n6, gR_n7, aI_n7, sI_n7, gR_n8, aI_n8, sI_n8, aR_s, aI_s, sI_s, aR_h, aI_h, sI_h, aR_r, aI_r, sI_r, aI_c, sI_c, aI_l, sI_l, aI_ca, aI_ha, sI_ca, sI_ha, gI_mo, pI_mo]
    rw [if_pos d]
end
