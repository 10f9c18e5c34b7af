/-! DEPS: vt -/
/-! VU: a client's acts on TermLog: crash, come up, cut, compact -/
section
variable {B : Nat} {h g C Hd Mo : Row} {M : Mem} {Λ : Law} {hs : His} {FL : Int → ELog} {R : Int} {D : DK}
theorem gR_t1 {β : Type} (hL : LyC B M) (hN : mP M 0 1 = some B) {f : Option Nat → Option β} : gR (tl B h C Hd Mo M) (some 0) 0 1 f = f (some B) := (if_pos hL.k0.1).trans (congrArg f hN)
theorem t_within {σ : Mem} {a lo hi : Int} (a0 : -2147483648 ≤ a) (a1 : a ≤ 2147483647) (l0 : -1000000 ≤ lo) (l1 : lo ≤ 1000000) (h0 : -1000000 ≤ hi) (h1 : hi ≤ 1000000) : sX0_within (iI a) (iI lo) (iI hi) σ = some (bI (lo ≤ a ∧ a ≤ hi), σ) := by
  simp (disch := first | assumption | omega) only [sX0_within, z10, z00, if_true, if_false, iv_add, iv_sub, iv_mul, iv_le, iv_lt, iv_eq, iv_mx, iv_mn, bI_z, bI_o, rZ0, rZ1, rZb, cl_some', lt_eq, rm_eq, dv_eq, iv_01, iv_10]
  by_cases c : a < lo
  · rw [if_pos c, bI_f (by omega)]
  · rw [if_neg c]
    by_cases d : hi < a
    · rw [if_pos d, bI_f (by omega)]
    · rw [if_neg d, bI_t (by omega)]
theorem t_in {σ : Mem} {a n : Int} (a0 : -2147483648 ≤ a) (a1 : a ≤ 2147483647) (n0 : 0 ≤ n) (n1 : n ≤ 1000000) : sX0_in (iI a) (iI n) σ = some (bI (0 ≤ a ∧ a < n), σ) := by
  simp (disch := first | assumption | omega) only [sX0_in, z10, z00, if_true, if_false, iv_add, iv_sub, iv_mul, iv_le, iv_lt, iv_eq, iv_mx, iv_mn, bI_z, bI_o, rZ0, rZ1, rZb, cl_some', lt_eq, rm_eq, dv_eq, iv_01, iv_10]
  by_cases c : a < 0
  · rw [if_pos c, bI_f (by omega)]
  · rw [if_neg c]
    by_cases d : n ≤ a
    · rw [if_pos d, bI_f (by omega)]
    · rw [if_neg d, bI_t (by omega)]
theorem t_isNode {σ : Mem} {a : Int} (a0 : -2147483648 ≤ a) (a1 : a ≤ 2147483647) : sX0_isNode (iI a) σ = some (bI (0 ≤ a ∧ a < 7), σ) := by
  simp (disch := first | assumption | omega) only [sX0_isNode, t_in, z10, z00, if_true, if_false, iv_add, iv_sub, iv_mul, iv_le, iv_lt, iv_eq, iv_mx, iv_mn, bI_z, bI_o, rZ0, rZ1, rZb, cl_some', lt_eq, rm_eq, dv_eq, iv_01, iv_10]
/-- a node that does not lead has no open read -/
theorem InvS.noread (I : InvS g hs FL R D) {n : Int} (hr : g (244 * n + 3) ≠ 2) : readsG g n = g := by
  funext x
  unfold readsG
  split
  · rename_i c
    exfalso
    have hA := I.ar
    have := I.rl ((x - 11032) / 6) (by omega) (by omega) (by rw [show 11028 + 6 * ((x - 11032) / 6) + 4 = x by omega]; exact c.2.2.2.2)
    rw [show 11028 + 6 * ((x - 11032) / 6) = x - 4 by omega, c.2.2.2.1] at this
    exact hr this
  · rfl
theorem Rel.crash (rel : Rel h g) (I : InvS g hs FL R D) {n : Int} (n0 : 0 ≤ n) (n1 : n < 7) : Rel (st (st (readsG h n) (244 * n + 0) 0) (244 * n + 3) 0) (crashG g n) := by
  have r0 := rel.reads I.bd (n := n)
  have hA := I.ar
  have bd : BdA (readsG g n) := by
    obtain ⟨b1, hG⟩ := I.bd
    exact ⟨fun m m0 m1 => by rw [readsG_ne (by omega) hA]; exact b1 m m0 m1, GlA_blk (fun x _ => readsG_ne (by omega) hA) hG⟩
  have e : (if the g n 3 = 2 then readsG g n else g) = readsG g n := by
    split
    · rfl
    · rename_i c
      exact (I.noread c).symm
  unfold crashG followG
  rw [e]
  have rn := r0.nd n n0 n1
  have h8 := bd.1 n n0 n1
  have oh : ∀ (f : Row) x, ¬ x = 244 * n + 0 → ¬ x = 244 * n + 3 → st (st f (244 * n + 0) 0) (244 * n + 3) 0 x = f x := fun f x a b => by rw [st_ne b, st_ne a]
  have og : ∀ (f : Row) x, ¬ x = 244 * n + 0 → ¬ x = 244 * n + 3 → ¬ x = 244 * n + 11 → st (st (st f (244 * n + 3) 0) (244 * n + 11) (-1)) (244 * n + 0) 0 x = f x := fun f x a b c => by rw [st_ne a, st_ne c, st_ne b]
  have og3 : ∀ f : Row, st (st (st f (244 * n + 3) 0) (244 * n + 11) (-1)) (244 * n + 0) 0 (244 * n + 3) = 0 := fun f => by rw [st_ne (by omega), st_ne (by omega), st_eq]
  have og0 : ∀ f : Row, st (st (st f (244 * n + 3) 0) (244 * n + 11) (-1)) (244 * n + 0) 0 (244 * n + 0) = 0 := fun f => st_eq _ _ _
  refine r0.node bd n0 n1 (fun x a => oh _ x (by omega) (by omega)) (fun x a => og _ x (by omega) (by omega) (by omega)) ⟨fun w w0 w1 => ?_, fun w w0 w1 => ?_, fun q => ?_, fun x x0 x1 => ?_, fun q w w0 w1 => ?_⟩
  · by_cases c0 : w = 0
    · rw [c0, og0, st_ne (by omega), st_eq]
    · by_cases c3 : w = 3
      · rw [c3, og3, st_eq]
      · rw [oh _ _ (by omega) (by omega), og _ _ (by omega) (by omega) (by omega)]
        exact rn.s w w0 w1
  · rw [oh _ _ (by omega) (by omega), og _ _ (by omega) (by omega) (by omega)]
    exact rn.t w w0 w1
  · rw [og0] at q; omega
  · rw [og _ _ (by omega) (by omega) (by omega)] at x1
    rw [oh _ _ (by omega) (by omega), og _ _ (by omega) (by omega) (by omega)]
    exact rn.e x x0 x1
  · rw [og3] at q; omega
theorem t_crash (hL : LyC B M) (hN : mP M 0 1 = some B) (rel : Rel h g) (I : InvS g hs FL R D) {n : Int} (c0 : -2147483648 ≤ n) (c1 : n ≤ 2147483647) :
    ∃ h', sX0_crash (some 0) (iI n) (tl B h C Hd Mo M) = some (iI (crashS g n).1, tl B h' C Hd Mo M) ∧ Rel h' (crashS g n).2 := by
  unfold crashS
  by_cases d : 0 ≤ n ∧ n < 7
  · have n0 := d.1
    have n1 := d.2
    obtain ⟨⟨s1, s2⟩, _⟩ := I.na n n0 n1
    have w0 := (rel.nd n n0 n1).s 0 (by omega) (by omega)
    by_cases e : g (244 * n + 0) = 1
    · have y2 := t_losesReads (C := C) (Hd := Hd) (Mo := Mo) hL n0 n1 (rel.rdh I.ar I.rd)
      rw [if_pos ⟨d, e⟩]
      refine ⟨_, ?_, rel.crash I n0 n1⟩
      simp (disch := first | assumption | omega) only [sX0_crash, t_isNode, gR_t1, z10, z00, if_true, if_false, iv_add, iv_sub, iv_mul, iv_le, iv_lt, iv_eq, iv_mx, iv_mn, bI_z, bI_o, rZ0, rZ1, rZb, cl_some', lt_eq, rm_eq, dv_eq, iv_01, iv_10, the, lastA, lpA, st_eq, st_ne, sh_addM, cV_cl, cV_nd, cV_mo, cV_lt, gR_t0, aR_nd, gR_c0, gR_c1, gR_c2, gR_c3, gR_c4, gR_c5, gR_c6, gR_c15, gR_c16, gI_c7, pI_c7, gI_c8, pI_c8, gI_c9, pI_c9, gI_c10, pI_c10, gI_c11, pI_c11, gI_c12, pI_c12, gI_c13, pI_c13, gI_c14, pI_c14, gN_9, gN_10, gN_11, gN_12, gN_13, gN_14, gN_15, gN_16, gN_17, gN_18, gN_19, gN_20, gN_21, gN_22, gN_23, pN_9, pN_10, pN_11, pN_12, pN_13, pN_14, pN_15, pN_16, pN_17, pN_18, pN_19, pN_20, pN_21, pN_22, pZ_0, pZ_1, gR_n0, aI_n0, sI_n0, gR_n1, aI_n1, sI_n1, gR_n2, aI_n2, sI_n2, gR_n3, aI_n3, sI_n3, gR_n4, aI_n4, sI_n4, gR_n5, aI_n5, sI_n5, gR_n6, aI_n6, sI_n6, gR_n7, aI_n7, sI_n7, gR_n8, aI_n8, sI_n8, aR_s, aI_s, sI_s, aR_h, aI_h, sI_h, aR_r, aI_r, sI_r, aI_c, sI_c, aI_l, sI_l, aI_ca, aI_ha, sI_ca, sI_ha, gI_mo, pI_mo, w0, y2]
      rw [if_neg (fun hc => hc d), if_neg (by omega)]
    · rw [if_neg (fun hc => e hc.2)]
      refine ⟨h, ?_, rel⟩
      simp (disch := first | assumption | omega) only [sX0_crash, t_isNode, gR_t1, z10, z00, if_true, if_false, iv_add, iv_sub, iv_mul, iv_le, iv_lt, iv_eq, iv_mx, iv_mn, bI_z, bI_o, rZ0, rZ1, rZb, cl_some', lt_eq, rm_eq, dv_eq, iv_01, iv_10, the, lastA, lpA, st_eq, st_ne, sh_addM, cV_cl, cV_nd, cV_mo, cV_lt, gR_t0, aR_nd, gR_c0, gR_c1, gR_c2, gR_c3, gR_c4, gR_c5, gR_c6, gR_c15, gR_c16, gI_c7, pI_c7, gI_c8, pI_c8, gI_c9, pI_c9, gI_c10, pI_c10, gI_c11, pI_c11, gI_c12, pI_c12, gI_c13, pI_c13, gI_c14, pI_c14, gN_9, gN_10, gN_11, gN_12, gN_13, gN_14, gN_15, gN_16, gN_17, gN_18, gN_19, gN_20, gN_21, gN_22, gN_23, pN_9, pN_10, pN_11, pN_12, pN_13, pN_14, pN_15, pN_16, pN_17, pN_18, pN_19, pN_20, pN_21, pN_22, pZ_0, pZ_1, gR_n0, aI_n0, sI_n0, gR_n1, aI_n1, sI_n1, gR_n2, aI_n2, sI_n2, gR_n3, aI_n3, sI_n3, gR_n4, aI_n4, sI_n4, gR_n5, aI_n5, sI_n5, gR_n6, aI_n6, sI_n6, gR_n7, aI_n7, sI_n7, gR_n8, aI_n8, sI_n8, aR_s, aI_s, sI_s, aR_h, aI_h, sI_h, aR_r, aI_r, sI_r, aI_c, sI_c, aI_l, sI_l, aI_ca, aI_ha, sI_ca, sI_ha, gI_mo, pI_mo, w0]
      rw [if_neg (fun hc => hc d), if_pos (by omega)]
  · rw [if_neg (fun hc => d hc.1)]
    refine ⟨h, ?_, rel⟩
    simp (disch := first | assumption | omega) only [sX0_crash, t_isNode, gR_t1, z10, z00, if_true, if_false, iv_add, iv_sub, iv_mul, iv_le, iv_lt, iv_eq, iv_mx, iv_mn, bI_z, bI_o, rZ0, rZ1, rZb, cl_some', lt_eq, rm_eq, dv_eq, iv_01, iv_10, the, lastA, lpA, st_eq, st_ne, sh_addM, cV_cl, cV_nd, cV_mo, cV_lt, gR_t0, aR_nd, gR_c0, gR_c1, gR_c2, gR_c3, gR_c4, gR_c5, gR_c6, gR_c15, gR_c16, gI_c7, pI_c7, gI_c8, pI_c8, gI_c9, pI_c9, gI_c10, pI_c10, gI_c11, pI_c11, gI_c12, pI_c12, gI_c13, pI_c13, gI_c14, pI_c14, gN_9, gN_10, gN_11, gN_12, gN_13, gN_14, gN_15, gN_16, gN_17, gN_18, gN_19, gN_20, gN_21, gN_22, gN_23, pN_9, pN_10, pN_11, pN_12, pN_13, pN_14, pN_15, pN_16, pN_17, pN_18, pN_19, pN_20, pN_21, pN_22, pZ_0, pZ_1, gR_n0, aI_n0, sI_n0, gR_n1, aI_n1, sI_n1, gR_n2, aI_n2, sI_n2, gR_n3, aI_n3, sI_n3, gR_n4, aI_n4, sI_n4, gR_n5, aI_n5, sI_n5, gR_n6, aI_n6, sI_n6, gR_n7, aI_n7, sI_n7, gR_n8, aI_n8, sI_n8, aR_s, aI_s, sI_s, aR_h, aI_h, sI_h, aR_r, aI_r, sI_r, aI_c, sI_c, aI_l, sI_l, aI_ca, aI_ha, sI_ca, sI_ha, gI_mo, pI_mo]
    rw [if_pos d]
/-- TermLog's node comes up: keys as in the snapshot -/
def kuG (X : Row) (n k : Int) : Row := fun x => if 244 * n + 15 ≤ x ∧ x < 244 * n + 15 + k then X (x + 8) else X x
theorem t_come_40 {X : Row} (hL : LyC B M) {n : Int} (n0 : 0 ≤ n) (n1 : n < 7) : ∀ (j : Nat) (k : Int) (f : Nat), 8 - k = j → 0 ≤ k → j < f →
    sX4_comesUp_40 f (some (ndA B n)) (iI k) (tl B (kuG X n k) C Hd Mo M) = some ((), tl B (kuG X n 8) C Hd Mo M)
  | 0, k, f + 1, e1, e2, e3 => by
    have q : k = 8 := by omega
    subst q
    simp (disch := first | assumption | omega) only [sX4_comesUp_40, sX4_comesUp_40b, z10, z00, if_true, if_false, iv_add, iv_sub, iv_mul, iv_le, iv_lt, iv_eq, iv_mx, iv_mn, bI_z, bI_o, rZ0, rZ1, rZb, cl_some', lt_eq, rm_eq, dv_eq, iv_01, iv_10, the, lastA, lpA, st_eq, st_ne, sh_addM, cV_cl, cV_nd, cV_mo, cV_lt, gR_t0, aR_nd, gR_c0, gR_c1, gR_c2, gR_c3, gR_c4, gR_c5, gR_c6, gR_c15, gR_c16, gI_c7, pI_c7, gI_c8, pI_c8, gI_c9, pI_c9, gI_c10, pI_c10, gI_c11, pI_c11, gI_c12, pI_c12, gI_c13, pI_c13, gI_c14, pI_c14, gN_9, gN_10, gN_11, gN_12, gN_13, gN_14, gN_15, gN_16, gN_17, gN_18, gN_19, gN_20, gN_21, gN_22, gN_23, pN_9, pN_10, pN_11, pN_12, pN_13, pN_14, pN_15, pN_16, pN_17, pN_18, pN_19, pN_20, pN_21, pN_22, pZ_0, pZ_1, gR_n0, aI_n0, sI_n0, gR_n1, aI_n1, sI_n1, gR_n2, aI_n2, sI_n2, gR_n3, aI_n3, sI_n3, gR_n4, aI_n4, sI_n4, gR_n5, aI_n5, sI_n5, gR_n6, aI_n6, sI_n6, gR_n7, aI_n7, sI_n7, gR_n8, aI_n8, sI_n8, aR_s, aI_s, sI_s, aR_h, aI_h, sI_h, aR_r, aI_r, sI_r, aI_c, sI_c, aI_l, sI_l, aI_ca, aI_ha, sI_ca, sI_ha, gI_mo, pI_mo]
    rw [if_pos (by omega)]
  | j + 1, k, f + 1, e1, e2, e3 => by
    have ih := t_come_40 (X := X) hL n0 n1 j (k + 1) f (by omega) (by omega) (by omega)
    have o : kuG X n k (244 * n + (23 + k)) = X (244 * n + (23 + k)) := by
      unfold kuG
      rw [if_neg (by omega)]
    have s : st (kuG X n k) (244 * n + (15 + k)) (X (244 * n + (23 + k))) = kuG X n (k + 1) := by
      funext x
      unfold st kuG
      by_cases c1 : x = 244 * n + (15 + k)
      · rw [if_pos c1, if_pos (by omega), c1]
        congr 1
        omega
      · rw [if_neg c1]
        by_cases c2 : 244 * n + 15 ≤ x ∧ x < 244 * n + 15 + k
        · rw [if_pos c2, if_pos (by omega)]
        · rw [if_neg c2, if_neg (by omega)]
    show sX4_comesUp_40b (sX4_comesUp_40 f) _ _ _ = _
    generalize sX4_comesUp_40 f = K at ih ⊢
    simp (disch := first | assumption | omega) only [sX4_comesUp_40b, z10, z00, if_true, if_false, iv_add, iv_sub, iv_mul, iv_le, iv_lt, iv_eq, iv_mx, iv_mn, bI_z, bI_o, rZ0, rZ1, rZb, cl_some', lt_eq, rm_eq, dv_eq, iv_01, iv_10, the, lastA, lpA, st_eq, st_ne, sh_addM, cV_cl, cV_nd, cV_mo, cV_lt, gR_t0, aR_nd, gR_c0, gR_c1, gR_c2, gR_c3, gR_c4, gR_c5, gR_c6, gR_c15, gR_c16, gI_c7, pI_c7, gI_c8, pI_c8, gI_c9, pI_c9, gI_c10, pI_c10, gI_c11, pI_c11, gI_c12, pI_c12, gI_c13, pI_c13, gI_c14, pI_c14, gN_9, gN_10, gN_11, gN_12, gN_13, gN_14, gN_15, gN_16, gN_17, gN_18, gN_19, gN_20, gN_21, gN_22, gN_23, pN_9, pN_10, pN_11, pN_12, pN_13, pN_14, pN_15, pN_16, pN_17, pN_18, pN_19, pN_20, pN_21, pN_22, pZ_0, pZ_1, gR_n0, aI_n0, sI_n0, gR_n1, aI_n1, sI_n1, gR_n2, aI_n2, sI_n2, gR_n3, aI_n3, sI_n3, gR_n4, aI_n4, sI_n4, gR_n5, aI_n5, sI_n5, gR_n6, aI_n6, sI_n6, gR_n7, aI_n7, sI_n7, gR_n8, aI_n8, sI_n8, aR_s, aI_s, sI_s, aR_h, aI_h, sI_h, aR_r, aI_r, sI_r, aI_c, sI_c, aI_l, sI_l, aI_ca, aI_ha, sI_ca, sI_ha, gI_mo, pI_mo, o]
    rw [if_neg (by omega), s]
    exact ih
def upH (h : Row) (n : Int) : Row := kuG (st (st (st (st (st (st (st h (244 * n + 0) 1) (244 * n + 3) 0) (244 * n + 9) (h (244 * n + 4))) (244 * n + 11) (-1)) (244 * n + 12) 0) (244 * n + 13) 0) (244 * n + 14) 0) n 8
theorem t_comesUp (hL : LyC B M) {n : Int} (n0 : 0 ≤ n) (n1 : n < 7) : sX4_comesUp (some (ndA B n)) (tl B h C Hd Mo M) = some ((), tl B (upH h n) C Hd Mo M) := by
  have x1 := t_come_40 (X := st (st (st (st (st (st (st h (244 * n + 0) 1) (244 * n + 3) 0) (244 * n + 9) (h (244 * n + 4))) (244 * n + 11) (-1)) (244 * n + 12) 0) (244 * n + 13) 0) (244 * n + 14) 0) (C := C) (Hd := Hd) (Mo := Mo) hL n0 n1 8 0 FU (by omega) (by omega) (by unfold FU; omega)
  have e : ∀ X : Row, kuG X n 0 = X := by
    intro X
    funext x
    unfold kuG
    rw [if_neg (by omega)]
  rw [e] at x1
  simp (disch := first | assumption | omega) only [sX4_comesUp, z10, z00, if_true, if_false, iv_add, iv_sub, iv_mul, iv_le, iv_lt, iv_eq, iv_mx, iv_mn, bI_z, bI_o, rZ0, rZ1, rZb, cl_some', lt_eq, rm_eq, dv_eq, iv_01, iv_10, the, lastA, lpA, st_eq, st_ne, sh_addM, cV_cl, cV_nd, cV_mo, cV_lt, gR_t0, aR_nd, gR_c0, gR_c1, gR_c2, gR_c3, gR_c4, gR_c5, gR_c6, gR_c15, gR_c16, gI_c7, pI_c7, gI_c8, pI_c8, gI_c9, pI_c9, gI_c10, pI_c10, gI_c11, pI_c11, gI_c12, pI_c12, gI_c13, pI_c13, gI_c14, pI_c14, gN_9, gN_10, gN_11, gN_12, gN_13, gN_14, gN_15, gN_16, gN_17, gN_18, gN_19, gN_20, gN_21, gN_22, gN_23, pN_9, pN_10, pN_11, pN_12, pN_13, pN_14, pN_15, pN_16, pN_17, pN_18, pN_19, pN_20, pN_21, pN_22, pZ_0, pZ_1, gR_n0, aI_n0, sI_n0, gR_n1, aI_n1, sI_n1, gR_n2, aI_n2, sI_n2, gR_n3, aI_n3, sI_n3, gR_n4, aI_n4, sI_n4, gR_n5, aI_n5, sI_n5, gR_n6, aI_n6, sI_n6, gR_n7, aI_n7, sI_n7, gR_n8, aI_n8, sI_n8, aR_s, aI_s, sI_s, aR_h, aI_h, sI_h, aR_r, aI_r, sI_r, aI_c, sI_c, aI_l, sI_l, aI_ca, aI_ha, sI_ca, sI_ha, gI_mo, pI_mo]
  exact x1
theorem upH_o {n x : Int} (a : x < 244 * n ∨ (244 * n < x ∧ x < 244 * n + 3) ∨ (244 * n + 3 < x ∧ x < 244 * n + 9) ∨ x = 244 * n + 10 ∨ 244 * n + 23 ≤ x) : upH h n x = h x := by
  unfold upH kuG
  rw [if_neg (by omega), st_ne (by omega), st_ne (by omega), st_ne (by omega), st_ne (by omega), st_ne (by omega), st_ne (by omega), st_ne (by omega)]
theorem upH_at {n : Int} : upH h n (244 * n + 0) = 1 ∧ upH h n (244 * n + 3) = 0 ∧ upH h n (244 * n + 9) = h (244 * n + 4) ∧ upH h n (244 * n + 11) = -1 ∧ upH h n (244 * n + 12) = 0 ∧ upH h n (244 * n + 13) = 0 ∧ upH h n (244 * n + 14) = 0 := by
  unfold upH kuG
  refine ⟨?_, ?_, ?_, ?_, ?_, ?_, ?_⟩ <;> rw [if_neg (by omega)] <;> simp (disch := omega) only [st_eq, st_ne]
theorem upH_k {n x : Int} (a : 244 * n + 15 ≤ x) (c : x < 244 * n + 23) : upH h n x = h (x + 8) := by
  unfold upH kuG
  rw [if_pos (by omega), st_ne (by omega), st_ne (by omega), st_ne (by omega), st_ne (by omega), st_ne (by omega), st_ne (by omega), st_ne (by omega)]
theorem Rel.up (rel : Rel h g) (b : BdA g) {n : Int} (n0 : 0 ≤ n) (n1 : n < 7) (h3 : g (244 * n + 3) = 0) (h11 : g (244 * n + 11) = -1) : Rel (upH h n) (upG g n) := by
  have rn := rel.nd n n0 n1
  have h8 := b.1 n n0 n1
  have p0 : upG g n (244 * n + 0) = 1 := if_pos rfl
  have p9 : upG g n (244 * n + 9) = g (244 * n + 4) := by unfold upG; rw [if_neg (by omega), if_pos rfl]
  have p12 : ∀ x, 244 * n + 12 ≤ x → x < 244 * n + 15 → upG g n x = 0 := by
    intro x b c
    unfold upG
    rw [if_neg (by omega), if_neg (by omega), if_pos ⟨b, c⟩]
  have pk : ∀ x, 244 * n + 15 ≤ x → x < 244 * n + 23 → upG g n x = g (x + 8) := by
    intro x b c
    unfold upG
    rw [if_neg (by omega), if_neg (by omega), if_neg (by omega), if_pos ⟨b, c⟩]
  have o : ∀ x, ¬ x = 244 * n + 0 → ¬ x = 244 * n + 9 → (x < 244 * n + 12 ∨ 244 * n + 23 ≤ x) → upG g n x = g x := by
    intro x b c d
    unfold upG
    rw [if_neg b, if_neg c, if_neg (by omega), if_neg (by omega)]
  obtain ⟨a0, a3, a9, a11, a12, a13, a14⟩ := upH_at (h := h) (n := n)
  refine rel.node b n0 n1 (fun x a => upH_o (by omega)) (fun x a => o x (by omega) (by omega) (by omega)) ⟨fun w w0 w1 => ?_, fun w w0 w1 => ?_, fun q => ?_, fun x x0 x1 => ?_, fun q w w0 w1 => ?_⟩
  · by_cases c0 : w = 0
    · rw [c0, a0, p0]
    · by_cases c3 : w = 3
      · rw [c3, a3, o _ (by omega) (by omega) (by omega), h3]
      · by_cases c9 : w = 9
        · rw [c9, a9, p9]
          exact rn.s 4 (by omega) (by omega)
        · rw [upH_o (by omega), o _ (by omega) (by omega) (by omega)]
          exact rn.s w w0 w1
  · by_cases c1 : w < 15
    · rw [p12 _ (by omega) (by omega)]
      rcases (show w = 12 ∨ w = 13 ∨ w = 14 by omega) with e | e | e <;> subst e
      · exact a12
      · exact a13
      · exact a14
    · by_cases c2 : w < 23
      · rw [upH_k (by omega) (by omega), pk _ (by omega) (by omega), show 244 * n + w + 8 = 244 * n + (w + 8) by omega]
        exact rn.t (w + 8) (by omega) (by omega)
      · rw [upH_o (by omega), o _ (by omega) (by omega) (by omega)]
        exact rn.t w w0 w1
  · rw [a11, o _ (by omega) (by omega) (by omega), h11]
  · rw [o _ (by omega) (by omega) (by omega)] at x1
    rw [upH_o (by omega), o _ (by omega) (by omega) (by omega)]
    exact rn.e x x0 x1
  · rw [o _ (by omega) (by omega) (by omega)] at q; omega
theorem t_comeUp (hL : LyC B M) (hN : mP M 0 1 = some B) (hΛ : LawL M Λ) (rel : Rel h g) (I : InvS g hs FL R D) {n : Int} (c0 : -2147483648 ≤ n) (c1 : n ≤ 2147483647) :
    ∃ h' C' Mo', sX0_comeUp (some 0) (iI n) (tl B h C Hd Mo M) = some (iI (comeS Λ g n).1, tl B h' C' Hd Mo' M) ∧ Rel h' (comeS Λ g n).2 := by
  unfold comeS
  by_cases d : 0 ≤ n ∧ n < 7
  · have n0 := d.1
    have n1 := d.2
    obtain ⟨⟨s1, s2⟩, _⟩ := I.na n n0 n1
    have w0 := (rel.nd n n0 n1).s 0 (by omega) (by omega)
    by_cases e : g (244 * n + 0) = 1
    · rw [if_neg (fun hc => hc.2 e)]
      refine ⟨h, C, Mo, ?_, rel⟩
      simp (disch := first | assumption | omega) only [sX0_comeUp, t_isNode, gR_t1, z10, z00, if_true, if_false, iv_add, iv_sub, iv_mul, iv_le, iv_lt, iv_eq, iv_mx, iv_mn, bI_z, bI_o, rZ0, rZ1, rZb, cl_some', lt_eq, rm_eq, dv_eq, iv_01, iv_10, the, lastA, lpA, st_eq, st_ne, sh_addM, cV_cl, cV_nd, cV_mo, cV_lt, gR_t0, aR_nd, gR_c0, gR_c1, gR_c2, gR_c3, gR_c4, gR_c5, gR_c6, gR_c15, gR_c16, gI_c7, pI_c7, gI_c8, pI_c8, gI_c9, pI_c9, gI_c10, pI_c10, gI_c11, pI_c11, gI_c12, pI_c12, gI_c13, pI_c13, gI_c14, pI_c14, gN_9, gN_10, gN_11, gN_12, gN_13, gN_14, gN_15, gN_16, gN_17, gN_18, gN_19, gN_20, gN_21, gN_22, gN_23, pN_9, pN_10, pN_11, pN_12, pN_13, pN_14, pN_15, pN_16, pN_17, pN_18, pN_19, pN_20, pN_21, pN_22, pZ_0, pZ_1, gR_n0, aI_n0, sI_n0, gR_n1, aI_n1, sI_n1, gR_n2, aI_n2, sI_n2, gR_n3, aI_n3, sI_n3, gR_n4, aI_n4, sI_n4, gR_n5, aI_n5, sI_n5, gR_n6, aI_n6, sI_n6, gR_n7, aI_n7, sI_n7, gR_n8, aI_n8, sI_n8, aR_s, aI_s, sI_s, aR_h, aI_h, sI_h, aR_r, aI_r, sI_r, aI_c, sI_c, aI_l, sI_l, aI_ca, aI_ha, sI_ca, sI_ha, gI_mo, pI_mo, w0]
      rw [if_neg (fun hc => hc d), if_neg (by omega)]
    · rw [if_pos ⟨d, e⟩]
      have r1 := rel.up I.bd n0 n1 (by omega) (by omega)
      have o : ∀ x, ¬ x = 244 * n + 0 → ¬ x = 244 * n + 9 → (x < 244 * n + 12 ∨ 244 * n + 23 ≤ x) → upG g n x = g x := by
        intro x b c d
        unfold upG
        rw [if_neg b, if_neg c, if_neg (by omega), if_neg (by omega)]
      have b1 : BdA (upG g n) := by
        obtain ⟨b1, hG⟩ := I.bd
        exact ⟨fun m m0 m1 => by rw [o _ (by omega) (by omega) (by omega)]; exact b1 m m0 m1, GlA_blk (fun x _ => o x (by omega) (by omega) (by omega)) hG⟩
      obtain ⟨h2, Mo2, y3, r3⟩ := t_setsTimer (C := C) (Hd := Hd) (Mo := Mo) hL hΛ r1 b1 n0 n1 (by rw [o _ (by omega) (by omega) (by omega)]; omega) (by rw [o _ (by omega) (by omega) (by omega)]; omega)
      have x1 := t_comesUp (h := h) (C := C) (Hd := Hd) (Mo := Mo) hL n0 n1
      refine ⟨h2, C, Mo2, ?_, r3⟩
      simp (disch := first | assumption | omega) only [sX0_comeUp, t_isNode, gR_t1, z10, z00, if_true, if_false, iv_add, iv_sub, iv_mul, iv_le, iv_lt, iv_eq, iv_mx, iv_mn, bI_z, bI_o, rZ0, rZ1, rZb, cl_some', lt_eq, rm_eq, dv_eq, iv_01, iv_10, the, lastA, lpA, st_eq, st_ne, sh_addM, cV_cl, cV_nd, cV_mo, cV_lt, gR_t0, aR_nd, gR_c0, gR_c1, gR_c2, gR_c3, gR_c4, gR_c5, gR_c6, gR_c15, gR_c16, gI_c7, pI_c7, gI_c8, pI_c8, gI_c9, pI_c9, gI_c10, pI_c10, gI_c11, pI_c11, gI_c12, pI_c12, gI_c13, pI_c13, gI_c14, pI_c14, gN_9, gN_10, gN_11, gN_12, gN_13, gN_14, gN_15, gN_16, gN_17, gN_18, gN_19, gN_20, gN_21, gN_22, gN_23, pN_9, pN_10, pN_11, pN_12, pN_13, pN_14, pN_15, pN_16, pN_17, pN_18, pN_19, pN_20, pN_21, pN_22, pZ_0, pZ_1, gR_n0, aI_n0, sI_n0, gR_n1, aI_n1, sI_n1, gR_n2, aI_n2, sI_n2, gR_n3, aI_n3, sI_n3, gR_n4, aI_n4, sI_n4, gR_n5, aI_n5, sI_n5, gR_n6, aI_n6, sI_n6, gR_n7, aI_n7, sI_n7, gR_n8, aI_n8, sI_n8, aR_s, aI_s, sI_s, aR_h, aI_h, sI_h, aR_r, aI_r, sI_r, aI_c, sI_c, aI_l, sI_l, aI_ca, aI_ha, sI_ca, sI_ha, gI_mo, pI_mo, w0, x1, y3]
      rw [if_neg (fun hc => hc d), if_pos (by omega)]
  · rw [if_neg (fun hc => d hc.1)]
    refine ⟨h, C, Mo, ?_, rel⟩
    simp (disch := first | assumption | omega) only [sX0_comeUp, t_isNode, gR_t1, z10, z00, if_true, if_false, iv_add, iv_sub, iv_mul, iv_le, iv_lt, iv_eq, iv_mx, iv_mn, bI_z, bI_o, rZ0, rZ1, rZb, cl_some', lt_eq, rm_eq, dv_eq, iv_01, iv_10, the, lastA, lpA, st_eq, st_ne, sh_addM, cV_cl, cV_nd, cV_mo, cV_lt, gR_t0, aR_nd, gR_c0, gR_c1, gR_c2, gR_c3, gR_c4, gR_c5, gR_c6, gR_c15, gR_c16, gI_c7, pI_c7, gI_c8, pI_c8, gI_c9, pI_c9, gI_c10, pI_c10, gI_c11, pI_c11, gI_c12, pI_c12, gI_c13, pI_c13, gI_c14, pI_c14, gN_9, gN_10, gN_11, gN_12, gN_13, gN_14, gN_15, gN_16, gN_17, gN_18, gN_19, gN_20, gN_21, gN_22, gN_23, pN_9, pN_10, pN_11, pN_12, pN_13, pN_14, pN_15, pN_16, pN_17, pN_18, pN_19, pN_20, pN_21, pN_22, pZ_0, pZ_1, gR_n0, aI_n0, sI_n0, gR_n1, aI_n1, sI_n1, gR_n2, aI_n2, sI_n2, gR_n3, aI_n3, sI_n3, gR_n4, aI_n4, sI_n4, gR_n5, aI_n5, sI_n5, gR_n6, aI_n6, sI_n6, gR_n7, aI_n7, sI_n7, gR_n8, aI_n8, sI_n8, aR_s, aI_s, sI_s, aR_h, aI_h, sI_h, aR_r, aI_r, sI_r, aI_c, sI_c, aI_l, sI_l, aI_ca, aI_ha, sI_ca, sI_ha, gI_mo, pI_mo]
    rw [if_pos d]
theorem Rel.cutp (rel : Rel h g) (b : BdA g) {p v : Int} (p0 : 11124 ≤ p) (p1 : p < 11131) : Rel (st h p v) (st g p v) := by
  refine rel.plain b (fun x y z => ?_) (fun x y => st_ne (by omega)) (fun x y z => st_ne (by omega))
  by_cases d : x = p
  · rw [d, st_eq, st_eq]
    exact Or.inr ⟨rfl, fun m m0 m1 => by omega, by omega, by omega, by omega, by omega⟩
  · exact Or.inl ⟨st_ne d, st_ne d⟩
theorem t_cut (hL : LyC B M) (hN : mP M 0 1 = some B) (rel : Rel h g) (I : InvS g hs FL R D) {a b : Int} {z : Int32} (a0 : -2147483648 ≤ a) (a1 : a ≤ 2147483647) (b0 : -2147483648 ≤ b) (b1 : b ≤ 2147483647) :
    ∃ h', sX0_cut (some 0) (iI a) (iI b) z (tl B h C Hd Mo M) = some (iI (cutS g a b (¬ z = iI 0)).1, tl B h' C Hd Mo M) ∧ Rel h' (cutS g a b (¬ z = iI 0)).2 := by
  unfold cutS
  by_cases d : 0 ≤ a ∧ a < 7
  · by_cases e : 0 ≤ b ∧ b < 7
    · by_cases f : a = b
      · rw [if_neg (fun hc => hc.2.2 f)]
        refine ⟨h, ?_, rel⟩
        simp (disch := first | assumption | omega) only [sX0_cut, t_isNode, gR_t1, z10, z00, if_true, if_false, iv_add, iv_sub, iv_mul, iv_le, iv_lt, iv_eq, iv_mx, iv_mn, bI_z, bI_o, rZ0, rZ1, rZb, cl_some', lt_eq, rm_eq, dv_eq, iv_01, iv_10, the, lastA, lpA, st_eq, st_ne, sh_addM, cV_cl, cV_nd, cV_mo, cV_lt, gR_t0, aR_nd, gR_c0, gR_c1, gR_c2, gR_c3, gR_c4, gR_c5, gR_c6, gR_c15, gR_c16, gI_c7, pI_c7, gI_c8, pI_c8, gI_c9, pI_c9, gI_c10, pI_c10, gI_c11, pI_c11, gI_c12, pI_c12, gI_c13, pI_c13, gI_c14, pI_c14, gN_9, gN_10, gN_11, gN_12, gN_13, gN_14, gN_15, gN_16, gN_17, gN_18, gN_19, gN_20, gN_21, gN_22, gN_23, pN_9, pN_10, pN_11, pN_12, pN_13, pN_14, pN_15, pN_16, pN_17, pN_18, pN_19, pN_20, pN_21, pN_22, pZ_0, pZ_1, gR_n0, aI_n0, sI_n0, gR_n1, aI_n1, sI_n1, gR_n2, aI_n2, sI_n2, gR_n3, aI_n3, sI_n3, gR_n4, aI_n4, sI_n4, gR_n5, aI_n5, sI_n5, gR_n6, aI_n6, sI_n6, gR_n7, aI_n7, sI_n7, gR_n8, aI_n8, sI_n8, aR_s, aI_s, sI_s, aR_h, aI_h, sI_h, aR_r, aI_r, sI_r, aI_c, sI_c, aI_l, sI_l, aI_ca, aI_ha, sI_ca, sI_ha, gI_mo, pI_mo]
        rw [if_neg (fun hc => hc d), if_neg (fun hc => hc e), if_pos f]
      · rw [if_pos ⟨d, e, f⟩]
        have ca := I.ct a d.1 d.2
        have cb := I.ct b e.1 e.2
        have wa := rel.ct (11124 + a) (by omega) (by omega)
        have wb := rel.ct (11124 + b) (by omega) (by omega)
        have ba := bitR d.1 d.2
        have bb := bitR e.1 e.2
        have key : ∀ v, sX0_cut_64 (some 0) (iI a) (iI b) z (some (B + 1181)) (iI a) (iI v) (tl B h C Hd Mo M) = some (iI 1, tl B (st (st h (11124 + a) v) (11124 + b) (cutsV (g (11124 + b)) a (¬ z = iI 0))) C Hd Mo M) := by
          intro v
          have o : st h (11124 + a) v (11124 + b) = g (11124 + b) := by rw [st_ne (by omega)]; exact wb
          unfold cutsV
          by_cases c : z = iI 0
          · simp (disch := first | assumption | omega) only [sX0_cut_64, gR_t1, iv_shl, iv_off, z10, z00, if_true, if_false, iv_add, iv_sub, iv_mul, iv_le, iv_lt, iv_eq, iv_mx, iv_mn, bI_z, bI_o, rZ0, rZ1, rZb, cl_some', lt_eq, rm_eq, dv_eq, iv_01, iv_10, the, lastA, lpA, st_eq, st_ne, sh_addM, cV_cl, cV_nd, cV_mo, cV_lt, gR_t0, aR_nd, gR_c0, gR_c1, gR_c2, gR_c3, gR_c4, gR_c5, gR_c6, gR_c15, gR_c16, gI_c7, pI_c7, gI_c8, pI_c8, gI_c9, pI_c9, gI_c10, pI_c10, gI_c11, pI_c11, gI_c12, pI_c12, gI_c13, pI_c13, gI_c14, pI_c14, gN_9, gN_10, gN_11, gN_12, gN_13, gN_14, gN_15, gN_16, gN_17, gN_18, gN_19, gN_20, gN_21, gN_22, gN_23, pN_9, pN_10, pN_11, pN_12, pN_13, pN_14, pN_15, pN_16, pN_17, pN_18, pN_19, pN_20, pN_21, pN_22, pZ_0, pZ_1, gR_n0, aI_n0, sI_n0, gR_n1, aI_n1, sI_n1, gR_n2, aI_n2, sI_n2, gR_n3, aI_n3, sI_n3, gR_n4, aI_n4, sI_n4, gR_n5, aI_n5, sI_n5, gR_n6, aI_n6, sI_n6, gR_n7, aI_n7, sI_n7, gR_n8, aI_n8, sI_n8, aR_s, aI_s, sI_s, aR_h, aI_h, sI_h, aR_r, aI_r, sI_r, aI_c, sI_c, aI_l, sI_l, aI_ca, aI_ha, sI_ca, sI_ha, gI_mo, pI_mo, o]
            rw [if_pos c, if_neg (fun hc => hc c), wb]
          · simp (disch := first | assumption | omega) only [sX0_cut_64, gR_t1, iv_shl, iv_or, z10, z00, if_true, if_false, iv_add, iv_sub, iv_mul, iv_le, iv_lt, iv_eq, iv_mx, iv_mn, bI_z, bI_o, rZ0, rZ1, rZb, cl_some', lt_eq, rm_eq, dv_eq, iv_01, iv_10, the, lastA, lpA, st_eq, st_ne, sh_addM, cV_cl, cV_nd, cV_mo, cV_lt, gR_t0, aR_nd, gR_c0, gR_c1, gR_c2, gR_c3, gR_c4, gR_c5, gR_c6, gR_c15, gR_c16, gI_c7, pI_c7, gI_c8, pI_c8, gI_c9, pI_c9, gI_c10, pI_c10, gI_c11, pI_c11, gI_c12, pI_c12, gI_c13, pI_c13, gI_c14, pI_c14, gN_9, gN_10, gN_11, gN_12, gN_13, gN_14, gN_15, gN_16, gN_17, gN_18, gN_19, gN_20, gN_21, gN_22, gN_23, pN_9, pN_10, pN_11, pN_12, pN_13, pN_14, pN_15, pN_16, pN_17, pN_18, pN_19, pN_20, pN_21, pN_22, pZ_0, pZ_1, gR_n0, aI_n0, sI_n0, gR_n1, aI_n1, sI_n1, gR_n2, aI_n2, sI_n2, gR_n3, aI_n3, sI_n3, gR_n4, aI_n4, sI_n4, gR_n5, aI_n5, sI_n5, gR_n6, aI_n6, sI_n6, gR_n7, aI_n7, sI_n7, gR_n8, aI_n8, sI_n8, aR_s, aI_s, sI_s, aR_h, aI_h, sI_h, aR_r, aI_r, sI_r, aI_c, sI_c, aI_l, sI_l, aI_ca, aI_ha, sI_ca, sI_ha, gI_mo, pI_mo, o]
            rw [if_neg c, if_pos c, wb]
        have fin : Rel (st (st h (11124 + a) (cutsV (g (11124 + a)) b (¬ z = iI 0))) (11124 + b) (cutsV (g (11124 + b)) a (¬ z = iI 0))) (cutsG g a b (¬ z = iI 0)) := by
          have ra := rel.cutp I.bd (p := 11124 + a) (v := cutsV (g (11124 + a)) b (¬ z = iI 0)) (by omega) (by omega)
          have bd : BdA (st g (11124 + a) (cutsV (g (11124 + a)) b (¬ z = iI 0))) := by
            obtain ⟨b1, b2⟩ := I.bd
            exact ⟨fun m m0 m1 => by rw [st_ne (by omega)]; exact b1 m m0 m1, GlA_blk (fun x _ => st_ne (by omega)) b2⟩
          exact ra.cutp bd (by omega) (by omega)
        refine ⟨_, ?_, fin⟩
        have k := key (cutsV (g (11124 + a)) b (¬ z = iI 0))
        by_cases c : z = iI 0
        · have cv : cutsV (g (11124 + a)) b (¬ z = iI 0) = offI (g (11124 + a)) b := if_neg (fun hc => hc c)
          rw [cv] at k ⊢
          simp (disch := first | assumption | omega) only [sX0_cut, t_isNode, gR_t1, iv_shl, iv_off, z10, z00, if_true, if_false, iv_add, iv_sub, iv_mul, iv_le, iv_lt, iv_eq, iv_mx, iv_mn, bI_z, bI_o, rZ0, rZ1, rZb, cl_some', lt_eq, rm_eq, dv_eq, iv_01, iv_10, the, lastA, lpA, st_eq, st_ne, sh_addM, cV_cl, cV_nd, cV_mo, cV_lt, gR_t0, aR_nd, gR_c0, gR_c1, gR_c2, gR_c3, gR_c4, gR_c5, gR_c6, gR_c15, gR_c16, gI_c7, pI_c7, gI_c8, pI_c8, gI_c9, pI_c9, gI_c10, pI_c10, gI_c11, pI_c11, gI_c12, pI_c12, gI_c13, pI_c13, gI_c14, pI_c14, gN_9, gN_10, gN_11, gN_12, gN_13, gN_14, gN_15, gN_16, gN_17, gN_18, gN_19, gN_20, gN_21, gN_22, gN_23, pN_9, pN_10, pN_11, pN_12, pN_13, pN_14, pN_15, pN_16, pN_17, pN_18, pN_19, pN_20, pN_21, pN_22, pZ_0, pZ_1, gR_n0, aI_n0, sI_n0, gR_n1, aI_n1, sI_n1, gR_n2, aI_n2, sI_n2, gR_n3, aI_n3, sI_n3, gR_n4, aI_n4, sI_n4, gR_n5, aI_n5, sI_n5, gR_n6, aI_n6, sI_n6, gR_n7, aI_n7, sI_n7, gR_n8, aI_n8, sI_n8, aR_s, aI_s, sI_s, aR_h, aI_h, sI_h, aR_r, aI_r, sI_r, aI_c, sI_c, aI_l, sI_l, aI_ca, aI_ha, sI_ca, sI_ha, gI_mo, pI_mo, wa]
          rw [if_neg (fun hc => hc d), if_neg (fun hc => hc e), if_neg f, if_pos c]
          exact k
        · have cv : cutsV (g (11124 + a)) b (¬ z = iI 0) = orI (g (11124 + a)) (bitI b) := if_pos c
          rw [cv] at k ⊢
          simp (disch := first | assumption | omega) only [sX0_cut, t_isNode, gR_t1, iv_shl, iv_or, z10, z00, if_true, if_false, iv_add, iv_sub, iv_mul, iv_le, iv_lt, iv_eq, iv_mx, iv_mn, bI_z, bI_o, rZ0, rZ1, rZb, cl_some', lt_eq, rm_eq, dv_eq, iv_01, iv_10, the, lastA, lpA, st_eq, st_ne, sh_addM, cV_cl, cV_nd, cV_mo, cV_lt, gR_t0, aR_nd, gR_c0, gR_c1, gR_c2, gR_c3, gR_c4, gR_c5, gR_c6, gR_c15, gR_c16, gI_c7, pI_c7, gI_c8, pI_c8, gI_c9, pI_c9, gI_c10, pI_c10, gI_c11, pI_c11, gI_c12, pI_c12, gI_c13, pI_c13, gI_c14, pI_c14, gN_9, gN_10, gN_11, gN_12, gN_13, gN_14, gN_15, gN_16, gN_17, gN_18, gN_19, gN_20, gN_21, gN_22, gN_23, pN_9, pN_10, pN_11, pN_12, pN_13, pN_14, pN_15, pN_16, pN_17, pN_18, pN_19, pN_20, pN_21, pN_22, pZ_0, pZ_1, gR_n0, aI_n0, sI_n0, gR_n1, aI_n1, sI_n1, gR_n2, aI_n2, sI_n2, gR_n3, aI_n3, sI_n3, gR_n4, aI_n4, sI_n4, gR_n5, aI_n5, sI_n5, gR_n6, aI_n6, sI_n6, gR_n7, aI_n7, sI_n7, gR_n8, aI_n8, sI_n8, aR_s, aI_s, sI_s, aR_h, aI_h, sI_h, aR_r, aI_r, sI_r, aI_c, sI_c, aI_l, sI_l, aI_ca, aI_ha, sI_ca, sI_ha, gI_mo, pI_mo, wa]
          rw [if_neg (fun hc => hc d), if_neg (fun hc => hc e), if_neg f, if_neg c]
          exact k
    · rw [if_neg (fun hc => e hc.2.1)]
      refine ⟨h, ?_, rel⟩
      simp (disch := first | assumption | omega) only [sX0_cut, t_isNode, gR_t1, z10, z00, if_true, if_false, iv_add, iv_sub, iv_mul, iv_le, iv_lt, iv_eq, iv_mx, iv_mn, bI_z, bI_o, rZ0, rZ1, rZb, cl_some', lt_eq, rm_eq, dv_eq, iv_01, iv_10, the, lastA, lpA, st_eq, st_ne, sh_addM, cV_cl, cV_nd, cV_mo, cV_lt, gR_t0, aR_nd, gR_c0, gR_c1, gR_c2, gR_c3, gR_c4, gR_c5, gR_c6, gR_c15, gR_c16, gI_c7, pI_c7, gI_c8, pI_c8, gI_c9, pI_c9, gI_c10, pI_c10, gI_c11, pI_c11, gI_c12, pI_c12, gI_c13, pI_c13, gI_c14, pI_c14, gN_9, gN_10, gN_11, gN_12, gN_13, gN_14, gN_15, gN_16, gN_17, gN_18, gN_19, gN_20, gN_21, gN_22, gN_23, pN_9, pN_10, pN_11, pN_12, pN_13, pN_14, pN_15, pN_16, pN_17, pN_18, pN_19, pN_20, pN_21, pN_22, pZ_0, pZ_1, gR_n0, aI_n0, sI_n0, gR_n1, aI_n1, sI_n1, gR_n2, aI_n2, sI_n2, gR_n3, aI_n3, sI_n3, gR_n4, aI_n4, sI_n4, gR_n5, aI_n5, sI_n5, gR_n6, aI_n6, sI_n6, gR_n7, aI_n7, sI_n7, gR_n8, aI_n8, sI_n8, aR_s, aI_s, sI_s, aR_h, aI_h, sI_h, aR_r, aI_r, sI_r, aI_c, sI_c, aI_l, sI_l, aI_ca, aI_ha, sI_ca, sI_ha, gI_mo, pI_mo]
      rw [if_neg (fun hc => hc d), if_pos e]
  · rw [if_neg (fun hc => d hc.1)]
    refine ⟨h, ?_, rel⟩
    simp (disch := first | assumption | omega) only [sX0_cut, t_isNode, gR_t1, z10, z00, if_true, if_false, iv_add, iv_sub, iv_mul, iv_le, iv_lt, iv_eq, iv_mx, iv_mn, bI_z, bI_o, rZ0, rZ1, rZb, cl_some', lt_eq, rm_eq, dv_eq, iv_01, iv_10, the, lastA, lpA, st_eq, st_ne, sh_addM, cV_cl, cV_nd, cV_mo, cV_lt, gR_t0, aR_nd, gR_c0, gR_c1, gR_c2, gR_c3, gR_c4, gR_c5, gR_c6, gR_c15, gR_c16, gI_c7, pI_c7, gI_c8, pI_c8, gI_c9, pI_c9, gI_c10, pI_c10, gI_c11, pI_c11, gI_c12, pI_c12, gI_c13, pI_c13, gI_c14, pI_c14, gN_9, gN_10, gN_11, gN_12, gN_13, gN_14, gN_15, gN_16, gN_17, gN_18, gN_19, gN_20, gN_21, gN_22, gN_23, pN_9, pN_10, pN_11, pN_12, pN_13, pN_14, pN_15, pN_16, pN_17, pN_18, pN_19, pN_20, pN_21, pN_22, pZ_0, pZ_1, gR_n0, aI_n0, sI_n0, gR_n1, aI_n1, sI_n1, gR_n2, aI_n2, sI_n2, gR_n3, aI_n3, sI_n3, gR_n4, aI_n4, sI_n4, gR_n5, aI_n5, sI_n5, gR_n6, aI_n6, sI_n6, gR_n7, aI_n7, sI_n7, gR_n8, aI_n8, sI_n8, aR_s, aI_s, sI_s, aR_h, aI_h, sI_h, aR_r, aI_r, sI_r, aI_c, sI_c, aI_l, sI_l, aI_ca, aI_ha, sI_ca, sI_ha, gI_mo, pI_mo]
    rw [if_pos d]
theorem Rel.comp (rel : Rel h g) (b : BdA g) {n : Int} (n0 : 0 ≤ n) (n1 : n < 7) (hg : LgA g n) : Rel (compG h n) (compG g n) :=
  rel.node b n0 n1 (fun x hx => by have hL := ((rel.nd n n0 n1).lg hg).1; exact compG_ne (by omega) (by omega) (by omega)) (fun x hx => compG_ne (by omega) (by omega) (by have := hg.1; omega)) ((rel.nd n n0 n1).comp hg)
theorem t_compact (hL : LyC B M) (hN : mP M 0 1 = some B) (rel : Rel h g) (I : InvS g hs FL R D) {n : Int} (c0 : -2147483648 ≤ n) (c1 : n ≤ 2147483647) :
    ∃ h', sX0_compact (some 0) (iI n) (tl B h C Hd Mo M) = some (iI (compactS g n).1, tl B h' C Hd Mo M) ∧ Rel h' (compactS g n).2 := by
  unfold compactS
  by_cases d : 0 ≤ n ∧ n < 7
  · have n0 := d.1
    have n1 := d.2
    obtain ⟨⟨s1, s2⟩, _⟩ := I.na n n0 n1
    have rn := rel.nd n n0 n1
    have w0 := rn.s 0 (by omega) (by omega)
    have w4 := rn.s 4 (by omega) (by omega)
    have w9 := rn.s 9 (by omega) (by omega)
    by_cases e : g (244 * n + 0) = 1
    · by_cases f : g (244 * n + 9) = g (244 * n + 4)
      · rw [if_neg (fun hc => hc.2 f)]
        refine ⟨h, ?_, rel⟩
        simp (disch := first | assumption | omega) only [sX0_compact, t_isNode, gR_t1, z10, z00, if_true, if_false, iv_add, iv_sub, iv_mul, iv_le, iv_lt, iv_eq, iv_mx, iv_mn, bI_z, bI_o, rZ0, rZ1, rZb, cl_some', lt_eq, rm_eq, dv_eq, iv_01, iv_10, the, lastA, lpA, st_eq, st_ne, sh_addM, cV_cl, cV_nd, cV_mo, cV_lt, gR_t0, aR_nd, gR_c0, gR_c1, gR_c2, gR_c3, gR_c4, gR_c5, gR_c6, gR_c15, gR_c16, gI_c7, pI_c7, gI_c8, pI_c8, gI_c9, pI_c9, gI_c10, pI_c10, gI_c11, pI_c11, gI_c12, pI_c12, gI_c13, pI_c13, gI_c14, pI_c14, gN_9, gN_10, gN_11, gN_12, gN_13, gN_14, gN_15, gN_16, gN_17, gN_18, gN_19, gN_20, gN_21, gN_22, gN_23, pN_9, pN_10, pN_11, pN_12, pN_13, pN_14, pN_15, pN_16, pN_17, pN_18, pN_19, pN_20, pN_21, pN_22, pZ_0, pZ_1, gR_n0, aI_n0, sI_n0, gR_n1, aI_n1, sI_n1, gR_n2, aI_n2, sI_n2, gR_n3, aI_n3, sI_n3, gR_n4, aI_n4, sI_n4, gR_n5, aI_n5, sI_n5, gR_n6, aI_n6, sI_n6, gR_n7, aI_n7, sI_n7, gR_n8, aI_n8, sI_n8, aR_s, aI_s, sI_s, aR_h, aI_h, sI_h, aR_r, aI_r, sI_r, aI_c, sI_c, aI_l, sI_l, aI_ca, aI_ha, sI_ca, sI_ha, gI_mo, pI_mo, w0, w4, w9]
        rw [if_neg (fun hc => hc d), if_neg (by omega), if_pos f]
      · rw [if_pos ⟨⟨d, e⟩, f⟩]
        have y2 := t_compacts (C := C) (Hd := Hd) (Mo := Mo) hL (rn.lg (I.lg n0 n1))
        refine ⟨_, ?_, rel.comp I.bd n0 n1 (I.lg n0 n1)⟩
        simp (disch := first | assumption | omega) only [sX0_compact, t_isNode, gR_t1, z10, z00, if_true, if_false, iv_add, iv_sub, iv_mul, iv_le, iv_lt, iv_eq, iv_mx, iv_mn, bI_z, bI_o, rZ0, rZ1, rZb, cl_some', lt_eq, rm_eq, dv_eq, iv_01, iv_10, the, lastA, lpA, st_eq, st_ne, sh_addM, cV_cl, cV_nd, cV_mo, cV_lt, gR_t0, aR_nd, gR_c0, gR_c1, gR_c2, gR_c3, gR_c4, gR_c5, gR_c6, gR_c15, gR_c16, gI_c7, pI_c7, gI_c8, pI_c8, gI_c9, pI_c9, gI_c10, pI_c10, gI_c11, pI_c11, gI_c12, pI_c12, gI_c13, pI_c13, gI_c14, pI_c14, gN_9, gN_10, gN_11, gN_12, gN_13, gN_14, gN_15, gN_16, gN_17, gN_18, gN_19, gN_20, gN_21, gN_22, gN_23, pN_9, pN_10, pN_11, pN_12, pN_13, pN_14, pN_15, pN_16, pN_17, pN_18, pN_19, pN_20, pN_21, pN_22, pZ_0, pZ_1, gR_n0, aI_n0, sI_n0, gR_n1, aI_n1, sI_n1, gR_n2, aI_n2, sI_n2, gR_n3, aI_n3, sI_n3, gR_n4, aI_n4, sI_n4, gR_n5, aI_n5, sI_n5, gR_n6, aI_n6, sI_n6, gR_n7, aI_n7, sI_n7, gR_n8, aI_n8, sI_n8, aR_s, aI_s, sI_s, aR_h, aI_h, sI_h, aR_r, aI_r, sI_r, aI_c, sI_c, aI_l, sI_l, aI_ca, aI_ha, sI_ca, sI_ha, gI_mo, pI_mo, w0, w4, w9, y2]
        rw [if_neg (fun hc => hc d), if_neg (by omega), if_neg f]
    · rw [if_neg (fun hc => e hc.1.2)]
      refine ⟨h, ?_, rel⟩
      simp (disch := first | assumption | omega) only [sX0_compact, t_isNode, gR_t1, z10, z00, if_true, if_false, iv_add, iv_sub, iv_mul, iv_le, iv_lt, iv_eq, iv_mx, iv_mn, bI_z, bI_o, rZ0, rZ1, rZb, cl_some', lt_eq, rm_eq, dv_eq, iv_01, iv_10, the, lastA, lpA, st_eq, st_ne, sh_addM, cV_cl, cV_nd, cV_mo, cV_lt, gR_t0, aR_nd, gR_c0, gR_c1, gR_c2, gR_c3, gR_c4, gR_c5, gR_c6, gR_c15, gR_c16, gI_c7, pI_c7, gI_c8, pI_c8, gI_c9, pI_c9, gI_c10, pI_c10, gI_c11, pI_c11, gI_c12, pI_c12, gI_c13, pI_c13, gI_c14, pI_c14, gN_9, gN_10, gN_11, gN_12, gN_13, gN_14, gN_15, gN_16, gN_17, gN_18, gN_19, gN_20, gN_21, gN_22, gN_23, pN_9, pN_10, pN_11, pN_12, pN_13, pN_14, pN_15, pN_16, pN_17, pN_18, pN_19, pN_20, pN_21, pN_22, pZ_0, pZ_1, gR_n0, aI_n0, sI_n0, gR_n1, aI_n1, sI_n1, gR_n2, aI_n2, sI_n2, gR_n3, aI_n3, sI_n3, gR_n4, aI_n4, sI_n4, gR_n5, aI_n5, sI_n5, gR_n6, aI_n6, sI_n6, gR_n7, aI_n7, sI_n7, gR_n8, aI_n8, sI_n8, aR_s, aI_s, sI_s, aR_h, aI_h, sI_h, aR_r, aI_r, sI_r, aI_c, sI_c, aI_l, sI_l, aI_ca, aI_ha, sI_ca, sI_ha, gI_mo, pI_mo, w0]
      rw [if_neg (fun hc => hc d), if_pos (by omega)]
  · rw [if_neg (fun hc => d hc.1.1)]
    refine ⟨h, ?_, rel⟩
    simp (disch := first | assumption | omega) only [sX0_compact, t_isNode, gR_t1, z10, z00, if_true, if_false, iv_add, iv_sub, iv_mul, iv_le, iv_lt, iv_eq, iv_mx, iv_mn, bI_z, bI_o, rZ0, rZ1, rZb, cl_some', lt_eq, rm_eq, dv_eq, iv_01, iv_10, the, lastA, lpA, st_eq, st_ne, sh_addM, cV_cl, cV_nd, cV_mo, cV_lt, gR_t0, aR_nd, gR_c0, gR_c1, gR_c2, gR_c3, gR_c4, gR_c5, gR_c6, gR_c15, gR_c16, gI_c7, pI_c7, gI_c8, pI_c8, gI_c9, pI_c9, gI_c10, pI_c10, gI_c11, pI_c11, gI_c12, pI_c12, gI_c13, pI_c13, gI_c14, pI_c14, gN_9, gN_10, gN_11, gN_12, gN_13, gN_14, gN_15, gN_16, gN_17, gN_18, gN_19, gN_20, gN_21, gN_22, gN_23, pN_9, pN_10, pN_11, pN_12, pN_13, pN_14, pN_15, pN_16, pN_17, pN_18, pN_19, pN_20, pN_21, pN_22, pZ_0, pZ_1, gR_n0, aI_n0, sI_n0, gR_n1, aI_n1, sI_n1, gR_n2, aI_n2, sI_n2, gR_n3, aI_n3, sI_n3, gR_n4, aI_n4, sI_n4, gR_n5, aI_n5, sI_n5, gR_n6, aI_n6, sI_n6, gR_n7, aI_n7, sI_n7, gR_n8, aI_n8, sI_n8, aR_s, aI_s, sI_s, aR_h, aI_h, sI_h, aR_r, aI_r, sI_r, aI_c, sI_c, aI_l, sI_l, aI_ca, aI_ha, sI_ca, sI_ha, gI_mo, pI_mo]
    rw [if_pos d]
end
