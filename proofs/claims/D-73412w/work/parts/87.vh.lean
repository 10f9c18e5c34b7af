/-! DEPS: vg -/
/-! VH: TermLog sends entries and snapshots -/
section
variable {B : Nat} {h g C Hd Mo : Row} {M : Mem} {Λ : Law} {hs : His} {FL : Int → ELog} {R : Int} {D : DK}
def enC (h C : Row) (p k : Int) : Row := fun f => if 10 ≤ f ∧ f < 10 + 4 * k then h (p + (f - 10)) else C f
theorem enSt {p k : Int} (k0 : 0 ≤ k) : st (st (st (st (enC h C p k) (10 + 4 * k) (h (p + 4 * k))) (10 + 4 * k + 1) (h (p + 4 * k + 1))) (10 + 4 * k + 2) (h (p + 4 * k + 2))) (10 + 4 * k + 3) (h (p + 4 * k + 3)) = enC h C p (k + 1) := by
  funext x
  unfold st enC
  by_cases q3 : x = 10 + 4 * k + 3
  · rw [if_pos q3, if_pos (by omega)]
    congr 1
    omega
  · rw [if_neg q3]
    by_cases q2 : x = 10 + 4 * k + 2
    · rw [if_pos q2, if_pos (by omega)]
      congr 1
      omega
    · rw [if_neg q2]
      by_cases q1 : x = 10 + 4 * k + 1
      · rw [if_pos q1, if_pos (by omega)]
        congr 1
        omega
      · rw [if_neg q1]
        by_cases q0 : x = 10 + 4 * k
        · rw [if_pos q0, if_pos (by omega)]
          congr 1
          omega
        · rw [if_neg q0]
          by_cases d : 10 ≤ x ∧ x < 10 + 4 * k
          · rw [if_pos d, if_pos (by omega)]
          · rw [if_neg d, if_neg (by omega)]
theorem t_ents (hL : LyC B M) {n pv m : Int} (n0 : 0 ≤ n) (n1 : n < 7) (p0 : h (244 * n + 4) ≤ pv) (p1 : pv - h (244 * n + 4) + m ≤ 48) (m0 : 0 ≤ m) (m4 : m ≤ 4) (b0 : 0 ≤ h (244 * n + 4)) (b1 : h (244 * n + 4) ≤ 999) (hm : C 9 = m) : ∀ (j : Nat) (k : Int) (f : Nat), m - k = j → 0 ≤ k → j < f →
    sX3_sendsOn_154 f (some B) (some (ndA B n)) (iI pv) (iI k) (tl B h (enC h C (244 * n + 52 + 4 * (pv - h (244 * n + 4))) k) Hd Mo M) = sX3_sendsOn_266 (some B) (tl B h (enC h C (244 * n + 52 + 4 * (pv - h (244 * n + 4))) m) Hd Mo M)
  | 0, k, f + 1, e1, e2, e3 => by
    have e : k = m := by omega
    subst e
    have o : enC h C (244 * n + 52 + 4 * (pv - h (244 * n + 4))) k 9 = k := by
      unfold enC
      rw [if_neg (by omega)]; exact hm
    simp (disch := first | assumption | omega) only [sX3_sendsOn_154, sX3_sendsOn_154b, z10, z00, if_true, if_false, iv_add, iv_sub, iv_mul, iv_le, iv_lt, iv_eq, iv_mx, iv_mn, bI_z, bI_o, rZ0, rZ1, rZb, cl_some', lt_eq, rm_eq, dv_eq, iv_01, iv_10, the, lastA, lpA, st_eq, st_ne, sh_addM, cV_cl, cV_nd, cV_mo, cV_lt, gR_t0, aR_nd, gR_c0, gR_c1, gR_c2, gR_c3, gR_c4, gR_c5, gR_c6, gR_c15, gR_c16, gI_c7, pI_c7, gI_c8, pI_c8, gI_c9, pI_c9, gI_c10, pI_c10, gI_c11, pI_c11, gI_c12, pI_c12, gI_c13, pI_c13, gI_c14, pI_c14, gN_9, gN_10, gN_11, gN_12, gN_13, gN_14, gN_15, gN_16, gN_17, gN_18, gN_19, gN_20, gN_21, gN_22, gN_23, pN_9, pN_10, pN_11, pN_12, pN_13, pN_14, pN_15, pN_16, pN_17, pN_18, pN_19, pN_20, pN_21, pN_22, pZ_0, pZ_1, gR_n0, aI_n0, sI_n0, gR_n1, aI_n1, sI_n1, gR_n2, aI_n2, sI_n2, gR_n3, aI_n3, sI_n3, gR_n4, aI_n4, sI_n4, gR_n5, aI_n5, sI_n5, gR_n6, aI_n6, sI_n6, gR_n7, aI_n7, sI_n7, gR_n8, aI_n8, sI_n8, aR_s, aI_s, sI_s, aR_h, aI_h, sI_h, aR_r, aI_r, sI_r, aI_c, sI_c, aI_l, sI_l, aI_ca, aI_ha, sI_ca, sI_ha, gI_mo, pI_mo, o]
    rw [if_pos (by omega)]
  | j + 1, k, f + 1, e1, e2, e3 => by
    have ih := t_ents hL n0 n1 p0 p1 m0 m4 b0 b1 hm j (k + 1) f (by omega) (by omega) (by omega)
    have o : enC h C (244 * n + 52 + 4 * (pv - h (244 * n + 4))) k 9 = m := by
      unfold enC
      rw [if_neg (by omega)]; exact hm
    have s := enSt (h := h) (C := C) (p := 244 * n + 52 + 4 * (pv - h (244 * n + 4))) e2
    have w0 : 244 * n + 52 + 4 * (pv - h (244 * n + 4) + k) = 244 * n + 52 + 4 * (pv - h (244 * n + 4)) + 4 * k := by omega
    show sX3_sendsOn_154b (sX3_sendsOn_154 f) _ _ _ _ _ = _
    generalize sX3_sendsOn_154 f = K at ih ⊢
    simp (disch := first | assumption | omega) only [sX3_sendsOn_154b, z10, z00, if_true, if_false, iv_add, iv_sub, iv_mul, iv_le, iv_lt, iv_eq, iv_mx, iv_mn, bI_z, bI_o, rZ0, rZ1, rZb, cl_some', lt_eq, rm_eq, dv_eq, iv_01, iv_10, the, lastA, lpA, st_eq, st_ne, sh_addM, cV_cl, cV_nd, cV_mo, cV_lt, gR_t0, aR_nd, gR_c0, gR_c1, gR_c2, gR_c3, gR_c4, gR_c5, gR_c6, gR_c15, gR_c16, gI_c7, pI_c7, gI_c8, pI_c8, gI_c9, pI_c9, gI_c10, pI_c10, gI_c11, pI_c11, gI_c12, pI_c12, gI_c13, pI_c13, gI_c14, pI_c14, gN_9, gN_10, gN_11, gN_12, gN_13, gN_14, gN_15, gN_16, gN_17, gN_18, gN_19, gN_20, gN_21, gN_22, gN_23, pN_9, pN_10, pN_11, pN_12, pN_13, pN_14, pN_15, pN_16, pN_17, pN_18, pN_19, pN_20, pN_21, pN_22, pZ_0, pZ_1, gR_n0, aI_n0, sI_n0, gR_n1, aI_n1, sI_n1, gR_n2, aI_n2, sI_n2, gR_n3, aI_n3, sI_n3, gR_n4, aI_n4, sI_n4, gR_n5, aI_n5, sI_n5, gR_n6, aI_n6, sI_n6, gR_n7, aI_n7, sI_n7, gR_n8, aI_n8, sI_n8, aR_s, aI_s, sI_s, aR_h, aI_h, sI_h, aR_r, aI_r, sI_r, aI_c, sI_c, aI_l, sI_l, aI_ca, aI_ha, sI_ca, sI_ha, gI_mo, pI_mo, o, w0]
    rw [if_neg (by omega), s]
    exact ih
def skC (h C : Row) (n k : Int) : Row := fun f => if 12 ≤ f ∧ f < 12 + k then h (244 * n + 23 + (f - 12)) else C f
theorem t_snaps (hL : LyC B M) {n : Int} (n0 : 0 ≤ n) (n1 : n < 7) : ∀ (j : Nat) (k : Int) (f : Nat), 8 - k = j → 0 ≤ k → j < f →
    sX3_sendsOn_66 f (some B) (some (ndA B n)) (iI k) (tl B h (skC h C n k) Hd Mo M) = sX3_sendsOn_266 (some B) (tl B h (skC h C n 8) Hd Mo M)
  | 0, k, f + 1, e1, e2, e3 => by
    have e : k = 8 := by omega
    subst e
    simp (disch := first | assumption | omega) only [sX3_sendsOn_66, sX3_sendsOn_66b, z10, z00, if_true, if_false, iv_add, iv_sub, iv_mul, iv_le, iv_lt, iv_eq, iv_mx, iv_mn, bI_z, bI_o, rZ0, rZ1, rZb, cl_some', lt_eq, rm_eq, dv_eq, iv_01, iv_10, the, lastA, lpA, st_eq, st_ne, sh_addM, cV_cl, cV_nd, cV_mo, cV_lt, gR_t0, aR_nd, gR_c0, gR_c1, gR_c2, gR_c3, gR_c4, gR_c5, gR_c6, gR_c15, gR_c16, gI_c7, pI_c7, gI_c8, pI_c8, gI_c9, pI_c9, gI_c10, pI_c10, gI_c11, pI_c11, gI_c12, pI_c12, gI_c13, pI_c13, gI_c14, pI_c14, gN_9, gN_10, gN_11, gN_12, gN_13, gN_14, gN_15, gN_16, gN_17, gN_18, gN_19, gN_20, gN_21, gN_22, gN_23, pN_9, pN_10, pN_11, pN_12, pN_13, pN_14, pN_15, pN_16, pN_17, pN_18, pN_19, pN_20, pN_21, pN_22, pZ_0, pZ_1, gR_n0, aI_n0, sI_n0, gR_n1, aI_n1, sI_n1, gR_n2, aI_n2, sI_n2, gR_n3, aI_n3, sI_n3, gR_n4, aI_n4, sI_n4, gR_n5, aI_n5, sI_n5, gR_n6, aI_n6, sI_n6, gR_n7, aI_n7, sI_n7, gR_n8, aI_n8, sI_n8, aR_s, aI_s, sI_s, aR_h, aI_h, sI_h, aR_r, aI_r, sI_r, aI_c, sI_c, aI_l, sI_l, aI_ca, aI_ha, sI_ca, sI_ha, gI_mo, pI_mo]
    rw [if_pos (by omega)]
  | j + 1, k, f + 1, e1, e2, e3 => by
    have ih := t_snaps hL n0 n1 j (k + 1) f (by omega) (by omega) (by omega)
    have s : st (skC h C n k) (12 + k) (h (244 * n + (23 + k))) = skC h C n (k + 1) := by
      funext x
      unfold st skC
      by_cases c1 : x = 12 + k
      · rw [if_pos c1, if_pos (by omega), c1]
        congr 1
        omega
      · rw [if_neg c1]
        by_cases c2 : 12 ≤ x ∧ x < 12 + k
        · rw [if_pos c2, if_pos (by omega)]
        · rw [if_neg c2, if_neg (by omega)]
    show sX3_sendsOn_66b (sX3_sendsOn_66 f) _ _ _ _ = _
    generalize sX3_sendsOn_66 f = K at ih ⊢
    simp (disch := first | assumption | omega) only [sX3_sendsOn_66b, z10, z00, if_true, if_false, iv_add, iv_sub, iv_mul, iv_le, iv_lt, iv_eq, iv_mx, iv_mn, bI_z, bI_o, rZ0, rZ1, rZb, cl_some', lt_eq, rm_eq, dv_eq, iv_01, iv_10, the, lastA, lpA, st_eq, st_ne, sh_addM, cV_cl, cV_nd, cV_mo, cV_lt, gR_t0, aR_nd, gR_c0, gR_c1, gR_c2, gR_c3, gR_c4, gR_c5, gR_c6, gR_c15, gR_c16, gI_c7, pI_c7, gI_c8, pI_c8, gI_c9, pI_c9, gI_c10, pI_c10, gI_c11, pI_c11, gI_c12, pI_c12, gI_c13, pI_c13, gI_c14, pI_c14, gN_9, gN_10, gN_11, gN_12, gN_13, gN_14, gN_15, gN_16, gN_17, gN_18, gN_19, gN_20, gN_21, gN_22, gN_23, pN_9, pN_10, pN_11, pN_12, pN_13, pN_14, pN_15, pN_16, pN_17, pN_18, pN_19, pN_20, pN_21, pN_22, pZ_0, pZ_1, gR_n0, aI_n0, sI_n0, gR_n1, aI_n1, sI_n1, gR_n2, aI_n2, sI_n2, gR_n3, aI_n3, sI_n3, gR_n4, aI_n4, sI_n4, gR_n5, aI_n5, sI_n5, gR_n6, aI_n6, sI_n6, gR_n7, aI_n7, sI_n7, gR_n8, aI_n8, sI_n8, aR_s, aI_s, sI_s, aR_h, aI_h, sI_h, aR_r, aI_r, sI_r, aI_c, sI_c, aI_l, sI_l, aI_ca, aI_ha, sI_ca, sI_ha, gI_mo, pI_mo]
    rw [if_neg (by omega), s]
    exact ih
theorem t_sendsOn (hL : LyC B M) (hΛ : LawL M Λ) (r : Rel h g) (I : InvS g hs FL R D) {n t : Int} (n0 : 0 ≤ n) (n1 : n < 7) (hr : g (244 * n + 3) = 2) (t0 : 0 ≤ t) (t1 : t < 7) :
    ∃ h' C' Mo', sX3_sendsOn (some B) (iI n) (iI t) (tl B h C Hd Mo M) = some ((), tl B h' C' Hd Mo' M) ∧ Rel h' (sendG Λ g n t) := by
  have rn := r.nd n n0 n1
  obtain ⟨⟨s1, s2⟩, _⟩ := I.na n n0 n1
  obtain ⟨x0, x1, x2, x3, x4⟩ := (I.na n n0 n1).lr hr t t0 t1
  have hg := I.lg n0 n1
  have hgh := rn.lg hg
  have rr := I.rr
  have w4 := rn.s 4 (by omega) (by omega)
  have w5 := rn.s 5 (by omega) (by omega)
  have w6 := rn.s 6 (by omega) (by omega)
  have w7 := rn.s 7 (by omega) (by omega)
  have w8 := rn.s 8 (by omega) (by omega)
  have w9 := rn.s 9 (by omega) (by omega)
  have w1 := rn.s 1 (by omega) (by omega)
  have w13 := rn.t 13 (by omega) (by omega)
  have w31 := rn.l hr (31 + t) (by omega) (by omega)
  have bd := I.bd
  have hmi := I.mi n0 n1 hr t0 t1
  unfold sendG
  simp only [the] at hmi ⊢
  by_cases c : g (244 * n + (31 + t)) ≤ g (244 * n + 4)
  · rw [if_pos c]
    obtain ⟨a0, a1, a2, a3, a5, a6, a7, a8, a9⟩ := wr_at (C := C) (f := n) (t := t) (k := 4) (T := h (244 * n + 1)) (a := h (244 * n + 4)) (b := h (244 * n + 5)) (c := h (244 * n + 13)) (d := 0)
    obtain ⟨C1, hC1⟩ : ∃ C1, st (st (wrC C n t 4 (h (244 * n + 1)) (h (244 * n + 4)) (h (244 * n + 5)) (h (244 * n + 13)) 0) 10 (h (244 * n + 6))) 11 (h (244 * n + 7)) = C1 := ⟨_, rfl⟩
    have lp := t_snaps (h := h) (C := C1) (Hd := Hd) (Mo := Mo) hL n0 n1 8 0 FU (by omega) (by omega) (by unfold FU; omega)
    have l0 : skC h C1 n 0 = C1 := by
      funext x
      unfold skC
      rw [if_neg (by omega)]
    rw [l0] at lp
    have o : ∀ f, (f < 10) → skC h C1 n 8 f = wrC C n t 4 (h (244 * n + 1)) (h (244 * n + 4)) (h (244 * n + 5)) (h (244 * n + 13)) 0 f := by
      intro f hf
      unfold skC
      rw [if_neg (by omega), ← hC1, st_ne (by omega), st_ne (by omega)]
    have hm : MR (skC h C1 n 8) (snapM g n t) := by
      refine ⟨⟨?_, ?_, ?_, ?_, ?_, ?_⟩, fun _ => ?_, fun q => ?_, fun _ => ?_, fun _ => ⟨?_, ?_, fun k k0 k1 => ?_⟩, fun q => ?_⟩
      · rw [o 0 (by omega), a0]; rfl
      · rw [o 1 (by omega), a1]; rfl
      · rw [o 2 (by omega), a2]; rfl
      · rw [o 3 (by omega), a3, w1]; rfl
      · rw [o 9 (by omega), a9]; rfl
      · rw [o 5 (by omega), a5, w4]; rfl
      · rw [o 6 (by omega), a6, w5]; rfl
      · exfalso
        have q : (4 : Int) = 2 := q
        omega
      · rw [o 7 (by omega), a7, w13]; rfl
      · show skC h C1 n 8 10 = g (244 * n + 6)
        unfold skC
        rw [if_neg (by omega), ← hC1, st_ne (by omega), st_eq, w6]
      · show skC h C1 n 8 11 = g (244 * n + 7)
        unfold skC
        rw [if_neg (by omega), ← hC1, st_eq, w7]
      · have e1 : snapM g n t (11 + k) = g (244 * n + (12 + (11 + k))) := by
          unfold snapM
          rw [if_neg (by omega), if_neg (by omega), if_neg (by omega), if_neg (by omega), if_neg (by omega), if_pos (by omega)]
        rw [e1]
        unfold skC
        rw [if_pos (by omega)]
        have := rn.t (23 + k) (by omega) (by omega)
        rw [show 244 * n + 23 + (12 + k - 12) = 244 * n + (23 + k) by omega, show 244 * n + (12 + (11 + k)) = 244 * n + (23 + k) by omega]
        exact this
      · exfalso
        have q : (4 : Int) = 5 := q
        omega
    obtain ⟨h2, C2, Mo2, y1, y2⟩ := t_sends (Hd := Hd) (Mo := Mo) hL hΛ r bd hm n0 n1 rfl (by show 0 ≤ g (244 * n + 1); omega) (by show g (244 * n + 1) ≤ 999; omega)
    refine ⟨h2, C2, Mo2, ?_, y2⟩
    have e266 : sX3_sendsOn_266 (some B) (tl B h (skC h C1 n 8) Hd Mo M) = some ((), tl B h2 C2 Hd Mo2 M) := by
      simp (disch := first | assumption | omega) only [sX3_sendsOn_266, z10, z00, if_true, if_false, iv_add, iv_sub, iv_mul, iv_le, iv_lt, iv_eq, iv_mx, iv_mn, bI_z, bI_o, rZ0, rZ1, rZb, cl_some', lt_eq, rm_eq, dv_eq, iv_01, iv_10, the, lastA, lpA, st_eq, st_ne, sh_addM, cV_cl, cV_nd, cV_mo, cV_lt, gR_t0, aR_nd, gR_c0, gR_c1, gR_c2, gR_c3, gR_c4, gR_c5, gR_c6, gR_c15, gR_c16, gI_c7, pI_c7, gI_c8, pI_c8, gI_c9, pI_c9, gI_c10, pI_c10, gI_c11, pI_c11, gI_c12, pI_c12, gI_c13, pI_c13, gI_c14, pI_c14, gN_9, gN_10, gN_11, gN_12, gN_13, gN_14, gN_15, gN_16, gN_17, gN_18, gN_19, gN_20, gN_21, gN_22, gN_23, pN_9, pN_10, pN_11, pN_12, pN_13, pN_14, pN_15, pN_16, pN_17, pN_18, pN_19, pN_20, pN_21, pN_22, pZ_0, pZ_1, gR_n0, aI_n0, sI_n0, gR_n1, aI_n1, sI_n1, gR_n2, aI_n2, sI_n2, gR_n3, aI_n3, sI_n3, gR_n4, aI_n4, sI_n4, gR_n5, aI_n5, sI_n5, gR_n6, aI_n6, sI_n6, gR_n7, aI_n7, sI_n7, gR_n8, aI_n8, sI_n8, aR_s, aI_s, sI_s, aR_h, aI_h, sI_h, aR_r, aI_r, sI_r, aI_c, sI_c, aI_l, sI_l, aI_ca, aI_ha, sI_ca, sI_ha, gI_mo, pI_mo, y1]
    simp (disch := first | assumption | omega) only [sX3_sendsOn, t_writes, z10, z00, if_true, if_false, iv_add, iv_sub, iv_mul, iv_le, iv_lt, iv_eq, iv_mx, iv_mn, bI_z, bI_o, rZ0, rZ1, rZb, cl_some', lt_eq, rm_eq, dv_eq, iv_01, iv_10, the, lastA, lpA, st_eq, st_ne, sh_addM, cV_cl, cV_nd, cV_mo, cV_lt, gR_t0, aR_nd, gR_c0, gR_c1, gR_c2, gR_c3, gR_c4, gR_c5, gR_c6, gR_c15, gR_c16, gI_c7, pI_c7, gI_c8, pI_c8, gI_c9, pI_c9, gI_c10, pI_c10, gI_c11, pI_c11, gI_c12, pI_c12, gI_c13, pI_c13, gI_c14, pI_c14, gN_9, gN_10, gN_11, gN_12, gN_13, gN_14, gN_15, gN_16, gN_17, gN_18, gN_19, gN_20, gN_21, gN_22, gN_23, pN_9, pN_10, pN_11, pN_12, pN_13, pN_14, pN_15, pN_16, pN_17, pN_18, pN_19, pN_20, pN_21, pN_22, pZ_0, pZ_1, gR_n0, aI_n0, sI_n0, gR_n1, aI_n1, sI_n1, gR_n2, aI_n2, sI_n2, gR_n3, aI_n3, sI_n3, gR_n4, aI_n4, sI_n4, gR_n5, aI_n5, sI_n5, gR_n6, aI_n6, sI_n6, gR_n7, aI_n7, sI_n7, gR_n8, aI_n8, sI_n8, aR_s, aI_s, sI_s, aR_h, aI_h, sI_h, aR_r, aI_r, sI_r, aI_c, sI_c, aI_l, sI_l, aI_ca, aI_ha, sI_ca, sI_ha, gI_mo, pI_mo, hC1]
    rw [if_neg (by omega)]
    exact lp.trans e266
  · rw [if_neg c]
    rw [if_neg c] at hmi
    obtain ⟨x, hx⟩ : ∃ x, g (244 * n + (31 + t)) = x := ⟨_, rfl⟩
    have hxh : h (244 * n + (31 + t)) = x := w31.trans hx
    have tt := rn.term hg (i := x - 1) (by omega) (by omega)
    have tr := termR hg (i := x - 1) (by omega) (by omega)
    have e1 := t_termAt (C := C) (Hd := Hd) (Mo := Mo) hL hgh (i := x - 1) (by omega) (by omega)
    obtain ⟨a0, a1, a2, a3, a5, a6, a7, a8, a9⟩ := wr_at (C := C) (f := n) (t := t) (k := 2) (T := h (244 * n + 1)) (a := x - 1) (b := termA h n (x - 1)) (c := h (244 * n + 9)) (d := h (244 * n + 13))
    obtain ⟨m, hmm⟩ : ∃ m, min 4 (h (244 * n + 4) + h (244 * n + 8) - (x - 1)) = m := ⟨_, rfl⟩
    have hM : manyA g n t = m := by
      unfold manyA
      simp only [the, lastA]
      rw [hx, ← hmm, w4, w8]
      omega
    obtain ⟨C1, hC1⟩ : ∃ C1, st (wrC C n t 2 (h (244 * n + 1)) (x - 1) (termA h n (x - 1)) (h (244 * n + 9)) (h (244 * n + 13))) 9 m = C1 := ⟨_, rfl⟩
    have lp := t_ents (h := h) (C := C1) (Hd := Hd) (Mo := Mo) hL (n := n) (pv := x - 1) (m := m) n0 n1 (by omega) (by omega) (by omega) (by omega) (by omega) (by omega) (by rw [← hC1, st_eq]) m.toNat 0 FU (by omega) (by omega) (by unfold FU; omega)
    have l0 : enC h C1 (244 * n + 52 + 4 * (x - 1 - h (244 * n + 4))) 0 = C1 := by
      funext y
      unfold enC
      rw [if_neg (by omega)]
    rw [l0] at lp
    obtain ⟨C2, hC2⟩ : ∃ C2, enC h C1 (244 * n + 52 + 4 * (x - 1 - h (244 * n + 4))) m = C2 := ⟨_, rfl⟩
    rw [hC2] at lp
    have o : ∀ f, (f < 10) → ¬ f = 9 → C2 f = wrC C n t 2 (h (244 * n + 1)) (x - 1) (termA h n (x - 1)) (h (244 * n + 9)) (h (244 * n + 13)) f := by
      intro f hf h9
      rw [← hC2]
      unfold enC
      rw [if_neg (by omega), ← hC1, st_ne h9]
    have o9 : C2 9 = m := by
      rw [← hC2]
      unfold enC
      rw [if_neg (by omega), ← hC1, st_eq]
    have m0 : entsM g n t 0 = n := by unfold entsM; rw [if_neg (by omega), if_neg (by omega), if_neg (by omega), if_neg (by omega), if_neg (by omega), if_neg (by omega)]; rfl
    have m1 : entsM g n t 1 = t := by unfold entsM; rw [if_neg (by omega), if_neg (by omega), if_neg (by omega), if_neg (by omega), if_neg (by omega), if_neg (by omega)]; rfl
    have m2 : entsM g n t 2 = 2 := by unfold entsM; rw [if_neg (by omega), if_neg (by omega), if_neg (by omega), if_neg (by omega), if_neg (by omega), if_neg (by omega)]; rfl
    have m3 : entsM g n t 3 = g (244 * n + 1) := by unfold entsM; rw [if_neg (by omega), if_neg (by omega), if_neg (by omega), if_neg (by omega), if_neg (by omega), if_neg (by omega)]; rfl
    have m5 : entsM g n t 5 = m := hM ▸ rfl
    have m6 : entsM g n t 6 = g (244 * n + (31 + t)) - 1 := rfl
    have m7 : entsM g n t 7 = termA g n (g (244 * n + (31 + t)) - 1) := rfl
    have m8 : entsM g n t 8 = g (244 * n + 9) := rfl
    have m10 : entsM g n t 10 = g (244 * n + 13) := rfl
    have hm : MR C2 (entsM g n t) := by
      refine ⟨⟨?_, ?_, ?_, ?_, ?_, ?_⟩, fun _ => ?_, fun _ => ⟨?_, ?_, fun y y0 y9 y1 => ?_⟩, fun q => ?_, fun q => ?_, fun q => ?_⟩
      · rw [o 0 (by omega) (by omega), a0, m0]
      · rw [o 1 (by omega) (by omega), a1, m1]
      · rw [o 2 (by omega) (by omega), a2, m2]
      · rw [o 3 (by omega) (by omega), a3, m3, w1]
      · rw [o9, m5]
      · rw [o 5 (by omega) (by omega), a5, m6, hx]
      · rw [o 6 (by omega) (by omega), a6, m7, hx, tt]
      · rw [o 7 (by omega) (by omega), a7, m8, w9]
      · rw [o 8 (by omega) (by omega), a8, m10, w13]
      · rw [m5] at y1
        have e2 : entsM g n t (11 + y) = g (lpA g n (g (244 * n + (31 + t))) + (11 + y - 11)) := by
          unfold entsM
          rw [hM, if_neg (by omega), if_neg (by omega), if_neg (by omega), if_neg (by omega), if_neg (by omega), if_pos (by omega)]
        rw [e2, ← hC2]
        unfold enC
        rw [if_pos (by omega), hx]
        simp only [lpA, the]
        rw [w4]
        have := rn.e (244 * n + 52 + 4 * (x - 1 - g (244 * n + 4)) + (10 + y - 10)) (by omega) (by omega)
        rw [this]
        congr 1
        omega
      · rw [m2] at q; omega
      · rw [m2] at q; omega
      · rw [m2] at q; omega
    obtain ⟨h2, C3, Mo2, y1, y2⟩ := t_sends (Hd := Hd) (Mo := Mo) hL hΛ r bd hm (by rw [m0]; exact n0) (by rw [m0]; exact n1) (by rw [m0, m3]) (by rw [m0]; omega) (by rw [m0]; omega)
    refine ⟨h2, C3, Mo2, ?_, y2⟩
    have e266 : sX3_sendsOn_266 (some B) (tl B h C2 Hd Mo M) = some ((), tl B h2 C3 Hd Mo2 M) := by
      simp (disch := first | assumption | omega) only [sX3_sendsOn_266, z10, z00, if_true, if_false, iv_add, iv_sub, iv_mul, iv_le, iv_lt, iv_eq, iv_mx, iv_mn, bI_z, bI_o, rZ0, rZ1, rZb, cl_some', lt_eq, rm_eq, dv_eq, iv_01, iv_10, the, lastA, lpA, st_eq, st_ne, sh_addM, cV_cl, cV_nd, cV_mo, cV_lt, gR_t0, aR_nd, gR_c0, gR_c1, gR_c2, gR_c3, gR_c4, gR_c5, gR_c6, gR_c15, gR_c16, gI_c7, pI_c7, gI_c8, pI_c8, gI_c9, pI_c9, gI_c10, pI_c10, gI_c11, pI_c11, gI_c12, pI_c12, gI_c13, pI_c13, gI_c14, pI_c14, gN_9, gN_10, gN_11, gN_12, gN_13, gN_14, gN_15, gN_16, gN_17, gN_18, gN_19, gN_20, gN_21, gN_22, gN_23, pN_9, pN_10, pN_11, pN_12, pN_13, pN_14, pN_15, pN_16, pN_17, pN_18, pN_19, pN_20, pN_21, pN_22, pZ_0, pZ_1, gR_n0, aI_n0, sI_n0, gR_n1, aI_n1, sI_n1, gR_n2, aI_n2, sI_n2, gR_n3, aI_n3, sI_n3, gR_n4, aI_n4, sI_n4, gR_n5, aI_n5, sI_n5, gR_n6, aI_n6, sI_n6, gR_n7, aI_n7, sI_n7, gR_n8, aI_n8, sI_n8, aR_s, aI_s, sI_s, aR_h, aI_h, sI_h, aR_r, aI_r, sI_r, aI_c, sI_c, aI_l, sI_l, aI_ca, aI_ha, sI_ca, sI_ha, gI_mo, pI_mo, y1]
    simp (disch := first | assumption | omega) only [sX3_sendsOn, t_writes, t_last, z10, z00, if_true, if_false, iv_add, iv_sub, iv_mul, iv_le, iv_lt, iv_eq, iv_mx, iv_mn, bI_z, bI_o, rZ0, rZ1, rZb, cl_some', lt_eq, rm_eq, dv_eq, iv_01, iv_10, the, lastA, lpA, st_eq, st_ne, sh_addM, cV_cl, cV_nd, cV_mo, cV_lt, gR_t0, aR_nd, gR_c0, gR_c1, gR_c2, gR_c3, gR_c4, gR_c5, gR_c6, gR_c15, gR_c16, gI_c7, pI_c7, gI_c8, pI_c8, gI_c9, pI_c9, gI_c10, pI_c10, gI_c11, pI_c11, gI_c12, pI_c12, gI_c13, pI_c13, gI_c14, pI_c14, gN_9, gN_10, gN_11, gN_12, gN_13, gN_14, gN_15, gN_16, gN_17, gN_18, gN_19, gN_20, gN_21, gN_22, gN_23, pN_9, pN_10, pN_11, pN_12, pN_13, pN_14, pN_15, pN_16, pN_17, pN_18, pN_19, pN_20, pN_21, pN_22, pZ_0, pZ_1, gR_n0, aI_n0, sI_n0, gR_n1, aI_n1, sI_n1, gR_n2, aI_n2, sI_n2, gR_n3, aI_n3, sI_n3, gR_n4, aI_n4, sI_n4, gR_n5, aI_n5, sI_n5, gR_n6, aI_n6, sI_n6, gR_n7, aI_n7, sI_n7, gR_n8, aI_n8, sI_n8, aR_s, aI_s, sI_s, aR_h, aI_h, sI_h, aR_r, aI_r, sI_r, aI_c, sI_c, aI_l, sI_l, aI_ca, aI_ha, sI_ca, sI_ha, gI_mo, pI_mo, hxh, e1, hmm, hC1]
    rw [if_pos (by omega)]
    exact lp.trans e266
theorem t_has {σ : Mem} {s k : Int} (h0 : 0 ≤ s) (h1 : s < 128) (h2 : 0 ≤ k) (h3 : k < 7) : sX0_has (iI s) (iI k) σ = some (bI (hasI s k), σ) := by
  simp (disch := first | assumption | omega) only [sX0_has, z10, z00, if_true, if_false, iv_add, iv_sub, iv_mul, iv_le, iv_lt, iv_eq, iv_mx, iv_mn, bI_z, bI_o, rZ0, rZ1, rZb, cl_some', lt_eq, rm_eq, dv_eq, iv_01, iv_10, iv_has, ifb]
theorem t_sendsK (hL : LyC B M) (hΛ : LawL M Λ) {n mb : Int} (n0 : 0 ≤ n) (n1 : n < 7) (mb0 : 0 ≤ mb) (mb1 : mb < 128) : ∀ (j : Nat) (h g C Mo : Row) (t : Int) (fu : Nat), Rel h g → InvS g hs FL R D → g (244 * n + 3) = 2 → membA g n = mb → 7 - t = j → 0 ≤ t → j < fu →
    ∃ h' C' Mo', sX3_sendsToAll_12 fu (some B) (iI n) (iI mb) (iI t) (tl B h C Hd Mo M) = some ((), tl B h' C' Hd Mo' M) ∧ Rel h' (sendF Λ n j g t)
  | 0, h, g, C, Mo, t, fu + 1, r, I, hr, hmb, e1, e2, e3 => by
    refine ⟨h, C, Mo, ?_, r⟩
    simp (disch := first | assumption | omega) only [sX3_sendsToAll_12, sX3_sendsToAll_12b, z10, z00, if_true, if_false, iv_add, iv_sub, iv_mul, iv_le, iv_lt, iv_eq, iv_mx, iv_mn, bI_z, bI_o, rZ0, rZ1, rZb, cl_some', lt_eq, rm_eq, dv_eq, iv_01, iv_10, the, lastA, lpA, st_eq, st_ne, sh_addM, cV_cl, cV_nd, cV_mo, cV_lt, gR_t0, aR_nd, gR_c0, gR_c1, gR_c2, gR_c3, gR_c4, gR_c5, gR_c6, gR_c15, gR_c16, gI_c7, pI_c7, gI_c8, pI_c8, gI_c9, pI_c9, gI_c10, pI_c10, gI_c11, pI_c11, gI_c12, pI_c12, gI_c13, pI_c13, gI_c14, pI_c14, gN_9, gN_10, gN_11, gN_12, gN_13, gN_14, gN_15, gN_16, gN_17, gN_18, gN_19, gN_20, gN_21, gN_22, gN_23, pN_9, pN_10, pN_11, pN_12, pN_13, pN_14, pN_15, pN_16, pN_17, pN_18, pN_19, pN_20, pN_21, pN_22, pZ_0, pZ_1, gR_n0, aI_n0, sI_n0, gR_n1, aI_n1, sI_n1, gR_n2, aI_n2, sI_n2, gR_n3, aI_n3, sI_n3, gR_n4, aI_n4, sI_n4, gR_n5, aI_n5, sI_n5, gR_n6, aI_n6, sI_n6, gR_n7, aI_n7, sI_n7, gR_n8, aI_n8, sI_n8, aR_s, aI_s, sI_s, aR_h, aI_h, sI_h, aR_r, aI_r, sI_r, aI_c, sI_c, aI_l, sI_l, aI_ca, aI_ha, sI_ca, sI_ha, gI_mo, pI_mo]
    rw [if_pos (by omega)]
  | j + 1, h, g, C, Mo, t, fu + 1, r, I, hr, hmb, e1, e2, e3 => by
    unfold sendF
    show ∃ h' C' Mo', sX3_sendsToAll_12b (sX3_sendsToAll_12 fu) _ _ _ _ _ = _ ∧ _
    by_cases c1 : t = n
    · rw [if_neg (fun hc => hc.1 c1)]
      obtain ⟨h2, C2, Mo2, y1, y2⟩ := t_sendsK hL hΛ n0 n1 mb0 mb1 j h g C Mo (t + 1) fu r I hr hmb (by omega) (by omega) (by omega)
      refine ⟨h2, C2, Mo2, ?_, y2⟩
      generalize sX3_sendsToAll_12 fu = K at y1 ⊢
      simp (disch := first | assumption | omega) only [sX3_sendsToAll_12b, sX3_sendsToAll_37, z10, z00, if_true, if_false, iv_add, iv_sub, iv_mul, iv_le, iv_lt, iv_eq, iv_mx, iv_mn, bI_z, bI_o, rZ0, rZ1, rZb, cl_some', lt_eq, rm_eq, dv_eq, iv_01, iv_10, the, lastA, lpA, st_eq, st_ne, sh_addM, cV_cl, cV_nd, cV_mo, cV_lt, gR_t0, aR_nd, gR_c0, gR_c1, gR_c2, gR_c3, gR_c4, gR_c5, gR_c6, gR_c15, gR_c16, gI_c7, pI_c7, gI_c8, pI_c8, gI_c9, pI_c9, gI_c10, pI_c10, gI_c11, pI_c11, gI_c12, pI_c12, gI_c13, pI_c13, gI_c14, pI_c14, gN_9, gN_10, gN_11, gN_12, gN_13, gN_14, gN_15, gN_16, gN_17, gN_18, gN_19, gN_20, gN_21, gN_22, gN_23, pN_9, pN_10, pN_11, pN_12, pN_13, pN_14, pN_15, pN_16, pN_17, pN_18, pN_19, pN_20, pN_21, pN_22, pZ_0, pZ_1, gR_n0, aI_n0, sI_n0, gR_n1, aI_n1, sI_n1, gR_n2, aI_n2, sI_n2, gR_n3, aI_n3, sI_n3, gR_n4, aI_n4, sI_n4, gR_n5, aI_n5, sI_n5, gR_n6, aI_n6, sI_n6, gR_n7, aI_n7, sI_n7, gR_n8, aI_n8, sI_n8, aR_s, aI_s, sI_s, aR_h, aI_h, sI_h, aR_r, aI_r, sI_r, aI_c, sI_c, aI_l, sI_l, aI_ca, aI_ha, sI_ca, sI_ha, gI_mo, pI_mo]
      rw [if_neg (by omega), if_pos c1]
      exact y1
    · by_cases c2 : hasI (membA g n) t
      · rw [if_pos ⟨c1, c2⟩]
        obtain ⟨h1, C1, Mo1, x1, x2⟩ := t_sendsOn (C := C) (Hd := Hd) (Mo := Mo) hL hΛ r I n0 n1 hr e2 (by omega)
        have I1 := I.send (Λ := Λ) n0 n1 hr e2 (show t < 7 by omega)
        have lo := fun x hx => sendG_lo (Λ := Λ) (n := n) (t := t) (x := x) I.gl hx
        have hmb1 : membA (sendG Λ g n t) n = mb := by
          have cx := cfg_ext (I.lg n0 n1) (g' := sendG Λ g n t) (fun x _ _ _ => lo x (by omega))
          rw [← hmb]
          unfold membA
          rw [cx.1, cx.2.1]
        obtain ⟨h2, C2, Mo2, y1, y2⟩ := t_sendsK hL hΛ n0 n1 mb0 mb1 j h1 (sendG Λ g n t) C1 Mo1 (t + 1) fu x2 I1 (by rw [lo _ (by omega)]; exact hr) hmb1 (by omega) (by omega) (by omega)
        refine ⟨h2, C2, Mo2, ?_, y2⟩
        generalize sX3_sendsToAll_12 fu = K at y1 ⊢
        simp (disch := first | assumption | omega) only [sX3_sendsToAll_12b, sX3_sendsToAll_37, t_has, z10, z00, if_true, if_false, iv_add, iv_sub, iv_mul, iv_le, iv_lt, iv_eq, iv_mx, iv_mn, bI_z, bI_o, rZ0, rZ1, rZb, cl_some', lt_eq, rm_eq, dv_eq, iv_01, iv_10, the, lastA, lpA, st_eq, st_ne, sh_addM, cV_cl, cV_nd, cV_mo, cV_lt, gR_t0, aR_nd, gR_c0, gR_c1, gR_c2, gR_c3, gR_c4, gR_c5, gR_c6, gR_c15, gR_c16, gI_c7, pI_c7, gI_c8, pI_c8, gI_c9, pI_c9, gI_c10, pI_c10, gI_c11, pI_c11, gI_c12, pI_c12, gI_c13, pI_c13, gI_c14, pI_c14, gN_9, gN_10, gN_11, gN_12, gN_13, gN_14, gN_15, gN_16, gN_17, gN_18, gN_19, gN_20, gN_21, gN_22, gN_23, pN_9, pN_10, pN_11, pN_12, pN_13, pN_14, pN_15, pN_16, pN_17, pN_18, pN_19, pN_20, pN_21, pN_22, pZ_0, pZ_1, gR_n0, aI_n0, sI_n0, gR_n1, aI_n1, sI_n1, gR_n2, aI_n2, sI_n2, gR_n3, aI_n3, sI_n3, gR_n4, aI_n4, sI_n4, gR_n5, aI_n5, sI_n5, gR_n6, aI_n6, sI_n6, gR_n7, aI_n7, sI_n7, gR_n8, aI_n8, sI_n8, aR_s, aI_s, sI_s, aR_h, aI_h, sI_h, aR_r, aI_r, sI_r, aI_c, sI_c, aI_l, sI_l, aI_ca, aI_ha, sI_ca, sI_ha, gI_mo, pI_mo, x1]
        rw [hmb] at c2
        rw [if_neg (by omega), if_neg c1, if_neg (fun hc => hc c2)]
        exact y1
      · rw [if_neg (fun hc => c2 hc.2)]
        obtain ⟨h2, C2, Mo2, y1, y2⟩ := t_sendsK hL hΛ n0 n1 mb0 mb1 j h g C Mo (t + 1) fu r I hr hmb (by omega) (by omega) (by omega)
        refine ⟨h2, C2, Mo2, ?_, y2⟩
        generalize sX3_sendsToAll_12 fu = K at y1 ⊢
        simp (disch := first | assumption | omega) only [sX3_sendsToAll_12b, sX3_sendsToAll_37, t_has, z10, z00, if_true, if_false, iv_add, iv_sub, iv_mul, iv_le, iv_lt, iv_eq, iv_mx, iv_mn, bI_z, bI_o, rZ0, rZ1, rZb, cl_some', lt_eq, rm_eq, dv_eq, iv_01, iv_10, the, lastA, lpA, st_eq, st_ne, sh_addM, cV_cl, cV_nd, cV_mo, cV_lt, gR_t0, aR_nd, gR_c0, gR_c1, gR_c2, gR_c3, gR_c4, gR_c5, gR_c6, gR_c15, gR_c16, gI_c7, pI_c7, gI_c8, pI_c8, gI_c9, pI_c9, gI_c10, pI_c10, gI_c11, pI_c11, gI_c12, pI_c12, gI_c13, pI_c13, gI_c14, pI_c14, gN_9, gN_10, gN_11, gN_12, gN_13, gN_14, gN_15, gN_16, gN_17, gN_18, gN_19, gN_20, gN_21, gN_22, gN_23, pN_9, pN_10, pN_11, pN_12, pN_13, pN_14, pN_15, pN_16, pN_17, pN_18, pN_19, pN_20, pN_21, pN_22, pZ_0, pZ_1, gR_n0, aI_n0, sI_n0, gR_n1, aI_n1, sI_n1, gR_n2, aI_n2, sI_n2, gR_n3, aI_n3, sI_n3, gR_n4, aI_n4, sI_n4, gR_n5, aI_n5, sI_n5, gR_n6, aI_n6, sI_n6, gR_n7, aI_n7, sI_n7, gR_n8, aI_n8, sI_n8, aR_s, aI_s, sI_s, aR_h, aI_h, sI_h, aR_r, aI_r, sI_r, aI_c, sI_c, aI_l, sI_l, aI_ca, aI_ha, sI_ca, sI_ha, gI_mo, pI_mo]
        rw [hmb] at c2
        rw [if_neg (by omega), if_neg c1, if_pos c2]
        exact y1
theorem t_sendsToAll (hL : LyC B M) (hΛ : LawL M Λ) (r : Rel h g) (I : InvS g hs FL R D) {n : Int} (n0 : 0 ≤ n) (n1 : n < 7) (hr : g (244 * n + 3) = 2) :
    ∃ h' C' Mo', sX3_sendsToAll (some B) (iI n) (tl B h C Hd Mo M) = some ((), tl B h' C' Hd Mo' M) ∧ Rel h' (sendAllG Λ g n) := by
  have rn := r.nd n n0 n1
  have hg := I.lg n0 n1
  have hm := membR hg
  have e1 := t_members (C := C) (Hd := Hd) (Mo := Mo) hL (rn.lg hg)
  rw [rn.memb hg] at e1
  obtain ⟨h2, C2, Mo2, y1, y2⟩ := t_sendsK (Hd := Hd) hL hΛ n0 n1 hm.1 hm.2 7 h g C Mo 0 FU r I hr rfl (by omega) (by omega) (by unfold FU; omega)
  refine ⟨h2, C2, Mo2, ?_, y2⟩
  simp (disch := first | assumption | omega) only [sX3_sendsToAll, z10, z00, if_true, if_false, iv_add, iv_sub, iv_mul, iv_le, iv_lt, iv_eq, iv_mx, iv_mn, bI_z, bI_o, rZ0, rZ1, rZb, cl_some', lt_eq, rm_eq, dv_eq, iv_01, iv_10, the, lastA, lpA, st_eq, st_ne, sh_addM, cV_cl, cV_nd, cV_mo, cV_lt, gR_t0, aR_nd, gR_c0, gR_c1, gR_c2, gR_c3, gR_c4, gR_c5, gR_c6, gR_c15, gR_c16, gI_c7, pI_c7, gI_c8, pI_c8, gI_c9, pI_c9, gI_c10, pI_c10, gI_c11, pI_c11, gI_c12, pI_c12, gI_c13, pI_c13, gI_c14, pI_c14, gN_9, gN_10, gN_11, gN_12, gN_13, gN_14, gN_15, gN_16, gN_17, gN_18, gN_19, gN_20, gN_21, gN_22, gN_23, pN_9, pN_10, pN_11, pN_12, pN_13, pN_14, pN_15, pN_16, pN_17, pN_18, pN_19, pN_20, pN_21, pN_22, pZ_0, pZ_1, gR_n0, aI_n0, sI_n0, gR_n1, aI_n1, sI_n1, gR_n2, aI_n2, sI_n2, gR_n3, aI_n3, sI_n3, gR_n4, aI_n4, sI_n4, gR_n5, aI_n5, sI_n5, gR_n6, aI_n6, sI_n6, gR_n7, aI_n7, sI_n7, gR_n8, aI_n8, sI_n8, aR_s, aI_s, sI_s, aR_h, aI_h, sI_h, aR_r, aI_r, sI_r, aI_c, sI_c, aI_l, sI_l, aI_ca, aI_ha, sI_ca, sI_ha, gI_mo, pI_mo, e1]
  exact y1
end
