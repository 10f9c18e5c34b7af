/-! DEPS: vm -/
/-! VN: TermLog takes entries -/
section
variable {B : Nat} {h g C Hd Mo : Row} {M : Mem} {Λ : Law} {hs : His} {FL : Int → ELog} {R : Int} {D : DK}
/-- a log is cut on both sides -/
theorem Rel.cutn (r : Rel h g) (b : BdA g) {n v : Int} (n0 : 0 ≤ n) (n1 : n < 7) (hv : v ≤ g (244 * n + 8)) : Rel (st h (244 * n + 8) v) (st g (244 * n + 8) v) := by
  have rn := r.nd n n0 n1
  have h8 := b.1 n n0 n1
  refine r.node b n0 n1 (fun x a => st_ne (by omega)) (fun x a => st_ne (by omega)) ⟨fun w w0 w1 => ?_, fun w w0 w1 => ?_, fun q => ?_, fun x x0 x1 => ?_, fun q w w0 w1 => ?_⟩
  · by_cases c : w = 8
    · rw [c, st_eq, st_eq]
    · rw [st_ne (by omega), st_ne (by omega)]; exact rn.s w w0 w1
  · rw [st_ne (by omega), st_ne (by omega)]; exact rn.t w w0 w1
  · rw [st_ne (by omega)] at q
    rw [st_ne (by omega), st_ne (by omega)]; exact rn.k q
  · rw [st_eq] at x1
    rw [st_ne (by omega), st_ne (by omega)]; exact rn.e x x0 (by omega)
  · rw [st_ne (by omega)] at q
    rw [st_ne (by omega), st_ne (by omega)]; exact rn.l q w w0 w1
theorem t_comesTo {mi : Row} (hL : LyC B M) (r : Rel h g) (I : InvS g hs FL R D) (hm : MR Hd mi) (hk : mi 2 = 2) {n q i : Int} (n0 : 0 ≤ n) (n1 : n < 7) (q0 : 0 ≤ q) (q1 : q < mi 5) (m5 : mi 5 ≤ 4) (i0 : 1 ≤ i) (i1 : i ≤ 2000) (hMe : MeA mi (11 + 4 * q))
    (hcut : ¬ hasAs g n i (mi (11 + 4 * q)) → InvS (cutG g n i) hs FL R D ∧ (lastA g n < i ∨ g (244 * n + 9) < i)) :
    ∃ h', sX3_comesTo (some B) (iI n) (iI i) (iI q) (tl B h C Hd Mo M) = some (bI (asOk g mi n i (11 + 4 * q)), tl B h' C Hd Mo M) ∧ Rel h' (asG g mi n i (11 + 4 * q)) := by
  obtain ⟨⟨s1, s2⟩, _⟩ := I.na n n0 n1
  have rn := r.nd n n0 n1
  have hg := I.lg n0 n1
  have w4 := rn.s 4 (by omega) (by omega)
  have w8 := rn.s 8 (by omega) (by omega)
  have w9 := rn.s 9 (by omega) (by omega)
  obtain ⟨_, _, ke⟩ := hm.k2 hk
  have e0 := ke (4 * q) (by omega) (by omega) (by omega)
  have e1 := ke (4 * q + 1) (by omega) (by omega) (by omega)
  have e2 := ke (4 * q + 2) (by omega) (by omega) (by omega)
  have e3 := ke (4 * q + 3) (by omega) (by omega) (by omega)
  rw [← Int.add_assoc, ← Int.add_assoc] at e1 e2 e3
  have x1 := t_hasEntry (C := C) (Hd := Hd) (Mo := Mo) (i := i) hL (rn.lg hg) (by omega) (by omega)
  rw [bI_c rn.ent] at x1
  by_cases c : hasAs g n i (mi (11 + 4 * q))
  · have z1 : asOk g mi n i (11 + 4 * q) := Or.inl c
    have z2 : asG g mi n i (11 + 4 * q) = g := if_pos c
    rw [z2, bI_t z1]
    refine ⟨h, ?_, r⟩
    simp (disch := first | assumption | omega) only [sX3_comesTo, z10, z00, if_true, if_false, iv_add, iv_sub, iv_mul, iv_le, iv_lt, iv_eq, iv_mx, iv_mn, bI_z, bI_o, rZ0, rZ1, rZb, cl_some', lt_eq, rm_eq, dv_eq, iv_01, iv_10, the, lastA, lpA, st_eq, st_ne, sh_addM, cV_cl, cV_nd, cV_mo, cV_lt, gR_t0, aR_nd, gR_c0, gR_c1, gR_c2, gR_c3, gR_c4, gR_c5, gR_c6, gR_c15, gR_c16, gI_c7, pI_c7, gI_c8, pI_c8, gI_c9, pI_c9, gI_c10, pI_c10, gI_c11, pI_c11, gI_c12, pI_c12, gI_c13, pI_c13, gI_c14, pI_c14, gN_9, gN_10, gN_11, gN_12, gN_13, gN_14, gN_15, gN_16, gN_17, gN_18, gN_19, gN_20, gN_21, gN_22, gN_23, pN_9, pN_10, pN_11, pN_12, pN_13, pN_14, pN_15, pN_16, pN_17, pN_18, pN_19, pN_20, pN_21, pN_22, pZ_0, pZ_1, gR_n0, aI_n0, sI_n0, gR_n1, aI_n1, sI_n1, gR_n2, aI_n2, sI_n2, gR_n3, aI_n3, sI_n3, gR_n4, aI_n4, sI_n4, gR_n5, aI_n5, sI_n5, gR_n6, aI_n6, sI_n6, gR_n7, aI_n7, sI_n7, gR_n8, aI_n8, sI_n8, aR_s, aI_s, sI_s, aR_h, aI_h, sI_h, aR_r, aI_r, sI_r, aI_c, sI_c, aI_l, sI_l, aI_ca, aI_ha, sI_ca, sI_ha, gI_mo, pI_mo, w4]
    by_cases c1 : i ≤ g (244 * n + 4)
    · rw [if_pos c1]
    · have c2 := c.resolve_left c1
      simp only [the, lastA] at c2
      have x2 := t_termAt (C := C) (Hd := Hd) (Mo := Mo) (i := i) hL (rn.lg hg) (by omega) (by omega)
      rw [rn.term hg (by omega) (by omega)] at x2
      have tr := termR hg (i := i) (by omega) (by omega)
      simp (disch := first | assumption | omega) only [sX3_comesTo, z10, z00, if_true, if_false, iv_add, iv_sub, iv_mul, iv_le, iv_lt, iv_eq, iv_mx, iv_mn, bI_z, bI_o, rZ0, rZ1, rZb, cl_some', lt_eq, rm_eq, dv_eq, iv_01, iv_10, the, lastA, lpA, st_eq, st_ne, sh_addM, cV_cl, cV_nd, cV_mo, cV_lt, gR_t0, aR_nd, gR_c0, gR_c1, gR_c2, gR_c3, gR_c4, gR_c5, gR_c6, gR_c15, gR_c16, gI_c7, pI_c7, gI_c8, pI_c8, gI_c9, pI_c9, gI_c10, pI_c10, gI_c11, pI_c11, gI_c12, pI_c12, gI_c13, pI_c13, gI_c14, pI_c14, gN_9, gN_10, gN_11, gN_12, gN_13, gN_14, gN_15, gN_16, gN_17, gN_18, gN_19, gN_20, gN_21, gN_22, gN_23, pN_9, pN_10, pN_11, pN_12, pN_13, pN_14, pN_15, pN_16, pN_17, pN_18, pN_19, pN_20, pN_21, pN_22, pZ_0, pZ_1, gR_n0, aI_n0, sI_n0, gR_n1, aI_n1, sI_n1, gR_n2, aI_n2, sI_n2, gR_n3, aI_n3, sI_n3, gR_n4, aI_n4, sI_n4, gR_n5, aI_n5, sI_n5, gR_n6, aI_n6, sI_n6, gR_n7, aI_n7, sI_n7, gR_n8, aI_n8, sI_n8, aR_s, aI_s, sI_s, aR_h, aI_h, sI_h, aR_r, aI_r, sI_r, aI_c, sI_c, aI_l, sI_l, aI_ca, aI_ha, sI_ca, sI_ha, gI_mo, pI_mo, w4, x1, x2, e0]
      rw [if_neg c1, if_neg (fun q => q ⟨by simp only [the]; omega, c2.1⟩), if_pos c2.2]
  · obtain ⟨I1, hc⟩ := hcut c
    have z2 : asG g mi n i (11 + 4 * q) = layG (cutG g n i) n (mi (11 + 4 * q)) (mi (11 + 4 * q + 1)) (mi (11 + 4 * q + 2)) (mi (11 + 4 * q + 3)) := if_neg c
    have z1 : asOk g mi n i (11 + 4 * q) ↔ layOk (cutG g n i) n := ⟨fun x => x.resolve_left c, Or.inr⟩
    rw [z2, bI_c z1]
    have c1 : ¬ i ≤ g (244 * n + 4) := fun q => c (Or.inl q)
    by_cases c3 : g (244 * n + 4) + g (244 * n + 8) < i
    · have z3 : cutG g n i = g := if_pos c3
      rw [z3]
      obtain ⟨y2, r2⟩ := t_layR (C := C) (Hd := Hd) (Mo := Mo) (t := mi (11 + 4 * q)) (k := mi (11 + 4 * q + 1)) (a := mi (11 + 4 * q + 2)) (b := mi (11 + 4 * q + 3)) hL r I n0 n1
      refine ⟨_, ?_, r2⟩
      simp (disch := first | assumption | omega) only [sX3_comesTo, sX3_comesTo_52, sX3_comesTo_102, z10, z00, if_true, if_false, iv_add, iv_sub, iv_mul, iv_le, iv_lt, iv_eq, iv_mx, iv_mn, bI_z, bI_o, rZ0, rZ1, rZb, cl_some', lt_eq, rm_eq, dv_eq, iv_01, iv_10, the, lastA, lpA, st_eq, st_ne, sh_addM, cV_cl, cV_nd, cV_mo, cV_lt, gR_t0, aR_nd, gR_c0, gR_c1, gR_c2, gR_c3, gR_c4, gR_c5, gR_c6, gR_c15, gR_c16, gI_c7, pI_c7, gI_c8, pI_c8, gI_c9, pI_c9, gI_c10, pI_c10, gI_c11, pI_c11, gI_c12, pI_c12, gI_c13, pI_c13, gI_c14, pI_c14, gN_9, gN_10, gN_11, gN_12, gN_13, gN_14, gN_15, gN_16, gN_17, gN_18, gN_19, gN_20, gN_21, gN_22, gN_23, pN_9, pN_10, pN_11, pN_12, pN_13, pN_14, pN_15, pN_16, pN_17, pN_18, pN_19, pN_20, pN_21, pN_22, pZ_0, pZ_1, gR_n0, aI_n0, sI_n0, gR_n1, aI_n1, sI_n1, gR_n2, aI_n2, sI_n2, gR_n3, aI_n3, sI_n3, gR_n4, aI_n4, sI_n4, gR_n5, aI_n5, sI_n5, gR_n6, aI_n6, sI_n6, gR_n7, aI_n7, sI_n7, gR_n8, aI_n8, sI_n8, aR_s, aI_s, sI_s, aR_h, aI_h, sI_h, aR_r, aI_r, sI_r, aI_c, sI_c, aI_l, sI_l, aI_ca, aI_ha, sI_ca, sI_ha, gI_mo, pI_mo, w4, x1, e0, e1, e2, e3, y2]
      rw [if_neg c1, if_pos (fun q => by have := q.2; simp only [the, lastA] at this; omega), if_pos (fun q => by have := q.2; simp only [the, lastA] at this; omega)]
    · have c4 : g (244 * n + 9) < i := hc.resolve_left c3
      have z3 : cutG g n i = st g (244 * n + 8) (i - g (244 * n + 4) - 1) := by
        unfold cutG
        simp only [the, lastA]
        rw [if_neg c3, if_neg (by omega)]
      rw [z3] at I1 ⊢
      have r1 := r.cutn I.bd (v := i - g (244 * n + 4) - 1) n0 n1 (by omega)
      obtain ⟨y2, r2⟩ := t_layR (C := C) (Hd := Hd) (Mo := Mo) (t := mi (11 + 4 * q)) (k := mi (11 + 4 * q + 1)) (a := mi (11 + 4 * q + 2)) (b := mi (11 + 4 * q + 3)) hL r1 I1 n0 n1
      refine ⟨_, ?_, r2⟩
      have x2 := t_termAt (C := C) (Hd := Hd) (Mo := Mo) (i := i) hL (rn.lg hg) (by omega) (by omega)
      rw [rn.term hg (by omega) (by omega)] at x2
      have c5 : hasEnt g n i := ⟨by simp only [the]; omega, by simp only [the, lastA]; omega⟩
      have c6 : ¬ termA g n i = mi (11 + 4 * q) := fun x => c (Or.inr ⟨c5.2, x⟩)
      have z5 : sX3_comesTo_102 (some B) (some (ndA B n)) (iI (10 + 4 * q)) (tl B (st h (244 * n + 8) (i - g (244 * n + 4) - 1)) C Hd Mo M) = some (bI (layOk (st g (244 * n + 8) (i - g (244 * n + 4) - 1)) n), tl B (layG (st h (244 * n + 8) (i - g (244 * n + 4) - 1)) n (mi (11 + 4 * q)) (mi (11 + 4 * q + 1)) (mi (11 + 4 * q + 2)) (mi (11 + 4 * q + 3))) C Hd Mo M) := by
        simp (disch := first | assumption | omega) only [sX3_comesTo_102, z10, z00, if_true, if_false, iv_add, iv_sub, iv_mul, iv_le, iv_lt, iv_eq, iv_mx, iv_mn, bI_z, bI_o, rZ0, rZ1, rZb, cl_some', lt_eq, rm_eq, dv_eq, iv_01, iv_10, the, lastA, lpA, st_eq, st_ne, sh_addM, cV_cl, cV_nd, cV_mo, cV_lt, gR_t0, aR_nd, gR_c0, gR_c1, gR_c2, gR_c3, gR_c4, gR_c5, gR_c6, gR_c15, gR_c16, gI_c7, pI_c7, gI_c8, pI_c8, gI_c9, pI_c9, gI_c10, pI_c10, gI_c11, pI_c11, gI_c12, pI_c12, gI_c13, pI_c13, gI_c14, pI_c14, gN_9, gN_10, gN_11, gN_12, gN_13, gN_14, gN_15, gN_16, gN_17, gN_18, gN_19, gN_20, gN_21, gN_22, gN_23, pN_9, pN_10, pN_11, pN_12, pN_13, pN_14, pN_15, pN_16, pN_17, pN_18, pN_19, pN_20, pN_21, pN_22, pZ_0, pZ_1, gR_n0, aI_n0, sI_n0, gR_n1, aI_n1, sI_n1, gR_n2, aI_n2, sI_n2, gR_n3, aI_n3, sI_n3, gR_n4, aI_n4, sI_n4, gR_n5, aI_n5, sI_n5, gR_n6, aI_n6, sI_n6, gR_n7, aI_n7, sI_n7, gR_n8, aI_n8, sI_n8, aR_s, aI_s, sI_s, aR_h, aI_h, sI_h, aR_r, aI_r, sI_r, aI_c, sI_c, aI_l, sI_l, aI_ca, aI_ha, sI_ca, sI_ha, gI_mo, pI_mo, e0, e1, e2, e3, y2]
      have z6 : sX3_comesTo_52 (some B) (iI i) (some (ndA B n)) (iI (10 + 4 * q)) (tl B h C Hd Mo M) = some (bI (layOk (st g (244 * n + 8) (i - g (244 * n + 4) - 1)) n), tl B (layG (st h (244 * n + 8) (i - g (244 * n + 4) - 1)) n (mi (11 + 4 * q)) (mi (11 + 4 * q + 1)) (mi (11 + 4 * q + 2)) (mi (11 + 4 * q + 3))) C Hd Mo M) := by
        simp (disch := first | assumption | omega) only [sX3_comesTo_52, sX3_comesTo_88, z10, z00, if_true, if_false, iv_add, iv_sub, iv_mul, iv_le, iv_lt, iv_eq, iv_mx, iv_mn, bI_z, bI_o, rZ0, rZ1, rZb, cl_some', lt_eq, rm_eq, dv_eq, iv_01, iv_10, the, lastA, lpA, st_eq, st_ne, sh_addM, cV_cl, cV_nd, cV_mo, cV_lt, gR_t0, aR_nd, gR_c0, gR_c1, gR_c2, gR_c3, gR_c4, gR_c5, gR_c6, gR_c15, gR_c16, gI_c7, pI_c7, gI_c8, pI_c8, gI_c9, pI_c9, gI_c10, pI_c10, gI_c11, pI_c11, gI_c12, pI_c12, gI_c13, pI_c13, gI_c14, pI_c14, gN_9, gN_10, gN_11, gN_12, gN_13, gN_14, gN_15, gN_16, gN_17, gN_18, gN_19, gN_20, gN_21, gN_22, gN_23, pN_9, pN_10, pN_11, pN_12, pN_13, pN_14, pN_15, pN_16, pN_17, pN_18, pN_19, pN_20, pN_21, pN_22, pZ_0, pZ_1, gR_n0, aI_n0, sI_n0, gR_n1, aI_n1, sI_n1, gR_n2, aI_n2, sI_n2, gR_n3, aI_n3, sI_n3, gR_n4, aI_n4, sI_n4, gR_n5, aI_n5, sI_n5, gR_n6, aI_n6, sI_n6, gR_n7, aI_n7, sI_n7, gR_n8, aI_n8, sI_n8, aR_s, aI_s, sI_s, aR_h, aI_h, sI_h, aR_r, aI_r, sI_r, aI_c, sI_c, aI_l, sI_l, aI_ca, aI_ha, sI_ca, sI_ha, gI_mo, pI_mo, w4, w9, x1, z5]
        rw [if_neg (fun x => x c5), if_pos c4]
      have tr := termR hg (i := i) (by omega) (by omega)
      obtain ⟨u1, u2, u3, u4⟩ := hMe
      simp (disch := first | assumption | omega) only [sX3_comesTo, z10, z00, if_true, if_false, iv_add, iv_sub, iv_mul, iv_le, iv_lt, iv_eq, iv_mx, iv_mn, bI_z, bI_o, rZ0, rZ1, rZb, cl_some', lt_eq, rm_eq, dv_eq, iv_01, iv_10, the, lastA, lpA, st_eq, st_ne, sh_addM, cV_cl, cV_nd, cV_mo, cV_lt, gR_t0, aR_nd, gR_c0, gR_c1, gR_c2, gR_c3, gR_c4, gR_c5, gR_c6, gR_c15, gR_c16, gI_c7, pI_c7, gI_c8, pI_c8, gI_c9, pI_c9, gI_c10, pI_c10, gI_c11, pI_c11, gI_c12, pI_c12, gI_c13, pI_c13, gI_c14, pI_c14, gN_9, gN_10, gN_11, gN_12, gN_13, gN_14, gN_15, gN_16, gN_17, gN_18, gN_19, gN_20, gN_21, gN_22, gN_23, pN_9, pN_10, pN_11, pN_12, pN_13, pN_14, pN_15, pN_16, pN_17, pN_18, pN_19, pN_20, pN_21, pN_22, pZ_0, pZ_1, gR_n0, aI_n0, sI_n0, gR_n1, aI_n1, sI_n1, gR_n2, aI_n2, sI_n2, gR_n3, aI_n3, sI_n3, gR_n4, aI_n4, sI_n4, gR_n5, aI_n5, sI_n5, gR_n6, aI_n6, sI_n6, gR_n7, aI_n7, sI_n7, gR_n8, aI_n8, sI_n8, aR_s, aI_s, sI_s, aR_h, aI_h, sI_h, aR_r, aI_r, sI_r, aI_c, sI_c, aI_l, sI_l, aI_ca, aI_ha, sI_ca, sI_ha, gI_mo, pI_mo, w4, x1, x2, e0, z6]
      rw [if_neg c1, if_neg (fun x => x c5), if_neg c6]
/-- what a row of entries does to a log: one step -/
theorem InvS.cut1 {mi : Row} (I : InvS g hs FL R D) (hM : MI hs R (g 11134) mi) (hk : mi 2 = 2) {n r : Int} (n0 : 0 ≤ n) (n1 : n < 7) (e3 : g (244 * n + 3) = 0) (e1 : g (244 * n + 1) = mi 3) (a1 : mi 6 ≤ r) (a2 : r < mi 6 + mi 5)
    (c2 : ¬ hasAs g n (r + 1) (mi (11 + 4 * (r - mi 6)))) : InvS (cutG g n (r + 1)) hs FL R D ∧ (lastA g n < r + 1 ∨ g (244 * n + 9) < r + 1) := by
  obtain ⟨k1, k2, k3, k4, k5, k6, k7⟩ := hM.k2 hk
  have nb := I.nb n n0 n1
  have ni := nb.1
  have hz := hM.s
  obtain ⟨⟨s1, s2⟩, _⟩ := I.na n n0 n1
  have hU := k1
  rw [← e1] at hU
  have ke := k4 (r - mi 6) (by omega) (by omega)
  rw [show mi 6 + 1 + (r - mi 6) = r + 1 by omega] at ke
  have kt : mi (11 + 4 * (r - mi 6)) = (hs.ll (mi 3) (r + 1)).t := congrArg Ent.t ke
  have hcm := ni.comm I.hi hU
  rw [e1] at hcm
  unfold hasAs at c2
  simp only [the, lastA] at c2 ⊢
  by_cases c3 : g (244 * n + 4) + g (244 * n + 8) < r + 1
  · exact ⟨by rw [show cutG g n (r + 1) = g from if_pos c3]; exact I, Or.inl c3⟩
  · have hne : (FL n (r + 1)).t ≠ (hs.ll (mi 3) (r + 1)).t := by
      intro q
      apply c2
      exact Or.inr ⟨by omega, by rw [nb.2.term (by omega) (by omega), kt, q]⟩
    have c4 : g (244 * n + 9) ≤ r := by
      apply Classical.byContradiction
      intro q
      apply hne
      rw [hcm.2 (r + 1) (by omega) (by omega)]
    refine ⟨?_, Or.inr (by omega)⟩
    have : cutG g n (r + 1) = st g (244 * n + 8) (r - g (244 * n + 4)) := by
      unfold cutG
      simp only [the, lastA]
      rw [if_neg c3, if_neg (by omega), show r + 1 - g (244 * n + 4) - 1 = r - g (244 * n + 4) by omega]
    rw [this]
    exact I.cutF n0 n1 e3 hU c4 (by omega) (by rw [e1]; omega) (by rw [e1]; exact hne)
theorem t_reach {mi : Row} (hL : LyC B M) (hm : MR Hd mi) (hk : mi 2 = 2) {n : Int} (n0 : 0 ≤ n) (n1 : n < 7) : ∀ (j f fu : Nat) (g h : Row) (r : Int) (FL : Int → ELog), Rel h g → InvS g hs FL R D → MI hs R (g 11134) mi → g (244 * n + 3) = 0 → g (244 * n + 1) = mi 3 → mi 6 ≤ r → r ≤ mi 6 + mi 5 → r ≤ g (244 * n + 4) + g (244 * n + 8) → Ag (FL n) (hs.ll (mi 3)) r →
    mi 6 + mi 5 - r = j → j < f → j < fu → ∃ h', sX3_takesEntries_142 fu (some B) (iI n) (iI (mi 0)) (iI (mi 6)) (iI r) (iI (r - mi 6)) (tl B h C Hd Mo M) = sX3_takesEntries_186 (some B) (iI n) (iI (mi 0)) (iI (reachF mi n f g r).2) (tl B h' C Hd Mo M) ∧ Rel h' (reachF mi n f g r).1 ∧ (reachF mi n f g r).1 11134 = g 11134
  | 0, f + 1, fu + 1, g, h, r, FL, rel, I, hM, e3, e1, a1, a2, a3, a4, z1, z2, z3 => by
    have hs := hM.s
    obtain ⟨_, _, _, _, q9, _⟩ := hm.s
    refine ⟨h, ?_, ?_⟩
    · unfold reachF
      rw [if_neg (by omega)]
      simp (disch := first | assumption | omega) only [sX3_takesEntries_142, sX3_takesEntries_142b, z10, z00, if_true, if_false, iv_add, iv_sub, iv_mul, iv_le, iv_lt, iv_eq, iv_mx, iv_mn, bI_z, bI_o, rZ0, rZ1, rZb, cl_some', lt_eq, rm_eq, dv_eq, iv_01, iv_10, the, lastA, lpA, st_eq, st_ne, sh_addM, cV_cl, cV_nd, cV_mo, cV_lt, gR_t0, aR_nd, gR_c0, gR_c1, gR_c2, gR_c3, gR_c4, gR_c5, gR_c6, gR_c15, gR_c16, gI_c7, pI_c7, gI_c8, pI_c8, gI_c9, pI_c9, gI_c10, pI_c10, gI_c11, pI_c11, gI_c12, pI_c12, gI_c13, pI_c13, gI_c14, pI_c14, gN_9, gN_10, gN_11, gN_12, gN_13, gN_14, gN_15, gN_16, gN_17, gN_18, gN_19, gN_20, gN_21, gN_22, gN_23, pN_9, pN_10, pN_11, pN_12, pN_13, pN_14, pN_15, pN_16, pN_17, pN_18, pN_19, pN_20, pN_21, pN_22, pZ_0, pZ_1, gR_n0, aI_n0, sI_n0, gR_n1, aI_n1, sI_n1, gR_n2, aI_n2, sI_n2, gR_n3, aI_n3, sI_n3, gR_n4, aI_n4, sI_n4, gR_n5, aI_n5, sI_n5, gR_n6, aI_n6, sI_n6, gR_n7, aI_n7, sI_n7, gR_n8, aI_n8, sI_n8, aR_s, aI_s, sI_s, aR_h, aI_h, sI_h, aR_r, aI_r, sI_r, aI_c, sI_c, aI_l, sI_l, aI_ca, aI_ha, sI_ca, sI_ha, gI_mo, pI_mo, q9]
      rw [if_pos (by omega)]
    · unfold reachF
      rw [if_neg (by omega)]
      exact ⟨rel, rfl⟩
  | j + 1, f + 1, fu + 1, g, h, r, FL, rel, I, hM, e3, e1, a1, a2, a3, a4, z1, z2, z3 => by
    have hs := hM.s
    obtain ⟨_, _, _, _, q9, _⟩ := hm.s
    obtain ⟨k1, k2, k3, k4, k5, k6, k7⟩ := hM.k2 hk
    have ke := k4 (r - mi 6) (by omega) (by omega)
    have kE := I.hi.eok (mi 3) (mi 6 + 1 + (r - mi 6)) k1 (by omega) (by omega)
    rw [← ke] at kE
    have hMe : MeA mi (11 + 4 * (r - mi 6)) := EOK.ent kE rfl rfl rfl rfl
    obtain ⟨⟨s1, s2⟩, _⟩ := I.na n n0 n1
    obtain ⟨h1, y1, r1⟩ := t_comesTo (C := C) (Hd := Hd) (Mo := Mo) (q := r - mi 6) (i := r + 1) hL rel I hm hk n0 n1 (by omega) (by omega) (by omega) (by omega) (by omega) hMe (fun c => I.cut1 hM hk n0 n1 e3 e1 a1 (by omega) c)
    obtain ⟨FL1, I1, o3, o1, b1, b2, b3, b4⟩ := InvS.reach hM hk n0 n1 1 g r FL I e3 e1 a1 a2 a3 a4
    unfold reachF at I1 o3 o1 b1 b2 b3 b4 ⊢
    have c1 : r < mi 6 + mi 5 := by omega
    rw [if_pos c1] at I1 o3 o1 b1 b2 b3 b4 ⊢
    show ∃ h', sX3_takesEntries_142b (sX3_takesEntries_142 fu) _ _ _ _ _ _ _ = _ ∧ _
    have e34 : asG g mi n (r + 1) (11 + 4 * (r - mi 6)) 11134 = g 11134 := by
      unfold asG
      split
      · rfl
      · rename_i hn'
        have hb : g (244 * n + 4) < r + 1 := by
          unfold hasAs at hn'
          simp only [the] at hn'
          omega
        have hLc := cut_Lg (I.lg n0 n1) hb
        rw [layG_ne hLc (by omega) (by omega) (by omega), cutG_ne (by omega) (by omega) (by omega)]
    by_cases c2 : asOk g mi n (r + 1) (11 + 4 * (r - mi 6))
    · rw [if_pos c2] at I1 o3 o1 b1 b2 b3 b4 ⊢
      unfold reachF at I1 o3 o1 b1 b2 b3 b4
      obtain ⟨h2, y2, r2, u2⟩ := t_reach hL hm hk n0 n1 j f fu (asG g mi n (r + 1) (11 + 4 * (r - mi 6))) h1 (r + 1) FL1 r1 I1 (by rw [e34]; exact hM) o3 o1 b1 b2 b3 b4 (by omega) (by omega) (by omega)
      refine ⟨h2, ?_, r2, u2.trans e34⟩
      rw [show r + 1 - mi 6 = r - mi 6 + 1 by omega] at y2
      generalize sX3_takesEntries_142 fu = K at y2 ⊢
      simp (disch := first | assumption | omega) only [sX3_takesEntries_142b, z10, z00, if_true, if_false, iv_add, iv_sub, iv_mul, iv_le, iv_lt, iv_eq, iv_mx, iv_mn, bI_z, bI_o, rZ0, rZ1, rZb, cl_some', lt_eq, rm_eq, dv_eq, iv_01, iv_10, the, lastA, lpA, st_eq, st_ne, sh_addM, cV_cl, cV_nd, cV_mo, cV_lt, gR_t0, aR_nd, gR_c0, gR_c1, gR_c2, gR_c3, gR_c4, gR_c5, gR_c6, gR_c15, gR_c16, gI_c7, pI_c7, gI_c8, pI_c8, gI_c9, pI_c9, gI_c10, pI_c10, gI_c11, pI_c11, gI_c12, pI_c12, gI_c13, pI_c13, gI_c14, pI_c14, gN_9, gN_10, gN_11, gN_12, gN_13, gN_14, gN_15, gN_16, gN_17, gN_18, gN_19, gN_20, gN_21, gN_22, gN_23, pN_9, pN_10, pN_11, pN_12, pN_13, pN_14, pN_15, pN_16, pN_17, pN_18, pN_19, pN_20, pN_21, pN_22, pZ_0, pZ_1, gR_n0, aI_n0, sI_n0, gR_n1, aI_n1, sI_n1, gR_n2, aI_n2, sI_n2, gR_n3, aI_n3, sI_n3, gR_n4, aI_n4, sI_n4, gR_n5, aI_n5, sI_n5, gR_n6, aI_n6, sI_n6, gR_n7, aI_n7, sI_n7, gR_n8, aI_n8, sI_n8, aR_s, aI_s, sI_s, aR_h, aI_h, sI_h, aR_r, aI_r, sI_r, aI_c, sI_c, aI_l, sI_l, aI_ca, aI_ha, sI_ca, sI_ha, gI_mo, pI_mo, q9, show mi 6 + 1 + (r - mi 6) = r + 1 by omega, y1]
      rw [if_neg (by omega), if_neg (fun x => x c2)]
      exact y2
    · rw [if_neg c2] at I1 o3 o1 b1 b2 b3 b4 ⊢
      refine ⟨h1, ?_, r1, e34⟩
      generalize sX3_takesEntries_142 fu = K
      simp (disch := first | assumption | omega) only [sX3_takesEntries_142b, z10, z00, if_true, if_false, iv_add, iv_sub, iv_mul, iv_le, iv_lt, iv_eq, iv_mx, iv_mn, bI_z, bI_o, rZ0, rZ1, rZb, cl_some', lt_eq, rm_eq, dv_eq, iv_01, iv_10, the, lastA, lpA, st_eq, st_ne, sh_addM, cV_cl, cV_nd, cV_mo, cV_lt, gR_t0, aR_nd, gR_c0, gR_c1, gR_c2, gR_c3, gR_c4, gR_c5, gR_c6, gR_c15, gR_c16, gI_c7, pI_c7, gI_c8, pI_c8, gI_c9, pI_c9, gI_c10, pI_c10, gI_c11, pI_c11, gI_c12, pI_c12, gI_c13, pI_c13, gI_c14, pI_c14, gN_9, gN_10, gN_11, gN_12, gN_13, gN_14, gN_15, gN_16, gN_17, gN_18, gN_19, gN_20, gN_21, gN_22, gN_23, pN_9, pN_10, pN_11, pN_12, pN_13, pN_14, pN_15, pN_16, pN_17, pN_18, pN_19, pN_20, pN_21, pN_22, pZ_0, pZ_1, gR_n0, aI_n0, sI_n0, gR_n1, aI_n1, sI_n1, gR_n2, aI_n2, sI_n2, gR_n3, aI_n3, sI_n3, gR_n4, aI_n4, sI_n4, gR_n5, aI_n5, sI_n5, gR_n6, aI_n6, sI_n6, gR_n7, aI_n7, sI_n7, gR_n8, aI_n8, sI_n8, aR_s, aI_s, sI_s, aR_h, aI_h, sI_h, aR_r, aI_r, sI_r, aI_c, sI_c, aI_l, sI_l, aI_ca, aI_ha, sI_ca, sI_ha, gI_mo, pI_mo, q9, show mi 6 + 1 + (r - mi 6) = r + 1 by omega, y1]
      rw [if_neg (by omega), if_pos c2]
theorem t_reached {mi : Row} (hL : LyC B M) (hΛ : LawL M Λ) (rel : Rel h g) (I : InvS g hs FL R D) (hm : MR Hd mi) (hM : MI hs R (g 11134) mi) {n : Int} (hn : mi 1 = n) (hk : mi 2 = 2) (e1 : g (244 * n + 1) = mi 3) {r : Int} (a1 : mi 6 ≤ r) (a2 : r ≤ mi 6 + mi 5) (a3 : r ≤ g (244 * n + 4) + g (244 * n + 8)) (a4 : Ag (FL n) (hs.ll (mi 3)) r) :
    ∃ h' C' Mo', sX3_takesEntries_186 (some B) (iI n) (iI (mi 0)) (iI r) (tl B h C Hd Mo M) = some ((), tl B h' C' Hd Mo' M) ∧ Rel h' (ansG Λ (growG g n (min (mi 8) r)) mi 3 1 r (mi 10)) := by
  have hz := hM.s
  have n0 : 0 ≤ n := by omega
  have n1 : n < 7 := by omega
  obtain ⟨k1, k2, k3, k4, k5, k6, k7⟩ := hM.k2 hk
  obtain ⟨j1, j2, j3⟩ := hm.k2 hk
  have rr := I.rr
  have I2 := I.grow (t := min (mi 8) r) n0 n1 (by omega) (by rw [e1]; exact (k5.le (by omega)).ag (a4.le (by omega)))
  obtain ⟨⟨q1, q2⟩, _⟩ := I2.na n n0 n1
  obtain ⟨⟨q3, q4⟩, _⟩ := I.na n n0 n1
  have hgr := I.gl
  have k34 : g 11134 ≤ 999 := hgr.2.2.2.2.2.2.2.1
  obtain ⟨h1, y1, r1⟩ := t_commits (C := C) (Hd := Hd) (Mo := Mo) hL rel I n0 n1 (t := min (mi 8) r) (by omega) (by omega)
  obtain ⟨h2, C2, Mo2, y2, r2⟩ := t_answers (C := C) (Hd := Hd) (Mo := Mo) (mi := mi) (k := 3) (a := 1) (x := r) (y := mi 10) (w := r) (z := 0) (rr := mi 10) hL hΛ r1 I2.bd (by omega) (by omega) (by rw [hn]; omega) (by rw [hn]; omega) (Or.inr (Or.inl ⟨rfl, rfl, rfl⟩))
  refine ⟨h2, C2, Mo2, ?_, r2⟩
  rw [hn] at y2
  simp (disch := first | assumption | omega) only [sX3_takesEntries_186, z10, z00, if_true, if_false, iv_add, iv_sub, iv_mul, iv_le, iv_lt, iv_eq, iv_mx, iv_mn, bI_z, bI_o, rZ0, rZ1, rZb, cl_some', lt_eq, rm_eq, dv_eq, iv_01, iv_10, the, lastA, lpA, st_eq, st_ne, sh_addM, cV_cl, cV_nd, cV_mo, cV_lt, gR_t0, aR_nd, gR_c0, gR_c1, gR_c2, gR_c3, gR_c4, gR_c5, gR_c6, gR_c15, gR_c16, gI_c7, pI_c7, gI_c8, pI_c8, gI_c9, pI_c9, gI_c10, pI_c10, gI_c11, pI_c11, gI_c12, pI_c12, gI_c13, pI_c13, gI_c14, pI_c14, gN_9, gN_10, gN_11, gN_12, gN_13, gN_14, gN_15, gN_16, gN_17, gN_18, gN_19, gN_20, gN_21, gN_22, gN_23, pN_9, pN_10, pN_11, pN_12, pN_13, pN_14, pN_15, pN_16, pN_17, pN_18, pN_19, pN_20, pN_21, pN_22, pZ_0, pZ_1, gR_n0, aI_n0, sI_n0, gR_n1, aI_n1, sI_n1, gR_n2, aI_n2, sI_n2, gR_n3, aI_n3, sI_n3, gR_n4, aI_n4, sI_n4, gR_n5, aI_n5, sI_n5, gR_n6, aI_n6, sI_n6, gR_n7, aI_n7, sI_n7, gR_n8, aI_n8, sI_n8, aR_s, aI_s, sI_s, aR_h, aI_h, sI_h, aR_r, aI_r, sI_r, aI_c, sI_c, aI_l, sI_l, aI_ca, aI_ha, sI_ca, sI_ha, gI_mo, pI_mo, j1, j2, y1, y2]
theorem t_entries {mi : Row} (hL : LyC B M) (hΛ : LawL M Λ) (rel : Rel h g) (I : InvS g hs FL R D) (hm : MR Hd mi) (hM : MI hs R (g 11134) mi) {n : Int} (hn : mi 1 = n) (hk : mi 2 = 2) (hrs : mi 3 ≤ g (244 * n + 1)) (hup : g (244 * n + 0) = 1) :
    ∃ h' C' Mo', sX3_takesEntries (some B) (iI n) (tl B h C Hd Mo M) = some ((), tl B h' C' Hd Mo' M) ∧ Rel h' (entriesG Λ g mi n) := by
  have hz := hM.s
  have n0 : 0 ≤ n := by omega
  have n1 : n < 7 := by omega
  have rr := I.rr
  obtain ⟨k1, k2, k3, k4, k5, k6, k7⟩ := hM.k2 hk
  obtain ⟨j1, j2, j3⟩ := hm.k2 hk
  obtain ⟨q0, _, _, q3, q9, q5⟩ := hm.s
  have q6 := hm.k0 (Or.inr (Or.inl hk))
  obtain ⟨⟨s1, s2⟩, _⟩ := I.na n n0 n1
  have rn := rel.nd n n0 n1
  have w1 := rn.s 1 (by omega) (by omega)
  unfold entriesG
  simp only [the, lastA]
  by_cases c0 : mi 3 < g (244 * n + 1)
  · rw [if_pos c0]
    obtain ⟨h3, C3, Mo3, y3, r3⟩ := t_answers (C := C) (Hd := Hd) (Mo := Mo) (mi := mi) (k := 3) (a := 0) (x := 1) (y := 0) (w := 1) (z := 0) (rr := 0) hL hΛ rel I.bd (by omega) (by omega) (by rw [hn]; omega) (by rw [hn]; omega) (Or.inr (Or.inl ⟨rfl, rfl, rfl⟩))
    refine ⟨h3, C3, Mo3, ?_, r3⟩
    rw [hn] at y3
    simp (disch := first | assumption | omega) only [sX3_takesEntries, z10, z00, if_true, if_false, iv_add, iv_sub, iv_mul, iv_le, iv_lt, iv_eq, iv_mx, iv_mn, bI_z, bI_o, rZ0, rZ1, rZb, cl_some', lt_eq, rm_eq, dv_eq, iv_01, iv_10, the, lastA, lpA, st_eq, st_ne, sh_addM, cV_cl, cV_nd, cV_mo, cV_lt, gR_t0, aR_nd, gR_c0, gR_c1, gR_c2, gR_c3, gR_c4, gR_c5, gR_c6, gR_c15, gR_c16, gI_c7, pI_c7, gI_c8, pI_c8, gI_c9, pI_c9, gI_c10, pI_c10, gI_c11, pI_c11, gI_c12, pI_c12, gI_c13, pI_c13, gI_c14, pI_c14, gN_9, gN_10, gN_11, gN_12, gN_13, gN_14, gN_15, gN_16, gN_17, gN_18, gN_19, gN_20, gN_21, gN_22, gN_23, pN_9, pN_10, pN_11, pN_12, pN_13, pN_14, pN_15, pN_16, pN_17, pN_18, pN_19, pN_20, pN_21, pN_22, pZ_0, pZ_1, gR_n0, aI_n0, sI_n0, gR_n1, aI_n1, sI_n1, gR_n2, aI_n2, sI_n2, gR_n3, aI_n3, sI_n3, gR_n4, aI_n4, sI_n4, gR_n5, aI_n5, sI_n5, gR_n6, aI_n6, sI_n6, gR_n7, aI_n7, sI_n7, gR_n8, aI_n8, sI_n8, aR_s, aI_s, sI_s, aR_h, aI_h, sI_h, aR_r, aI_r, sI_r, aI_c, sI_c, aI_l, sI_l, aI_ca, aI_ha, sI_ca, sI_ha, gI_mo, pI_mo, q0, q3, w1, y3]
    rw [if_neg (by omega)]
  · rw [if_neg c0]
    have hA := I.ar
    have I0 := I.follow (w := mi 0) n0 n1 (by omega) (by omega) (Or.inl hup)
    have r0 := rel.follow I.bd (w := mi 0) n0 n1
    have f3 := rn.s 3 (by omega) (by omega)
    have y1 := t_follows (C := C) (Hd := Hd) (Mo := Mo) (w := mi 0) hL n0 n1 (rel.rdh hA I.rd) (by omega)
    obtain ⟨⟨v1, v2⟩, _⟩ := I0.na n n0 n1
    obtain ⟨h2, Mo2, y2, r2⟩ := t_setsTimer (C := C) (Hd := Hd) (Mo := Mo) hL hΛ r0 I0.bd n0 n1 (by omega) (by omega)
    have I1 := I0.timer (Λ := Λ) n0 n1
    have e3 : timerG Λ (followG g n (mi 0)) n (244 * n + 3) = 0 := by rw [timerG_ne (by omega) (by omega), followG_3]
    have e1 : timerG Λ (followG g n (mi 0)) n (244 * n + 1) = mi 3 := by
      rw [timerG_ne (by omega) (by omega), followG_ne (by omega) hA (by omega) (by omega)]
      omega
    have e34 : timerG Λ (followG g n (mi 0)) n 11134 = g 11134 := by rw [timerG_ne (by omega) (by omega), followG_ne (by omega) hA (by omega) (by omega)]
    rw [← e34] at hM k7
    generalize timerG Λ (followG g n (mi 0)) n = g1 at *
    generalize followG h n (mi 0) = h1 at *
    have rn2 := r2.nd n n0 n1
    have hg1 := I1.lg n0 n1
    have w4 := rn2.s 4 (by omega) (by omega)
    have w8 := rn2.s 8 (by omega) (by omega)
    have nb := I1.nb n n0 n1
    have ni := nb.1
    have hU : hs.el (g1 (244 * n + 1)) := by rw [e1]; exact k1
    clear s1 s2 v1 v2
    obtain ⟨⟨s1, s2⟩, _⟩ := I1.na n n0 n1
    by_cases c1 : g1 (244 * n + 4) + g1 (244 * n + 8) < mi 6
    · rw [if_pos c1]
      obtain ⟨h3, C3, Mo3, y3, r3⟩ := t_answers (C := C) (Hd := Hd) (Mo := Mo2) (mi := mi) (k := 3) (a := 0) (x := g1 (244 * n + 4) + g1 (244 * n + 8) + 1) (y := mi 10) (w := g1 (244 * n + 4) + g1 (244 * n + 8) + 1) (z := 0) (rr := mi 10) hL hΛ r2 I1.bd (by omega) (by omega) (by rw [hn]; omega) (by rw [hn]; omega) (Or.inr (Or.inl ⟨rfl, rfl, rfl⟩))
      refine ⟨h3, C3, Mo3, ?_, r3⟩
      rw [hn] at y3
      simp (disch := first | assumption | omega) only [sX3_takesEntries, t_last, z10, z00, if_true, if_false, iv_add, iv_sub, iv_mul, iv_le, iv_lt, iv_eq, iv_mx, iv_mn, bI_z, bI_o, rZ0, rZ1, rZb, cl_some', lt_eq, rm_eq, dv_eq, iv_01, iv_10, the, lastA, lpA, st_eq, st_ne, sh_addM, cV_cl, cV_nd, cV_mo, cV_lt, gR_t0, aR_nd, gR_c0, gR_c1, gR_c2, gR_c3, gR_c4, gR_c5, gR_c6, gR_c15, gR_c16, gI_c7, pI_c7, gI_c8, pI_c8, gI_c9, pI_c9, gI_c10, pI_c10, gI_c11, pI_c11, gI_c12, pI_c12, gI_c13, pI_c13, gI_c14, pI_c14, gN_9, gN_10, gN_11, gN_12, gN_13, gN_14, gN_15, gN_16, gN_17, gN_18, gN_19, gN_20, gN_21, gN_22, gN_23, pN_9, pN_10, pN_11, pN_12, pN_13, pN_14, pN_15, pN_16, pN_17, pN_18, pN_19, pN_20, pN_21, pN_22, pZ_0, pZ_1, gR_n0, aI_n0, sI_n0, gR_n1, aI_n1, sI_n1, gR_n2, aI_n2, sI_n2, gR_n3, aI_n3, sI_n3, gR_n4, aI_n4, sI_n4, gR_n5, aI_n5, sI_n5, gR_n6, aI_n6, sI_n6, gR_n7, aI_n7, sI_n7, gR_n8, aI_n8, sI_n8, aR_s, aI_s, sI_s, aR_h, aI_h, sI_h, aR_r, aI_r, sI_r, aI_c, sI_c, aI_l, sI_l, aI_ca, aI_ha, sI_ca, sI_ha, gI_mo, pI_mo, q0, q3, q5, w1, j2, y1, y2, w4, w8, y3]
      rw [if_pos (by omega), if_neg (by omega)]
    · rw [if_neg c1]
      have go : ∀ h' C' Mo', sX3_takesEntries_135 (some B) (iI n) (iI (mi 0)) (iI (mi 6)) (tl B h2 C Hd Mo2 M) = some ((), tl B h' C' Hd Mo' M) → (¬ (g1 (244 * n + 4) ≤ mi 6 ∧ termA g1 n (mi 6) ≠ mi 7)) → sX3_takesEntries (some B) (iI n) (tl B h C Hd Mo M) = some ((), tl B h' C' Hd Mo' M) := by
        intro h' C' Mo' z c2
        simp (disch := first | assumption | omega) only [sX3_takesEntries, t_last, z10, z00, if_true, if_false, iv_add, iv_sub, iv_mul, iv_le, iv_lt, iv_eq, iv_mx, iv_mn, bI_z, bI_o, rZ0, rZ1, rZb, cl_some', lt_eq, rm_eq, dv_eq, iv_01, iv_10, the, lastA, lpA, st_eq, st_ne, sh_addM, cV_cl, cV_nd, cV_mo, cV_lt, gR_t0, aR_nd, gR_c0, gR_c1, gR_c2, gR_c3, gR_c4, gR_c5, gR_c6, gR_c15, gR_c16, gI_c7, pI_c7, gI_c8, pI_c8, gI_c9, pI_c9, gI_c10, pI_c10, gI_c11, pI_c11, gI_c12, pI_c12, gI_c13, pI_c13, gI_c14, pI_c14, gN_9, gN_10, gN_11, gN_12, gN_13, gN_14, gN_15, gN_16, gN_17, gN_18, gN_19, gN_20, gN_21, gN_22, gN_23, pN_9, pN_10, pN_11, pN_12, pN_13, pN_14, pN_15, pN_16, pN_17, pN_18, pN_19, pN_20, pN_21, pN_22, pZ_0, pZ_1, gR_n0, aI_n0, sI_n0, gR_n1, aI_n1, sI_n1, gR_n2, aI_n2, sI_n2, gR_n3, aI_n3, sI_n3, gR_n4, aI_n4, sI_n4, gR_n5, aI_n5, sI_n5, gR_n6, aI_n6, sI_n6, gR_n7, aI_n7, sI_n7, gR_n8, aI_n8, sI_n8, aR_s, aI_s, sI_s, aR_h, aI_h, sI_h, aR_r, aI_r, sI_r, aI_c, sI_c, aI_l, sI_l, aI_ca, aI_ha, sI_ca, sI_ha, gI_mo, pI_mo, q0, q3, q5, w1, j2, y1, y2, w4, w8, z]
        rw [if_pos (by omega), if_pos (by omega)]
        by_cases c3 : g1 (244 * n + 4) ≤ mi 6
        · have c4 : termA g1 n (mi 6) = mi 7 := Classical.byContradiction (fun q => c2 ⟨c3, q⟩)
          have x2 := t_termAt (C := C) (Hd := Hd) (Mo := Mo2) (i := mi 6) hL (rn2.lg hg1) (by omega) (by omega)
          rw [rn2.term hg1 (by omega) (by omega)] at x2
          have tr := termR hg1 (i := mi 6) (by omega) (by omega)
          simp (disch := first | assumption | omega) only [z10, z00, if_true, if_false, iv_add, iv_sub, iv_mul, iv_le, iv_lt, iv_eq, iv_mx, iv_mn, bI_z, bI_o, rZ0, rZ1, rZb, cl_some', lt_eq, rm_eq, dv_eq, iv_01, iv_10, the, lastA, lpA, st_eq, st_ne, sh_addM, cV_cl, cV_nd, cV_mo, cV_lt, gR_t0, aR_nd, gR_c0, gR_c1, gR_c2, gR_c3, gR_c4, gR_c5, gR_c6, gR_c15, gR_c16, gI_c7, pI_c7, gI_c8, pI_c8, gI_c9, pI_c9, gI_c10, pI_c10, gI_c11, pI_c11, gI_c12, pI_c12, gI_c13, pI_c13, gI_c14, pI_c14, gN_9, gN_10, gN_11, gN_12, gN_13, gN_14, gN_15, gN_16, gN_17, gN_18, gN_19, gN_20, gN_21, gN_22, gN_23, pN_9, pN_10, pN_11, pN_12, pN_13, pN_14, pN_15, pN_16, pN_17, pN_18, pN_19, pN_20, pN_21, pN_22, pZ_0, pZ_1, gR_n0, aI_n0, sI_n0, gR_n1, aI_n1, sI_n1, gR_n2, aI_n2, sI_n2, gR_n3, aI_n3, sI_n3, gR_n4, aI_n4, sI_n4, gR_n5, aI_n5, sI_n5, gR_n6, aI_n6, sI_n6, gR_n7, aI_n7, sI_n7, gR_n8, aI_n8, sI_n8, aR_s, aI_s, sI_s, aR_h, aI_h, sI_h, aR_r, aI_r, sI_r, aI_c, sI_c, aI_l, sI_l, aI_ca, aI_ha, sI_ca, sI_ha, gI_mo, pI_mo, x2, q6]
          rw [if_neg (by omega), if_pos c4]
          exact z
        · rw [if_pos (by omega)]
      by_cases c2 : g1 (244 * n + 4) ≤ mi 6 ∧ termA g1 n (mi 6) ≠ mi 7
      · rw [if_pos c2]
        have f1 := firstF_le (g := g1) (n := n) (i := mi 6) (mi 6 - the g1 n 4).toNat (mi 6)
        have f2 : 1 ≤ firstA g1 n (mi 6) ∧ firstA g1 n (mi 6) ≤ 1000 := by
          unfold firstA
          omega
        have x2 := t_termAt (C := C) (Hd := Hd) (Mo := Mo2) (i := mi 6) hL (rn2.lg hg1) (by omega) (by omega)
        rw [rn2.term hg1 (by omega) (by omega)] at x2
        have tr := termR hg1 (i := mi 6) (by omega) (by omega)
        have x3 := t_firstOfTerm (C := C) (Hd := Hd) (Mo := Mo2) (i := mi 6) hL (rn2.lg hg1) (by omega) (by omega)
        rw [rn2.first hg1 (by omega) (by omega)] at x3
        obtain ⟨h3, C3, Mo3, y3, r3⟩ := t_answers (C := C) (Hd := Hd) (Mo := Mo2) (mi := mi) (k := 3) (a := 0) (x := firstA g1 n (mi 6)) (y := mi 10) (w := firstA g1 n (mi 6)) (z := 0) (rr := mi 10) hL hΛ r2 I1.bd (by omega) (by omega) (by rw [hn]; omega) (by rw [hn]; omega) (Or.inr (Or.inl ⟨rfl, rfl, rfl⟩))
        refine ⟨h3, C3, Mo3, ?_, r3⟩
        rw [hn] at y3
        simp (disch := first | assumption | omega) only [sX3_takesEntries, t_last, z10, z00, if_true, if_false, iv_add, iv_sub, iv_mul, iv_le, iv_lt, iv_eq, iv_mx, iv_mn, bI_z, bI_o, rZ0, rZ1, rZb, cl_some', lt_eq, rm_eq, dv_eq, iv_01, iv_10, the, lastA, lpA, st_eq, st_ne, sh_addM, cV_cl, cV_nd, cV_mo, cV_lt, gR_t0, aR_nd, gR_c0, gR_c1, gR_c2, gR_c3, gR_c4, gR_c5, gR_c6, gR_c15, gR_c16, gI_c7, pI_c7, gI_c8, pI_c8, gI_c9, pI_c9, gI_c10, pI_c10, gI_c11, pI_c11, gI_c12, pI_c12, gI_c13, pI_c13, gI_c14, pI_c14, gN_9, gN_10, gN_11, gN_12, gN_13, gN_14, gN_15, gN_16, gN_17, gN_18, gN_19, gN_20, gN_21, gN_22, gN_23, pN_9, pN_10, pN_11, pN_12, pN_13, pN_14, pN_15, pN_16, pN_17, pN_18, pN_19, pN_20, pN_21, pN_22, pZ_0, pZ_1, gR_n0, aI_n0, sI_n0, gR_n1, aI_n1, sI_n1, gR_n2, aI_n2, sI_n2, gR_n3, aI_n3, sI_n3, gR_n4, aI_n4, sI_n4, gR_n5, aI_n5, sI_n5, gR_n6, aI_n6, sI_n6, gR_n7, aI_n7, sI_n7, gR_n8, aI_n8, sI_n8, aR_s, aI_s, sI_s, aR_h, aI_h, sI_h, aR_r, aI_r, sI_r, aI_c, sI_c, aI_l, sI_l, aI_ca, aI_ha, sI_ca, sI_ha, gI_mo, pI_mo, q0, q3, q5, q6, w1, j2, y1, y2, w4, w8, x2, x3, y3]
        rw [if_pos (by omega), if_pos (by omega), if_neg (by omega), if_neg c2.2]
      · rw [if_neg c2]
        have hcm := ni.comm I1.hi hU
        rw [e1] at hcm
        have hag : Ag (FL n) (hs.ll (mi 3)) (mi 6) := by
          by_cases c3 : g1 (244 * n + 4) ≤ mi 6
          · have c4 : termA g1 n (mi 6) = mi 7 := Classical.byContradiction (fun q => c2 ⟨c3, q⟩)
            rw [nb.2.term c3 (by omega), k3] at c4
            by_cases c5 : mi 6 = 0
            · rw [c5]
              exact hcm.2.le (by omega)
            · have := ni.same I1.hi hU (i := mi 6) (by omega) (by omega) (by rw [e1]; omega) (by rw [e1]; exact c4)
              rw [e1] at this
              exact this
          · exact hcm.2.le (by omega)
        obtain ⟨FL2, I2, p3, p1, b1, b2, b3, b4⟩ := InvS.reach hM hk n0 n1 5 g1 (mi 6) FL I1 e3 e1 (by omega) (by omega) (by omega) hag
        obtain ⟨h3, x1, r3, e35⟩ := t_reach (C := C) (Hd := Hd) (Mo := Mo2) hL hm hk n0 n1 (mi 5).toNat 5 FU g1 h2 (mi 6) FL r2 I1 hM e3 e1 (by omega) (by omega) (by omega) hag (by omega) (by omega) (by unfold FU; omega)
        rw [Int.sub_self] at x1
        generalize reachF mi n 5 g1 (mi 6) = p at *
        obtain ⟨h4, C4, Mo4, y4, r4⟩ := t_reached (C := C) (Hd := Hd) (Mo := Mo2) hL hΛ r3 I2 hm (by rw [e35]; exact hM) hn hk p1 b1 b2 b3 b4
        exact ⟨h4, C4, Mo4, go _ _ _ (by unfold sX3_takesEntries_135; rw [x1]; exact y4) c2, r4⟩
end
