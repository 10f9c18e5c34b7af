/-! DEPS: vr -/
/-! VS: TermLog beats, takes what is due -/
section
variable {B : Nat} {h g C Hd Mo : Row} {M : Mem} {Λ : Law} {hs : His} {FL : Int → ELog} {R : Int} {D : DK}
theorem timer_tm {n v : Int} (n0 : 0 ≤ n) (n1 : n < 7) : timerG Λ (st g (244 * n + 10) v) n = timerG Λ g n := by
  have hd : drawG (st g (244 * n + 10) v) = st (drawG g) (244 * n + 10) v := by
    unfold drawG
    rw [st_ne (show ¬ (11132 : Int) = 244 * n + 10 by omega), st_com (by omega)]
  unfold timerG
  rw [hd, st_st, st_ne (show ¬ (11132 : Int) = 244 * n + 10 by omega)]
  have : factsA (st (drawG g) (244 * n + 10) v) n n 6 = factsA (drawG g) n n 6 := by
    unfold factsA
    simp only [the]
    rw [st_ne (show ¬ 244 * n + 1 = 244 * n + 10 by omega), st_ne (show ¬ (11133 : Int) = 244 * n + 10 by omega), st_ne (show ¬ (11131 : Int) = 244 * n + 10 by omega), st_ne (show ¬ (11132 : Int) = 244 * n + 10 by omega)]
  rw [this]
theorem stood_tm {n v : Int} (n0 : 0 ≤ n) (n1 : n < 7) : standV (st g (244 * n + 10) v) n = st (standV g n) (244 * n + 10) v := by
  unfold standV
  simp only [the]
  rw [st_ne (show ¬ 244 * n + 1 = 244 * n + 10 by omega)]
  rw [st_com (g := g) (e := 244 * n + 10) (by omega), st_com (e := 244 * n + 10) (by omega), st_com (e := 244 * n + 10) (by omega), st_com (e := 244 * n + 10) (by omega), st_com (e := 244 * n + 10) (by omega)]
theorem t_stands0 (hL : LyC B M) (hΛ : LawL M Λ) (I : InvS g hs FL R D) {n v : Int} (n0 : 0 ≤ n) (n1 : n < 7) (hr : g (244 * n + 3) ≠ 2) (hup : g (244 * n + 0) = 1) (r : Rel h (st g (244 * n + 10) v)) :
    ∃ h' C' Mo', sX3_stands (some B) (iI n) (tl B h C Hd Mo M) = some ((), tl B h' C' Hd Mo' M) ∧ Rel h' (standG Λ g n) := by
  obtain ⟨⟨s1, s2⟩, _⟩ := I.na n n0 n1
  have rn := r.nd n n0 n1
  have bd0 : BdA (st g (244 * n + 10) v) := I.bd.set n0 n1 (by omega) (by omega) (by omega)
  have e01 : st g (244 * n + 10) v (244 * n + 1) = g (244 * n + 1) := st_ne (by omega)
  have hg : LgA (st g (244 * n + 10) v) n := LgA_ext2 (fun x _ _ _ => st_ne (by omega)) (I.lg n0 n1)
  have w1 := rn.s 1 (by omega) (by omega)
  rw [e01] at w1
  have mr := membR (I.lg n0 n1)
  have cx := cfg_ext (g' := st g (244 * n + 10) v) (I.lg n0 n1) (fun x _ _ _ => st_ne (by omega))
  have hmm : membA (st g (244 * n + 10) v) n = membA g n := by
    unfold membA
    rw [cx.1, cx.2.1]
  have x1 := t_members (C := C) (Hd := Hd) (Mo := Mo) hL (rn.lg hg)
  rw [rn.memb hg, hmm] at x1
  unfold standG
  simp only [the]
  by_cases c : ¬ hasI (membA g n) n ∨ g (244 * n + 1) = 999
  · rw [if_pos c]
    obtain ⟨h2, Mo2, y3, r3⟩ := t_setsTimer (C := C) (Hd := Hd) (Mo := Mo) hL hΛ r bd0 n0 n1 (by omega) (by omega)
    rw [timer_tm n0 n1] at r3
    refine ⟨h2, C, Mo2, ?_, r3⟩
    simp (disch := first | assumption | omega) only [sX3_stands, sX3_stands_28, t_has, z10, z00, if_true, if_false, iv_add, iv_sub, iv_mul, iv_le, iv_lt, iv_eq, iv_mx, iv_mn, bI_z, bI_o, rZ0, rZ1, rZb, cl_some', lt_eq, rm_eq, dv_eq, iv_01, iv_10, the, lastA, lpA, st_eq, st_ne, sh_addM, cV_cl, cV_nd, cV_mo, cV_lt, gR_t0, aR_nd, gR_c0, gR_c1, gR_c2, gR_c3, gR_c4, gR_c5, gR_c6, gR_c15, gR_c16, gI_c7, pI_c7, gI_c8, pI_c8, gI_c9, pI_c9, gI_c10, pI_c10, gI_c11, pI_c11, gI_c12, pI_c12, gI_c13, pI_c13, gI_c14, pI_c14, gN_9, gN_10, gN_11, gN_12, gN_13, gN_14, gN_15, gN_16, gN_17, gN_18, gN_19, gN_20, gN_21, gN_22, gN_23, pN_9, pN_10, pN_11, pN_12, pN_13, pN_14, pN_15, pN_16, pN_17, pN_18, pN_19, pN_20, pN_21, pN_22, pZ_0, pZ_1, gR_n0, aI_n0, sI_n0, gR_n1, aI_n1, sI_n1, gR_n2, aI_n2, sI_n2, gR_n3, aI_n3, sI_n3, gR_n4, aI_n4, sI_n4, gR_n5, aI_n5, sI_n5, gR_n6, aI_n6, sI_n6, gR_n7, aI_n7, sI_n7, gR_n8, aI_n8, sI_n8, aR_s, aI_s, sI_s, aR_h, aI_h, sI_h, aR_r, aI_r, sI_r, aI_c, sI_c, aI_l, sI_l, aI_ca, aI_ha, sI_ca, sI_ha, gI_mo, pI_mo, x1, y3, w1]
    rcases c with c | c
    · rw [if_pos c]
    · rw [if_pos c]
      split <;> rfl
  · rw [if_neg c]
    have c0 : hasI (membA g n) n := Classical.byContradiction (fun q => c (Or.inl q))
    have c1 : ¬ g (244 * n + 1) = 999 := fun q => c (Or.inr q)
    obtain ⟨hs1, G1, I1⟩ := I.stood n0 n1 (by omega) hr hup
    have r1 := r.stood bd0 n0 n1
    have bd1 : BdA (standV (st g (244 * n + 10) v) n) := by
      rw [stood_tm n0 n1]
      exact I1.bd.set n0 n1 (by omega) (by omega) (by omega)
    obtain ⟨h2, Mo2, y2, r2⟩ := t_setsTimer (C := C) (Hd := Hd) (Mo := Mo) hL hΛ r1 bd1 n0 n1 (by rw [standV_1]; omega) (by rw [standV_1]; omega)
    rw [stood_tm n0 n1, timer_tm n0 n1] at r2
    have I2 := I1.timer (Λ := Λ) n0 n1
    have e3 : timerG Λ (standV g n) n (244 * n + 3) = 1 := by
      rw [timerG_ne (by omega) (by omega)]
      unfold standV
      rw [st_ne (by omega), st_ne (by omega), st_ne (by omega), st_eq]
    have e1 : timerG Λ (standV g n) n (244 * n + 1) = g (244 * n + 1) + 1 := by rw [timerG_ne (by omega) (by omega), standV_1]
    have e12 : timerG Λ (standV g n) n (244 * n + 12) = bitI n := by rw [timerG_ne (by omega) (by omega), standV_12]
    have hv : standV h n = st (st (st (st (st h (244 * n + 1) (h (244 * n + 1) + 1)) (244 * n + 3) 1) (244 * n + 2) n) (244 * n + 12) (bitI n)) (244 * n + 11) (-1) := rfl
    rw [hv, w1] at y2
    generalize timerG Λ (standV g n) n = g2 at *
    have rn2 := r2.nd n n0 n1
    have hg2 := I2.lg n0 n1
    have w12 := rn2.t 12 (by omega) (by omega)
    have hb := bitR n0 n1
    have x2 := t_isMajority (C := C) (Hd := Hd) (Mo := Mo2) hL (rn2.lg hg2) (s := bitI n) (by omega) hb.2
    rw [bI_c (rn2.most hg2)] at x2
    rw [e12] at w12
    simp only [the, e12]
    by_cases c2 : mostA g2 n (bitI n)
    · rw [if_pos c2]
      obtain ⟨h3, C3, Mo3, y3, r3⟩ := t_leads (C := C) (Hd := Hd) (Mo := Mo2) hL hΛ r2 I2 n0 n1 e3 (by rw [e12]; exact c2) (by omega)
      refine ⟨h3, C3, Mo3, ?_, r3⟩
      simp (disch := first | assumption | omega) only [sX3_stands, t_has, z10, z00, if_true, if_false, iv_add, iv_sub, iv_mul, iv_le, iv_lt, iv_eq, iv_mx, iv_mn, bI_z, bI_o, rZ0, rZ1, rZb, cl_some', lt_eq, rm_eq, dv_eq, iv_01, iv_10, the, lastA, lpA, st_eq, st_ne, sh_addM, cV_cl, cV_nd, cV_mo, cV_lt, gR_t0, aR_nd, gR_c0, gR_c1, gR_c2, gR_c3, gR_c4, gR_c5, gR_c6, gR_c15, gR_c16, gI_c7, pI_c7, gI_c8, pI_c8, gI_c9, pI_c9, gI_c10, pI_c10, gI_c11, pI_c11, gI_c12, pI_c12, gI_c13, pI_c13, gI_c14, pI_c14, gN_9, gN_10, gN_11, gN_12, gN_13, gN_14, gN_15, gN_16, gN_17, gN_18, gN_19, gN_20, gN_21, gN_22, gN_23, pN_9, pN_10, pN_11, pN_12, pN_13, pN_14, pN_15, pN_16, pN_17, pN_18, pN_19, pN_20, pN_21, pN_22, pZ_0, pZ_1, gR_n0, aI_n0, sI_n0, gR_n1, aI_n1, sI_n1, gR_n2, aI_n2, sI_n2, gR_n3, aI_n3, sI_n3, gR_n4, aI_n4, sI_n4, gR_n5, aI_n5, sI_n5, gR_n6, aI_n6, sI_n6, gR_n7, aI_n7, sI_n7, gR_n8, aI_n8, sI_n8, aR_s, aI_s, sI_s, aR_h, aI_h, sI_h, aR_r, aI_r, sI_r, aI_c, sI_c, aI_l, sI_l, aI_ca, aI_ha, sI_ca, sI_ha, gI_mo, pI_mo, iv_shl, x1, w1, y2, w12, x2, y3]
      rw [if_neg (fun q => q c0), if_neg c1, if_neg (fun q => q c2)]
    · rw [if_neg c2]
      obtain ⟨h3, C3, Mo3, y3, r3⟩ := t_askK (Hd := Hd) hL hΛ n0 n1 7 h2 g2 C Mo2 0 FU r2 I2 e3 (by omega) (by omega) (by unfold FU; omega)
      refine ⟨h3, C3, Mo3, ?_, r3⟩
      simp (disch := first | assumption | omega) only [sX3_stands, t_has, z10, z00, if_true, if_false, iv_add, iv_sub, iv_mul, iv_le, iv_lt, iv_eq, iv_mx, iv_mn, bI_z, bI_o, rZ0, rZ1, rZb, cl_some', lt_eq, rm_eq, dv_eq, iv_01, iv_10, the, lastA, lpA, st_eq, st_ne, sh_addM, cV_cl, cV_nd, cV_mo, cV_lt, gR_t0, aR_nd, gR_c0, gR_c1, gR_c2, gR_c3, gR_c4, gR_c5, gR_c6, gR_c15, gR_c16, gI_c7, pI_c7, gI_c8, pI_c8, gI_c9, pI_c9, gI_c10, pI_c10, gI_c11, pI_c11, gI_c12, pI_c12, gI_c13, pI_c13, gI_c14, pI_c14, gN_9, gN_10, gN_11, gN_12, gN_13, gN_14, gN_15, gN_16, gN_17, gN_18, gN_19, gN_20, gN_21, gN_22, gN_23, pN_9, pN_10, pN_11, pN_12, pN_13, pN_14, pN_15, pN_16, pN_17, pN_18, pN_19, pN_20, pN_21, pN_22, pZ_0, pZ_1, gR_n0, aI_n0, sI_n0, gR_n1, aI_n1, sI_n1, gR_n2, aI_n2, sI_n2, gR_n3, aI_n3, sI_n3, gR_n4, aI_n4, sI_n4, gR_n5, aI_n5, sI_n5, gR_n6, aI_n6, sI_n6, gR_n7, aI_n7, sI_n7, gR_n8, aI_n8, sI_n8, aR_s, aI_s, sI_s, aR_h, aI_h, sI_h, aR_r, aI_r, sI_r, aI_c, sI_c, aI_l, sI_l, aI_ca, aI_ha, sI_ca, sI_ha, gI_mo, pI_mo, iv_shl, x1, w1, y2, w12, x2]
      rw [if_neg (fun q => q c0), if_neg c1, if_pos c2]
      exact y3
theorem t_beats (hL : LyC B M) (hΛ : LawL M Λ) (rel : Rel h g) (I : InvS g hs FL R D) {n : Int} (n0 : 0 ≤ n) (n1 : n < 7) (hup : g (244 * n + 0) = 1) (hR : R + 1 ≤ 1000000) :
    ∃ h' C' Mo', sX3_beats (some B) (iI n) (tl B h C Hd Mo M) = some ((), tl B h' C' Hd Mo' M) ∧ Rel h' (beatG Λ g n) := by
  obtain ⟨⟨s1, s2⟩, _⟩ := I.na n n0 n1
  have rr := I.rr
  have rn := rel.nd n n0 n1
  have w3 := rn.s 3 (by omega) (by omega)
  have w10 := rn.s 10 (by omega) (by omega)
  have w13 := rn.t 13 (by omega) (by omega)
  have w14 := rn.t 14 (by omega) (by omega)
  unfold beatG
  simp only [the]
  by_cases c : g (244 * n + 3) = 2
  · rw [if_neg (fun hc => hc c), st_eq]
    have r1 := rel.set I.bd (w := 14) (v := g (244 * n + 14) + 1) n0 n1 (by omega) (by omega) (by omega) (by omega)
    have b1 := I.bd.set (w := 14) (v := g (244 * n + 14) + 1) n0 n1 (by omega) (by omega) (by omega)
    by_cases c2 : g (244 * n + 14) + 1 < 3
    · rw [if_pos c2]
      refine ⟨_, C, Mo, ?_, r1⟩
      simp (disch := first | assumption | omega) only [sX3_beats, z10, z00, if_true, if_false, iv_add, iv_sub, iv_mul, iv_le, iv_lt, iv_eq, iv_mx, iv_mn, bI_z, bI_o, rZ0, rZ1, rZb, cl_some', lt_eq, rm_eq, dv_eq, iv_01, iv_10, the, lastA, lpA, st_eq, st_ne, sh_addM, cV_cl, cV_nd, cV_mo, cV_lt, gR_t0, aR_nd, gR_c0, gR_c1, gR_c2, gR_c3, gR_c4, gR_c5, gR_c6, gR_c15, gR_c16, gI_c7, pI_c7, gI_c8, pI_c8, gI_c9, pI_c9, gI_c10, pI_c10, gI_c11, pI_c11, gI_c12, pI_c12, gI_c13, pI_c13, gI_c14, pI_c14, gN_9, gN_10, gN_11, gN_12, gN_13, gN_14, gN_15, gN_16, gN_17, gN_18, gN_19, gN_20, gN_21, gN_22, gN_23, pN_9, pN_10, pN_11, pN_12, pN_13, pN_14, pN_15, pN_16, pN_17, pN_18, pN_19, pN_20, pN_21, pN_22, pZ_0, pZ_1, gR_n0, aI_n0, sI_n0, gR_n1, aI_n1, sI_n1, gR_n2, aI_n2, sI_n2, gR_n3, aI_n3, sI_n3, gR_n4, aI_n4, sI_n4, gR_n5, aI_n5, sI_n5, gR_n6, aI_n6, sI_n6, gR_n7, aI_n7, sI_n7, gR_n8, aI_n8, sI_n8, aR_s, aI_s, sI_s, aR_h, aI_h, sI_h, aR_r, aI_r, sI_r, aI_c, sI_c, aI_l, sI_l, aI_ca, aI_ha, sI_ca, sI_ha, gI_mo, pI_mo, w3, w14]
      rw [if_pos c, if_neg (by omega)]
    · rw [if_neg c2]
      have r2 := (r1.set b1 (w := 14) (v := 0) n0 n1 (by omega) (by omega) (by omega) (by omega)).set (b1.set n0 n1 (by omega) (by omega) (by omega)) (w := 13) (v := g (244 * n + 13) + 1) n0 n1 (by omega) (by omega) (by omega) (by omega)
      have I2 := I.round n0 n1 hR
      have e3 : roundG g n (244 * n + 3) = 2 := by
        unfold roundG
        rw [st_ne (by omega), st_ne (by omega)]; exact c
      have e : st (st (st g (244 * n + 14) (g (244 * n + 14) + 1)) (244 * n + 14) 0) (244 * n + 13) (g (244 * n + 13) + 1) = roundG g n := by
        unfold roundG
        rw [st_st]
      rw [e] at r2 ⊢
      obtain ⟨h3, C3, M3, x3, r3⟩ := t_sendsToAll (C := C) (Hd := Hd) (Mo := Mo) hL hΛ r2 I2 n0 n1 e3
      refine ⟨h3, C3, M3, ?_, r3⟩
      simp (disch := first | assumption | omega) only [sX3_beats, z10, z00, if_true, if_false, iv_add, iv_sub, iv_mul, iv_le, iv_lt, iv_eq, iv_mx, iv_mn, bI_z, bI_o, rZ0, rZ1, rZb, cl_some', lt_eq, rm_eq, dv_eq, iv_01, iv_10, the, lastA, lpA, st_eq, st_ne, sh_addM, cV_cl, cV_nd, cV_mo, cV_lt, gR_t0, aR_nd, gR_c0, gR_c1, gR_c2, gR_c3, gR_c4, gR_c5, gR_c6, gR_c15, gR_c16, gI_c7, pI_c7, gI_c8, pI_c8, gI_c9, pI_c9, gI_c10, pI_c10, gI_c11, pI_c11, gI_c12, pI_c12, gI_c13, pI_c13, gI_c14, pI_c14, gN_9, gN_10, gN_11, gN_12, gN_13, gN_14, gN_15, gN_16, gN_17, gN_18, gN_19, gN_20, gN_21, gN_22, gN_23, pN_9, pN_10, pN_11, pN_12, pN_13, pN_14, pN_15, pN_16, pN_17, pN_18, pN_19, pN_20, pN_21, pN_22, pZ_0, pZ_1, gR_n0, aI_n0, sI_n0, gR_n1, aI_n1, sI_n1, gR_n2, aI_n2, sI_n2, gR_n3, aI_n3, sI_n3, gR_n4, aI_n4, sI_n4, gR_n5, aI_n5, sI_n5, gR_n6, aI_n6, sI_n6, gR_n7, aI_n7, sI_n7, gR_n8, aI_n8, sI_n8, aR_s, aI_s, sI_s, aR_h, aI_h, sI_h, aR_r, aI_r, sI_r, aI_c, sI_c, aI_l, sI_l, aI_ca, aI_ha, sI_ca, sI_ha, gI_mo, pI_mo, w3, w13, w14, x3]
      rw [if_pos c, if_pos (by omega)]
  · rw [if_pos c, st_eq]
    have r1 := rel.set I.bd (w := 10) (v := g (244 * n + 10) - 1) n0 n1 (by omega) (by omega) (by omega) (by omega)
    by_cases c2 : g (244 * n + 10) - 1 = 0
    · rw [if_pos c2, stand_timer n0 n1 (I.lg n0 n1)]
      obtain ⟨h3, C3, M3, x3, r3⟩ := t_stands0 (C := C) (Hd := Hd) (Mo := Mo) hL hΛ I n0 n1 c hup r1
      refine ⟨h3, C3, M3, ?_, r3⟩
      simp (disch := first | assumption | omega) only [sX3_beats, z10, z00, if_true, if_false, iv_add, iv_sub, iv_mul, iv_le, iv_lt, iv_eq, iv_mx, iv_mn, bI_z, bI_o, rZ0, rZ1, rZb, cl_some', lt_eq, rm_eq, dv_eq, iv_01, iv_10, the, lastA, lpA, st_eq, st_ne, sh_addM, cV_cl, cV_nd, cV_mo, cV_lt, gR_t0, aR_nd, gR_c0, gR_c1, gR_c2, gR_c3, gR_c4, gR_c5, gR_c6, gR_c15, gR_c16, gI_c7, pI_c7, gI_c8, pI_c8, gI_c9, pI_c9, gI_c10, pI_c10, gI_c11, pI_c11, gI_c12, pI_c12, gI_c13, pI_c13, gI_c14, pI_c14, gN_9, gN_10, gN_11, gN_12, gN_13, gN_14, gN_15, gN_16, gN_17, gN_18, gN_19, gN_20, gN_21, gN_22, gN_23, pN_9, pN_10, pN_11, pN_12, pN_13, pN_14, pN_15, pN_16, pN_17, pN_18, pN_19, pN_20, pN_21, pN_22, pZ_0, pZ_1, gR_n0, aI_n0, sI_n0, gR_n1, aI_n1, sI_n1, gR_n2, aI_n2, sI_n2, gR_n3, aI_n3, sI_n3, gR_n4, aI_n4, sI_n4, gR_n5, aI_n5, sI_n5, gR_n6, aI_n6, sI_n6, gR_n7, aI_n7, sI_n7, gR_n8, aI_n8, sI_n8, aR_s, aI_s, sI_s, aR_h, aI_h, sI_h, aR_r, aI_r, sI_r, aI_c, sI_c, aI_l, sI_l, aI_ca, aI_ha, sI_ca, sI_ha, gI_mo, pI_mo, w3, w10, x3]
      rw [if_neg c, if_neg (by omega)]
    · rw [if_neg c2]
      refine ⟨_, C, Mo, ?_, r1⟩
      simp (disch := first | assumption | omega) only [sX3_beats, z10, z00, if_true, if_false, iv_add, iv_sub, iv_mul, iv_le, iv_lt, iv_eq, iv_mx, iv_mn, bI_z, bI_o, rZ0, rZ1, rZb, cl_some', lt_eq, rm_eq, dv_eq, iv_01, iv_10, the, lastA, lpA, st_eq, st_ne, sh_addM, cV_cl, cV_nd, cV_mo, cV_lt, gR_t0, aR_nd, gR_c0, gR_c1, gR_c2, gR_c3, gR_c4, gR_c5, gR_c6, gR_c15, gR_c16, gI_c7, pI_c7, gI_c8, pI_c8, gI_c9, pI_c9, gI_c10, pI_c10, gI_c11, pI_c11, gI_c12, pI_c12, gI_c13, pI_c13, gI_c14, pI_c14, gN_9, gN_10, gN_11, gN_12, gN_13, gN_14, gN_15, gN_16, gN_17, gN_18, gN_19, gN_20, gN_21, gN_22, gN_23, pN_9, pN_10, pN_11, pN_12, pN_13, pN_14, pN_15, pN_16, pN_17, pN_18, pN_19, pN_20, pN_21, pN_22, pZ_0, pZ_1, gR_n0, aI_n0, sI_n0, gR_n1, aI_n1, sI_n1, gR_n2, aI_n2, sI_n2, gR_n3, aI_n3, sI_n3, gR_n4, aI_n4, sI_n4, gR_n5, aI_n5, sI_n5, gR_n6, aI_n6, sI_n6, gR_n7, aI_n7, sI_n7, gR_n8, aI_n8, sI_n8, aR_s, aI_s, sI_s, aR_h, aI_h, sI_h, aR_r, aI_r, sI_r, aI_c, sI_c, aI_l, sI_l, aI_ca, aI_ha, sI_ca, sI_ha, gI_mo, pI_mo, w3, w10]
      rw [if_neg c, if_pos (by omega)]
end
