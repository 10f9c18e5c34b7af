/-! DEPS: vq -/
/-! VR: TermLog: a message is handed over, beats -/
section
variable {B : Nat} {h g C Hd Mo : Row} {M : Mem} {Λ : Law} {hs : His} {FL : Int → ELog} {R : Int} {D : DK}
theorem t_areLinked (hL : LyC B M) (rel : Rel h g) {a b : Int} (a0 : 0 ≤ a) (a1 : a < 7) (b0 : 0 ≤ b) (b1 : b < 7) (hc : 0 ≤ g (11124 + a) ∧ g (11124 + a) < 128) :
    sX3_areLinked (some B) (iI a) (iI b) (tl B h C Hd Mo M) = some (bI (¬ hasI (g (11124 + a)) b), tl B h C Hd Mo M) := by
  have e := rel.ct (11124 + a) (by omega) (by omega)
  simp (disch := first | assumption | omega) only [sX3_areLinked, t_has, z10, z00, if_true, if_false, iv_add, iv_sub, iv_mul, iv_le, iv_lt, iv_eq, iv_mx, iv_mn, bI_z, bI_o, rZ0, rZ1, rZb, cl_some', lt_eq, rm_eq, dv_eq, iv_01, iv_10, the, lastA, lpA, st_eq, st_ne, sh_addM, cV_cl, cV_nd, cV_mo, cV_lt, gR_t0, aR_nd, gR_c0, gR_c1, gR_c2, gR_c3, gR_c4, gR_c5, gR_c6, gR_c15, gR_c16, gI_c7, pI_c7, gI_c8, pI_c8, gI_c9, pI_c9, gI_c10, pI_c10, gI_c11, pI_c11, gI_c12, pI_c12, gI_c13, pI_c13, gI_c14, pI_c14, gN_9, gN_10, gN_11, gN_12, gN_13, gN_14, gN_15, gN_16, gN_17, gN_18, gN_19, gN_20, gN_21, gN_22, gN_23, pN_9, pN_10, pN_11, pN_12, pN_13, pN_14, pN_15, pN_16, pN_17, pN_18, pN_19, pN_20, pN_21, pN_22, pZ_0, pZ_1, gR_n0, aI_n0, sI_n0, gR_n1, aI_n1, sI_n1, gR_n2, aI_n2, sI_n2, gR_n3, aI_n3, sI_n3, gR_n4, aI_n4, sI_n4, gR_n5, aI_n5, sI_n5, gR_n6, aI_n6, sI_n6, gR_n7, aI_n7, sI_n7, gR_n8, aI_n8, sI_n8, aR_s, aI_s, sI_s, aR_h, aI_h, sI_h, aR_r, aI_r, sI_r, aI_c, sI_c, aI_l, sI_l, aI_ca, aI_ha, sI_ca, sI_ha, gI_mo, pI_mo, e]
  by_cases c : hasI (g (11124 + a)) b
  · rw [if_neg (fun hn => hn c), bI_f (fun hn => hn c)]
  · rw [if_pos c, bI_t c]
theorem t_hand_74 {mi : Row} (hL : LyC B M) (hΛ : LawL M Λ) (rel : Rel h g) (I : InvS g hs FL R D) (hm : MR Hd mi) (hM : MI hs R (g 11134) mi) (hrs : mi 3 ≤ g (244 * mi 1 + 1)) (hup : g (244 * mi 1 + 0) = 1) :
    ∃ h' C' Mo', sX3_isHanded_74 (some B) (iI (mi 1)) (tl B h C Hd Mo M) = some ((), tl B h' C' Hd Mo' M) ∧ Rel h' (if mi 2 = 0 then voteG Λ g mi (mi 1) else if mi 2 = 1 then countG Λ g mi (mi 1) else if mi 2 = 2 then entriesG Λ g mi (mi 1) else if mi 2 = 3 then hearEG Λ g mi (mi 1) else if mi 2 = 4 then snapshotG Λ g mi (mi 1) else hearSG Λ g mi (mi 1)) := by
  have hz := hM.s
  obtain ⟨q0, q1, q2, q3, q9, q5⟩ := hm.s
  by_cases c0 : mi 2 = 0
  · obtain ⟨h1, C1, M1, x1, x2⟩ := t_votes (C := C) (Mo := Mo) hL hΛ rel I hm hM rfl c0
    refine ⟨h1, C1, M1, ?_, by rw [if_pos c0]; exact x2⟩
    simp (disch := first | assumption | omega) only [sX3_isHanded_74, z10, z00, if_true, if_false, iv_add, iv_sub, iv_mul, iv_le, iv_lt, iv_eq, iv_mx, iv_mn, bI_z, bI_o, rZ0, rZ1, rZb, cl_some', lt_eq, rm_eq, dv_eq, iv_01, iv_10, the, lastA, lpA, st_eq, st_ne, sh_addM, cV_cl, cV_nd, cV_mo, cV_lt, gR_t0, aR_nd, gR_c0, gR_c1, gR_c2, gR_c3, gR_c4, gR_c5, gR_c6, gR_c15, gR_c16, gI_c7, pI_c7, gI_c8, pI_c8, gI_c9, pI_c9, gI_c10, pI_c10, gI_c11, pI_c11, gI_c12, pI_c12, gI_c13, pI_c13, gI_c14, pI_c14, gN_9, gN_10, gN_11, gN_12, gN_13, gN_14, gN_15, gN_16, gN_17, gN_18, gN_19, gN_20, gN_21, gN_22, gN_23, pN_9, pN_10, pN_11, pN_12, pN_13, pN_14, pN_15, pN_16, pN_17, pN_18, pN_19, pN_20, pN_21, pN_22, pZ_0, pZ_1, gR_n0, aI_n0, sI_n0, gR_n1, aI_n1, sI_n1, gR_n2, aI_n2, sI_n2, gR_n3, aI_n3, sI_n3, gR_n4, aI_n4, sI_n4, gR_n5, aI_n5, sI_n5, gR_n6, aI_n6, sI_n6, gR_n7, aI_n7, sI_n7, gR_n8, aI_n8, sI_n8, aR_s, aI_s, sI_s, aR_h, aI_h, sI_h, aR_r, aI_r, sI_r, aI_c, sI_c, aI_l, sI_l, aI_ca, aI_ha, sI_ca, sI_ha, gI_mo, pI_mo, q2, x1]
    rw [if_pos c0]
  · rw [if_neg c0]
    by_cases c1 : mi 2 = 1
    · obtain ⟨h1, C1, M1, x1, x2⟩ := t_counts (C := C) (Mo := Mo) hL hΛ rel I hm hM rfl c1
      refine ⟨h1, C1, M1, ?_, by rw [if_pos c1]; exact x2⟩
      simp (disch := first | assumption | omega) only [sX3_isHanded_74, z10, z00, if_true, if_false, iv_add, iv_sub, iv_mul, iv_le, iv_lt, iv_eq, iv_mx, iv_mn, bI_z, bI_o, rZ0, rZ1, rZb, cl_some', lt_eq, rm_eq, dv_eq, iv_01, iv_10, the, lastA, lpA, st_eq, st_ne, sh_addM, cV_cl, cV_nd, cV_mo, cV_lt, gR_t0, aR_nd, gR_c0, gR_c1, gR_c2, gR_c3, gR_c4, gR_c5, gR_c6, gR_c15, gR_c16, gI_c7, pI_c7, gI_c8, pI_c8, gI_c9, pI_c9, gI_c10, pI_c10, gI_c11, pI_c11, gI_c12, pI_c12, gI_c13, pI_c13, gI_c14, pI_c14, gN_9, gN_10, gN_11, gN_12, gN_13, gN_14, gN_15, gN_16, gN_17, gN_18, gN_19, gN_20, gN_21, gN_22, gN_23, pN_9, pN_10, pN_11, pN_12, pN_13, pN_14, pN_15, pN_16, pN_17, pN_18, pN_19, pN_20, pN_21, pN_22, pZ_0, pZ_1, gR_n0, aI_n0, sI_n0, gR_n1, aI_n1, sI_n1, gR_n2, aI_n2, sI_n2, gR_n3, aI_n3, sI_n3, gR_n4, aI_n4, sI_n4, gR_n5, aI_n5, sI_n5, gR_n6, aI_n6, sI_n6, gR_n7, aI_n7, sI_n7, gR_n8, aI_n8, sI_n8, aR_s, aI_s, sI_s, aR_h, aI_h, sI_h, aR_r, aI_r, sI_r, aI_c, sI_c, aI_l, sI_l, aI_ca, aI_ha, sI_ca, sI_ha, gI_mo, pI_mo, q2, x1]
      rw [if_neg c0, if_pos c1]
    · rw [if_neg c1]
      by_cases c2 : mi 2 = 2
      · obtain ⟨h1, C1, M1, x1, x2⟩ := t_entries (C := C) (Mo := Mo) hL hΛ rel I hm hM rfl c2 hrs hup
        refine ⟨h1, C1, M1, ?_, by rw [if_pos c2]; exact x2⟩
        simp (disch := first | assumption | omega) only [sX3_isHanded_74, z10, z00, if_true, if_false, iv_add, iv_sub, iv_mul, iv_le, iv_lt, iv_eq, iv_mx, iv_mn, bI_z, bI_o, rZ0, rZ1, rZb, cl_some', lt_eq, rm_eq, dv_eq, iv_01, iv_10, the, lastA, lpA, st_eq, st_ne, sh_addM, cV_cl, cV_nd, cV_mo, cV_lt, gR_t0, aR_nd, gR_c0, gR_c1, gR_c2, gR_c3, gR_c4, gR_c5, gR_c6, gR_c15, gR_c16, gI_c7, pI_c7, gI_c8, pI_c8, gI_c9, pI_c9, gI_c10, pI_c10, gI_c11, pI_c11, gI_c12, pI_c12, gI_c13, pI_c13, gI_c14, pI_c14, gN_9, gN_10, gN_11, gN_12, gN_13, gN_14, gN_15, gN_16, gN_17, gN_18, gN_19, gN_20, gN_21, gN_22, gN_23, pN_9, pN_10, pN_11, pN_12, pN_13, pN_14, pN_15, pN_16, pN_17, pN_18, pN_19, pN_20, pN_21, pN_22, pZ_0, pZ_1, gR_n0, aI_n0, sI_n0, gR_n1, aI_n1, sI_n1, gR_n2, aI_n2, sI_n2, gR_n3, aI_n3, sI_n3, gR_n4, aI_n4, sI_n4, gR_n5, aI_n5, sI_n5, gR_n6, aI_n6, sI_n6, gR_n7, aI_n7, sI_n7, gR_n8, aI_n8, sI_n8, aR_s, aI_s, sI_s, aR_h, aI_h, sI_h, aR_r, aI_r, sI_r, aI_c, sI_c, aI_l, sI_l, aI_ca, aI_ha, sI_ca, sI_ha, gI_mo, pI_mo, q2, x1]
        rw [if_neg c0, if_neg c1, if_pos c2]
      · rw [if_neg c2]
        by_cases c4 : mi 2 = 4
        · obtain ⟨h1, C1, M1, x1, x2⟩ := t_snapshot (C := C) (Mo := Mo) hL hΛ rel I hm hM rfl c4 hrs hup
          refine ⟨h1, C1, M1, ?_, by rw [if_neg (by omega), if_pos c4]; exact x2⟩
          simp (disch := first | assumption | omega) only [sX3_isHanded_74, z10, z00, if_true, if_false, iv_add, iv_sub, iv_mul, iv_le, iv_lt, iv_eq, iv_mx, iv_mn, bI_z, bI_o, rZ0, rZ1, rZb, cl_some', lt_eq, rm_eq, dv_eq, iv_01, iv_10, the, lastA, lpA, st_eq, st_ne, sh_addM, cV_cl, cV_nd, cV_mo, cV_lt, gR_t0, aR_nd, gR_c0, gR_c1, gR_c2, gR_c3, gR_c4, gR_c5, gR_c6, gR_c15, gR_c16, gI_c7, pI_c7, gI_c8, pI_c8, gI_c9, pI_c9, gI_c10, pI_c10, gI_c11, pI_c11, gI_c12, pI_c12, gI_c13, pI_c13, gI_c14, pI_c14, gN_9, gN_10, gN_11, gN_12, gN_13, gN_14, gN_15, gN_16, gN_17, gN_18, gN_19, gN_20, gN_21, gN_22, gN_23, pN_9, pN_10, pN_11, pN_12, pN_13, pN_14, pN_15, pN_16, pN_17, pN_18, pN_19, pN_20, pN_21, pN_22, pZ_0, pZ_1, gR_n0, aI_n0, sI_n0, gR_n1, aI_n1, sI_n1, gR_n2, aI_n2, sI_n2, gR_n3, aI_n3, sI_n3, gR_n4, aI_n4, sI_n4, gR_n5, aI_n5, sI_n5, gR_n6, aI_n6, sI_n6, gR_n7, aI_n7, sI_n7, gR_n8, aI_n8, sI_n8, aR_s, aI_s, sI_s, aR_h, aI_h, sI_h, aR_r, aI_r, sI_r, aI_c, sI_c, aI_l, sI_l, aI_ca, aI_ha, sI_ca, sI_ha, gI_mo, pI_mo, q2, x1]
          rw [if_neg c0, if_neg c1, if_neg c2, if_neg (by omega), if_pos c4]
        · obtain ⟨h1, C1, M1, x1, x2⟩ := t_isAnswered (C := C) (Mo := Mo) hL hΛ rel I hm hM rfl (by omega)
          refine ⟨h1, C1, M1, ?_, by rw [if_neg c4]; exact x2⟩
          simp (disch := first | assumption | omega) only [sX3_isHanded_74, sX3_isHanded_148, z10, z00, if_true, if_false, iv_add, iv_sub, iv_mul, iv_le, iv_lt, iv_eq, iv_mx, iv_mn, bI_z, bI_o, rZ0, rZ1, rZb, cl_some', lt_eq, rm_eq, dv_eq, iv_01, iv_10, the, lastA, lpA, st_eq, st_ne, sh_addM, cV_cl, cV_nd, cV_mo, cV_lt, gR_t0, aR_nd, gR_c0, gR_c1, gR_c2, gR_c3, gR_c4, gR_c5, gR_c6, gR_c15, gR_c16, gI_c7, pI_c7, gI_c8, pI_c8, gI_c9, pI_c9, gI_c10, pI_c10, gI_c11, pI_c11, gI_c12, pI_c12, gI_c13, pI_c13, gI_c14, pI_c14, gN_9, gN_10, gN_11, gN_12, gN_13, gN_14, gN_15, gN_16, gN_17, gN_18, gN_19, gN_20, gN_21, gN_22, gN_23, pN_9, pN_10, pN_11, pN_12, pN_13, pN_14, pN_15, pN_16, pN_17, pN_18, pN_19, pN_20, pN_21, pN_22, pZ_0, pZ_1, gR_n0, aI_n0, sI_n0, gR_n1, aI_n1, sI_n1, gR_n2, aI_n2, sI_n2, gR_n3, aI_n3, sI_n3, gR_n4, aI_n4, sI_n4, gR_n5, aI_n5, sI_n5, gR_n6, aI_n6, sI_n6, gR_n7, aI_n7, sI_n7, gR_n8, aI_n8, sI_n8, aR_s, aI_s, sI_s, aR_h, aI_h, sI_h, aR_r, aI_r, sI_r, aI_c, sI_c, aI_l, sI_l, aI_ca, aI_ha, sI_ca, sI_ha, gI_mo, pI_mo, q2, x1]
          rw [if_neg c0, if_neg c1, if_neg c2, if_neg c4]
          split <;> rfl
theorem t_isHanded {mi : Row} (hL : LyC B M) (hΛ : LawL M Λ) (rel : Rel h g) (I : InvS g hs FL R D) (hm : MR Hd mi) (hM : MI hs R (g 11134) mi) :
    ∃ h' C' Mo', sX3_isHanded (some B) (tl B h C Hd Mo M) = some ((), tl B h' C' Hd Mo' M) ∧ Rel h' (handG Λ g mi) := by
  have hz := hM.s
  have n0 : 0 ≤ mi 1 := by omega
  have n1 : mi 1 < 7 := by omega
  have rr := I.rr
  obtain ⟨⟨t1, t2⟩, _⟩ := I.na (mi 1) n0 n1
  obtain ⟨q0, q1, q2, q3, q9, q5⟩ := hm.s
  have rn := rel.nd (mi 1) n0 n1
  have w0 := rn.s 0 (by omega) (by omega)
  have w1 := rn.s 1 (by omega) (by omega)
  have hct := I.ct (mi 1) n0 n1
  have y2 := t_areLinked (C := C) (Hd := Hd) (Mo := Mo) (a := mi 1) (b := mi 0) hL rel n0 n1 (by omega) (by omega) hct
  have e37 := rel.gl 11137 (by omega) (by omega)
  have hG := I.gl
  have y3 := t_isLost (C := C) (Hd := Hd) (Mo := Mo) (h := h) hL (by obtain ⟨_, _, _, _, _, _, _, _, _, _, _, _⟩ := hG; omega) (by obtain ⟨_, _, _, _, _, _, _, _, _, _, _, _⟩ := hG; omega)
  have r3 := rel.lose I.bd
  have I1 := I.rise (mi := mi) (n := mi 1) n0 n1 (by omega)
  obtain ⟨r1, r2, r30⟩ := rise_ge I (mi := mi) (n := mi 1) n0 n1
  have hu : riseG g mi (mi 1) = if g (244 * mi 1 + 1) < mi 3 then followG (st (st g (244 * mi 1 + 1) (mi 3)) (244 * mi 1 + 2) (-1)) (mi 1) (-1) else g := rfl
  have hM1 := hM
  rw [← r2] at hM1
  unfold handG
  simp only [the]
  by_cases c1 : g (244 * mi 1 + 0) = 1
  · by_cases c2 : hasI (g (11124 + mi 1)) (mi 0)
    · rw [if_pos (Or.inr c2)]
      refine ⟨_, C, Mo, ?_, r3⟩
      simp (disch := first | assumption | omega) only [sX3_isHanded, sX3_isHanded_35, z10, z00, if_true, if_false, iv_add, iv_sub, iv_mul, iv_le, iv_lt, iv_eq, iv_mx, iv_mn, bI_z, bI_o, rZ0, rZ1, rZb, cl_some', lt_eq, rm_eq, dv_eq, iv_01, iv_10, the, lastA, lpA, st_eq, st_ne, sh_addM, cV_cl, cV_nd, cV_mo, cV_lt, gR_t0, aR_nd, gR_c0, gR_c1, gR_c2, gR_c3, gR_c4, gR_c5, gR_c6, gR_c15, gR_c16, gI_c7, pI_c7, gI_c8, pI_c8, gI_c9, pI_c9, gI_c10, pI_c10, gI_c11, pI_c11, gI_c12, pI_c12, gI_c13, pI_c13, gI_c14, pI_c14, gN_9, gN_10, gN_11, gN_12, gN_13, gN_14, gN_15, gN_16, gN_17, gN_18, gN_19, gN_20, gN_21, gN_22, gN_23, pN_9, pN_10, pN_11, pN_12, pN_13, pN_14, pN_15, pN_16, pN_17, pN_18, pN_19, pN_20, pN_21, pN_22, pZ_0, pZ_1, gR_n0, aI_n0, sI_n0, gR_n1, aI_n1, sI_n1, gR_n2, aI_n2, sI_n2, gR_n3, aI_n3, sI_n3, gR_n4, aI_n4, sI_n4, gR_n5, aI_n5, sI_n5, gR_n6, aI_n6, sI_n6, gR_n7, aI_n7, sI_n7, gR_n8, aI_n8, sI_n8, aR_s, aI_s, sI_s, aR_h, aI_h, sI_h, aR_r, aI_r, sI_r, aI_c, sI_c, aI_l, sI_l, aI_ca, aI_ha, sI_ca, sI_ha, gI_mo, pI_mo, q0, q1, w0, y2, y3]
      rw [if_neg (by omega), if_pos (fun hc => hc c2)]
    · rw [if_neg (fun hc => by rcases hc with hc | hc; exact hc c1; exact c2 hc)]
      by_cases c3 : mi 3 ≤ g (244 * mi 1 + 1)
      · have hu2 := hu.trans (if_neg (show ¬ g (244 * mi 1 + 1) < mi 3 by omega))
        rw [c1] at r30
        rw [hu2] at I1 hM1 r1 r30 ⊢
        obtain ⟨h1, C1, M1, x1, x2⟩ := t_hand_74 (C := C) (Mo := Mo) hL hΛ rel I1 hm hM1 r1 r30
        refine ⟨h1, C1, M1, ?_, x2⟩
        simp (disch := first | assumption | omega) only [sX3_isHanded, z10, z00, if_true, if_false, iv_add, iv_sub, iv_mul, iv_le, iv_lt, iv_eq, iv_mx, iv_mn, bI_z, bI_o, rZ0, rZ1, rZb, cl_some', lt_eq, rm_eq, dv_eq, iv_01, iv_10, the, lastA, lpA, st_eq, st_ne, sh_addM, cV_cl, cV_nd, cV_mo, cV_lt, gR_t0, aR_nd, gR_c0, gR_c1, gR_c2, gR_c3, gR_c4, gR_c5, gR_c6, gR_c15, gR_c16, gI_c7, pI_c7, gI_c8, pI_c8, gI_c9, pI_c9, gI_c10, pI_c10, gI_c11, pI_c11, gI_c12, pI_c12, gI_c13, pI_c13, gI_c14, pI_c14, gN_9, gN_10, gN_11, gN_12, gN_13, gN_14, gN_15, gN_16, gN_17, gN_18, gN_19, gN_20, gN_21, gN_22, gN_23, pN_9, pN_10, pN_11, pN_12, pN_13, pN_14, pN_15, pN_16, pN_17, pN_18, pN_19, pN_20, pN_21, pN_22, pZ_0, pZ_1, gR_n0, aI_n0, sI_n0, gR_n1, aI_n1, sI_n1, gR_n2, aI_n2, sI_n2, gR_n3, aI_n3, sI_n3, gR_n4, aI_n4, sI_n4, gR_n5, aI_n5, sI_n5, gR_n6, aI_n6, sI_n6, gR_n7, aI_n7, sI_n7, gR_n8, aI_n8, sI_n8, aR_s, aI_s, sI_s, aR_h, aI_h, sI_h, aR_r, aI_r, sI_r, aI_c, sI_c, aI_l, sI_l, aI_ca, aI_ha, sI_ca, sI_ha, gI_mo, pI_mo, q0, q1, q3, w0, w1, y2]
        rw [if_neg (by omega), if_neg (fun hc => hc c2), if_pos c3]
        exact x1
      · have hu2 := hu.trans (if_pos (show g (244 * mi 1 + 1) < mi 3 by omega))
        rw [c1] at r30
        rw [hu2] at I1 hM1 r1 r30 ⊢
        have hA := I.ar
        have o : ∀ (f : Row) x, ¬ x = 244 * mi 1 + 1 → ¬ x = 244 * mi 1 + 2 → st (st f (244 * mi 1 + 1) (mi 3)) (244 * mi 1 + 2) (-1) x = f x := fun f x a b => by rw [st_ne b, st_ne a]
        have ra := (rel.set I.bd (w := 1) (v := mi 3) n0 n1 (by omega) (by omega) (by omega) (by omega)).set (I.bd.set n0 n1 (by omega) (by omega) (by omega)) (w := 2) (v := -1) n0 n1 (by omega) (by omega) (by omega) (by omega)
        have ba := (I.bd.set (w := 1) (v := mi 3) n0 n1 (by omega) (by omega) (by omega)).set (w := 2) (v := -1) n0 n1 (by omega) (by omega) (by omega)
        have rb := ra.follow ba (w := -1) n0 n1
        have w3 := rn.s 3 (by omega) (by omega)
        have y4 := t_follows (C := C) (Hd := Hd) (Mo := Mo) (n := mi 1) (w := -1) hL n0 n1 (ra.rdh (by rw [o _ _ (by omega) (by omega)]; exact hA) (RdA_ext (o _ _ (by omega) (by omega)) hA.2 (fun x _ _ => o _ x (by omega) (by omega)) I.rd)) (by rw [o _ _ (by omega) (by omega)]; omega)
        obtain ⟨h1, C1, M1, x1, x2⟩ := t_hand_74 (C := C) (Mo := Mo) hL hΛ rb I1 hm hM1 r1 r30
        refine ⟨h1, C1, M1, ?_, x2⟩
        simp (disch := first | assumption | omega) only [sX3_isHanded, z10, z00, if_true, if_false, iv_add, iv_sub, iv_mul, iv_le, iv_lt, iv_eq, iv_mx, iv_mn, bI_z, bI_o, rZ0, rZ1, rZb, cl_some', lt_eq, rm_eq, dv_eq, iv_01, iv_10, the, lastA, lpA, st_eq, st_ne, sh_addM, cV_cl, cV_nd, cV_mo, cV_lt, gR_t0, aR_nd, gR_c0, gR_c1, gR_c2, gR_c3, gR_c4, gR_c5, gR_c6, gR_c15, gR_c16, gI_c7, pI_c7, gI_c8, pI_c8, gI_c9, pI_c9, gI_c10, pI_c10, gI_c11, pI_c11, gI_c12, pI_c12, gI_c13, pI_c13, gI_c14, pI_c14, gN_9, gN_10, gN_11, gN_12, gN_13, gN_14, gN_15, gN_16, gN_17, gN_18, gN_19, gN_20, gN_21, gN_22, gN_23, pN_9, pN_10, pN_11, pN_12, pN_13, pN_14, pN_15, pN_16, pN_17, pN_18, pN_19, pN_20, pN_21, pN_22, pZ_0, pZ_1, gR_n0, aI_n0, sI_n0, gR_n1, aI_n1, sI_n1, gR_n2, aI_n2, sI_n2, gR_n3, aI_n3, sI_n3, gR_n4, aI_n4, sI_n4, gR_n5, aI_n5, sI_n5, gR_n6, aI_n6, sI_n6, gR_n7, aI_n7, sI_n7, gR_n8, aI_n8, sI_n8, aR_s, aI_s, sI_s, aR_h, aI_h, sI_h, aR_r, aI_r, sI_r, aI_c, sI_c, aI_l, sI_l, aI_ca, aI_ha, sI_ca, sI_ha, gI_mo, pI_mo, q0, q1, q3, w0, w1, y2, y4]
        rw [if_neg (by omega), if_neg (fun hc => hc c2), if_neg c3]
        exact x1
  · rw [if_pos (Or.inl c1)]
    refine ⟨_, C, Mo, ?_, r3⟩
    simp (disch := first | assumption | omega) only [sX3_isHanded, sX3_isHanded_35, z10, z00, if_true, if_false, iv_add, iv_sub, iv_mul, iv_le, iv_lt, iv_eq, iv_mx, iv_mn, bI_z, bI_o, rZ0, rZ1, rZb, cl_some', lt_eq, rm_eq, dv_eq, iv_01, iv_10, the, lastA, lpA, st_eq, st_ne, sh_addM, cV_cl, cV_nd, cV_mo, cV_lt, gR_t0, aR_nd, gR_c0, gR_c1, gR_c2, gR_c3, gR_c4, gR_c5, gR_c6, gR_c15, gR_c16, gI_c7, pI_c7, gI_c8, pI_c8, gI_c9, pI_c9, gI_c10, pI_c10, gI_c11, pI_c11, gI_c12, pI_c12, gI_c13, pI_c13, gI_c14, pI_c14, gN_9, gN_10, gN_11, gN_12, gN_13, gN_14, gN_15, gN_16, gN_17, gN_18, gN_19, gN_20, gN_21, gN_22, gN_23, pN_9, pN_10, pN_11, pN_12, pN_13, pN_14, pN_15, pN_16, pN_17, pN_18, pN_19, pN_20, pN_21, pN_22, pZ_0, pZ_1, gR_n0, aI_n0, sI_n0, gR_n1, aI_n1, sI_n1, gR_n2, aI_n2, sI_n2, gR_n3, aI_n3, sI_n3, gR_n4, aI_n4, sI_n4, gR_n5, aI_n5, sI_n5, gR_n6, aI_n6, sI_n6, gR_n7, aI_n7, sI_n7, gR_n8, aI_n8, sI_n8, aR_s, aI_s, sI_s, aR_h, aI_h, sI_h, aR_r, aI_r, sI_r, aI_c, sI_c, aI_l, sI_l, aI_ca, aI_ha, sI_ca, sI_ha, gI_mo, pI_mo, q1, w0, y3]
    rw [if_pos (by omega)]
end
