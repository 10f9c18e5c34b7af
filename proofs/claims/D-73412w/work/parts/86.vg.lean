/-! DEPS: vf -/
/-! VG: TermLog sends -/
theorem Rel.mails {h g h' g' : Row} (r : Rel h g) (b : BdA g) (e1 : ∀ x, ¬ x = 11133 → x < 100000 → h' x = h x) (e2 : ∀ x, ¬ x = 11133 → (x < 1708 ∨ 6028 ≤ x) → g' x = g x) (e3 : h' 11133 = g' 11133)
    (ml : ∀ i, 0 ≤ i → i < g' 11133 → MR (smg h' i) (msg g' i) ∧ smg h' i 4 = msg g' i 4) : Rel h' g' := by
  obtain ⟨b1, hG⟩ := b
  obtain ⟨_, _, _, _, _, _, _, _, _, _, _, _⟩ := hG
  refine ⟨fun n n0 n1 => ?_, fun i a c w w0 w1 => ?_, fun x a c => by rw [e1 x (by omega) (by omega), e2 x (by omega) (by omega)]; exact r.ld x a c, fun q a c => ?_, fun x a c => by rw [e1 x (by omega) (by omega), e2 x (by omega) (by omega)]; exact r.ct x a c, fun x a c => ?_, ml⟩
  · exact (r.nd n n0 n1).keep (fun x _ _ => e1 x (by omega) (by omega)) (fun x _ _ => e2 x (by omega) (by omega)) (b1 n n0 n1)
  · rw [e2 _ (by omega) (by omega)] at c
    rw [e1 _ (by omega) (by omega), e2 _ (by omega) (by omega)]
    exact r.hl i a c w w0 w1
  · rw [e2 _ (by omega) (by omega)] at c
    obtain ⟨q1, q2, q3⟩ := r.rd q a c
    refine ⟨fun w w0 w1 => by rw [e1 _ (by omega) (by omega), e2 _ (by omega) (by omega)]; exact q1 w w0 w1, fun d => ?_, fun d => ?_⟩
    · rw [e2 _ (by omega) (by omega)] at d
      rw [e1 _ (by omega) (by omega), e2 _ (by omega) (by omega)]; exact q2 d
    · rw [e2 _ (by omega) (by omega)] at d
      rw [e1 _ (by omega) (by omega)]; exact q3 d
  · by_cases d : x = 11133
    · rw [d]; exact e3
    · rw [e1 x d (by omega), e2 x d (by omega)]; exact r.gl x a c
section
variable {B : Nat} {h g C Hd Mo : Row} {M : Mem} {Λ : Law}
theorem t_sends (hL : LyC B M) (hΛ : LawL M Λ) (r : Rel h g) (b : BdA g) {m : Row} (hm : MR C m) (m0 : 0 ≤ m 0) (m1 : m 0 < 7) (m3 : m 3 = g (244 * m 0 + 1)) (t0 : 0 ≤ g (244 * m 0 + 1)) (t1 : g (244 * m 0 + 1) ≤ 999) :
    ∃ h' C' Mo', sX3_sends (some B) (tl B h C Hd Mo M) = some ((), tl B h' C' Hd Mo' M) ∧ Rel h' (postG Λ g m) := by
  obtain ⟨T, l1, l2, l3⟩ := hΛ
  have hG := b.2
  have d1 := r.draw b
  have gl := r.gl
  have e32 := gl 11132 (by omega) (by omega)
  have hd := drawGl hG
  obtain ⟨s0, s1, s2, s3, s9, s5⟩ := hm.s
  have bd : BdA (drawG g) := ⟨fun m m0 m1 => by unfold drawG; rw [st_ne (by omega)]; exact b.1 m m0 m1, hd⟩
  obtain ⟨_, _, _, _, _, _, _, _, _, _, _, _⟩ := hG
  have e33 : drawG h 11133 = g 11133 := by unfold drawG; rw [st_ne (by omega)]; exact gl _ (by omega) (by omega)
  have e31 : drawG h 11131 = g 11131 := by unfold drawG; rw [st_ne (by omega)]; exact gl _ (by omega) (by omega)
  have f33 : drawG g 11133 = g 11133 := st_ne (by omega)
  have f31 : drawG g 11131 = g 11131 := st_ne (by omega)
  obtain ⟨w, hw⟩ : ∃ w, drawG g 11132 % 10 = w := ⟨_, rfl⟩
  have hww : 0 ≤ w ∧ w < 10 := by
    have := hd.2.2.1
    omega
  have y1 := t_draw (C := C) (Hd := Hd) (Mo := Mo) (h := h) hL (by omega) (by omega)
  rw [d1.2, hw] at y1
  obtain ⟨F, hF0⟩ : ∃ F, factsA (drawG g) (m 0) (m 1) (m 2) = F := ⟨_, rfl⟩
  have hF : ∀ u, 0 ≤ u → u < 7 → (st (st (st (st (st (st (st Mo 1 (C 0)) 2 (C 1)) 3 (C 2)) 4 (C 3 % 100)) 5 (g 11133)) 6 (g 11131 % 100)) 7 w) (u + 1) = F u := by
    intro u u0 u1
    rw [facts_mo (fun _ => Or.inr trivial) u u0 u1, ← hF0, s0, s1, s2, s3, m3]
    have q1 : drawG g (244 * m 0 + 1) = g (244 * m 0 + 1) := st_ne (by omega)
    unfold factsA
    simp only [the]
    rw [q1, f33, f31, hw]
  obtain ⟨Mo2, z1, z2⟩ := (l3 B (drawG h) C Hd _ F hL hF).2 120 (by omega) (by omega)
  obtain ⟨Mo3, z3, z4⟩ := (l3 B (drawG h) C Hd Mo2 F hL z1).1 108 0 (by omega) (by omega)
  obtain ⟨Mo4, z5, z6⟩ := (l3 B (drawG h) C Hd Mo3 F hL z3).1 100 0 (by omega) (by omega)
  have k1 := tell_clamp (Λ := Λ) (c := 108) (F := F) (no := 0) (lo := 0) (hi := 10) (by omega) (by omega) (by omega) (by omega) (by omega)
  have k2 := tell_clamp (Λ := Λ) (c := 100) (F := F) (no := 0) (lo := 0) (hi := 9) (by omega) (by omega) (by omega) (by omega) (by omega)
  have r1 := tellR Λ (c := 108) (lo := 0) (hi := 10) (wo := 0) (F := F) (by omega) (by omega) (by omega)
  have r2 := tellR Λ (c := 100) (lo := 0) (hi := 9) (wo := 0) (F := F) (by omega) (by omega) (by omega)
  have gR5 : ∀ {β : Type} {hh cc : Row} {mm : Row} (f : Option Nat → Option β), gR (tl B hh cc Hd mm M) (some 0) 0 5 f = f (some T) := fun f => (if_pos hL.k0.1).trans (congrArg f l1)
  have cVT : ∀ {β : Type} {hh cc : Row} {mm : Row} (f : Option β), cV (tl B hh cc Hd mm M) (some T) 4 f = f := fun f => if_pos l2
  have lost : ∀ Mo, sX3_sends_101 (some B) (some 1) (tl B (drawG h) C Hd Mo M) = some ((), tl B (loseG (drawG h)) C Hd Mo M) := by
    intro Mo
    have g37 : drawG h 11137 = g 11137 := by unfold drawG; rw [st_ne (by omega)]; exact gl _ (by omega) (by omega)
    have x1 := t_isLost (C := C) (Hd := Hd) (Mo := Mo) (h := drawG h) hL (by rw [g37]; omega) (by rw [g37]; omega)
    simp (disch := first | assumption | omega) only [sX3_sends_101, sX3_sends_106, z10, z00, if_true, if_false, iv_add, iv_sub, iv_mul, iv_le, iv_lt, iv_eq, iv_mx, iv_mn, bI_z, bI_o, rZ0, rZ1, rZb, cl_some', lt_eq, rm_eq, dv_eq, iv_01, iv_10, the, lastA, lpA, st_eq, st_ne, sh_addM, cV_cl, cV_nd, cV_mo, cV_lt, gR_t0, aR_nd, gR_c0, gR_c1, gR_c2, gR_c3, gR_c4, gR_c5, gR_c6, gR_c15, gR_c16, gI_c7, pI_c7, gI_c8, pI_c8, gI_c9, pI_c9, gI_c10, pI_c10, gI_c11, pI_c11, gI_c12, pI_c12, gI_c13, pI_c13, gI_c14, pI_c14, gN_9, gN_10, gN_11, gN_12, gN_13, gN_14, gN_15, gN_16, gN_17, gN_18, gN_19, gN_20, gN_21, gN_22, gN_23, pN_9, pN_10, pN_11, pN_12, pN_13, pN_14, pN_15, pN_16, pN_17, pN_18, pN_19, pN_20, pN_21, pN_22, pZ_0, pZ_1, gR_n0, aI_n0, sI_n0, gR_n1, aI_n1, sI_n1, gR_n2, aI_n2, sI_n2, gR_n3, aI_n3, sI_n3, gR_n4, aI_n4, sI_n4, gR_n5, aI_n5, sI_n5, gR_n6, aI_n6, sI_n6, gR_n7, aI_n7, sI_n7, gR_n8, aI_n8, sI_n8, aR_s, aI_s, sI_s, aR_h, aI_h, sI_h, aR_r, aI_r, sI_r, aI_c, sI_c, aI_l, sI_l, aI_ca, aI_ha, sI_ca, sI_ha, gI_mo, pI_mo, x1]
  have rl := d1.1.lose bd
  have rC3 : 0 ≤ C 3 ∧ C 3 ≤ 1000000 := by rw [s3, m3]; omega
  unfold postG
  simp only [hF0]
  have hgo : goneA Λ (drawG g) m ↔ ((Λ 120 F).isSome = true ∨ w < tellA Λ 108 0 10 0 F ∨ g 11133 = 160) := by
    unfold goneA
    rw [hF0, hw, f33]
  by_cases c1 : (Λ 120 F).isSome = true
  · rw [if_pos (hgo.mpr (Or.inl c1))]
    refine ⟨loseG (drawG h), C, Mo2, ?_, rl⟩
    simp (disch := first | assumption | omega) only [sX3_sends, t_of, t_on, z10, z00, if_true, if_false, iv_add, iv_sub, iv_mul, iv_le, iv_lt, iv_eq, iv_mx, iv_mn, bI_z, bI_o, rZ0, rZ1, rZb, cl_some', lt_eq, rm_eq, dv_eq, iv_01, iv_10, the, lastA, lpA, st_eq, st_ne, sh_addM, cV_cl, cV_nd, cV_mo, cV_lt, gR_t0, aR_nd, gR_c0, gR_c1, gR_c2, gR_c3, gR_c4, gR_c5, gR_c6, gR_c15, gR_c16, gI_c7, pI_c7, gI_c8, pI_c8, gI_c9, pI_c9, gI_c10, pI_c10, gI_c11, pI_c11, gI_c12, pI_c12, gI_c13, pI_c13, gI_c14, pI_c14, gN_9, gN_10, gN_11, gN_12, gN_13, gN_14, gN_15, gN_16, gN_17, gN_18, gN_19, gN_20, gN_21, gN_22, gN_23, pN_9, pN_10, pN_11, pN_12, pN_13, pN_14, pN_15, pN_16, pN_17, pN_18, pN_19, pN_20, pN_21, pN_22, pZ_0, pZ_1, gR_n0, aI_n0, sI_n0, gR_n1, aI_n1, sI_n1, gR_n2, aI_n2, sI_n2, gR_n3, aI_n3, sI_n3, gR_n4, aI_n4, sI_n4, gR_n5, aI_n5, sI_n5, gR_n6, aI_n6, sI_n6, gR_n7, aI_n7, sI_n7, gR_n8, aI_n8, sI_n8, aR_s, aI_s, sI_s, aR_h, aI_h, sI_h, aR_r, aI_r, sI_r, aI_c, sI_c, aI_l, sI_l, aI_ca, aI_ha, sI_ca, sI_ha, gI_mo, pI_mo, y1, e33, e31, gR5, cVT, z2]
    rw [if_neg (fun hc => hc c1)]
    exact lost _
  · by_cases c2 : w < tellA Λ 108 0 10 0 F
    · rw [if_pos (hgo.mpr (Or.inr (Or.inl c2)))]
      refine ⟨loseG (drawG h), C, Mo3, ?_, rl⟩
      simp (disch := first | assumption | omega) only [sX3_sends, sX0_held, t_of, t_on, z10, z00, if_true, if_false, iv_add, iv_sub, iv_mul, iv_le, iv_lt, iv_eq, iv_mx, iv_mn, bI_z, bI_o, rZ0, rZ1, rZb, cl_some', lt_eq, rm_eq, dv_eq, iv_01, iv_10, the, lastA, lpA, st_eq, st_ne, sh_addM, cV_cl, cV_nd, cV_mo, cV_lt, gR_t0, aR_nd, gR_c0, gR_c1, gR_c2, gR_c3, gR_c4, gR_c5, gR_c6, gR_c15, gR_c16, gI_c7, pI_c7, gI_c8, pI_c8, gI_c9, pI_c9, gI_c10, pI_c10, gI_c11, pI_c11, gI_c12, pI_c12, gI_c13, pI_c13, gI_c14, pI_c14, gN_9, gN_10, gN_11, gN_12, gN_13, gN_14, gN_15, gN_16, gN_17, gN_18, gN_19, gN_20, gN_21, gN_22, gN_23, pN_9, pN_10, pN_11, pN_12, pN_13, pN_14, pN_15, pN_16, pN_17, pN_18, pN_19, pN_20, pN_21, pN_22, pZ_0, pZ_1, gR_n0, aI_n0, sI_n0, gR_n1, aI_n1, sI_n1, gR_n2, aI_n2, sI_n2, gR_n3, aI_n3, sI_n3, gR_n4, aI_n4, sI_n4, gR_n5, aI_n5, sI_n5, gR_n6, aI_n6, sI_n6, gR_n7, aI_n7, sI_n7, gR_n8, aI_n8, sI_n8, aR_s, aI_s, sI_s, aR_h, aI_h, sI_h, aR_r, aI_r, sI_r, aI_c, sI_c, aI_l, sI_l, aI_ca, aI_ha, sI_ca, sI_ha, gI_mo, pI_mo, y1, e33, e31, gR5, cVT, z2, z4, k1]
      rw [if_pos c1, if_pos c2]
      exact lost _
    · by_cases c3 : g 11133 = 160
      · rw [if_pos (hgo.mpr (Or.inr (Or.inr c3)))]
        refine ⟨loseG (drawG h), C, Mo3, ?_, rl⟩
        simp (disch := first | assumption | omega) only [sX3_sends, sX0_held, t_of, t_on, z10, z00, if_true, if_false, iv_add, iv_sub, iv_mul, iv_le, iv_lt, iv_eq, iv_mx, iv_mn, bI_z, bI_o, rZ0, rZ1, rZb, cl_some', lt_eq, rm_eq, dv_eq, iv_01, iv_10, the, lastA, lpA, st_eq, st_ne, sh_addM, cV_cl, cV_nd, cV_mo, cV_lt, gR_t0, aR_nd, gR_c0, gR_c1, gR_c2, gR_c3, gR_c4, gR_c5, gR_c6, gR_c15, gR_c16, gI_c7, pI_c7, gI_c8, pI_c8, gI_c9, pI_c9, gI_c10, pI_c10, gI_c11, pI_c11, gI_c12, pI_c12, gI_c13, pI_c13, gI_c14, pI_c14, gN_9, gN_10, gN_11, gN_12, gN_13, gN_14, gN_15, gN_16, gN_17, gN_18, gN_19, gN_20, gN_21, gN_22, gN_23, pN_9, pN_10, pN_11, pN_12, pN_13, pN_14, pN_15, pN_16, pN_17, pN_18, pN_19, pN_20, pN_21, pN_22, pZ_0, pZ_1, gR_n0, aI_n0, sI_n0, gR_n1, aI_n1, sI_n1, gR_n2, aI_n2, sI_n2, gR_n3, aI_n3, sI_n3, gR_n4, aI_n4, sI_n4, gR_n5, aI_n5, sI_n5, gR_n6, aI_n6, sI_n6, gR_n7, aI_n7, sI_n7, gR_n8, aI_n8, sI_n8, aR_s, aI_s, sI_s, aR_h, aI_h, sI_h, aR_r, aI_r, sI_r, aI_c, sI_c, aI_l, sI_l, aI_ca, aI_ha, sI_ca, sI_ha, gI_mo, pI_mo, y1, e33, e31, gR5, cVT, z2, z4, k1]
        rw [if_pos c1, if_neg c2, if_pos c3]
        exact lost _
      · rw [if_neg (fun hc => by rcases hgo.mp hc with q | q | q <;> contradiction)]
        obtain ⟨due, hdue⟩ : ∃ due, g 11131 + 1 + tellA Λ 100 0 9 0 F = due := ⟨_, rfl⟩
        rw [hdue]
        have cp := t_copC (h := drawG h) (C := st C 4 due) (Hd := Hd) (Mo := Mo4) hL (i := g 11133) (by omega) (by omega) 32 0 FU (by omega) (by omega) (by unfold FU; omega)
        have c0 : cpC (drawG h) (st C 4 due) (g 11133) 0 = drawG h := by
          funext x
          unfold cpC
          rw [if_neg (by omega)]
        rw [c0] at cp
        have c33 : cpC (drawG h) (st C 4 due) (g 11133) 32 11133 = g 11133 := by
          unfold cpC
          rw [if_neg (by omega)]; exact e33
        have s106 : sX3_sends_106 (some B) (some 1) (iI 0) (tl B (drawG h) C Hd Mo3 M) = some ((), tl B (st (cpC (drawG h) (st C 4 due) (g 11133) 32) 11133 (g 11133 + 1)) (st C 4 due) Hd Mo4 M) := by
          have cp' : sX3_copies (some B) (some (B + 1183)) (some (B + 3 + (g 11133).toNat)) (tl B (drawG h) (st C 4 due) Hd Mo4 M) = some ((), tl B (cpC (drawG h) (st C 4 due) (g 11133) 32) (st C 4 due) Hd Mo4 M) := cp
          simp (disch := first | assumption | omega) only [sX3_sends_106, sX0_held, z10, z00, if_true, if_false, iv_add, iv_sub, iv_mul, iv_le, iv_lt, iv_eq, iv_mx, iv_mn, bI_z, bI_o, rZ0, rZ1, rZb, cl_some', lt_eq, rm_eq, dv_eq, iv_01, iv_10, the, lastA, lpA, st_eq, st_ne, sh_addM, cV_cl, cV_nd, cV_mo, cV_lt, gR_t0, aR_nd, gR_c0, gR_c1, gR_c2, gR_c3, gR_c4, gR_c5, gR_c6, gR_c15, gR_c16, gI_c7, pI_c7, gI_c8, pI_c8, gI_c9, pI_c9, gI_c10, pI_c10, gI_c11, pI_c11, gI_c12, pI_c12, gI_c13, pI_c13, gI_c14, pI_c14, gN_9, gN_10, gN_11, gN_12, gN_13, gN_14, gN_15, gN_16, gN_17, gN_18, gN_19, gN_20, gN_21, gN_22, gN_23, pN_9, pN_10, pN_11, pN_12, pN_13, pN_14, pN_15, pN_16, pN_17, pN_18, pN_19, pN_20, pN_21, pN_22, pZ_0, pZ_1, gR_n0, aI_n0, sI_n0, gR_n1, aI_n1, sI_n1, gR_n2, aI_n2, sI_n2, gR_n3, aI_n3, sI_n3, gR_n4, aI_n4, sI_n4, gR_n5, aI_n5, sI_n5, gR_n6, aI_n6, sI_n6, gR_n7, aI_n7, sI_n7, gR_n8, aI_n8, sI_n8, aR_s, aI_s, sI_s, aR_h, aI_h, sI_h, aR_r, aI_r, sI_r, aI_c, sI_c, aI_l, sI_l, aI_ca, aI_ha, sI_ca, sI_ha, gI_mo, pI_mo, e31, e33, gR5, cVT, z6, k2, hdue, cp', c33]
        refine ⟨st (cpC (drawG h) (st C 4 due) (g 11133) 32) 11133 (g 11133 + 1), st C 4 due, Mo4, ?_, ?_⟩
        · simp (disch := first | assumption | omega) only [sX3_sends, sX0_held, t_of, t_on, z10, z00, if_true, if_false, iv_add, iv_sub, iv_mul, iv_le, iv_lt, iv_eq, iv_mx, iv_mn, bI_z, bI_o, rZ0, rZ1, rZb, cl_some', lt_eq, rm_eq, dv_eq, iv_01, iv_10, the, lastA, lpA, st_eq, st_ne, sh_addM, cV_cl, cV_nd, cV_mo, cV_lt, gR_t0, aR_nd, gR_c0, gR_c1, gR_c2, gR_c3, gR_c4, gR_c5, gR_c6, gR_c15, gR_c16, gI_c7, pI_c7, gI_c8, pI_c8, gI_c9, pI_c9, gI_c10, pI_c10, gI_c11, pI_c11, gI_c12, pI_c12, gI_c13, pI_c13, gI_c14, pI_c14, gN_9, gN_10, gN_11, gN_12, gN_13, gN_14, gN_15, gN_16, gN_17, gN_18, gN_19, gN_20, gN_21, gN_22, gN_23, pN_9, pN_10, pN_11, pN_12, pN_13, pN_14, pN_15, pN_16, pN_17, pN_18, pN_19, pN_20, pN_21, pN_22, pZ_0, pZ_1, gR_n0, aI_n0, sI_n0, gR_n1, aI_n1, sI_n1, gR_n2, aI_n2, sI_n2, gR_n3, aI_n3, sI_n3, gR_n4, aI_n4, sI_n4, gR_n5, aI_n5, sI_n5, gR_n6, aI_n6, sI_n6, gR_n7, aI_n7, sI_n7, gR_n8, aI_n8, sI_n8, aR_s, aI_s, sI_s, aR_h, aI_h, sI_h, aR_r, aI_r, sI_r, aI_c, sI_c, aI_l, sI_l, aI_ca, aI_ha, sI_ca, sI_ha, gI_mo, pI_mo, y1, e33, e31, gR5, cVT, z2, z4, k1]
          rw [if_pos c1, if_neg c2, if_neg c3]
          exact s106
        · have o : ∀ x, ¬ x = 11133 → (x < 1708 + 27 * g 11133 ∨ 1735 + 27 * g 11133 ≤ x) → mailG (drawG g) m due x = drawG g x := by
            intro x a b
            unfold mailG
            rw [if_neg a, if_neg (by rw [f33]; omega)]
          have g33 : mailG (drawG g) m due 11133 = g 11133 + 1 := by
            unfold mailG
            rw [if_pos rfl, f33]
          refine d1.1.mails bd (fun x a c => ?_) (fun x a c => ?_) (by rw [st_eq, g33]) (fun i a c => ?_)
          · rw [st_ne a]
            unfold cpC
            rw [if_neg (by omega)]
          · exact o x a (by omega)
          · rw [g33] at c
            by_cases ci : i = g 11133
            · have q1 : ∀ f, 0 ≤ f → f < 32 → smg (st (cpC (drawG h) (st C 4 due) (g 11133) 32) 11133 (g 11133 + 1)) i f = st C 4 due f := by
                intro f f0 f1
                show st (cpC (drawG h) (st C 4 due) (g 11133) 32) 11133 (g 11133 + 1) (100000 + 32 * i + f) = _
                rw [st_ne (by omega), ci]
                unfold cpC
                rw [if_pos (by omega)]
                congr 1
                omega
              have q2 : ∀ w, 0 ≤ w → w < 27 → msg (mailG (drawG g) m due) i w = if w = 4 then due else m w := by
                intro w w0 w1
                show mailG (drawG g) m due (1708 + 27 * i + w) = _
                unfold mailG
                rw [f33, ci, if_neg (by omega), if_pos (by omega), show 1708 + 27 * g 11133 + w - (1708 + 27 * g 11133) = w by omega]
              refine ⟨MR_ext hm (fun f f0 f1 f4 => ?_) (fun w w0 w1 w4 => ?_), ?_⟩
              · rw [q1 f f0 f1, st_ne f4]
              · rw [q2 w w0 w1, if_neg w4]
              · rw [q1 4 (by omega) (by omega), q2 4 (by omega) (by omega), st_eq, if_pos rfl]
            · obtain ⟨u1, u2⟩ := d1.1.ml i a (by rw [f33]; omega)
              have q1 : ∀ f, 0 ≤ f → f < 32 → smg (st (cpC (drawG h) (st C 4 due) (g 11133) 32) 11133 (g 11133 + 1)) i f = smg (drawG h) i f := by
                intro f f0 f1
                show st (cpC (drawG h) (st C 4 due) (g 11133) 32) 11133 (g 11133 + 1) (100000 + 32 * i + f) = _
                rw [st_ne (by omega)]
                unfold cpC
                rw [if_neg (by omega)]
              have q2 : ∀ w, 0 ≤ w → w < 27 → msg (mailG (drawG g) m due) i w = msg (drawG g) i w := fun w w0 w1 => o _ (by omega) (by omega)
              exact ⟨MR_ext u1 (fun f f0 f1 _ => q1 f f0 f1) (fun w w0 w1 _ => q2 w w0 w1), by rw [q1 4 (by omega) (by omega), q2 4 (by omega) (by omega)]; exact u2⟩
/-- what is written into carried -/
def wrC (C : Row) (f t k T a b c d : Int) : Row := st (st (st (st (st (st (st (st (st C 0 f) 1 t) 2 k) 3 T) 5 a) 6 b) 7 c) 8 d) 9 0
theorem t_writes (hL : LyC B M) {f t k a b c d : Int} (n0 : 0 ≤ f) (n1 : f < 7) : sX3_writes (some B) (iI f) (iI t) (iI k) (iI a) (iI b) (iI c) (iI d) (tl B h C Hd Mo M) = some (some (B + 1183), tl B h (wrC C f t k (h (244 * f + 1)) a b c d) Hd Mo M) := by
  simp (disch := first | assumption | omega) only [sX3_writes, z10, z00, if_true, if_false, iv_add, iv_sub, iv_mul, iv_le, iv_lt, iv_eq, iv_mx, iv_mn, bI_z, bI_o, rZ0, rZ1, rZb, cl_some', lt_eq, rm_eq, dv_eq, iv_01, iv_10, the, lastA, lpA, st_eq, st_ne, sh_addM, cV_cl, cV_nd, cV_mo, cV_lt, gR_t0, aR_nd, gR_c0, gR_c1, gR_c2, gR_c3, gR_c4, gR_c5, gR_c6, gR_c15, gR_c16, gI_c7, pI_c7, gI_c8, pI_c8, gI_c9, pI_c9, gI_c10, pI_c10, gI_c11, pI_c11, gI_c12, pI_c12, gI_c13, pI_c13, gI_c14, pI_c14, gN_9, gN_10, gN_11, gN_12, gN_13, gN_14, gN_15, gN_16, gN_17, gN_18, gN_19, gN_20, gN_21, gN_22, gN_23, pN_9, pN_10, pN_11, pN_12, pN_13, pN_14, pN_15, pN_16, pN_17, pN_18, pN_19, pN_20, pN_21, pN_22, pZ_0, pZ_1, gR_n0, aI_n0, sI_n0, gR_n1, aI_n1, sI_n1, gR_n2, aI_n2, sI_n2, gR_n3, aI_n3, sI_n3, gR_n4, aI_n4, sI_n4, gR_n5, aI_n5, sI_n5, gR_n6, aI_n6, sI_n6, gR_n7, aI_n7, sI_n7, gR_n8, aI_n8, sI_n8, aR_s, aI_s, sI_s, aR_h, aI_h, sI_h, aR_r, aI_r, sI_r, aI_c, sI_c, aI_l, sI_l, aI_ca, aI_ha, sI_ca, sI_ha, gI_mo, pI_mo]
  rfl
theorem wr_at {f t k T a b c d : Int} : wrC C f t k T a b c d 0 = f ∧ wrC C f t k T a b c d 1 = t ∧ wrC C f t k T a b c d 2 = k ∧ wrC C f t k T a b c d 3 = T ∧ wrC C f t k T a b c d 5 = a ∧ wrC C f t k T a b c d 6 = b ∧ wrC C f t k T a b c d 7 = c ∧ wrC C f t k T a b c d 8 = d ∧ wrC C f t k T a b c d 9 = 0 := by
  unfold wrC
  refine ⟨?_, ?_, ?_, ?_, ?_, ?_, ?_, ?_, ?_⟩ <;> simp (disch := omega) only [st_eq, st_ne]
/-- an answer -/
theorem t_answers (hL : LyC B M) (hΛ : LawL M Λ) (r : Rel h g) (b : BdA g) {mi : Row} {k a x y w z rr : Int} (n0 : 0 ≤ mi 1) (n1 : mi 1 < 7) (t0 : 0 ≤ g (244 * mi 1 + 1)) (t1 : g (244 * mi 1 + 1) ≤ 999)
    (hk : (k = 1) ∨ (k = 3 ∧ x = w ∧ y = rr) ∨ (k = 5 ∧ x = rr)) :
    ∃ h' C' Mo', sX3_answers (some B) (iI (mi 1)) (iI (mi 0)) (iI k) (iI a) (iI x) (iI y) (tl B h C Hd Mo M) = some ((), tl B h' C' Hd Mo' M) ∧ Rel h' (ansG Λ g mi k a w rr) := by
  have rn := r.nd (mi 1) n0 n1
  have e1 := rn.s 1 (by omega) (by omega)
  obtain ⟨a0, a1, a2, a3, a5, a6, a7, a8, a9⟩ := wr_at (C := C) (f := mi 1) (t := mi 0) (k := k) (T := h (244 * mi 1 + 1)) (a := a) (b := x) (c := y) (d := 0)
  obtain ⟨m0, m1, m2, m3, m5, m6, m7, m10⟩ := ans_w (g := g) (mi := mi) (k := k) (a := a) (b := w) (r := rr)
  have hm : MR (wrC C (mi 1) (mi 0) k (h (244 * mi 1 + 1)) a x y 0) (ansM g mi k a w rr) := by
    refine ⟨⟨a0.trans m0.symm, a1.trans m1.symm, a2.trans m2.symm, (a3.trans e1).trans m3.symm, a9.trans m5.symm, a5.trans m6.symm⟩, fun q => ?_, fun q => ?_, fun q => ?_, fun q => ?_, fun q => ?_⟩
    · rw [m2] at q
      rw [a6, m7]; omega
    · rw [m2] at q; omega
    · rw [m2] at q
      rw [a7, m10]; omega
    · rw [m2] at q; omega
    · rw [m2] at q
      rw [a6, m10]; omega
  obtain ⟨h2, C2, Mo2, x1, x2⟩ := t_sends (Hd := Hd) (Mo := Mo) hL hΛ r b hm (by rw [m0]; exact n0) (by rw [m0]; exact n1) (by rw [m0, m3]) (by rw [m0]; exact t0) (by rw [m0]; exact t1)
  refine ⟨h2, C2, Mo2, ?_, x2⟩
  simp (disch := first | assumption | omega) only [sX3_answers, t_writes, z10, z00, if_true, if_false, iv_add, iv_sub, iv_mul, iv_le, iv_lt, iv_eq, iv_mx, iv_mn, bI_z, bI_o, rZ0, rZ1, rZb, cl_some', lt_eq, rm_eq, dv_eq, iv_01, iv_10, the, lastA, lpA, st_eq, st_ne, sh_addM, cV_cl, cV_nd, cV_mo, cV_lt, gR_t0, aR_nd, gR_c0, gR_c1, gR_c2, gR_c3, gR_c4, gR_c5, gR_c6, gR_c15, gR_c16, gI_c7, pI_c7, gI_c8, pI_c8, gI_c9, pI_c9, gI_c10, pI_c10, gI_c11, pI_c11, gI_c12, pI_c12, gI_c13, pI_c13, gI_c14, pI_c14, gN_9, gN_10, gN_11, gN_12, gN_13, gN_14, gN_15, gN_16, gN_17, gN_18, gN_19, gN_20, gN_21, gN_22, gN_23, pN_9, pN_10, pN_11, pN_12, pN_13, pN_14, pN_15, pN_16, pN_17, pN_18, pN_19, pN_20, pN_21, pN_22, pZ_0, pZ_1, gR_n0, aI_n0, sI_n0, gR_n1, aI_n1, sI_n1, gR_n2, aI_n2, sI_n2, gR_n3, aI_n3, sI_n3, gR_n4, aI_n4, sI_n4, gR_n5, aI_n5, sI_n5, gR_n6, aI_n6, sI_n6, gR_n7, aI_n7, sI_n7, gR_n8, aI_n8, sI_n8, aR_s, aI_s, sI_s, aR_h, aI_h, sI_h, aR_r, aI_r, sI_r, aI_c, sI_c, aI_l, sI_l, aI_ca, aI_ha, sI_ca, sI_ha, gI_mo, pI_mo, x1]
end
