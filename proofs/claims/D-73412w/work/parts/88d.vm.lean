/-! DEPS: vl -/
/-! VM: TermLog stands, votes, counts -/
section
variable {B : Nat} {h g C Hd Mo : Row} {M : Mem} {Λ : Law} {hs : His} {FL : Int → ELog} {R : Int} {D : DK}
/-- one place of a node is set alike -/
theorem Rel.set (r : Rel h g) (b : BdA g) {n w v : Int} (n0 : 0 ≤ n) (n1 : n < 7) (w0 : 0 < w) (w1 : w < 244) (w3 : w ≠ 3) (w8 : w ≠ 8) : Rel (st h (244 * n + w) v) (st g (244 * n + w) v) := by
  refine r.plain b (fun x y z => ?_) (fun x y => st_ne (by omega)) (fun x y z => st_ne (by omega))
  by_cases d : x = 244 * n + w
  · rw [d, st_eq, st_eq]
    exact Or.inr ⟨rfl, fun m m0 m1 => by omega, by omega, by omega, by omega, by omega⟩
  · exact Or.inl ⟨st_ne d, st_ne d⟩
theorem Rel.stood (r : Rel h g) (b : BdA g) {n : Int} (n0 : 0 ≤ n) (n1 : n < 7) : Rel (standV h n) (standV g n) := by
  obtain ⟨b1, hG⟩ := b
  have s1 := (r.nd n n0 n1).s 1 (by omega) (by omega)
  obtain ⟨_, _, _, _, _, _, _, _, _, _, _, _⟩ := hG
  have o : ∀ (f : Row) x, (x < 244 * n + 1 ∨ (244 * n + 3 < x ∧ x < 244 * n + 11) ∨ 244 * n + 12 < x) → standV f n x = f x := fun f x a => standV_ne a
  refine r.upd (fun x a c => ?_) (fun m m0 m1 => ?_) b1 (o _ _ (by omega)) (by omega) (o _ _ (by omega)) (o _ _ (by omega)) (by omega) (by omega) (fun x a c => ⟨o _ _ (by omega), o _ _ (by omega)⟩) (fun x a => o _ _ (by omega)) (fun x a c => o _ _ (by omega))
  · by_cases d : x < 244 * n + 1 ∨ (244 * n + 3 < x ∧ x < 244 * n + 11) ∨ 244 * n + 12 < x
    · exact Or.inl ⟨o _ _ d, o _ _ d⟩
    · refine Or.inr ?_
      unfold standV
      simp only [the]
      rw [s1]
      rcases (show x = 244 * n + 1 ∨ x = 244 * n + 2 ∨ x = 244 * n + 3 ∨ x = 244 * n + 11 ∨ x = 244 * n + 12 by omega) with e | e | e | e | e <;> subst e <;> simp (disch := omega) only [st_eq, st_ne]
  · refine ⟨o _ _ (by omega), fun q => ?_, fun q => ?_⟩
    · rw [o _ _ (by omega)] at q; exact q
    · by_cases d : m = n
      · rw [d] at q
        unfold standV at q
        rw [st_ne (by omega), st_ne (by omega), st_ne (by omega), st_eq] at q
        omega
      · rw [o _ _ (by omega)] at q; exact q
theorem t_askK (hL : LyC B M) (hΛ : LawL M Λ) {n : Int} (n0 : 0 ≤ n) (n1 : n < 7) : ∀ (j : Nat) (h g C Mo : Row) (t : Int) (fu : Nat), Rel h g → InvS g hs FL R D → g (244 * n + 3) = 1 → 7 - t = j → 0 ≤ t → j < fu →
    ∃ h' C' Mo', sX3_stands_90 fu (some B) (iI n) (some (ndA B n)) (iI t) (tl B h C Hd Mo M) = some ((), tl B h' C' Hd Mo' M) ∧ Rel h' (askF Λ n j g t)
  | 0, h, g, C, Mo, t, fu + 1, r, I, hr, e1, e2, e3 => by
    refine ⟨h, C, Mo, ?_, r⟩
    simp (disch := first | assumption | omega) only [sX3_stands_90, sX3_stands_90b, z10, z00, if_true, if_false, iv_add, iv_sub, iv_mul, iv_le, iv_lt, iv_eq, iv_mx, iv_mn, bI_z, bI_o, rZ0, rZ1, rZb, cl_some', lt_eq, rm_eq, dv_eq, iv_01, iv_10, the, lastA, lpA, st_eq, st_ne, sh_addM, cV_cl, cV_nd, cV_mo, cV_lt, gR_t0, aR_nd, gR_c0, gR_c1, gR_c2, gR_c3, gR_c4, gR_c5, gR_c6, gR_c15, gR_c16, gI_c7, pI_c7, gI_c8, pI_c8, gI_c9, pI_c9, gI_c10, pI_c10, gI_c11, pI_c11, gI_c12, pI_c12, gI_c13, pI_c13, gI_c14, pI_c14, gN_9, gN_10, gN_11, gN_12, gN_13, gN_14, gN_15, gN_16, gN_17, gN_18, gN_19, gN_20, gN_21, gN_22, gN_23, pN_9, pN_10, pN_11, pN_12, pN_13, pN_14, pN_15, pN_16, pN_17, pN_18, pN_19, pN_20, pN_21, pN_22, pZ_0, pZ_1, gR_n0, aI_n0, sI_n0, gR_n1, aI_n1, sI_n1, gR_n2, aI_n2, sI_n2, gR_n3, aI_n3, sI_n3, gR_n4, aI_n4, sI_n4, gR_n5, aI_n5, sI_n5, gR_n6, aI_n6, sI_n6, gR_n7, aI_n7, sI_n7, gR_n8, aI_n8, sI_n8, aR_s, aI_s, sI_s, aR_h, aI_h, sI_h, aR_r, aI_r, sI_r, aI_c, sI_c, aI_l, sI_l, aI_ca, aI_ha, sI_ca, sI_ha, gI_mo, pI_mo]
    rw [if_pos (by omega)]
  | j + 1, h, g, C, Mo, t, fu + 1, r, I, hr, e1, e2, e3 => by
    unfold askF
    show ∃ h' C' Mo', sX3_stands_90b (sX3_stands_90 fu) _ _ _ _ _ = _ ∧ _
    by_cases c1 : t = n
    · rw [if_neg (fun hc => hc.1 c1)]
      obtain ⟨h2, C2, Mo2, y1, y2⟩ := t_askK hL hΛ n0 n1 j h g C Mo (t + 1) fu r I hr (by omega) (by omega) (by omega)
      refine ⟨h2, C2, Mo2, ?_, y2⟩
      generalize sX3_stands_90 fu = K at y1 ⊢
      simp (disch := first | assumption | omega) only [sX3_stands_90b, sX3_stands_141, z10, z00, if_true, if_false, iv_add, iv_sub, iv_mul, iv_le, iv_lt, iv_eq, iv_mx, iv_mn, bI_z, bI_o, rZ0, rZ1, rZb, cl_some', lt_eq, rm_eq, dv_eq, iv_01, iv_10, the, lastA, lpA, st_eq, st_ne, sh_addM, cV_cl, cV_nd, cV_mo, cV_lt, gR_t0, aR_nd, gR_c0, gR_c1, gR_c2, gR_c3, gR_c4, gR_c5, gR_c6, gR_c15, gR_c16, gI_c7, pI_c7, gI_c8, pI_c8, gI_c9, pI_c9, gI_c10, pI_c10, gI_c11, pI_c11, gI_c12, pI_c12, gI_c13, pI_c13, gI_c14, pI_c14, gN_9, gN_10, gN_11, gN_12, gN_13, gN_14, gN_15, gN_16, gN_17, gN_18, gN_19, gN_20, gN_21, gN_22, gN_23, pN_9, pN_10, pN_11, pN_12, pN_13, pN_14, pN_15, pN_16, pN_17, pN_18, pN_19, pN_20, pN_21, pN_22, pZ_0, pZ_1, gR_n0, aI_n0, sI_n0, gR_n1, aI_n1, sI_n1, gR_n2, aI_n2, sI_n2, gR_n3, aI_n3, sI_n3, gR_n4, aI_n4, sI_n4, gR_n5, aI_n5, sI_n5, gR_n6, aI_n6, sI_n6, gR_n7, aI_n7, sI_n7, gR_n8, aI_n8, sI_n8, aR_s, aI_s, sI_s, aR_h, aI_h, sI_h, aR_r, aI_r, sI_r, aI_c, sI_c, aI_l, sI_l, aI_ca, aI_ha, sI_ca, sI_ha, gI_mo, pI_mo]
      rw [if_neg (by omega), if_pos c1]
      exact y1
    · have rn := r.nd n n0 n1
      have hg := I.lg n0 n1
      have mr := membR hg
      have x1 := t_members (C := C) (Hd := Hd) (Mo := Mo) hL (rn.lg hg)
      rw [rn.memb hg] at x1
      by_cases c2 : hasI (membA g n) t
      · rw [if_pos ⟨c1, c2⟩]
        obtain ⟨⟨s1, s2⟩, _⟩ := I.na n n0 n1
        have w1 := rn.s 1 (by omega) (by omega)
        have w4 := rn.s 4 (by omega) (by omega)
        have w8 := rn.s 8 (by omega) (by omega)
        have x2 := t_termAt (C := C) (Hd := Hd) (Mo := Mo) hL (rn.lg hg) (i := h (244 * n + 4) + h (244 * n + 8)) (by omega) (by omega)
        have tr := termR hg (i := g (244 * n + 4) + g (244 * n + 8)) (by omega) (by omega)
        have et : termA h n (h (244 * n + 4) + h (244 * n + 8)) = termA g n (g (244 * n + 4) + g (244 * n + 8)) := by rw [w4, w8]; exact rn.term hg (by omega) (by omega)
        obtain ⟨a0, a1, a2, a3, a5, a6, a7, a8, a9⟩ := wr_at (C := C) (f := n) (t := t) (k := 0) (T := h (244 * n + 1)) (a := h (244 * n + 4) + h (244 * n + 8)) (b := termA g n (g (244 * n + 4) + g (244 * n + 8))) (c := 0) (d := 0)
        have m0 : askM g n t 0 = n := rfl
        have m1 : askM g n t 1 = t := rfl
        have m2 : askM g n t 2 = 0 := rfl
        have m3 : askM g n t 3 = g (244 * n + 1) := rfl
        have m5 : askM g n t 5 = 0 := rfl
        have m6 : askM g n t 6 = g (244 * n + 4) + g (244 * n + 8) := rfl
        have m7 : askM g n t 7 = termA g n (g (244 * n + 4) + g (244 * n + 8)) := rfl
        have hm : MR (wrC C n t 0 (h (244 * n + 1)) (h (244 * n + 4) + h (244 * n + 8)) (termA g n (g (244 * n + 4) + g (244 * n + 8))) 0 0) (askM g n t) := by
          refine ⟨⟨a0.trans m0.symm, a1.trans m1.symm, a2.trans m2.symm, (a3.trans w1).trans m3.symm, a9.trans m5.symm, a5.trans ?_⟩, fun q => a6.trans m7.symm, fun q => ?_, fun q => ?_, fun q => ?_, fun q => ?_⟩
          · rw [m6, w4, w8]
          · rw [m2] at q; omega
          · rw [m2] at q; omega
          · rw [m2] at q; omega
          · rw [m2] at q; omega
        obtain ⟨h1, C1, Mo1, x3, r1⟩ := t_sends (Hd := Hd) (Mo := Mo) hL hΛ r I.bd hm (by rw [m0]; exact n0) (by rw [m0]; exact n1) (by rw [m0, m3]) (by rw [m0]; omega) (by rw [m0]; omega)
        have hG := I.gl
        have hG2 : 0 ≤ g 11133 := hG.2.2.2.2.1
        have I1 := I.post (Λ := Λ) (I.askMI n0 n1 hr e2 (show t < 7 by omega))
        obtain ⟨h2, C2, Mo2, y1, y2⟩ := t_askK hL hΛ n0 n1 j h1 (postG Λ g (askM g n t)) C1 Mo1 (t + 1) fu r1 I1 (by rw [postG_ne hG (by omega) (by omega) (by omega) (by omega)]; exact hr) (by omega) (by omega) (by omega)
        refine ⟨h2, C2, Mo2, ?_, y2⟩
        generalize sX3_stands_90 fu = K at y1 ⊢
        simp (disch := first | assumption | omega) only [sX3_stands_90b, sX3_stands_141, t_has, t_last, t_writes, z10, z00, if_true, if_false, iv_add, iv_sub, iv_mul, iv_le, iv_lt, iv_eq, iv_mx, iv_mn, bI_z, bI_o, rZ0, rZ1, rZb, cl_some', lt_eq, rm_eq, dv_eq, iv_01, iv_10, the, lastA, lpA, st_eq, st_ne, sh_addM, cV_cl, cV_nd, cV_mo, cV_lt, gR_t0, aR_nd, gR_c0, gR_c1, gR_c2, gR_c3, gR_c4, gR_c5, gR_c6, gR_c15, gR_c16, gI_c7, pI_c7, gI_c8, pI_c8, gI_c9, pI_c9, gI_c10, pI_c10, gI_c11, pI_c11, gI_c12, pI_c12, gI_c13, pI_c13, gI_c14, pI_c14, gN_9, gN_10, gN_11, gN_12, gN_13, gN_14, gN_15, gN_16, gN_17, gN_18, gN_19, gN_20, gN_21, gN_22, gN_23, pN_9, pN_10, pN_11, pN_12, pN_13, pN_14, pN_15, pN_16, pN_17, pN_18, pN_19, pN_20, pN_21, pN_22, pZ_0, pZ_1, gR_n0, aI_n0, sI_n0, gR_n1, aI_n1, sI_n1, gR_n2, aI_n2, sI_n2, gR_n3, aI_n3, sI_n3, gR_n4, aI_n4, sI_n4, gR_n5, aI_n5, sI_n5, gR_n6, aI_n6, sI_n6, gR_n7, aI_n7, sI_n7, gR_n8, aI_n8, sI_n8, aR_s, aI_s, sI_s, aR_h, aI_h, sI_h, aR_r, aI_r, sI_r, aI_c, sI_c, aI_l, sI_l, aI_ca, aI_ha, sI_ca, sI_ha, gI_mo, pI_mo, x1, x2, et, x3]
        rw [if_neg (by omega), if_neg c1, if_neg (fun hc => hc c2)]
        exact y1
      · rw [if_neg (fun hc => c2 hc.2)]
        obtain ⟨h2, C2, Mo2, y1, y2⟩ := t_askK hL hΛ n0 n1 j h g C Mo (t + 1) fu r I hr (by omega) (by omega) (by omega)
        refine ⟨h2, C2, Mo2, ?_, y2⟩
        generalize sX3_stands_90 fu = K at y1 ⊢
        simp (disch := first | assumption | omega) only [sX3_stands_90b, sX3_stands_141, t_has, z10, z00, if_true, if_false, iv_add, iv_sub, iv_mul, iv_le, iv_lt, iv_eq, iv_mx, iv_mn, bI_z, bI_o, rZ0, rZ1, rZb, cl_some', lt_eq, rm_eq, dv_eq, iv_01, iv_10, the, lastA, lpA, st_eq, st_ne, sh_addM, cV_cl, cV_nd, cV_mo, cV_lt, gR_t0, aR_nd, gR_c0, gR_c1, gR_c2, gR_c3, gR_c4, gR_c5, gR_c6, gR_c15, gR_c16, gI_c7, pI_c7, gI_c8, pI_c8, gI_c9, pI_c9, gI_c10, pI_c10, gI_c11, pI_c11, gI_c12, pI_c12, gI_c13, pI_c13, gI_c14, pI_c14, gN_9, gN_10, gN_11, gN_12, gN_13, gN_14, gN_15, gN_16, gN_17, gN_18, gN_19, gN_20, gN_21, gN_22, gN_23, pN_9, pN_10, pN_11, pN_12, pN_13, pN_14, pN_15, pN_16, pN_17, pN_18, pN_19, pN_20, pN_21, pN_22, pZ_0, pZ_1, gR_n0, aI_n0, sI_n0, gR_n1, aI_n1, sI_n1, gR_n2, aI_n2, sI_n2, gR_n3, aI_n3, sI_n3, gR_n4, aI_n4, sI_n4, gR_n5, aI_n5, sI_n5, gR_n6, aI_n6, sI_n6, gR_n7, aI_n7, sI_n7, gR_n8, aI_n8, sI_n8, aR_s, aI_s, sI_s, aR_h, aI_h, sI_h, aR_r, aI_r, sI_r, aI_c, sI_c, aI_l, sI_l, aI_ca, aI_ha, sI_ca, sI_ha, gI_mo, pI_mo, x1]
        rw [if_neg (by omega), if_neg c1, if_pos c2]
        exact y1
theorem t_stands (hL : LyC B M) (hΛ : LawL M Λ) (r : Rel h g) (I : InvS g hs FL R D) {n : Int} (n0 : 0 ≤ n) (n1 : n < 7) (hr : g (244 * n + 3) ≠ 2) (hup : g (244 * n + 0) = 1) :
    ∃ h' C' Mo', sX3_stands (some B) (iI n) (tl B h C Hd Mo M) = some ((), tl B h' C' Hd Mo' M) ∧ Rel h' (standG Λ g n) := by
  obtain ⟨⟨s1, s2⟩, _⟩ := I.na n n0 n1
  have rn := r.nd n n0 n1
  have hg := I.lg n0 n1
  have w1 := rn.s 1 (by omega) (by omega)
  have mr := membR hg
  have x1 := t_members (C := C) (Hd := Hd) (Mo := Mo) hL (rn.lg hg)
  rw [rn.memb hg] at x1
  unfold standG
  simp only [the]
  by_cases c : ¬ hasI (membA g n) n ∨ g (244 * n + 1) = 999
  · rw [if_pos c]
    obtain ⟨h2, Mo2, y3, r3⟩ := t_setsTimer (C := C) (Hd := Hd) (Mo := Mo) hL hΛ r I.bd n0 n1 (by omega) (by omega)
    refine ⟨h2, C, Mo2, ?_, r3⟩
    simp (disch := first | assumption | omega) only [sX3_stands, sX3_stands_28, t_has, z10, z00, if_true, if_false, iv_add, iv_sub, iv_mul, iv_le, iv_lt, iv_eq, iv_mx, iv_mn, bI_z, bI_o, rZ0, rZ1, rZb, cl_some', lt_eq, rm_eq, dv_eq, iv_01, iv_10, the, lastA, lpA, st_eq, st_ne, sh_addM, cV_cl, cV_nd, cV_mo, cV_lt, gR_t0, aR_nd, gR_c0, gR_c1, gR_c2, gR_c3, gR_c4, gR_c5, gR_c6, gR_c15, gR_c16, gI_c7, pI_c7, gI_c8, pI_c8, gI_c9, pI_c9, gI_c10, pI_c10, gI_c11, pI_c11, gI_c12, pI_c12, gI_c13, pI_c13, gI_c14, pI_c14, gN_9, gN_10, gN_11, gN_12, gN_13, gN_14, gN_15, gN_16, gN_17, gN_18, gN_19, gN_20, gN_21, gN_22, gN_23, pN_9, pN_10, pN_11, pN_12, pN_13, pN_14, pN_15, pN_16, pN_17, pN_18, pN_19, pN_20, pN_21, pN_22, pZ_0, pZ_1, gR_n0, aI_n0, sI_n0, gR_n1, aI_n1, sI_n1, gR_n2, aI_n2, sI_n2, gR_n3, aI_n3, sI_n3, gR_n4, aI_n4, sI_n4, gR_n5, aI_n5, sI_n5, gR_n6, aI_n6, sI_n6, gR_n7, aI_n7, sI_n7, gR_n8, aI_n8, sI_n8, aR_s, aI_s, sI_s, aR_h, aI_h, sI_h, aR_r, aI_r, sI_r, aI_c, sI_c, aI_l, sI_l, aI_ca, aI_ha, sI_ca, sI_ha, gI_mo, pI_mo, x1, y3, w1]
    rcases c with c | c
    · rw [if_pos c]
    · rw [if_pos c]
      split <;> rfl
  · rw [if_neg c]
    have c0 : hasI (membA g n) n := Classical.byContradiction (fun q => c (Or.inl q))
    have c1 : ¬ g (244 * n + 1) = 999 := fun q => c (Or.inr q)
    obtain ⟨hs1, G1, I1⟩ := I.stood n0 n1 (by omega) hr hup
    have r1 := r.stood I.bd n0 n1
    obtain ⟨h2, Mo2, y2, r2⟩ := t_setsTimer (C := C) (Hd := Hd) (Mo := Mo) hL hΛ r1 I1.bd n0 n1 (by rw [standV_1]; omega) (by rw [standV_1]; omega)
    have I2 := I1.timer (Λ := Λ) n0 n1
    have e3 : timerG Λ (standV g n) n (244 * n + 3) = 1 := by
      rw [timerG_ne (by omega) (by omega)]
      unfold standV
      rw [st_ne (by omega), st_ne (by omega), st_ne (by omega), st_eq]
    have e1 : timerG Λ (standV g n) n (244 * n + 1) = g (244 * n + 1) + 1 := by rw [timerG_ne (by omega) (by omega), standV_1]
    have e12 : timerG Λ (standV g n) n (244 * n + 12) = bitI n := by rw [timerG_ne (by omega) (by omega), standV_12]
    have hv : standV h n = st (st (st (st (st h (244 * n + 1) (h (244 * n + 1) + 1)) (244 * n + 3) 1) (244 * n + 2) n) (244 * n + 12) (bitI n)) (244 * n + 11) (-1) := rfl
    rw [hv, w1] at y2
    generalize timerG Λ (standV g n) n = g2 at *
    have rn2 := r2.nd n n0 n1
    have hg2 := I2.lg n0 n1
    have w12 := rn2.t 12 (by omega) (by omega)
    have hb := bitR n0 n1
    have x2 := t_isMajority (C := C) (Hd := Hd) (Mo := Mo2) hL (rn2.lg hg2) (s := bitI n) (by omega) hb.2
    rw [bI_c (rn2.most hg2)] at x2
    rw [e12] at w12
    simp only [the, e12]
    by_cases c2 : mostA g2 n (bitI n)
    · rw [if_pos c2]
      obtain ⟨h3, C3, Mo3, y3, r3⟩ := t_leads (C := C) (Hd := Hd) (Mo := Mo2) hL hΛ r2 I2 n0 n1 e3 (by rw [e12]; exact c2) (by omega)
      refine ⟨h3, C3, Mo3, ?_, r3⟩
      simp (disch := first | assumption | omega) only [sX3_stands, t_has, z10, z00, if_true, if_false, iv_add, iv_sub, iv_mul, iv_le, iv_lt, iv_eq, iv_mx, iv_mn, bI_z, bI_o, rZ0, rZ1, rZb, cl_some', lt_eq, rm_eq, dv_eq, iv_01, iv_10, the, lastA, lpA, st_eq, st_ne, sh_addM, cV_cl, cV_nd, cV_mo, cV_lt, gR_t0, aR_nd, gR_c0, gR_c1, gR_c2, gR_c3, gR_c4, gR_c5, gR_c6, gR_c15, gR_c16, gI_c7, pI_c7, gI_c8, pI_c8, gI_c9, pI_c9, gI_c10, pI_c10, gI_c11, pI_c11, gI_c12, pI_c12, gI_c13, pI_c13, gI_c14, pI_c14, gN_9, gN_10, gN_11, gN_12, gN_13, gN_14, gN_15, gN_16, gN_17, gN_18, gN_19, gN_20, gN_21, gN_22, gN_23, pN_9, pN_10, pN_11, pN_12, pN_13, pN_14, pN_15, pN_16, pN_17, pN_18, pN_19, pN_20, pN_21, pN_22, pZ_0, pZ_1, gR_n0, aI_n0, sI_n0, gR_n1, aI_n1, sI_n1, gR_n2, aI_n2, sI_n2, gR_n3, aI_n3, sI_n3, gR_n4, aI_n4, sI_n4, gR_n5, aI_n5, sI_n5, gR_n6, aI_n6, sI_n6, gR_n7, aI_n7, sI_n7, gR_n8, aI_n8, sI_n8, aR_s, aI_s, sI_s, aR_h, aI_h, sI_h, aR_r, aI_r, sI_r, aI_c, sI_c, aI_l, sI_l, aI_ca, aI_ha, sI_ca, sI_ha, gI_mo, pI_mo, iv_shl, x1, w1, y2, w12, x2, y3]
      rw [if_neg (fun q => q c0), if_neg c1, if_neg (fun q => q c2)]
    · rw [if_neg c2]
      obtain ⟨h3, C3, Mo3, y3, r3⟩ := t_askK (Hd := Hd) hL hΛ n0 n1 7 h2 g2 C Mo2 0 FU r2 I2 e3 (by omega) (by omega) (by unfold FU; omega)
      refine ⟨h3, C3, Mo3, ?_, r3⟩
      simp (disch := first | assumption | omega) only [sX3_stands, t_has, z10, z00, if_true, if_false, iv_add, iv_sub, iv_mul, iv_le, iv_lt, iv_eq, iv_mx, iv_mn, bI_z, bI_o, rZ0, rZ1, rZb, cl_some', lt_eq, rm_eq, dv_eq, iv_01, iv_10, the, lastA, lpA, st_eq, st_ne, sh_addM, cV_cl, cV_nd, cV_mo, cV_lt, gR_t0, aR_nd, gR_c0, gR_c1, gR_c2, gR_c3, gR_c4, gR_c5, gR_c6, gR_c15, gR_c16, gI_c7, pI_c7, gI_c8, pI_c8, gI_c9, pI_c9, gI_c10, pI_c10, gI_c11, pI_c11, gI_c12, pI_c12, gI_c13, pI_c13, gI_c14, pI_c14, gN_9, gN_10, gN_11, gN_12, gN_13, gN_14, gN_15, gN_16, gN_17, gN_18, gN_19, gN_20, gN_21, gN_22, gN_23, pN_9, pN_10, pN_11, pN_12, pN_13, pN_14, pN_15, pN_16, pN_17, pN_18, pN_19, pN_20, pN_21, pN_22, pZ_0, pZ_1, gR_n0, aI_n0, sI_n0, gR_n1, aI_n1, sI_n1, gR_n2, aI_n2, sI_n2, gR_n3, aI_n3, sI_n3, gR_n4, aI_n4, sI_n4, gR_n5, aI_n5, sI_n5, gR_n6, aI_n6, sI_n6, gR_n7, aI_n7, sI_n7, gR_n8, aI_n8, sI_n8, aR_s, aI_s, sI_s, aR_h, aI_h, sI_h, aR_r, aI_r, sI_r, aI_c, sI_c, aI_l, sI_l, aI_ca, aI_ha, sI_ca, sI_ha, gI_mo, pI_mo, iv_shl, x1, w1, y2, w12, x2]
      rw [if_neg (fun q => q c0), if_neg c1, if_pos c2]
      exact y3
/-! the message handed over is mi -/
theorem t_votes {mi : Row} (hL : LyC B M) (hΛ : LawL M Λ) (r : Rel h g) (I : InvS g hs FL R D) (hm : MR Hd mi) (hM : MI hs R (g 11134) mi) {n : Int} (hn : mi 1 = n) (hk : mi 2 = 0) :
    ∃ h' C' Mo', sX3_votes (some B) (iI n) (tl B h C Hd Mo M) = some ((), tl B h' C' Hd Mo' M) ∧ Rel h' (voteG Λ g mi n) := by
  have hs := hM.s
  have n0 : 0 ≤ n := by omega
  have n1 : n < 7 := by omega
  obtain ⟨⟨s1, s2⟩, _⟩ := I.na n n0 n1
  obtain ⟨q0, q1, q2, q3, q9, q5⟩ := hm.s
  have q6 := hm.k0 (Or.inl hk)
  have rn := r.nd n n0 n1
  have hg := I.lg n0 n1
  have w1 := rn.s 1 (by omega) (by omega)
  have w2 := rn.s 2 (by omega) (by omega)
  have rr := I.rr
  have x1 := t_isNoLess (C := C) (Hd := Hd) (Mo := Mo) hL (rn.lg hg) (l := mi 6) (t := mi 7) (by omega) (by omega)
  rw [bI_c (rn.noless hg)] at x1
  have no : ∀ h' C' Mo', (sX3_answers (some B) (iI (mi 1)) (iI (mi 0)) (iI 1) (iI 0) (iI 0) (iI 0) (tl B h C Hd Mo M) = some ((), tl B h' C' Hd Mo' M)) → sX3_votes_65 (some B) (iI n) (some (ndA B n)) (tl B h C Hd Mo M) = some ((), tl B h' C' Hd Mo' M) := by
    intro h' C' Mo' y
    rw [hn] at y
    simp (disch := first | assumption | omega) only [sX3_votes_65, sX3_votes_66, sX3_votes_86, sX3_votes_104, z10, z00, if_true, if_false, iv_add, iv_sub, iv_mul, iv_le, iv_lt, iv_eq, iv_mx, iv_mn, bI_z, bI_o, rZ0, rZ1, rZb, cl_some', lt_eq, rm_eq, dv_eq, iv_01, iv_10, the, lastA, lpA, st_eq, st_ne, sh_addM, cV_cl, cV_nd, cV_mo, cV_lt, gR_t0, aR_nd, gR_c0, gR_c1, gR_c2, gR_c3, gR_c4, gR_c5, gR_c6, gR_c15, gR_c16, gI_c7, pI_c7, gI_c8, pI_c8, gI_c9, pI_c9, gI_c10, pI_c10, gI_c11, pI_c11, gI_c12, pI_c12, gI_c13, pI_c13, gI_c14, pI_c14, gN_9, gN_10, gN_11, gN_12, gN_13, gN_14, gN_15, gN_16, gN_17, gN_18, gN_19, gN_20, gN_21, gN_22, gN_23, pN_9, pN_10, pN_11, pN_12, pN_13, pN_14, pN_15, pN_16, pN_17, pN_18, pN_19, pN_20, pN_21, pN_22, pZ_0, pZ_1, gR_n0, aI_n0, sI_n0, gR_n1, aI_n1, sI_n1, gR_n2, aI_n2, sI_n2, gR_n3, aI_n3, sI_n3, gR_n4, aI_n4, sI_n4, gR_n5, aI_n5, sI_n5, gR_n6, aI_n6, sI_n6, gR_n7, aI_n7, sI_n7, gR_n8, aI_n8, sI_n8, aR_s, aI_s, sI_s, aR_h, aI_h, sI_h, aR_r, aI_r, sI_r, aI_c, sI_c, aI_l, sI_l, aI_ca, aI_ha, sI_ca, sI_ha, gI_mo, pI_mo, q0, y]
  unfold voteG
  simp only [the]
  by_cases c : mi 3 = g (244 * n + 1) ∧ (g (244 * n + 2) = -1 ∨ g (244 * n + 2) = mi 0) ∧ noLess g n (mi 6) (mi 7)
  · rw [if_pos c]
    obtain ⟨c1, c2, c3⟩ := c
    have r1 := r.set I.bd (w := 2) (v := mi 0) n0 n1 (by omega) (by omega) (by omega) (by omega)
    have b1 : BdA (st g (244 * n + 2) (mi 0)) := by
      obtain ⟨b1, b2⟩ := I.bd
      exact ⟨fun m m0 m1 => by rw [st_ne (by omega)]; exact b1 m m0 m1, GlA_blk (fun x _ => st_ne (by omega)) b2⟩
    obtain ⟨h2, Mo2, y2, r2⟩ := t_setsTimer (C := C) (Hd := Hd) (Mo := Mo) hL hΛ r1 b1 n0 n1 (by rw [st_ne (by omega)]; omega) (by rw [st_ne (by omega)]; omega)
    have e1 : timerG Λ (st g (244 * n + 2) (mi 0)) n (244 * n + 1) = g (244 * n + 1) := by rw [timerG_ne (by omega) (by omega), st_ne (by omega)]
    have b2 : BdA (timerG Λ (st g (244 * n + 2) (mi 0)) n) := by
      obtain ⟨u1, u2⟩ := b1
      have u3 := drawGl u2
      refine ⟨fun m m0 m1 => ?_, GlA_blk (fun x _ => ?_) u3⟩
      · rw [timerG_ne (by omega) (by omega)]; exact u1 m m0 m1
      · unfold timerG
        rw [st_ne (by omega)]
    obtain ⟨h3, C3, Mo3, y3, r3⟩ := t_answers (C := C) (Hd := Hd) (Mo := Mo2) (mi := mi) (k := 1) (a := 1) (x := 0) (y := 0) (w := 0) (z := 0) (rr := 0) hL hΛ r2 b2 (by omega) (by omega) (by rw [hn, e1]; omega) (by rw [hn, e1]; omega) (Or.inl rfl)
    refine ⟨h3, C3, Mo3, ?_, r3⟩
    rw [hn] at y3
    simp (disch := first | assumption | omega) only [sX3_votes, sX3_votes_41, sX3_votes_66, sX3_votes_86, sX3_votes_104, z10, z00, if_true, if_false, iv_add, iv_sub, iv_mul, iv_le, iv_lt, iv_eq, iv_mx, iv_mn, bI_z, bI_o, rZ0, rZ1, rZb, cl_some', lt_eq, rm_eq, dv_eq, iv_01, iv_10, the, lastA, lpA, st_eq, st_ne, sh_addM, cV_cl, cV_nd, cV_mo, cV_lt, gR_t0, aR_nd, gR_c0, gR_c1, gR_c2, gR_c3, gR_c4, gR_c5, gR_c6, gR_c15, gR_c16, gI_c7, pI_c7, gI_c8, pI_c8, gI_c9, pI_c9, gI_c10, pI_c10, gI_c11, pI_c11, gI_c12, pI_c12, gI_c13, pI_c13, gI_c14, pI_c14, gN_9, gN_10, gN_11, gN_12, gN_13, gN_14, gN_15, gN_16, gN_17, gN_18, gN_19, gN_20, gN_21, gN_22, gN_23, pN_9, pN_10, pN_11, pN_12, pN_13, pN_14, pN_15, pN_16, pN_17, pN_18, pN_19, pN_20, pN_21, pN_22, pZ_0, pZ_1, gR_n0, aI_n0, sI_n0, gR_n1, aI_n1, sI_n1, gR_n2, aI_n2, sI_n2, gR_n3, aI_n3, sI_n3, gR_n4, aI_n4, sI_n4, gR_n5, aI_n5, sI_n5, gR_n6, aI_n6, sI_n6, gR_n7, aI_n7, sI_n7, gR_n8, aI_n8, sI_n8, aR_s, aI_s, sI_s, aR_h, aI_h, sI_h, aR_r, aI_r, sI_r, aI_c, sI_c, aI_l, sI_l, aI_ca, aI_ha, sI_ca, sI_ha, gI_mo, pI_mo, q0, q3, q5, q6, w1, w2, x1, y2, y3]
    rw [if_pos c1]
    by_cases d : g (244 * n + 2) = -1
    · rw [if_pos d, if_neg (fun q => q c3)]
    · rw [if_neg d, if_pos (c2.resolve_left d), if_neg (fun q => q c3)]
  · rw [if_neg c]
    obtain ⟨h3, C3, Mo3, y3, r3⟩ := t_answers (C := C) (Hd := Hd) (Mo := Mo) (mi := mi) (k := 1) (a := 0) (x := 0) (y := 0) (w := 0) (z := 0) (rr := 0) hL hΛ r I.bd (by omega) (by omega) (by rw [hn]; omega) (by rw [hn]; omega) (Or.inl rfl)
    refine ⟨h3, C3, Mo3, ?_, r3⟩
    have z := no _ _ _ y3
    simp (disch := first | assumption | omega) only [sX3_votes, sX3_votes_41, z10, z00, if_true, if_false, iv_add, iv_sub, iv_mul, iv_le, iv_lt, iv_eq, iv_mx, iv_mn, bI_z, bI_o, rZ0, rZ1, rZb, cl_some', lt_eq, rm_eq, dv_eq, iv_01, iv_10, the, lastA, lpA, st_eq, st_ne, sh_addM, cV_cl, cV_nd, cV_mo, cV_lt, gR_t0, aR_nd, gR_c0, gR_c1, gR_c2, gR_c3, gR_c4, gR_c5, gR_c6, gR_c15, gR_c16, gI_c7, pI_c7, gI_c8, pI_c8, gI_c9, pI_c9, gI_c10, pI_c10, gI_c11, pI_c11, gI_c12, pI_c12, gI_c13, pI_c13, gI_c14, pI_c14, gN_9, gN_10, gN_11, gN_12, gN_13, gN_14, gN_15, gN_16, gN_17, gN_18, gN_19, gN_20, gN_21, gN_22, gN_23, pN_9, pN_10, pN_11, pN_12, pN_13, pN_14, pN_15, pN_16, pN_17, pN_18, pN_19, pN_20, pN_21, pN_22, pZ_0, pZ_1, gR_n0, aI_n0, sI_n0, gR_n1, aI_n1, sI_n1, gR_n2, aI_n2, sI_n2, gR_n3, aI_n3, sI_n3, gR_n4, aI_n4, sI_n4, gR_n5, aI_n5, sI_n5, gR_n6, aI_n6, sI_n6, gR_n7, aI_n7, sI_n7, gR_n8, aI_n8, sI_n8, aR_s, aI_s, sI_s, aR_h, aI_h, sI_h, aR_r, aI_r, sI_r, aI_c, sI_c, aI_l, sI_l, aI_ca, aI_ha, sI_ca, sI_ha, gI_mo, pI_mo, q0, q3, q5, q6, w1, w2, x1, z]
    by_cases c1 : mi 3 = g (244 * n + 1)
    · rw [if_pos c1]
      by_cases c3 : noLess g n (mi 6) (mi 7)
      · have c4 : ¬ (g (244 * n + 2) = -1) := fun q => c ⟨c1, Or.inl q, c3⟩
        have c5 : ¬ (g (244 * n + 2) = mi 0) := fun q => c ⟨c1, Or.inr q, c3⟩
        rw [if_neg c4, if_neg c5]
      · rw [if_pos c3]
        split
        · rfl
        · split <;> rfl
    · rw [if_neg c1]
theorem t_counts {mi : Row} (hL : LyC B M) (hΛ : LawL M Λ) (r : Rel h g) (I : InvS g hs FL R D) (hm : MR Hd mi) (hM : MI hs R (g 11134) mi) {n : Int} (hn : mi 1 = n) (hk : mi 2 = 1) :
    ∃ h' C' Mo', sX3_countsVote (some B) (iI n) (tl B h C Hd Mo M) = some ((), tl B h' C' Hd Mo' M) ∧ Rel h' (countG Λ g mi n) := by
  have hs := hM.s
  have n0 : 0 ≤ n := by omega
  have n1 : n < 7 := by omega
  obtain ⟨⟨s1, s2⟩, _⟩ := I.na n n0 n1
  obtain ⟨q0, q1, q2, q3, q9, q5⟩ := hm.s
  have rn := r.nd n n0 n1
  have w1 := rn.s 1 (by omega) (by omega)
  have w3 := rn.s 3 (by omega) (by omega)
  have w12 := rn.t 12 (by omega) (by omega)
  have k1 := hM.k1 hk
  unfold countG
  simp only [the]
  by_cases c : g (244 * n + 3) ≠ 1 ∨ mi 3 ≠ g (244 * n + 1) ∨ mi 6 ≠ 1
  · rw [if_pos c]
    refine ⟨h, C, Mo, ?_, r⟩
    simp (disch := first | assumption | omega) only [sX3_countsVote, z10, z00, if_true, if_false, iv_add, iv_sub, iv_mul, iv_le, iv_lt, iv_eq, iv_mx, iv_mn, bI_z, bI_o, rZ0, rZ1, rZb, cl_some', lt_eq, rm_eq, dv_eq, iv_01, iv_10, the, lastA, lpA, st_eq, st_ne, sh_addM, cV_cl, cV_nd, cV_mo, cV_lt, gR_t0, aR_nd, gR_c0, gR_c1, gR_c2, gR_c3, gR_c4, gR_c5, gR_c6, gR_c15, gR_c16, gI_c7, pI_c7, gI_c8, pI_c8, gI_c9, pI_c9, gI_c10, pI_c10, gI_c11, pI_c11, gI_c12, pI_c12, gI_c13, pI_c13, gI_c14, pI_c14, gN_9, gN_10, gN_11, gN_12, gN_13, gN_14, gN_15, gN_16, gN_17, gN_18, gN_19, gN_20, gN_21, gN_22, gN_23, pN_9, pN_10, pN_11, pN_12, pN_13, pN_14, pN_15, pN_16, pN_17, pN_18, pN_19, pN_20, pN_21, pN_22, pZ_0, pZ_1, gR_n0, aI_n0, sI_n0, gR_n1, aI_n1, sI_n1, gR_n2, aI_n2, sI_n2, gR_n3, aI_n3, sI_n3, gR_n4, aI_n4, sI_n4, gR_n5, aI_n5, sI_n5, gR_n6, aI_n6, sI_n6, gR_n7, aI_n7, sI_n7, gR_n8, aI_n8, sI_n8, aR_s, aI_s, sI_s, aR_h, aI_h, sI_h, aR_r, aI_r, sI_r, aI_c, sI_c, aI_l, sI_l, aI_ca, aI_ha, sI_ca, sI_ha, gI_mo, pI_mo, q3, q5, w1, w3]
    by_cases c1 : g (244 * n + 3) = 1
    · rw [if_pos c1]
      by_cases c2 : mi 3 = g (244 * n + 1)
      · rw [if_pos c2, if_pos (by omega)]
      · rw [if_neg c2]
    · rw [if_neg c1]
  · rw [if_neg c]
    have c1 : g (244 * n + 3) = 1 := Classical.byContradiction (fun q => c (Or.inl q))
    have c2 : mi 3 = g (244 * n + 1) := Classical.byContradiction (fun q => c (Or.inr (Or.inl q)))
    have c3 : mi 6 = 1 := Classical.byContradiction (fun q => c (Or.inr (Or.inr q)))
    rw [c2, hn] at k1
    have I1 := I.count n0 n1 (p := mi 0) (by omega) (by omega) (by omega)
    have r1 := r.set I.bd (w := 12) (v := orI (g (244 * n + 12)) (bitI (mi 0))) n0 n1 (by omega) (by omega) (by omega) (by omega)
    have nb := I.nb n n0 n1
    obtain ⟨a1, a2, a3, a4, a5, a6⟩ := nb.1.can c1
    have hb := bitR (k := mi 0) (by omega) (by omega)
    have ho := orR (a := g (244 * n + 12)) (b := bitI (mi 0)) (by omega) (by omega) (by omega) hb.2
    have rn1 := r1.nd n n0 n1
    have hg1 := I1.lg n0 n1
    have x2 := t_isMajority (C := C) (Hd := Hd) (Mo := Mo) hL (rn1.lg hg1) ho.1 ho.2
    rw [bI_c (rn1.most hg1)] at x2
    simp only [the, st_eq]
    by_cases c4 : mostA (st g (244 * n + 12) (orI (g (244 * n + 12)) (bitI (mi 0)))) n (orI (g (244 * n + 12)) (bitI (mi 0)))
    · rw [if_pos c4]
      obtain ⟨h3, C3, Mo3, y3, r3⟩ := t_leads (C := C) (Hd := Hd) (Mo := Mo) hL hΛ r1 I1 n0 n1 (by rw [st_ne (by omega)]; exact c1) (by rw [st_eq]; exact c4) (by rw [st_ne (by omega)]; omega)
      refine ⟨h3, C3, Mo3, ?_, r3⟩
      simp (disch := first | assumption | omega) only [sX3_countsVote, z10, z00, if_true, if_false, iv_add, iv_sub, iv_mul, iv_le, iv_lt, iv_eq, iv_mx, iv_mn, bI_z, bI_o, rZ0, rZ1, rZb, cl_some', lt_eq, rm_eq, dv_eq, iv_01, iv_10, the, lastA, lpA, st_eq, st_ne, sh_addM, cV_cl, cV_nd, cV_mo, cV_lt, gR_t0, aR_nd, gR_c0, gR_c1, gR_c2, gR_c3, gR_c4, gR_c5, gR_c6, gR_c15, gR_c16, gI_c7, pI_c7, gI_c8, pI_c8, gI_c9, pI_c9, gI_c10, pI_c10, gI_c11, pI_c11, gI_c12, pI_c12, gI_c13, pI_c13, gI_c14, pI_c14, gN_9, gN_10, gN_11, gN_12, gN_13, gN_14, gN_15, gN_16, gN_17, gN_18, gN_19, gN_20, gN_21, gN_22, gN_23, pN_9, pN_10, pN_11, pN_12, pN_13, pN_14, pN_15, pN_16, pN_17, pN_18, pN_19, pN_20, pN_21, pN_22, pZ_0, pZ_1, gR_n0, aI_n0, sI_n0, gR_n1, aI_n1, sI_n1, gR_n2, aI_n2, sI_n2, gR_n3, aI_n3, sI_n3, gR_n4, aI_n4, sI_n4, gR_n5, aI_n5, sI_n5, gR_n6, aI_n6, sI_n6, gR_n7, aI_n7, sI_n7, gR_n8, aI_n8, sI_n8, aR_s, aI_s, sI_s, aR_h, aI_h, sI_h, aR_r, aI_r, sI_r, aI_c, sI_c, aI_l, sI_l, aI_ca, aI_ha, sI_ca, sI_ha, gI_mo, pI_mo, q0, q3, q5, w1, w3, w12, iv_shl, iv_or, x2, y3]
      rw [if_pos c1, if_pos c2, if_neg (by omega), if_neg (fun q => q c4)]
    · rw [if_neg c4]
      refine ⟨_, C, Mo, ?_, r1⟩
      simp (disch := first | assumption | omega) only [sX3_countsVote, z10, z00, if_true, if_false, iv_add, iv_sub, iv_mul, iv_le, iv_lt, iv_eq, iv_mx, iv_mn, bI_z, bI_o, rZ0, rZ1, rZb, cl_some', lt_eq, rm_eq, dv_eq, iv_01, iv_10, the, lastA, lpA, st_eq, st_ne, sh_addM, cV_cl, cV_nd, cV_mo, cV_lt, gR_t0, aR_nd, gR_c0, gR_c1, gR_c2, gR_c3, gR_c4, gR_c5, gR_c6, gR_c15, gR_c16, gI_c7, pI_c7, gI_c8, pI_c8, gI_c9, pI_c9, gI_c10, pI_c10, gI_c11, pI_c11, gI_c12, pI_c12, gI_c13, pI_c13, gI_c14, pI_c14, gN_9, gN_10, gN_11, gN_12, gN_13, gN_14, gN_15, gN_16, gN_17, gN_18, gN_19, gN_20, gN_21, gN_22, gN_23, pN_9, pN_10, pN_11, pN_12, pN_13, pN_14, pN_15, pN_16, pN_17, pN_18, pN_19, pN_20, pN_21, pN_22, pZ_0, pZ_1, gR_n0, aI_n0, sI_n0, gR_n1, aI_n1, sI_n1, gR_n2, aI_n2, sI_n2, gR_n3, aI_n3, sI_n3, gR_n4, aI_n4, sI_n4, gR_n5, aI_n5, sI_n5, gR_n6, aI_n6, sI_n6, gR_n7, aI_n7, sI_n7, gR_n8, aI_n8, sI_n8, aR_s, aI_s, sI_s, aR_h, aI_h, sI_h, aR_r, aI_r, sI_r, aI_c, sI_c, aI_l, sI_l, aI_ca, aI_ha, sI_ca, sI_ha, gI_mo, pI_mo, q0, q3, q5, w1, w3, w12, iv_shl, iv_or, x2]
      rw [if_pos c1, if_pos c2, if_neg (by omega), if_pos c4]
end
