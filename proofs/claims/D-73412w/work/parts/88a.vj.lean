/-! DEPS: vi -/
/-! VJ: TermLog sees entries held, commits -/
theorem Rel.heldrow {h g h' g' : Row} (r : Rel h g) (b : BdA g) {i : Int} (i0 : 1 ≤ i) (i1 : i ≤ 999) (hi : i = g 11134 + 1) (eh : ∀ x, (x < 6028 + 4 * i ∨ 6032 + 4 * i ≤ x) → ¬ x = 11134 → ¬ x = 11138 → h' x = h x) (eg : ∀ x, (x < 6028 + 4 * i ∨ 6032 + 4 * i ≤ x) → ¬ x = 11134 → ¬ x = 11138 → g' x = g x)
    (ew : ∀ w, 0 ≤ w → w < 4 → h' (6028 + 4 * i + w) = g' (6028 + 4 * i + w)) (e34 : h' 11134 = i ∧ g' 11134 = i) (e38 : h' 11138 = g' 11138) : Rel h' g' := by
  obtain ⟨b1, hG⟩ := b
  obtain ⟨_, _, _, _, _, _, _, _, _, _, _, _⟩ := hG
  refine ⟨fun n n0 n1 => (r.nd n n0 n1).keep (fun x _ _ => eh x (by omega) (by omega) (by omega)) (fun x _ _ => eg x (by omega) (by omega) (by omega)) (b1 n n0 n1), fun j a c w w0 w1 => ?_, fun x a c => by rw [eh x (by omega) (by omega) (by omega), eg x (by omega) (by omega) (by omega)]; exact r.ld x a c, fun q a c => ?_, fun x a c => by rw [eh x (by omega) (by omega) (by omega), eg x (by omega) (by omega) (by omega)]; exact r.ct x a c, fun x a c => ?_, fun j a c => ?_⟩
  · rw [e34.2] at c
    by_cases cj : j = i
    · rw [cj]; exact ew w w0 w1
    · rw [eh _ (by omega) (by omega) (by omega), eg _ (by omega) (by omega) (by omega)]
      exact r.hl j a (by omega) w w0 w1
  · rw [eg _ (by omega) (by omega) (by omega)] at c
    obtain ⟨q1, q2, q3⟩ := r.rd q a c
    refine ⟨fun w w0 w1 => by rw [eh _ (by omega) (by omega) (by omega), eg _ (by omega) (by omega) (by omega)]; exact q1 w w0 w1, fun d => ?_, fun d => ?_⟩
    · rw [eg _ (by omega) (by omega) (by omega)] at d
      rw [eh _ (by omega) (by omega) (by omega), eg _ (by omega) (by omega) (by omega)]; exact q2 d
    · rw [eg _ (by omega) (by omega) (by omega)] at d
      rw [eh _ (by omega) (by omega) (by omega)]; exact q3 d
  · by_cases d : x = 11134
    · rw [d, e34.1, e34.2]
    · by_cases d2 : x = 11138
      · rw [d2]; exact e38
      · rw [eh x (by omega) d d2, eg x (by omega) d d2]; exact r.gl x a c
  · rw [eg _ (by omega) (by omega) (by omega)] at c
    obtain ⟨q1, q2⟩ := r.ml j a c
    exact ⟨MR_ext q1 (fun f f0 f1 _ => eh _ (by omega) (by omega) (by omega)) (fun w w0 w1 _ => eg _ (by omega) (by omega) (by omega)), by show h' _ = g' _; rw [eh _ (by omega) (by omega) (by omega), eg _ (by omega) (by omega) (by omega)]; exact q2⟩
section
variable {B : Nat} {h g C Hd Mo : Row} {M : Mem} {Λ : Law} {hs : His} {FL : Int → ELog} {R : Int} {D : DK}
theorem t_seen_35 (hL : LyC B M) (r : Rel h g) (b : BdA g) {n i a : Int} (n0 : 0 ≤ n) (n1 : n < 7) (a0 : 0 ≤ a) (a1 : a < 48) (i1 : 1 ≤ i) (i9 : i ≤ 999) (hg : i ≤ g 11134 + 1) (hc : HcA g) (hH : HdA g) (h38 : 0 ≤ g 11138)
    (hE : EntA g (244 * n + 52 + 4 * a)) (he : ∀ w, 0 ≤ w → w < 4 → h (244 * n + 52 + 4 * a + w) = g (244 * n + 52 + 4 * a + w)) :
    ∃ h', sX3_isSeenHeld_35 (some B) (some (ndA B n)) (iI i) (iI a) (tl B h C Hd Mo M) = some ((), tl B h' C Hd Mo M) ∧ Rel h' (seen0 g (244 * n + 52 + 4 * a) i) := by
  have hG := b.2
  have bb := b
  have e34 := r.gl 11134 (by omega) (by omega)
  have e38 := r.gl 11138 (by omega) (by omega)
  have e36 := r.gl 11136 (by omega) (by omega)
  have w0 := he 0 (by omega) (by omega)
  have w1 := he 1 (by omega) (by omega)
  have w2 := he 2 (by omega) (by omega)
  have w3 := he 3 (by omega) (by omega)
  rw [Int.add_zero] at w0
  obtain ⟨p, hp⟩ : ∃ p, 244 * n + 52 + 4 * a = p := ⟨_, rfl⟩
  unfold EntA at hE
  rw [hp] at hE w0 w1 w2 w3 ⊢
  have hci := hc i i1 i9
  obtain ⟨_, _, _, _, _, _, _, _, _, _, _, _⟩ := hG
  by_cases c1 : g 11134 < i
  · have z : g (6028 + 4 * i) = 0 := hci.mpr c1
    have s : seen0 g p i = seen1 g p i := if_pos z
    rw [s]
    refine ⟨st (st (st (st (st (st h 11134 i) 11138 (h 11138 + 1)) (6028 + 4 * i + 0) (h p)) (6028 + 4 * i + 1) (h (p + 1))) (6028 + 4 * i + 2) (h (p + 2))) (6028 + 4 * i + 3) (h (p + 3)), ?_, ?_⟩
    · have d0 : ∀ hh : Row, hh p = hh (244 * n + 52 + 4 * a) := fun hh => by rw [hp]
      simp (disch := first | assumption | omega) only [sX3_isSeenHeld_35, z10, z00, if_true, if_false, iv_add, iv_sub, iv_mul, iv_le, iv_lt, iv_eq, iv_mx, iv_mn, bI_z, bI_o, rZ0, rZ1, rZb, cl_some', lt_eq, rm_eq, dv_eq, iv_01, iv_10, the, lastA, lpA, st_eq, st_ne, sh_addM, cV_cl, cV_nd, cV_mo, cV_lt, gR_t0, aR_nd, gR_c0, gR_c1, gR_c2, gR_c3, gR_c4, gR_c5, gR_c6, gR_c15, gR_c16, gI_c7, pI_c7, gI_c8, pI_c8, gI_c9, pI_c9, gI_c10, pI_c10, gI_c11, pI_c11, gI_c12, pI_c12, gI_c13, pI_c13, gI_c14, pI_c14, gN_9, gN_10, gN_11, gN_12, gN_13, gN_14, gN_15, gN_16, gN_17, gN_18, gN_19, gN_20, gN_21, gN_22, gN_23, pN_9, pN_10, pN_11, pN_12, pN_13, pN_14, pN_15, pN_16, pN_17, pN_18, pN_19, pN_20, pN_21, pN_22, pZ_0, pZ_1, gR_n0, aI_n0, sI_n0, gR_n1, aI_n1, sI_n1, gR_n2, aI_n2, sI_n2, gR_n3, aI_n3, sI_n3, gR_n4, aI_n4, sI_n4, gR_n5, aI_n5, sI_n5, gR_n6, aI_n6, sI_n6, gR_n7, aI_n7, sI_n7, gR_n8, aI_n8, sI_n8, aR_s, aI_s, sI_s, aR_h, aI_h, sI_h, aR_r, aI_r, sI_r, aI_c, sI_c, aI_l, sI_l, aI_ca, aI_ha, sI_ca, sI_ha, gI_mo, pI_mo, hp]
      rw [if_pos (by omega)]
    · refine r.heldrow bb i1 i9 (by omega) (fun x a c d => ?_) (fun x a c d => ?_) (fun w x0 x1 => ?_) ⟨?_, ?_⟩ ?_
      · rw [st_ne (by omega), st_ne (by omega), st_ne (by omega), st_ne (by omega), st_ne d, st_ne c]
      · unfold seen1
        rw [if_neg (by omega), if_neg c, if_neg d]
      · have : seen1 g p i (6028 + 4 * i + w) = g (p + w) := by
          unfold seen1
          rw [if_pos (by omega), show p + (6028 + 4 * i + w - (6028 + 4 * i)) = p + w by omega]
        rw [this]
        rcases (show w = 0 ∨ w = 1 ∨ w = 2 ∨ w = 3 by omega) with q | q | q | q
        · subst q
          rw [st_ne (by omega), st_ne (by omega), st_ne (by omega), st_eq, w0, Int.add_zero]
        · subst q
          rw [st_ne (by omega), st_ne (by omega), st_eq, w1]
        · subst q
          rw [st_ne (by omega), st_eq, w2]
        · subst q
          rw [st_eq, w3]
      · rw [st_ne (by omega), st_ne (by omega), st_ne (by omega), st_ne (by omega), st_ne (by omega), st_eq]
      · unfold seen1
        rw [if_neg (by omega), if_pos rfl]
        omega
      · rw [st_ne (by omega), st_ne (by omega), st_ne (by omega), st_ne (by omega), st_eq, e38]
        unfold seen1
        rw [if_neg (by omega), if_neg (by omega), if_pos rfl]
  · have z : ¬ g (6028 + 4 * i) = 0 := fun q => c1 (hci.mp q)
    have q0 := r.hl i i1 (by omega) 0 (by omega) (by omega)
    have q1 := r.hl i i1 (by omega) 1 (by omega) (by omega)
    have q2 := r.hl i i1 (by omega) 2 (by omega) (by omega)
    have q3 := r.hl i i1 (by omega) 3 (by omega) (by omega)
    have x0 := hH (6028 + 4 * i + 0) (by omega) (by omega)
    have x1 := hH (6028 + 4 * i + 1) (by omega) (by omega)
    have x2 := hH (6028 + 4 * i + 2) (by omega) (by omega)
    have x3 := hH (6028 + 4 * i + 3) (by omega) (by omega)
    have same : ∀ v : Int, (v = 0 ∨ v = 1) → Rel (st h 11136 (h 11136 + v)) (st g 11136 (g 11136 + v)) := by
      intro v hv
      refine r.plain bb (fun x a c => ?_) (fun x a => st_ne (by omega)) (fun x a c => st_ne (by omega))
      by_cases d : x = 11136
      · subst d
        rw [st_eq, st_eq, e36]
        exact Or.inr ⟨rfl, fun n n0 n1 => by omega, by omega, by omega, by omega, by omega⟩
      · exact Or.inl ⟨st_ne d, st_ne d⟩
    have s0 := same 0 (Or.inl rfl)
    have s1 := same 1 (Or.inr rfl)
    have g0 : st g 11136 (g 11136 + 0) = g := by
      funext x
      unfold st
      split
      · rename_i q; rw [q]; omega
      · rfl
    rw [g0] at s0
    rw [Int.add_zero] at q0 x0
    have eq : seen0 g p i = if sameA g (6028 + 4 * i) p then g else breakG g := if_neg z
    rw [eq]
    have hz : (6028 + 4 * i + 0) = 6028 + 4 * i := by omega
    by_cases cs : sameA g (6028 + 4 * i) p
    · rw [if_pos cs]
      obtain ⟨k0, k1, k2, k3⟩ := cs
      refine ⟨_, ?_, s0⟩
      simp (disch := first | assumption | omega) only [sX3_isSeenHeld_35, z10, z00, if_true, if_false, iv_add, iv_sub, iv_mul, iv_le, iv_lt, iv_eq, iv_mx, iv_mn, bI_z, bI_o, rZ0, rZ1, rZb, cl_some', lt_eq, rm_eq, dv_eq, iv_01, iv_10, the, lastA, lpA, st_eq, st_ne, sh_addM, cV_cl, cV_nd, cV_mo, cV_lt, gR_t0, aR_nd, gR_c0, gR_c1, gR_c2, gR_c3, gR_c4, gR_c5, gR_c6, gR_c15, gR_c16, gI_c7, pI_c7, gI_c8, pI_c8, gI_c9, pI_c9, gI_c10, pI_c10, gI_c11, pI_c11, gI_c12, pI_c12, gI_c13, pI_c13, gI_c14, pI_c14, gN_9, gN_10, gN_11, gN_12, gN_13, gN_14, gN_15, gN_16, gN_17, gN_18, gN_19, gN_20, gN_21, gN_22, gN_23, pN_9, pN_10, pN_11, pN_12, pN_13, pN_14, pN_15, pN_16, pN_17, pN_18, pN_19, pN_20, pN_21, pN_22, pZ_0, pZ_1, gR_n0, aI_n0, sI_n0, gR_n1, aI_n1, sI_n1, gR_n2, aI_n2, sI_n2, gR_n3, aI_n3, sI_n3, gR_n4, aI_n4, sI_n4, gR_n5, aI_n5, sI_n5, gR_n6, aI_n6, sI_n6, gR_n7, aI_n7, sI_n7, gR_n8, aI_n8, sI_n8, aR_s, aI_s, sI_s, aR_h, aI_h, sI_h, aR_r, aI_r, sI_r, aI_c, sI_c, aI_l, sI_l, aI_ca, aI_ha, sI_ca, sI_ha, gI_mo, pI_mo, hp, hz, q0, q1, q2, q3, w0, w1, w2, w3]
      rw [if_neg (by omega), if_pos k0, if_pos k1, if_pos k2, if_pos k3]
    · rw [if_neg cs]
      refine ⟨_, ?_, s1⟩
      simp (disch := first | assumption | omega) only [sX3_isSeenHeld_35, z10, z00, if_true, if_false, iv_add, iv_sub, iv_mul, iv_le, iv_lt, iv_eq, iv_mx, iv_mn, bI_z, bI_o, rZ0, rZ1, rZb, cl_some', lt_eq, rm_eq, dv_eq, iv_01, iv_10, the, lastA, lpA, st_eq, st_ne, sh_addM, cV_cl, cV_nd, cV_mo, cV_lt, gR_t0, aR_nd, gR_c0, gR_c1, gR_c2, gR_c3, gR_c4, gR_c5, gR_c6, gR_c15, gR_c16, gI_c7, pI_c7, gI_c8, pI_c8, gI_c9, pI_c9, gI_c10, pI_c10, gI_c11, pI_c11, gI_c12, pI_c12, gI_c13, pI_c13, gI_c14, pI_c14, gN_9, gN_10, gN_11, gN_12, gN_13, gN_14, gN_15, gN_16, gN_17, gN_18, gN_19, gN_20, gN_21, gN_22, gN_23, pN_9, pN_10, pN_11, pN_12, pN_13, pN_14, pN_15, pN_16, pN_17, pN_18, pN_19, pN_20, pN_21, pN_22, pZ_0, pZ_1, gR_n0, aI_n0, sI_n0, gR_n1, aI_n1, sI_n1, gR_n2, aI_n2, sI_n2, gR_n3, aI_n3, sI_n3, gR_n4, aI_n4, sI_n4, gR_n5, aI_n5, sI_n5, gR_n6, aI_n6, sI_n6, gR_n7, aI_n7, sI_n7, gR_n8, aI_n8, sI_n8, aR_s, aI_s, sI_s, aR_h, aI_h, sI_h, aR_r, aI_r, sI_r, aI_c, sI_c, aI_l, sI_l, aI_ca, aI_ha, sI_ca, sI_ha, gI_mo, pI_mo, hp, hz, q0, q1, q2, q3, w0, w1, w2, w3]
      rw [if_neg (by omega)]
      unfold sameA at cs
      by_cases k0 : g (6028 + 4 * i) = g p
      · rw [if_pos k0]
        by_cases k1 : g (6028 + 4 * i + 1) = g (p + 1)
        · rw [if_pos k1]
          by_cases k2 : g (6028 + 4 * i + 2) = g (p + 2)
          · rw [if_pos k2]
            by_cases k3 : g (6028 + 4 * i + 3) = g (p + 3)
            · exact absurd ⟨k0, k1, k2, k3⟩ cs
            · rw [if_neg k3]
          · rw [if_neg k2]
        · rw [if_neg k1]
      · rw [if_neg k0]
theorem t_seen (hL : LyC B M) (r : Rel h g) (b : BdA g) {n i : Int} (hC : CmA g n) (i1 : 1 ≤ i) (hi0 : g (244 * n + 4) < i) (hi : i ≤ g (244 * n + 4) + g (244 * n + 8)) (hg : i ≤ g 11134 + 1) (hc : HcA g) (h38 : 0 ≤ g 11138) :
    ∃ h', sX3_isSeenHeld (some B) (some (ndA B n)) (iI i) (tl B h C Hd Mo M) = some ((), tl B h' C Hd Mo M) ∧ Rel h' (seenG g n i) := by
  obtain ⟨hLg, hH, hG⟩ := hC
  have hb := hLg.1
  have rn := r.nd n (by omega) (by omega)
  have hE := hLg.2 i hi0 hi
  have w4 := rn.s 4 (by omega) (by omega)
  obtain ⟨a, ha⟩ : ∃ a, i - g (244 * n + 4) - 1 = a := ⟨_, rfl⟩
  have he : ∀ w, 0 ≤ w → w < 4 → h (244 * n + 52 + 4 * a + w) = g (244 * n + 52 + 4 * a + w) := fun w w0 w1 => rn.e _ (by omega) (by omega)
  have x0 := he 0 (by omega) (by omega)
  have x1 := he 1 (by omega) (by omega)
  have x2 := he 2 (by omega) (by omega)
  have x3 := he 3 (by omega) (by omega)
  rw [ha] at hE
  have hE' := hE
  unfold EntA at hE'
  have hlp : lpA g n i = 244 * n + 52 + 4 * a := by simp only [lpA, the]; omega
  rw [seenG_eq, hlp]
  by_cases c : g (244 * n + 52 + 4 * a + 1) = 0
  · have ek : keyG g n i = st g (244 * n + (15 + g (244 * n + 52 + 4 * a + 2))) (g (244 * n + 52 + 4 * a + 3)) := by
      unfold keyG
      rw [hlp, if_pos c, show 244 * n + 15 + g (244 * n + 52 + 4 * a + 2) = 244 * n + (15 + g (244 * n + 52 + 4 * a + 2)) by omega]
    rw [ek]
    have o : ∀ (f : Row) x v, (x < 244 * n + 15 ∨ 244 * n + 23 ≤ x) → st f (244 * n + (15 + g (244 * n + 52 + 4 * a + 2))) v x = f x := fun f x v hx => st_ne (by omega)
    have r1 : Rel (st h (244 * n + (15 + g (244 * n + 52 + 4 * a + 2))) (g (244 * n + 52 + 4 * a + 3))) (st g (244 * n + (15 + g (244 * n + 52 + 4 * a + 2))) (g (244 * n + 52 + 4 * a + 3))) := by
      refine r.plain b (fun x y z => ?_) (fun x y => o _ _ _ (by omega)) (fun x y z => o _ _ _ (by omega))
      by_cases d : x = 244 * n + (15 + g (244 * n + 52 + 4 * a + 2))
      · rw [d, st_eq, st_eq]
        exact Or.inr ⟨rfl, fun m m0 m1 => by omega, by omega, by omega, by omega, by omega⟩
      · exact Or.inl ⟨st_ne d, st_ne d⟩
    have b1 : BdA (st g (244 * n + (15 + g (244 * n + 52 + 4 * a + 2))) (g (244 * n + 52 + 4 * a + 3))) := ⟨fun m m0 m1 => by rw [o _ _ _ (by omega)]; exact b.1 m m0 m1, GlA_blk (fun x _ => o _ _ _ (by omega)) hG⟩
    have hc1 : HcA (st g (244 * n + (15 + g (244 * n + 52 + 4 * a + 2))) (g (244 * n + 52 + 4 * a + 3))) := fun j a c => by rw [o _ _ _ (by omega), o _ _ _ (by omega)]; exact hc j a c
    have hH1 : HdA (st g (244 * n + (15 + g (244 * n + 52 + 4 * a + 2))) (g (244 * n + 52 + 4 * a + 3))) := fun x a c => by rw [o _ _ _ (by omega)]; exact hH x a c
    have hE1 : EntA (st g (244 * n + (15 + g (244 * n + 52 + 4 * a + 2))) (g (244 * n + 52 + 4 * a + 3))) (244 * n + 52 + 4 * a) := by
      unfold EntA
      rw [o _ _ _ (by omega), o _ _ _ (by omega), o _ _ _ (by omega), o _ _ _ (by omega)]
      exact hE
    obtain ⟨h2, y1, y2⟩ := t_seen_35 (C := C) (Hd := Hd) (Mo := Mo) hL r1 b1 (n := n) (i := i) (a := a) (by omega) (by omega) (by omega) (by omega) i1 (by omega) (by rw [o _ _ _ (by omega)]; exact hg) hc1 hH1 (by rw [o _ _ _ (by omega)]; exact h38) hE1 (fun w w0 w1 => by rw [o _ _ _ (by omega), o _ _ _ (by omega)]; exact he w w0 w1)
    refine ⟨h2, ?_, y2⟩
    simp (disch := first | assumption | omega) only [sX3_isSeenHeld, z10, z00, if_true, if_false, iv_add, iv_sub, iv_mul, iv_le, iv_lt, iv_eq, iv_mx, iv_mn, bI_z, bI_o, rZ0, rZ1, rZb, cl_some', lt_eq, rm_eq, dv_eq, iv_01, iv_10, the, lastA, lpA, st_eq, st_ne, sh_addM, cV_cl, cV_nd, cV_mo, cV_lt, gR_t0, aR_nd, gR_c0, gR_c1, gR_c2, gR_c3, gR_c4, gR_c5, gR_c6, gR_c15, gR_c16, gI_c7, pI_c7, gI_c8, pI_c8, gI_c9, pI_c9, gI_c10, pI_c10, gI_c11, pI_c11, gI_c12, pI_c12, gI_c13, pI_c13, gI_c14, pI_c14, gN_9, gN_10, gN_11, gN_12, gN_13, gN_14, gN_15, gN_16, gN_17, gN_18, gN_19, gN_20, gN_21, gN_22, gN_23, pN_9, pN_10, pN_11, pN_12, pN_13, pN_14, pN_15, pN_16, pN_17, pN_18, pN_19, pN_20, pN_21, pN_22, pZ_0, pZ_1, gR_n0, aI_n0, sI_n0, gR_n1, aI_n1, sI_n1, gR_n2, aI_n2, sI_n2, gR_n3, aI_n3, sI_n3, gR_n4, aI_n4, sI_n4, gR_n5, aI_n5, sI_n5, gR_n6, aI_n6, sI_n6, gR_n7, aI_n7, sI_n7, gR_n8, aI_n8, sI_n8, aR_s, aI_s, sI_s, aR_h, aI_h, sI_h, aR_r, aI_r, sI_r, aI_c, sI_c, aI_l, sI_l, aI_ca, aI_ha, sI_ca, sI_ha, gI_mo, pI_mo, w4, ha, x1, x2, x3, y1]
    rw [if_pos c]
  · have ek : keyG g n i = g := by
      unfold keyG
      rw [hlp, if_neg c]
    rw [ek]
    obtain ⟨h2, y1, y2⟩ := t_seen_35 (C := C) (Hd := Hd) (Mo := Mo) hL r b (n := n) (i := i) (a := a) (by omega) (by omega) (by omega) (by omega) i1 (by omega) hg hc hH h38 hE he
    refine ⟨h2, ?_, y2⟩
    simp (disch := first | assumption | omega) only [sX3_isSeenHeld, z10, z00, if_true, if_false, iv_add, iv_sub, iv_mul, iv_le, iv_lt, iv_eq, iv_mx, iv_mn, bI_z, bI_o, rZ0, rZ1, rZb, cl_some', lt_eq, rm_eq, dv_eq, iv_01, iv_10, the, lastA, lpA, st_eq, st_ne, sh_addM, cV_cl, cV_nd, cV_mo, cV_lt, gR_t0, aR_nd, gR_c0, gR_c1, gR_c2, gR_c3, gR_c4, gR_c5, gR_c6, gR_c15, gR_c16, gI_c7, pI_c7, gI_c8, pI_c8, gI_c9, pI_c9, gI_c10, pI_c10, gI_c11, pI_c11, gI_c12, pI_c12, gI_c13, pI_c13, gI_c14, pI_c14, gN_9, gN_10, gN_11, gN_12, gN_13, gN_14, gN_15, gN_16, gN_17, gN_18, gN_19, gN_20, gN_21, gN_22, gN_23, pN_9, pN_10, pN_11, pN_12, pN_13, pN_14, pN_15, pN_16, pN_17, pN_18, pN_19, pN_20, pN_21, pN_22, pZ_0, pZ_1, gR_n0, aI_n0, sI_n0, gR_n1, aI_n1, sI_n1, gR_n2, aI_n2, sI_n2, gR_n3, aI_n3, sI_n3, gR_n4, aI_n4, sI_n4, gR_n5, aI_n5, sI_n5, gR_n6, aI_n6, sI_n6, gR_n7, aI_n7, sI_n7, gR_n8, aI_n8, sI_n8, aR_s, aI_s, sI_s, aR_h, aI_h, sI_h, aR_r, aI_r, sI_r, aI_c, sI_c, aI_l, sI_l, aI_ca, aI_ha, sI_ca, sI_ha, gI_mo, pI_mo, w4, ha, x1, y1]
    rw [if_neg c]
/-- commits, one by one: the commit first, then what is seen -/
def cmF (n : Int) : Nat → Row → Row
  | 0, g => g
  | f + 1, g => cmF n f (seenG (st g (244 * n + 9) (g (244 * n + 9) + 1)) n (g (244 * n + 9) + 1))
theorem seen_st9 {n i v : Int} (n0 : 0 ≤ n) (n1 : n < 7) (hi0 : g (244 * n + 4) < i) (hi : i ≤ g (244 * n + 4) + 48) (h1 : 1 ≤ i) (hE : EntA g (244 * n + 52 + 4 * (i - g (244 * n + 4) - 1))) : seenG (st g (244 * n + 9) v) n i = st (seenG g n i) (244 * n + 9) v := by
  have o : ∀ x, ¬ x = 244 * n + 9 → st g (244 * n + 9) v x = g x := fun x a => st_ne a
  have o4 := o (244 * n + 4) (by omega)
  have lp : lpA (st g (244 * n + 9) v) n i = lpA g n i := by simp only [lpA, the]; rw [o4]
  obtain ⟨p, hp⟩ : ∃ p, lpA g n i = p := ⟨_, rfl⟩
  have hpr : 244 * n + 52 ≤ p ∧ p + 3 < 244 * n + 244 := by
    rw [← hp]
    simp only [lpA, the]
    omega
  have hE' : EntA g p := by rw [← hp]; exact hE
  unfold EntA at hE'
  have ek : keyG (st g (244 * n + 9) v) n i = st (keyG g n i) (244 * n + 9) v := by
    unfold keyG
    rw [lp, hp, o _ (by omega), o _ (by omega), o _ (by omega)]
    split
    · exact st_com (by omega)
    · rfl
  rw [seenG_eq, seenG_eq, ek, lp, hp]
  obtain ⟨k, hk⟩ : ∃ k, keyG g n i = k := ⟨_, rfl⟩
  rw [hk]
  have q : ∀ x, ¬ x = 244 * n + 9 → st k (244 * n + 9) v x = k x := fun x a => st_ne a
  unfold seen0
  have qi := q (6028 + 4 * i) (by omega)
  by_cases c : k (6028 + 4 * i) = 0
  · rw [if_pos (qi.trans c), if_pos c]
    funext x
    by_cases cx : x = 244 * n + 9
    · rw [cx, st_eq]
      unfold seen1
      rw [if_neg (by omega), if_neg (by omega), if_neg (by omega), st_eq]
    · rw [st_ne cx]
      unfold seen1
      by_cases d1 : 6028 + 4 * i ≤ x ∧ x < 6032 + 4 * i
      · rw [if_pos d1, if_pos d1, q _ (by omega)]
      · rw [if_neg d1, if_neg d1]
        by_cases d2 : x = 11134
        · rw [if_pos d2, if_pos d2, q _ (by omega)]
        · rw [if_neg d2, if_neg d2]
          by_cases d3 : x = 11138
          · rw [if_pos d3, if_pos d3, q _ (by omega)]
          · rw [if_neg d3, if_neg d3, q x cx]
  · rw [if_neg (fun z => c (qi.symm.trans z)), if_neg c]
    have es : sameA (st k (244 * n + 9) v) (6028 + 4 * i) p ↔ sameA k (6028 + 4 * i) p := by
      unfold sameA
      rw [q _ (by omega), q _ (by omega), q _ (by omega), q _ (by omega), q _ (by omega), q _ (by omega), q _ (by omega), q _ (by omega)]
    by_cases d : sameA k (6028 + 4 * i) p
    · rw [if_pos d, if_pos (es.mpr d)]
    · rw [if_neg d, if_neg (fun z => d (es.mp z))]
      unfold breakG
      rw [q _ (by omega), st_com (by omega)]
theorem cm_grow {n : Int} : ∀ (j : Nat) (g : Row) (c : Int), CmA g n → g (244 * n + 9) ≤ c → c + j ≤ g (244 * n + 4) + g (244 * n + 8) → cmF n j (st g (244 * n + 9) c) = st (growF n j g (c + 1)) (244 * n + 9) (c + j)
  | 0, g, c, hC, a1, a2 => by
    show st g _ c = st g _ (c + ((0 : Nat) : Int))
    rw [show c + ((0 : Nat) : Int) = c by omega]
  | j + 1, g, c, hC, a1, a2 => by
    have hb := hC.1.1
    have hE := hC.1.2 (c + 1) (by omega) (by omega)
    have e9 : st g (244 * n + 9) c (244 * n + 9) = c := st_eq _ _ _
    unfold cmF
    rw [e9, st_st, seen_st9 (by omega) (by omega) (by omega) (by omega) (by omega) hE]
    have hC1 := seenG_Cm hC (i := c + 1) (by omega) (by omega)
    have o := fun x => seenG_ne (g := g) (n := n) (i := c + 1) (x := x) hE
    rw [cm_grow j (seenG g n (c + 1)) (c + 1) hC1 (by rw [o _ (by omega) (by omega) (by omega) (by omega) (by omega)]; omega) (by rw [o _ (by omega) (by omega) (by omega) (by omega) (by omega), o _ (by omega) (by omega) (by omega) (by omega) (by omega)]; omega)]
    show st (growF n j (seenG g n (c + 1)) (c + 1 + 1)) _ _ = st (growF n j (seenG g n (c + 1)) (c + 1 + 1)) _ _
    rw [show c + 1 + (j : Int) = c + ((j + 1 : Nat) : Int) by omega]
theorem t_commits_7 (hL : LyC B M) {n t : Int} (n0 : 0 ≤ n) (n1 : n < 7) (t1 : -2147483648 ≤ t ∧ t ≤ 2147483647) : ∀ (j : Nat) (h g : Row) (fu : Nat), Rel h g → BdA g → CmA g n → HcA g → g (244 * n + 9) ≤ g 11134 → 0 ≤ g 11138 → (t - g (244 * n + 9)).toNat = j → t ≤ g (244 * n + 4) + g (244 * n + 8) → KyA g n → j < fu →
    ∃ h', sX3_commits_7 fu (some B) (iI t) (some (ndA B n)) (tl B h C Hd Mo M) = some ((), tl B h' C Hd Mo M) ∧ Rel h' (cmF n j g)
  | 0, h, g, fu + 1, r, b, hC, hc, a1, a2, a4, a5, hk, a6 => by
    have hb := hC.1.1
    have w9 := (r.nd n n0 n1).s 9 (by omega) (by omega)
    refine ⟨h, ?_, r⟩
    simp (disch := first | assumption | omega) only [sX3_commits_7, sX3_commits_7b, z10, z00, if_true, if_false, iv_add, iv_sub, iv_mul, iv_le, iv_lt, iv_eq, iv_mx, iv_mn, bI_z, bI_o, rZ0, rZ1, rZb, cl_some', lt_eq, rm_eq, dv_eq, iv_01, iv_10, the, lastA, lpA, st_eq, st_ne, sh_addM, cV_cl, cV_nd, cV_mo, cV_lt, gR_t0, aR_nd, gR_c0, gR_c1, gR_c2, gR_c3, gR_c4, gR_c5, gR_c6, gR_c15, gR_c16, gI_c7, pI_c7, gI_c8, pI_c8, gI_c9, pI_c9, gI_c10, pI_c10, gI_c11, pI_c11, gI_c12, pI_c12, gI_c13, pI_c13, gI_c14, pI_c14, gN_9, gN_10, gN_11, gN_12, gN_13, gN_14, gN_15, gN_16, gN_17, gN_18, gN_19, gN_20, gN_21, gN_22, gN_23, pN_9, pN_10, pN_11, pN_12, pN_13, pN_14, pN_15, pN_16, pN_17, pN_18, pN_19, pN_20, pN_21, pN_22, pZ_0, pZ_1, gR_n0, aI_n0, sI_n0, gR_n1, aI_n1, sI_n1, gR_n2, aI_n2, sI_n2, gR_n3, aI_n3, sI_n3, gR_n4, aI_n4, sI_n4, gR_n5, aI_n5, sI_n5, gR_n6, aI_n6, sI_n6, gR_n7, aI_n7, sI_n7, gR_n8, aI_n8, sI_n8, aR_s, aI_s, sI_s, aR_h, aI_h, sI_h, aR_r, aI_r, sI_r, aI_c, sI_c, aI_l, sI_l, aI_ca, aI_ha, sI_ca, sI_ha, gI_mo, pI_mo, w9]
    rw [if_pos (by omega)]
  | j + 1, h, g, fu + 1, r, b, hC, hc, a1, a2, a4, a5, hk, a6 => by
    have hb := hC.1.1
    have hG := hC.2.2
    have w9 := (r.nd n n0 n1).s 9 (by omega) (by omega)
    obtain ⟨c, hcc⟩ : ∃ c, g (244 * n + 9) = c := ⟨_, rfl⟩
    have o : ∀ (f : Row) x, ¬ x = 244 * n + 9 → st f (244 * n + 9) (c + 1) x = f x := fun f x a => st_ne a
    have r1 : Rel (st h (244 * n + 9) (c + 1)) (st g (244 * n + 9) (c + 1)) := by
      refine r.plain b (fun x y z => ?_) (fun x y => o _ _ (by omega)) (fun x y z => o _ _ (by omega))
      by_cases d : x = 244 * n + 9
      · rw [d, st_eq, st_eq]
        exact Or.inr ⟨rfl, fun m m0 m1 => by omega, by omega, by omega, by omega, by omega⟩
      · exact Or.inl ⟨st_ne d, st_ne d⟩
    have b1 : BdA (st g (244 * n + 9) (c + 1)) := ⟨fun m m0 m1 => by rw [o _ _ (by omega)]; exact b.1 m m0 m1, GlA_blk (fun x _ => o _ _ (by omega)) hG⟩
    have hL1 : LgA (st g (244 * n + 9) (c + 1)) n := by
      unfold LgA
      rw [o g (244 * n + 4) (by omega), o g (244 * n + 5) (by omega), o g (244 * n + 6) (by omega), o g (244 * n + 7) (by omega), o g (244 * n + 8) (by omega), st_eq]
      refine ⟨by omega, fun i p q => ?_⟩
      have := hC.1.2 i p q
      unfold EntA at this ⊢
      rw [o g _ (by omega), o g _ (by omega), o g _ (by omega), o g _ (by omega)]
      exact this
    have hC1 : CmA (st g (244 * n + 9) (c + 1)) n := ⟨hL1, fun x p q => by rw [o g _ (by omega)]; exact hC.2.1 x p q, b1.2⟩
    have hc1 : HcA (st g (244 * n + 9) (c + 1)) := fun i p q => by rw [o g _ (by omega), o g _ (by omega)]; exact hc i p q
    have hk1 : KyA (st g (244 * n + 9) (c + 1)) n := fun x p q => by rw [o g _ (by omega)]; exact hk x p q
    have o4 := o g (244 * n + 4) (by omega)
    have o8 := o g (244 * n + 8) (by omega)
    have o34 := o g 11134 (by omega)
    have o38 := o g 11138 (by omega)
    have e9 : st g (244 * n + 9) (c + 1) (244 * n + 9) = c + 1 := st_eq _ _ _
    obtain ⟨h2, y1, y2⟩ := t_seen (C := C) (Hd := Hd) (Mo := Mo) hL r1 b1 (n := n) (i := c + 1) hC1 (by omega) (by omega) (by omega) (by omega) hc1 (by rw [o38]; exact a2)
    obtain ⟨u1, u2, u3, u4, u5, u6⟩ := seen_inv hC1 (i := c + 1) (by omega) (by omega) (by omega) (by omega) hc1 hk1 (by omega)
    have hE1 := hL1.2 (c + 1) (by omega) (by omega)
    have v := fun x => seenG_ne (g := st g (244 * n + 9) (c + 1)) (n := n) (i := c + 1) (x := x) hE1
    have hC2 := seenG_Cm hC1 (i := c + 1) (by omega) (by omega)
    have v4 := v (244 * n + 4) (by omega) (by omega) (by omega) (by omega) (by omega)
    have v8 := v (244 * n + 8) (by omega) (by omega) (by omega) (by omega) (by omega)
    have v9 := v (244 * n + 9) (by omega) (by omega) (by omega) (by omega) (by omega)
    have b2 : BdA (seenG (st g (244 * n + 9) (c + 1)) n (c + 1)) := ⟨fun m m0 m1 => by rw [v _ (by omega) (by omega) (by omega) (by omega) (by omega), o g _ (by omega)]; exact b.1 m m0 m1, hC2.2.2⟩
    obtain ⟨h3, z1, z2⟩ := t_commits_7 hL n0 n1 t1 j h2 _ fu y2 b2 hC2 u1 (by omega) u4 (by omega) (by omega) u2 (by omega)
    refine ⟨h3, ?_, ?_⟩
    · show sX3_commits_7b (sX3_commits_7 fu) _ _ _ _ = _
      generalize sX3_commits_7 fu = K at z1 ⊢
      simp (disch := first | assumption | omega) only [sX3_commits_7b, z10, z00, if_true, if_false, iv_add, iv_sub, iv_mul, iv_le, iv_lt, iv_eq, iv_mx, iv_mn, bI_z, bI_o, rZ0, rZ1, rZb, cl_some', lt_eq, rm_eq, dv_eq, iv_01, iv_10, the, lastA, lpA, st_eq, st_ne, sh_addM, cV_cl, cV_nd, cV_mo, cV_lt, gR_t0, aR_nd, gR_c0, gR_c1, gR_c2, gR_c3, gR_c4, gR_c5, gR_c6, gR_c15, gR_c16, gI_c7, pI_c7, gI_c8, pI_c8, gI_c9, pI_c9, gI_c10, pI_c10, gI_c11, pI_c11, gI_c12, pI_c12, gI_c13, pI_c13, gI_c14, pI_c14, gN_9, gN_10, gN_11, gN_12, gN_13, gN_14, gN_15, gN_16, gN_17, gN_18, gN_19, gN_20, gN_21, gN_22, gN_23, pN_9, pN_10, pN_11, pN_12, pN_13, pN_14, pN_15, pN_16, pN_17, pN_18, pN_19, pN_20, pN_21, pN_22, pZ_0, pZ_1, gR_n0, aI_n0, sI_n0, gR_n1, aI_n1, sI_n1, gR_n2, aI_n2, sI_n2, gR_n3, aI_n3, sI_n3, gR_n4, aI_n4, sI_n4, gR_n5, aI_n5, sI_n5, gR_n6, aI_n6, sI_n6, gR_n7, aI_n7, sI_n7, gR_n8, aI_n8, sI_n8, aR_s, aI_s, sI_s, aR_h, aI_h, sI_h, aR_r, aI_r, sI_r, aI_c, sI_c, aI_l, sI_l, aI_ca, aI_ha, sI_ca, sI_ha, gI_mo, pI_mo, w9, hcc, y1]
      rw [if_neg (by omega)]
      exact z1
    · unfold cmF
      rw [hcc]
      exact z2
theorem t_commits (hL : LyC B M) (r : Rel h g) (I : InvS g hs FL R D) {n t : Int} (n0 : 0 ≤ n) (n1 : n < 7) (t1 : -2147483648 ≤ t) (t2 : t ≤ g (244 * n + 4) + g (244 * n + 8)) :
    ∃ h', sX3_commits (some B) (iI n) (iI t) (tl B h C Hd Mo M) = some ((), tl B h' C Hd Mo M) ∧ Rel h' (growG g n t) := by
  obtain ⟨⟨s1, s2⟩, ky, _⟩ := I.na n n0 n1
  have hC := I.cm n0 n1
  obtain ⟨h2, y1, y2⟩ := t_commits_7 (C := C) (Hd := Hd) (Mo := Mo) hL n0 n1 (t := t) (by omega) (t - g (244 * n + 9)).toNat h g FU r I.bd hC I.hc (by omega) I.dd.2.1 rfl t2 ky (by unfold FU; omega)
  refine ⟨h2, ?_, ?_⟩
  · simp (disch := first | assumption | omega) only [sX3_commits, z10, z00, if_true, if_false, iv_add, iv_sub, iv_mul, iv_le, iv_lt, iv_eq, iv_mx, iv_mn, bI_z, bI_o, rZ0, rZ1, rZb, cl_some', lt_eq, rm_eq, dv_eq, iv_01, iv_10, the, lastA, lpA, st_eq, st_ne, sh_addM, cV_cl, cV_nd, cV_mo, cV_lt, gR_t0, aR_nd, gR_c0, gR_c1, gR_c2, gR_c3, gR_c4, gR_c5, gR_c6, gR_c15, gR_c16, gI_c7, pI_c7, gI_c8, pI_c8, gI_c9, pI_c9, gI_c10, pI_c10, gI_c11, pI_c11, gI_c12, pI_c12, gI_c13, pI_c13, gI_c14, pI_c14, gN_9, gN_10, gN_11, gN_12, gN_13, gN_14, gN_15, gN_16, gN_17, gN_18, gN_19, gN_20, gN_21, gN_22, gN_23, pN_9, pN_10, pN_11, pN_12, pN_13, pN_14, pN_15, pN_16, pN_17, pN_18, pN_19, pN_20, pN_21, pN_22, pZ_0, pZ_1, gR_n0, aI_n0, sI_n0, gR_n1, aI_n1, sI_n1, gR_n2, aI_n2, sI_n2, gR_n3, aI_n3, sI_n3, gR_n4, aI_n4, sI_n4, gR_n5, aI_n5, sI_n5, gR_n6, aI_n6, sI_n6, gR_n7, aI_n7, sI_n7, gR_n8, aI_n8, sI_n8, aR_s, aI_s, sI_s, aR_h, aI_h, sI_h, aR_r, aI_r, sI_r, aI_c, sI_c, aI_l, sI_l, aI_ca, aI_ha, sI_ca, sI_ha, gI_mo, pI_mo]
    exact y1
  · have e : growG g n t = cmF n (t - g (244 * n + 9)).toNat g := by
      have e1 : st g (244 * n + 9) (g (244 * n + 9)) = g := by
        funext x
        unfold st
        split
        · rename_i q; rw [q]
        · rfl
      unfold growG
      simp only [the]
      by_cases c : g (244 * n + 9) ≤ t
      · have := cm_grow (t - g (244 * n + 9)).toNat g (g (244 * n + 9)) hC (Int.le_refl _) (by omega)
        rw [e1] at this
        rw [this]
        congr 1
        omega
      · rw [show (t - g (244 * n + 9)).toNat = 0 by omega, show max (g (244 * n + 9)) t = g (244 * n + 9) by omega]
        exact e1
    rw [e]
    exact y2
end
