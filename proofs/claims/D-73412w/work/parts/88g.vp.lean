/-! DEPS: vo -/
/-! VP: TermLog hears answers, answers reads -/
section
variable {B : Nat} {h g C Hd Mo : Row} {M : Mem} {Λ : Law} {hs : His} {FL : Int → ELog} {R : Int} {D : DK}
/-- a read is answered -/
theorem Rel.answ (r : Rel h g) (b : BdA g) {q v : Int} (q0 : 0 ≤ q) (q1 : q < g 11135) : Rel (st (st h (11028 + 6 * q + 4) 1) (11028 + 6 * q + 5) v) (st (st g (11028 + 6 * q + 4) 1) (11028 + 6 * q + 5) v) := by
  obtain ⟨b1, hG⟩ := b
  obtain ⟨_, _, _, _, _, _, _, _, _, _, _, _⟩ := hG
  have o : ∀ (f : Row) x, ¬ x = 11028 + 6 * q + 4 → ¬ x = 11028 + 6 * q + 5 → st (st f (11028 + 6 * q + 4) 1) (11028 + 6 * q + 5) v x = f x := fun f x a c => by rw [st_ne c, st_ne a]
  have o4 : ∀ (f : Row), st (st f (11028 + 6 * q + 4) 1) (11028 + 6 * q + 5) v (11028 + 6 * q + 4) = 1 := fun f => by rw [st_ne (by omega), st_eq]
  have o5 : ∀ (f : Row), st (st f (11028 + 6 * q + 4) 1) (11028 + 6 * q + 5) v (11028 + 6 * q + 5) = v := fun f => st_eq _ _ _
  refine ⟨fun m m0 m1 => (r.nd m m0 m1).keep (fun x _ _ => o h x (by omega) (by omega)) (fun x _ _ => o g x (by omega) (by omega)) (b1 m m0 m1), fun i a c w w0 w1 => ?_, fun x a c => by rw [o h x (by omega) (by omega), o g x (by omega) (by omega)]; exact r.ld x a c, fun p a c => ?_, fun x a c => by rw [o h x (by omega) (by omega), o g x (by omega) (by omega)]; exact r.ct x a c, fun x a c => by rw [o h x (by omega) (by omega), o g x (by omega) (by omega)]; exact r.gl x a c, fun i a c => ?_⟩
  · rw [o g _ (by omega) (by omega)] at c
    rw [o h _ (by omega) (by omega), o g _ (by omega) (by omega)]
    exact r.hl i a c w w0 w1
  · rw [o g _ (by omega) (by omega)] at c
    obtain ⟨z1, z2, z3⟩ := r.rd p a c
    by_cases d : p = q
    · rw [d] at z1 ⊢
      rw [o4, o5, o5]
      refine ⟨fun w w0 w1 => ?_, fun _ => rfl, fun x => absurd rfl x⟩
      by_cases w4 : w = 4
      · rw [w4, o4, o4]
      · rw [o h _ (by omega) (by omega), o g _ (by omega) (by omega)]
        exact z1 w w0 w1
    · refine ⟨fun w w0 w1 => ?_, fun x => ?_, fun x => ?_⟩
      · rw [o h _ (by omega) (by omega), o g _ (by omega) (by omega)]
        exact z1 w w0 w1
      · rw [o g _ (by omega) (by omega)] at x
        rw [o h _ (by omega) (by omega), o g _ (by omega) (by omega)]
        exact z2 x
      · rw [o g _ (by omega) (by omega)] at x
        rw [o h _ (by omega) (by omega)]
        exact z3 x
  · rw [o g _ (by omega) (by omega)] at c
    obtain ⟨z1, z2⟩ := r.ml i a c
    exact ⟨MR_ext z1 (fun f f0 f1 _ => o h _ (by omega) (by omega)) (fun w w0 w1 _ => o g _ (by omega) (by omega)), by show st _ _ _ _ = st _ _ _ _; rw [o h _ (by omega) (by omega), o g _ (by omega) (by omega)]; exact z2⟩
theorem Rel.broke (r : Rel h g) (b : BdA g) : Rel (breakG h) (breakG g) := by
  have e3 := r.gl 11136 (by omega) (by omega)
  unfold breakG
  rw [e3]
  refine r.plain b (fun x y z => ?_) (fun x y => st_ne (by omega)) (fun x y z => st_ne (by omega))
  by_cases d : x = 11136
  · rw [d, st_eq, st_eq]
    exact Or.inr ⟨rfl, fun m m0 m1 => by omega, by omega, by omega, by omega, by omega⟩
  · exact Or.inl ⟨st_ne d, st_ne d⟩
theorem t_reads_9 (hL : LyC B M) {n : Int} (n0 : 0 ≤ n) (n1 : n < 7) : ∀ (j : Nat) (h g : Row) (r : Int) (fu : Nat), Rel h g → InvS g hs FL R D → g (244 * n + 3) = 2 → g 11135 - r = j → 0 ≤ r → j < fu →
    ∃ h', sX3_answersReads_9 fu (some B) (iI n) (some (ndA B n)) (iI r) (tl B h C Hd Mo M) = some ((), tl B h' C Hd Mo M) ∧ Rel h' (readF n j g r)
  | 0, h, g, r, fu + 1, rel, I, hr, e1, e2, e3 => by
    have hA := I.ar
    have e35 := rel.gl 11135 (by omega) (by omega)
    refine ⟨h, ?_, rel⟩
    simp (disch := first | assumption | omega) only [sX3_answersReads_9, sX3_answersReads_9b, z10, z00, if_true, if_false, iv_add, iv_sub, iv_mul, iv_le, iv_lt, iv_eq, iv_mx, iv_mn, bI_z, bI_o, rZ0, rZ1, rZb, cl_some', lt_eq, rm_eq, dv_eq, iv_01, iv_10, the, lastA, lpA, st_eq, st_ne, sh_addM, cV_cl, cV_nd, cV_mo, cV_lt, gR_t0, aR_nd, gR_c0, gR_c1, gR_c2, gR_c3, gR_c4, gR_c5, gR_c6, gR_c15, gR_c16, gI_c7, pI_c7, gI_c8, pI_c8, gI_c9, pI_c9, gI_c10, pI_c10, gI_c11, pI_c11, gI_c12, pI_c12, gI_c13, pI_c13, gI_c14, pI_c14, gN_9, gN_10, gN_11, gN_12, gN_13, gN_14, gN_15, gN_16, gN_17, gN_18, gN_19, gN_20, gN_21, gN_22, gN_23, pN_9, pN_10, pN_11, pN_12, pN_13, pN_14, pN_15, pN_16, pN_17, pN_18, pN_19, pN_20, pN_21, pN_22, pZ_0, pZ_1, gR_n0, aI_n0, sI_n0, gR_n1, aI_n1, sI_n1, gR_n2, aI_n2, sI_n2, gR_n3, aI_n3, sI_n3, gR_n4, aI_n4, sI_n4, gR_n5, aI_n5, sI_n5, gR_n6, aI_n6, sI_n6, gR_n7, aI_n7, sI_n7, gR_n8, aI_n8, sI_n8, aR_s, aI_s, sI_s, aR_h, aI_h, sI_h, aR_r, aI_r, sI_r, aI_c, sI_c, aI_l, sI_l, aI_ca, aI_ha, sI_ca, sI_ha, gI_mo, pI_mo, e35]
    rw [if_pos (by omega)]
  | j + 1, h, g, r, fu + 1, rel, I, hr, e1, e2, e3 => by
    have hA := I.ar
    have hg := I.lg n0 n1
    have hH := I.ho n0 n1 hr
    obtain ⟨⟨s1, s2⟩, _⟩ := I.na n n0 n1
    obtain ⟨d0, d1, d2, d3, d4, d5, d6, d7, d8, d9⟩ := I.rd r e2 (by omega)
    have rn := rel.nd n n0 n1
    have w9 := rn.s 9 (by omega) (by omega)
    have e35 := rel.gl 11135 (by omega) (by omega)
    have e36 := rel.gl 11136 (by omega) (by omega)
    obtain ⟨z1, z2, z3⟩ := rel.rd r e2 (by omega)
    have y0 := z1 0 (by omega) (by omega)
    have y1 := z1 1 (by omega) (by omega)
    have y2 := z1 2 (by omega) (by omega)
    have y3 := z1 3 (by omega) (by omega)
    have y4 := z1 4 (by omega) (by omega)
    have y0' : h (11028 + 6 * r + 0) = g (11028 + 6 * r) := by rw [y0, Int.add_zero]
    have yk := rn.t (15 + g (11028 + 6 * r + 1)) (by omega) (by omega)
    have I1 := InvS.readK (n := n) 1 g r I e2 (by omega)
    have e : readF n (j + 1) g r = readF n j (readF n 1 g r) (r + 1) := rfl
    have x1 := t_withHeard (C := C) (Hd := Hd) (Mo := Mo) hL rel I n0 n1 hr (i := g (11028 + 6 * r + 2)) (by omega)
    have wr : 0 ≤ whoHeardA g n (g (11028 + 6 * r + 2)) ∧ whoHeardA g n (g (11028 + 6 * r + 2)) < 128 := by
      have q : ∀ (j : Nat) (s k : Int), 0 ≤ k → k + j ≤ 7 → 0 ≤ s → s < 128 → 0 ≤ whoF g n 45 (g (11028 + 6 * r + 2)) j s k ∧ whoF g n 45 (g (11028 + 6 * r + 2)) j s k < 128 := by
        intro j
        induction j with
        | zero => intro s k _ _ a b; exact ⟨a, b⟩
        | succ j ih =>
          intro s k k0 k1 a b
          unfold whoF
          have hb := bitR k0 (show k < 7 by omega)
          split
          · have := orR a b (show 0 ≤ bitI k by omega) hb.2
            exact ih _ (k + 1) (by omega) (by omega) this.1 this.2
          · exact ih _ (k + 1) (by omega) (by omega) a b
      have hb := bitR n0 n1
      exact q 7 (bitI n) 0 (by omega) (by omega) (by omega) hb.2
    have x2 := t_isMajority (C := C) (Hd := Hd) (Mo := Mo) hL (rn.lg hg) wr.1 wr.2
    rw [bI_c (rn.most hg)] at x2
    have r0 : 11032 + 6 * r = 11028 + 6 * r + 4 := by omega
    have r1 : 11030 + 6 * r = 11028 + 6 * r + 2 := by omega
    have r2 : 11029 + 6 * r = 11028 + 6 * r + 1 := by omega
    have r3 : 11033 + 6 * r = 11028 + 6 * r + 5 := by omega
    have r4 : 11031 + 6 * r = 11028 + 6 * r + 3 := by omega
    rw [e]
    have hk := fun hh gg (q0 : Rel hh gg) (q1 : InvS gg hs FL R D) (q2 : gg (244 * n + 3) = 2) (q3 : gg 11135 = g 11135) => t_reads_9 hL n0 n1 j hh gg (r + 1) fu q0 q1 q2 (by rw [q3]; omega) (by omega) (by omega)
    have u1 : readF n 1 g r = if g (11028 + 6 * r) = n ∧ g (11032 + 6 * r) = 0 ∧ mostA g n (whoHeardA g n (g (11030 + 6 * r))) then
      (let h := st (st g (11032 + 6 * r) 1) (11033 + 6 * r) (the g n (15 + g (11029 + 6 * r)))
       if the h n 9 < h (11031 + 6 * r) then breakG h else h) else g := rfl
    rw [r0, r1, r2, r3, r4] at u1
    rw [u1] at I1 ⊢
    show ∃ h', sX3_answersReads_9b (sX3_answersReads_9 fu) _ _ _ _ _ = _ ∧ _
    generalize sX3_answersReads_9 fu = K at hk ⊢
    by_cases c1 : g (11028 + 6 * r) = n
    · by_cases c2 : g (11028 + 6 * r + 4) = 0
      · by_cases c3 : mostA g n (whoHeardA g n (g (11028 + 6 * r + 2)))
        · have hP : g (11028 + 6 * r) = n ∧ g (11028 + 6 * r + 4) = 0 ∧ mostA g n (whoHeardA g n (g (11028 + 6 * r + 2))) := ⟨c1, c2, c3⟩
          rw [if_pos hP] at I1 ⊢
          simp only [the] at I1 ⊢
          have rA := rel.answ I.bd (q := r) (v := g (244 * n + (15 + g (11028 + 6 * r + 1)))) e2 (by omega)
          have o : ∀ (f : Row) x, ¬ x = 11028 + 6 * r + 4 → ¬ x = 11028 + 6 * r + 5 → st (st f (11028 + 6 * r + 4) 1) (11028 + 6 * r + 5) (g (244 * n + (15 + g (11028 + 6 * r + 1)))) x = f x := fun f x a c => by rw [st_ne c, st_ne a]
          have bA : BdA (st (st g (11028 + 6 * r + 4) 1) (11028 + 6 * r + 5) (g (244 * n + (15 + g (11028 + 6 * r + 1))))) := by
            obtain ⟨b1, b2⟩ := I.bd
            exact ⟨fun m m0 m1 => by rw [o _ _ (by omega) (by omega)]; exact b1 m m0 m1, GlA_blk (fun x _ => o _ _ (by omega) (by omega)) b2⟩
          have oh9 := o h (244 * n + 9) (by omega) (by omega)
          have oh36 := o h 11136 (by omega) (by omega)
          have oh3 := o h (11028 + 6 * r + 3) (by omega) (by omega)
          have rB := rA.broke bA
          have og9 := o g (244 * n + 9) (by omega) (by omega)
          have og3 := o g (11028 + 6 * r + 3) (by omega) (by omega)
          have og35 := o g 11135 (by omega) (by omega)
          have ogr := o g (244 * n + 3) (by omega) (by omega)
          have yk' : h (244 * n + (15 + g (11028 + 6 * r + 1))) = g (244 * n + (15 + g (11028 + 6 * r + 1))) := yk
          obtain ⟨hX, hh⟩ : ∃ hX, st (st h (11028 + 6 * r + 4) 1) (11028 + 6 * r + 5) (g (244 * n + (15 + g (11028 + 6 * r + 1)))) = hX := ⟨_, rfl⟩
          have z98 : ∀ d : Int, sX3_answersReads_98 K (some B) (iI n) (some (ndA B n)) (iI r) (some B) (iI (h 11136)) (iI d) (tl B hX C Hd Mo M) = K (some B) (iI n) (some (ndA B n)) (iI (r + 1)) (tl B (st hX 11136 (h 11136 + d)) C Hd Mo M) := by
            intro d
            simp (disch := first | assumption | omega) only [sX3_answersReads_98, sX3_answersReads_102, z10, z00, if_true, if_false, iv_add, iv_sub, iv_mul, iv_le, iv_lt, iv_eq, iv_mx, iv_mn, bI_z, bI_o, rZ0, rZ1, rZb, cl_some', lt_eq, rm_eq, dv_eq, iv_01, iv_10, the, lastA, lpA, st_eq, st_ne, sh_addM, cV_cl, cV_nd, cV_mo, cV_lt, gR_t0, aR_nd, gR_c0, gR_c1, gR_c2, gR_c3, gR_c4, gR_c5, gR_c6, gR_c15, gR_c16, gI_c7, pI_c7, gI_c8, pI_c8, gI_c9, pI_c9, gI_c10, pI_c10, gI_c11, pI_c11, gI_c12, pI_c12, gI_c13, pI_c13, gI_c14, pI_c14, gN_9, gN_10, gN_11, gN_12, gN_13, gN_14, gN_15, gN_16, gN_17, gN_18, gN_19, gN_20, gN_21, gN_22, gN_23, pN_9, pN_10, pN_11, pN_12, pN_13, pN_14, pN_15, pN_16, pN_17, pN_18, pN_19, pN_20, pN_21, pN_22, pZ_0, pZ_1, gR_n0, aI_n0, sI_n0, gR_n1, aI_n1, sI_n1, gR_n2, aI_n2, sI_n2, gR_n3, aI_n3, sI_n3, gR_n4, aI_n4, sI_n4, gR_n5, aI_n5, sI_n5, gR_n6, aI_n6, sI_n6, gR_n7, aI_n7, sI_n7, gR_n8, aI_n8, sI_n8, aR_s, aI_s, sI_s, aR_h, aI_h, sI_h, aR_r, aI_r, sI_r, aI_c, sI_c, aI_l, sI_l, aI_ca, aI_ha, sI_ca, sI_ha, gI_mo, pI_mo]
          have w3 := y3
          rw [hh] at rA rB oh36 oh9 oh3
          by_cases c4 : g (244 * n + 9) < g (11028 + 6 * r + 3)
          · rw [og9, og3, if_pos c4] at I1 ⊢
            obtain ⟨h', q1, q2⟩ := hk _ _ rB I1 (by unfold breakG; rw [st_ne (by omega), ogr]; exact hr) (by unfold breakG; rw [st_ne (by omega), og35])
            refine ⟨h', ?_, q2⟩
            simp (disch := first | assumption | omega) only [sX3_answersReads_9b, z10, z00, if_true, if_false, iv_add, iv_sub, iv_mul, iv_le, iv_lt, iv_eq, iv_mx, iv_mn, bI_z, bI_o, rZ0, rZ1, rZb, cl_some', lt_eq, rm_eq, dv_eq, iv_01, iv_10, the, lastA, lpA, st_eq, st_ne, sh_addM, cV_cl, cV_nd, cV_mo, cV_lt, gR_t0, aR_nd, gR_c0, gR_c1, gR_c2, gR_c3, gR_c4, gR_c5, gR_c6, gR_c15, gR_c16, gI_c7, pI_c7, gI_c8, pI_c8, gI_c9, pI_c9, gI_c10, pI_c10, gI_c11, pI_c11, gI_c12, pI_c12, gI_c13, pI_c13, gI_c14, pI_c14, gN_9, gN_10, gN_11, gN_12, gN_13, gN_14, gN_15, gN_16, gN_17, gN_18, gN_19, gN_20, gN_21, gN_22, gN_23, pN_9, pN_10, pN_11, pN_12, pN_13, pN_14, pN_15, pN_16, pN_17, pN_18, pN_19, pN_20, pN_21, pN_22, pZ_0, pZ_1, gR_n0, aI_n0, sI_n0, gR_n1, aI_n1, sI_n1, gR_n2, aI_n2, sI_n2, gR_n3, aI_n3, sI_n3, gR_n4, aI_n4, sI_n4, gR_n5, aI_n5, sI_n5, gR_n6, aI_n6, sI_n6, gR_n7, aI_n7, sI_n7, gR_n8, aI_n8, sI_n8, aR_s, aI_s, sI_s, aR_h, aI_h, sI_h, aR_r, aI_r, sI_r, aI_c, sI_c, aI_l, sI_l, aI_ca, aI_ha, sI_ca, sI_ha, gI_mo, pI_mo, e35, y0', y1, y2, y3, y4, x1, x2, yk', hh, oh9, oh3, oh36, w9]
            rw [if_neg (by omega), if_pos c1, if_pos c2, if_neg (fun hc => hc c3), if_neg (by omega), z98, ← oh36]
            exact q1
          · rw [og9, og3, if_neg c4] at I1 ⊢
            obtain ⟨h', q1, q2⟩ := hk _ _ rA I1 (by rw [ogr]; exact hr) (by rw [og35])
            refine ⟨h', ?_, q2⟩
            have es : st hX 11136 (hX 11136 + 0) = hX := by
              funext x
              by_cases d : x = 11136
              · rw [d, st_eq, Int.add_zero]
              · rw [st_ne d]
            simp (disch := first | assumption | omega) only [sX3_answersReads_9b, z10, z00, if_true, if_false, iv_add, iv_sub, iv_mul, iv_le, iv_lt, iv_eq, iv_mx, iv_mn, bI_z, bI_o, rZ0, rZ1, rZb, cl_some', lt_eq, rm_eq, dv_eq, iv_01, iv_10, the, lastA, lpA, st_eq, st_ne, sh_addM, cV_cl, cV_nd, cV_mo, cV_lt, gR_t0, aR_nd, gR_c0, gR_c1, gR_c2, gR_c3, gR_c4, gR_c5, gR_c6, gR_c15, gR_c16, gI_c7, pI_c7, gI_c8, pI_c8, gI_c9, pI_c9, gI_c10, pI_c10, gI_c11, pI_c11, gI_c12, pI_c12, gI_c13, pI_c13, gI_c14, pI_c14, gN_9, gN_10, gN_11, gN_12, gN_13, gN_14, gN_15, gN_16, gN_17, gN_18, gN_19, gN_20, gN_21, gN_22, gN_23, pN_9, pN_10, pN_11, pN_12, pN_13, pN_14, pN_15, pN_16, pN_17, pN_18, pN_19, pN_20, pN_21, pN_22, pZ_0, pZ_1, gR_n0, aI_n0, sI_n0, gR_n1, aI_n1, sI_n1, gR_n2, aI_n2, sI_n2, gR_n3, aI_n3, sI_n3, gR_n4, aI_n4, sI_n4, gR_n5, aI_n5, sI_n5, gR_n6, aI_n6, sI_n6, gR_n7, aI_n7, sI_n7, gR_n8, aI_n8, sI_n8, aR_s, aI_s, sI_s, aR_h, aI_h, sI_h, aR_r, aI_r, sI_r, aI_c, sI_c, aI_l, sI_l, aI_ca, aI_ha, sI_ca, sI_ha, gI_mo, pI_mo, e35, y0', y1, y2, y3, y4, x1, x2, yk', hh, oh9, oh3, oh36, w9]
            rw [if_neg (by omega), if_pos c1, if_pos c2, if_neg (fun hc => hc c3), if_pos (by omega), z98, ← oh36, es]
            exact q1
        · rw [if_neg (fun hc => c3 hc.2.2)] at I1 ⊢
          obtain ⟨h', q1, q2⟩ := hk h g rel I1 hr rfl
          refine ⟨h', ?_, q2⟩
          simp (disch := first | assumption | omega) only [sX3_answersReads_9b, sX3_answersReads_102, z10, z00, if_true, if_false, iv_add, iv_sub, iv_mul, iv_le, iv_lt, iv_eq, iv_mx, iv_mn, bI_z, bI_o, rZ0, rZ1, rZb, cl_some', lt_eq, rm_eq, dv_eq, iv_01, iv_10, the, lastA, lpA, st_eq, st_ne, sh_addM, cV_cl, cV_nd, cV_mo, cV_lt, gR_t0, aR_nd, gR_c0, gR_c1, gR_c2, gR_c3, gR_c4, gR_c5, gR_c6, gR_c15, gR_c16, gI_c7, pI_c7, gI_c8, pI_c8, gI_c9, pI_c9, gI_c10, pI_c10, gI_c11, pI_c11, gI_c12, pI_c12, gI_c13, pI_c13, gI_c14, pI_c14, gN_9, gN_10, gN_11, gN_12, gN_13, gN_14, gN_15, gN_16, gN_17, gN_18, gN_19, gN_20, gN_21, gN_22, gN_23, pN_9, pN_10, pN_11, pN_12, pN_13, pN_14, pN_15, pN_16, pN_17, pN_18, pN_19, pN_20, pN_21, pN_22, pZ_0, pZ_1, gR_n0, aI_n0, sI_n0, gR_n1, aI_n1, sI_n1, gR_n2, aI_n2, sI_n2, gR_n3, aI_n3, sI_n3, gR_n4, aI_n4, sI_n4, gR_n5, aI_n5, sI_n5, gR_n6, aI_n6, sI_n6, gR_n7, aI_n7, sI_n7, gR_n8, aI_n8, sI_n8, aR_s, aI_s, sI_s, aR_h, aI_h, sI_h, aR_r, aI_r, sI_r, aI_c, sI_c, aI_l, sI_l, aI_ca, aI_ha, sI_ca, sI_ha, gI_mo, pI_mo, e35, y0', y2, y4, x1, x2]
          rw [if_neg (by omega), if_pos c1, if_pos c2, if_pos c3]
          exact q1
      · rw [if_neg (fun hc => c2 hc.2.1)] at I1 ⊢
        obtain ⟨h', q1, q2⟩ := hk h g rel I1 hr rfl
        refine ⟨h', ?_, q2⟩
        simp (disch := first | assumption | omega) only [sX3_answersReads_9b, sX3_answersReads_102, z10, z00, if_true, if_false, iv_add, iv_sub, iv_mul, iv_le, iv_lt, iv_eq, iv_mx, iv_mn, bI_z, bI_o, rZ0, rZ1, rZb, cl_some', lt_eq, rm_eq, dv_eq, iv_01, iv_10, the, lastA, lpA, st_eq, st_ne, sh_addM, cV_cl, cV_nd, cV_mo, cV_lt, gR_t0, aR_nd, gR_c0, gR_c1, gR_c2, gR_c3, gR_c4, gR_c5, gR_c6, gR_c15, gR_c16, gI_c7, pI_c7, gI_c8, pI_c8, gI_c9, pI_c9, gI_c10, pI_c10, gI_c11, pI_c11, gI_c12, pI_c12, gI_c13, pI_c13, gI_c14, pI_c14, gN_9, gN_10, gN_11, gN_12, gN_13, gN_14, gN_15, gN_16, gN_17, gN_18, gN_19, gN_20, gN_21, gN_22, gN_23, pN_9, pN_10, pN_11, pN_12, pN_13, pN_14, pN_15, pN_16, pN_17, pN_18, pN_19, pN_20, pN_21, pN_22, pZ_0, pZ_1, gR_n0, aI_n0, sI_n0, gR_n1, aI_n1, sI_n1, gR_n2, aI_n2, sI_n2, gR_n3, aI_n3, sI_n3, gR_n4, aI_n4, sI_n4, gR_n5, aI_n5, sI_n5, gR_n6, aI_n6, sI_n6, gR_n7, aI_n7, sI_n7, gR_n8, aI_n8, sI_n8, aR_s, aI_s, sI_s, aR_h, aI_h, sI_h, aR_r, aI_r, sI_r, aI_c, sI_c, aI_l, sI_l, aI_ca, aI_ha, sI_ca, sI_ha, gI_mo, pI_mo, e35, y0', y4]
        rw [if_neg (by omega), if_pos c1, if_neg c2]
        exact q1
    · rw [if_neg (fun hc => c1 hc.1)] at I1 ⊢
      obtain ⟨h', q1, q2⟩ := hk h g rel I1 hr rfl
      refine ⟨h', ?_, q2⟩
      simp (disch := first | assumption | omega) only [sX3_answersReads_9b, sX3_answersReads_102, z10, z00, if_true, if_false, iv_add, iv_sub, iv_mul, iv_le, iv_lt, iv_eq, iv_mx, iv_mn, bI_z, bI_o, rZ0, rZ1, rZb, cl_some', lt_eq, rm_eq, dv_eq, iv_01, iv_10, the, lastA, lpA, st_eq, st_ne, sh_addM, cV_cl, cV_nd, cV_mo, cV_lt, gR_t0, aR_nd, gR_c0, gR_c1, gR_c2, gR_c3, gR_c4, gR_c5, gR_c6, gR_c15, gR_c16, gI_c7, pI_c7, gI_c8, pI_c8, gI_c9, pI_c9, gI_c10, pI_c10, gI_c11, pI_c11, gI_c12, pI_c12, gI_c13, pI_c13, gI_c14, pI_c14, gN_9, gN_10, gN_11, gN_12, gN_13, gN_14, gN_15, gN_16, gN_17, gN_18, gN_19, gN_20, gN_21, gN_22, gN_23, pN_9, pN_10, pN_11, pN_12, pN_13, pN_14, pN_15, pN_16, pN_17, pN_18, pN_19, pN_20, pN_21, pN_22, pZ_0, pZ_1, gR_n0, aI_n0, sI_n0, gR_n1, aI_n1, sI_n1, gR_n2, aI_n2, sI_n2, gR_n3, aI_n3, sI_n3, gR_n4, aI_n4, sI_n4, gR_n5, aI_n5, sI_n5, gR_n6, aI_n6, sI_n6, gR_n7, aI_n7, sI_n7, gR_n8, aI_n8, sI_n8, aR_s, aI_s, sI_s, aR_h, aI_h, sI_h, aR_r, aI_r, sI_r, aI_c, sI_c, aI_l, sI_l, aI_ca, aI_ha, sI_ca, sI_ha, gI_mo, pI_mo, e35, y0']
      rw [if_neg (by omega), if_neg c1]
      exact q1
end
