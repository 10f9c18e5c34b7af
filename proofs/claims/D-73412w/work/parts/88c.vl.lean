/-! DEPS: vk -/
/-! VL: TermLog leads, stands, votes -/
section
variable {B : Nat} {h g C Hd Mo : Row} {M : Mem} {Λ : Law} {hs : His} {FL : Int → ELog} {R : Int} {D : DK}
/-- what a leader does when it has laid -/
theorem t_laid (hL : LyC B M) (hΛ : LawL M Λ) (r : Rel h g) (I : InvS g hs FL R D) {n : Int} (n0 : 0 ≤ n) (n1 : n < 7) (hr : g (244 * n + 3) = 2) :
    ∃ h1 C1 Mo1 h2 C2 Mo2, sX3_sendsToAll (some B) (iI n) (tl B (st h (244 * n + (38 + n)) (h (244 * n + 4) + h (244 * n + 8))) C Hd Mo M) = some ((), tl B h1 C1 Hd Mo1 M) ∧
      sX3_holds 4 (some B) (iI n) (tl B h1 C1 Hd Mo1 M) = some ((), tl B h2 C2 Hd Mo2 M) ∧ Rel h2 (laidG Λ g n) := by
  have I3 := I.matchO n0 n1 hr
  have r3 := r.matchO I.bd n0 n1
  have hr3 : st g (244 * n + 38 + n) (lastA g n) (244 * n + 3) = 2 := by rw [st_ne (by omega)]; exact hr
  obtain ⟨h4, C4, Mo4, y4, r4⟩ := t_sendsToAll (C := C) (Hd := Hd) (Mo := Mo) hL hΛ r3 I3 n0 n1 hr3
  have I4 := I3.sendAll (Λ := Λ) n0 n1 hr3
  have hr4 : sendAllG Λ (st g (244 * n + 38 + n) (lastA g n)) n (244 * n + 3) = 2 := by rw [sendAllG_lo I3.gl (by omega)]; exact hr3
  obtain ⟨h5, C5, Mo5, y5, r5⟩ := t_holds (C := C4) (Hd := Hd) (Mo := Mo4) hL hΛ r4 I4 n0 n1 hr4
  exact ⟨h4, C4, Mo4, h5, C5, Mo5, y4, y5, r5⟩
theorem t_leads_19 (hL : LyC B M) {n : Int} (n0 : 0 ≤ n) (n1 : n < 7) (h4 : 0 ≤ h (244 * n + 4) ∧ h (244 * n + 4) + h (244 * n + 8) ≤ 999 ∧ 0 ≤ h (244 * n + 8)) : ∀ (j : Nat) (k : Int) (fu : Nat), 7 - k = j → 0 ≤ k →
    sX3_leads_19 (fu + j) (some B) (iI n) (some (ndA B n)) (iI k) (tl B (cwG h n (h (244 * n + 4) + h (244 * n + 8) + 1) k) C Hd Mo M) = sX3_leads_19 fu (some B) (iI n) (some (ndA B n)) (iI 7) (tl B (cwG h n (h (244 * n + 4) + h (244 * n + 8) + 1) 7) C Hd Mo M)
  | 0, k, fu, e1, e2 => by
    have e : k = 7 := by omega
    subst e
    rfl
  | j + 1, k, fu, e1, e2 => by
    have ih := t_leads_19 hL n0 n1 h4 j (k + 1) fu (by omega) (by omega)
    have es := cwSt (g := h) (n := n) (v := h (244 * n + 4) + h (244 * n + 8) + 1) e2 (show k < 7 by omega)
    have o4 : cwG h n (h (244 * n + 4) + h (244 * n + 8) + 1) k (244 * n + 4) = h (244 * n + 4) := by unfold cwG; rw [if_neg (by omega), if_neg (by omega), if_neg (by omega)]
    have o8 : cwG h n (h (244 * n + 4) + h (244 * n + 8) + 1) k (244 * n + 8) = h (244 * n + 8) := by unfold cwG; rw [if_neg (by omega), if_neg (by omega), if_neg (by omega)]
    show sX3_leads_19b (sX3_leads_19 (fu + j)) _ _ _ _ _ = _
    generalize sX3_leads_19 (fu + j) = K at ih ⊢
    simp (disch := first | assumption | omega) only [sX3_leads_19b, t_last, z10, z00, if_true, if_false, iv_add, iv_sub, iv_mul, iv_le, iv_lt, iv_eq, iv_mx, iv_mn, bI_z, bI_o, rZ0, rZ1, rZb, cl_some', lt_eq, rm_eq, dv_eq, iv_01, iv_10, the, lastA, lpA, st_eq, st_ne, sh_addM, cV_cl, cV_nd, cV_mo, cV_lt, gR_t0, aR_nd, gR_c0, gR_c1, gR_c2, gR_c3, gR_c4, gR_c5, gR_c6, gR_c15, gR_c16, gI_c7, pI_c7, gI_c8, pI_c8, gI_c9, pI_c9, gI_c10, pI_c10, gI_c11, pI_c11, gI_c12, pI_c12, gI_c13, pI_c13, gI_c14, pI_c14, gN_9, gN_10, gN_11, gN_12, gN_13, gN_14, gN_15, gN_16, gN_17, gN_18, gN_19, gN_20, gN_21, gN_22, gN_23, pN_9, pN_10, pN_11, pN_12, pN_13, pN_14, pN_15, pN_16, pN_17, pN_18, pN_19, pN_20, pN_21, pN_22, pZ_0, pZ_1, gR_n0, aI_n0, sI_n0, gR_n1, aI_n1, sI_n1, gR_n2, aI_n2, sI_n2, gR_n3, aI_n3, sI_n3, gR_n4, aI_n4, sI_n4, gR_n5, aI_n5, sI_n5, gR_n6, aI_n6, sI_n6, gR_n7, aI_n7, sI_n7, gR_n8, aI_n8, sI_n8, aR_s, aI_s, sI_s, aR_h, aI_h, sI_h, aR_r, aI_r, sI_r, aI_c, sI_c, aI_l, sI_l, aI_ca, aI_ha, sI_ca, sI_ha, gI_mo, pI_mo, o4, o8]
    rw [if_neg (by omega), es]
    exact ih
theorem led_crown {n : Int} (h1 : 0 ≤ g (244 * n + 1)) (h2 : g (244 * n + 1) ≤ 999) (n0 : 0 ≤ n) (n1 : n < 7) : ledG (crownG g n) n = crownG (ledG g n) n := by
  have e1 : crownG g n (244 * n + 1) = g (244 * n + 1) := crownG_ne (by omega)
  have e2 : crownG g n (10028 + g (244 * n + 1)) = g (10028 + g (244 * n + 1)) := crownG_ne (by omega)
  have e3 : crownG g n 11136 = g 11136 := crownG_ne (by omega)
  have key : ∀ p v : Int, 10028 ≤ p → st (crownG g n) p v = crownG (st g p v) n := by
    intro p v a
    funext x
    by_cases d : x = p
    · rw [d, st_eq, crownG_ne (by omega), st_eq]
    · rw [st_ne d]
      unfold crownG
      simp only [the, lastA]
      rw [st_ne (x := 244 * n + 4) (by omega), st_ne (x := 244 * n + 8) (by omega), st_ne d]
  unfold ledG
  simp only [the, e1, e2]
  split
  · exact key _ _ (by omega)
  · split
    · rfl
    · unfold breakG
      rw [e3]
      exact key _ _ (by omega)
theorem Rel.crown (r : Rel h g) (b : BdA g) {n : Int} (n0 : 0 ≤ n) (n1 : n < 7) : Rel (crownG h n) (crownG g n) := by
  have rn := r.nd n n0 n1
  have s4 := rn.s 4 (by omega) (by omega)
  have s8 := rn.s 8 (by omega) (by omega)
  have h8 := b.1 n n0 n1
  have oh := fun x a => crownG_ne (g := h) (n := n) (x := x) a
  have og := fun x a => crownG_ne (g := g) (n := n) (x := x) a
  have k : ∀ w, (w = 3 ∨ w = 11 ∨ w = 13 ∨ w = 14 ∨ (31 ≤ w ∧ w < 52)) → crownG h n (244 * n + w) = crownG g n (244 * n + w) := by
    intro w a
    unfold crownG
    simp only [the, lastA]
    rw [s4, s8]
    by_cases c1 : w = 3
    · rw [if_pos (by omega), if_pos (by omega)]
    · rw [if_neg (by omega), if_neg (show ¬ 244 * n + w = 244 * n + 3 by omega)]
      by_cases c2 : w = 11
      · rw [if_pos (by omega), if_pos (by omega)]
      · rw [if_neg (by omega), if_neg (show ¬ 244 * n + w = 244 * n + 11 by omega)]
        by_cases c3 : w = 14
        · rw [if_pos (by omega), if_pos (by omega)]
        · rw [if_neg (by omega), if_neg (show ¬ 244 * n + w = 244 * n + 14 by omega)]
          by_cases c4 : w = 13
          · rw [if_pos (by omega), if_pos (by omega)]
          · rw [if_neg (by omega), if_neg (show ¬ 244 * n + w = 244 * n + 13 by omega)]
            by_cases c5 : w < 38
            · rw [if_pos (by omega), if_pos (by omega)]
            · rw [if_neg (by omega), if_pos (by omega), if_neg (by omega), if_pos (by omega)]
  refine r.node b n0 n1 (fun x a => oh x (by omega)) (fun x a => og x (by omega)) ⟨fun w w0 w1 => ?_, fun w w0 w1 => ?_, fun q => k 11 (by omega), fun x x0 x1 => ?_, fun q w w0 w1 => k w (by omega)⟩
  · by_cases c : w = 3
    · exact k w (by omega)
    · rw [oh _ (by omega), og _ (by omega)]
      exact rn.s w w0 w1
  · by_cases c : w = 13 ∨ w = 14
    · exact k w (by omega)
    · rw [oh _ (by omega), og _ (by omega)]
      exact rn.t w w0 w1
  · rw [og _ (by omega)] at x1
    rw [oh _ (by omega), og _ (by omega)]
    exact rn.e x x0 x1
theorem Rel.led (r : Rel h g) (b : BdA g) {n : Int} (n0 : 0 ≤ n) (n1 : n < 7) (h1 : 0 ≤ g (244 * n + 1)) (h2 : g (244 * n + 1) ≤ 999) : Rel (ledG h n) (ledG g n) := by
  have e1 := (r.nd n n0 n1).s 1 (by omega) (by omega)
  have e2 := r.ld (10028 + g (244 * n + 1)) (by omega) (by omega)
  have e3 := r.gl 11136 (by omega) (by omega)
  have key : ∀ p v : Int, (10028 ≤ p ∧ p < 11028) ∨ p = 11136 → Rel (st h p v) (st g p v) := by
    intro p v a
    refine r.plain b (fun x y z => ?_) (fun x y => st_ne (by omega)) (fun x y z => st_ne (by omega))
    by_cases d : x = p
    · rw [d, st_eq, st_eq]
      exact Or.inr ⟨rfl, fun m m0 m1 => by omega, by omega, by omega, by omega, by omega⟩
    · exact Or.inl ⟨st_ne d, st_ne d⟩
  unfold ledG
  simp only [the, e1, e2]
  split
  · exact key _ _ (by omega)
  · split
    · exact r
    · unfold breakG
      rw [e3]
      exact key _ _ (by omega)
theorem t_leads (hL : LyC B M) (hΛ : LawL M Λ) (r : Rel h g) (I : InvS g hs FL R D) {n : Int} (n0 : 0 ≤ n) (n1 : n < 7) (hr : g (244 * n + 3) = 1) (hm : mostA g n (g (244 * n + 12))) (h1 : 1 ≤ g (244 * n + 1)) :
    ∃ h' C' Mo', sX3_leads (some B) (iI n) (tl B h C Hd Mo M) = some ((), tl B h' C' Hd Mo' M) ∧ Rel h' (leadG Λ g n) := by
  obtain ⟨⟨s1, s2⟩, _⟩ := I.na n n0 n1
  have rn := r.nd n n0 n1
  have w4 := rn.s 4 (by omega) (by omega)
  have w8 := rn.s 8 (by omega) (by omega)
  have w1 := rn.s 1 (by omega) (by omega)
  have I1 := I.led n0 n1
  have r1 := r.led I.bd n0 n1 (by omega) (by omega)
  have o := fun x a => ledG_ne (g := g) (n := n) (x := x) a (by omega) (by omega)
  have hx := cfg_ext (g' := ledG g n) (I.lg n0 n1) (fun x _ _ _ => o x (by omega))
  have hm1 : mostA (ledG g n) n (ledG g n (244 * n + 12)) := by
    rw [o _ (by omega)]
    unfold mostA at hm ⊢
    rw [hx.1, hx.2.1]
    exact hm
  obtain ⟨hs2, G2, I2⟩ := I1.crown n0 n1 (by rw [o _ (by omega)]; exact hr) hm1 (by rw [o _ (by omega)]; exact h1)
  have r2 := r1.crown I1.bd n0 n1
  have e1 : crownG (ledG g n) n (244 * n + 1) = g (244 * n + 1) := by rw [crownG_ne (by omega), o _ (by omega)]
  have hr2 : crownG (ledG g n) n (244 * n + 3) = 2 := if_pos rfl
  have hl := I2.layL (k := 2) (a := 0) (b := 0) n0 n1 hr2 (by omega) (by omega) (by omega) (by omega) (fun q => by omega)
  rw [e1] at hl
  have hg2 := I2.lg n0 n1
  have hr3 : layG (crownG (ledG g n) n) n (g (244 * n + 1)) 2 0 0 (244 * n + 3) = 2 := by rw [layG_ne hg2 (by omega) (by omega) (by omega)]; exact hr2
  obtain ⟨y3, r3⟩ := t_layR (C := C) (Hd := Hd) (Mo := Mo) (t := g (244 * n + 1)) (k := 2) (a := 0) (b := 0) hL r2 I2 n0 n1
  obtain ⟨hs3, FL3, G3, I3⟩ := hl
  obtain ⟨h4, C4, Mo4, h5, C5, Mo5, y4, y5, r5⟩ := t_laid (C := C) (Hd := Hd) (Mo := Mo) hL hΛ r3 I3 n0 n1 hr3
  refine ⟨h5, C5, Mo5, ?_, r5⟩
  have ec := led_crown (g := h) (n := n) (by omega) (by omega) n0 n1
  rw [← ec] at y3 y4 r3
  have eq : crownG h n (244 * n + 1) = h (244 * n + 1) := crownG_ne (by omega)
  have e1' : ledG (crownG h n) n (244 * n + 1) = g (244 * n + 1) := by rw [ledG_ne (by omega) (by omega) (by omega)]; omega
  have z1 : ∀ (Y : Row) (v : Int), st Y (10028 + g (244 * n + 1)) (v + 1) = ledG (crownG h n) n → sX3_leads_137 (some B) (iI n) (some (ndA B n)) (some (B + 1182)) (iI (g (244 * n + 1))) (iI v) (tl B Y C Hd Mo M) = some ((), tl B h5 C5 Hd Mo5 M) := by
    intro Y v e9
    have rn3 := r3.nd n n0 n1
    have q4 := rn3.s 4 (by omega) (by omega)
    have q8 := rn3.s 8 (by omega) (by omega)
    obtain ⟨⟨v1, v2⟩, _⟩ := I3.na n n0 n1
    simp (disch := first | assumption | omega) only [sX3_leads_137, t_last, z10, z00, if_true, if_false, iv_add, iv_sub, iv_mul, iv_le, iv_lt, iv_eq, iv_mx, iv_mn, bI_z, bI_o, rZ0, rZ1, rZb, cl_some', lt_eq, rm_eq, dv_eq, iv_01, iv_10, the, lastA, lpA, st_eq, st_ne, sh_addM, cV_cl, cV_nd, cV_mo, cV_lt, gR_t0, aR_nd, gR_c0, gR_c1, gR_c2, gR_c3, gR_c4, gR_c5, gR_c6, gR_c15, gR_c16, gI_c7, pI_c7, gI_c8, pI_c8, gI_c9, pI_c9, gI_c10, pI_c10, gI_c11, pI_c11, gI_c12, pI_c12, gI_c13, pI_c13, gI_c14, pI_c14, gN_9, gN_10, gN_11, gN_12, gN_13, gN_14, gN_15, gN_16, gN_17, gN_18, gN_19, gN_20, gN_21, gN_22, gN_23, pN_9, pN_10, pN_11, pN_12, pN_13, pN_14, pN_15, pN_16, pN_17, pN_18, pN_19, pN_20, pN_21, pN_22, pZ_0, pZ_1, gR_n0, aI_n0, sI_n0, gR_n1, aI_n1, sI_n1, gR_n2, aI_n2, sI_n2, gR_n3, aI_n3, sI_n3, gR_n4, aI_n4, sI_n4, gR_n5, aI_n5, sI_n5, gR_n6, aI_n6, sI_n6, gR_n7, aI_n7, sI_n7, gR_n8, aI_n8, sI_n8, aR_s, aI_s, sI_s, aR_h, aI_h, sI_h, aR_r, aI_r, sI_r, aI_c, sI_c, aI_l, sI_l, aI_ca, aI_ha, sI_ca, sI_ha, gI_mo, pI_mo, e9, e1', y3]
    rw [y4]
    simp (disch := first | assumption | omega) only [z10, z00, if_true, if_false, iv_add, iv_sub, iv_mul, iv_le, iv_lt, iv_eq, iv_mx, iv_mn, bI_z, bI_o, rZ0, rZ1, rZb, cl_some', lt_eq, rm_eq, dv_eq, iv_01, iv_10, the, lastA, lpA, st_eq, st_ne, sh_addM, cV_cl, cV_nd, cV_mo, cV_lt, gR_t0, aR_nd, gR_c0, gR_c1, gR_c2, gR_c3, gR_c4, gR_c5, gR_c6, gR_c15, gR_c16, gI_c7, pI_c7, gI_c8, pI_c8, gI_c9, pI_c9, gI_c10, pI_c10, gI_c11, pI_c11, gI_c12, pI_c12, gI_c13, pI_c13, gI_c14, pI_c14, gN_9, gN_10, gN_11, gN_12, gN_13, gN_14, gN_15, gN_16, gN_17, gN_18, gN_19, gN_20, gN_21, gN_22, gN_23, pN_9, pN_10, pN_11, pN_12, pN_13, pN_14, pN_15, pN_16, pN_17, pN_18, pN_19, pN_20, pN_21, pN_22, pZ_0, pZ_1, gR_n0, aI_n0, sI_n0, gR_n1, aI_n1, sI_n1, gR_n2, aI_n2, sI_n2, gR_n3, aI_n3, sI_n3, gR_n4, aI_n4, sI_n4, gR_n5, aI_n5, sI_n5, gR_n6, aI_n6, sI_n6, gR_n7, aI_n7, sI_n7, gR_n8, aI_n8, sI_n8, aR_s, aI_s, sI_s, aR_h, aI_h, sI_h, aR_r, aI_r, sI_r, aI_c, sI_c, aI_l, sI_l, aI_ca, aI_ha, sI_ca, sI_ha, gI_mo, pI_mo, y5]
  clear y3 y4 y5 r3 r5
  have hl19 := t_leads_19 (h := st (st h (244 * n + 3) 2) (244 * n + 11) n) (C := C) (Hd := Hd) (Mo := Mo) hL n0 n1 (by rw [st_ne (by omega), st_ne (by omega), st_ne (by omega), st_ne (by omega)]; omega) 7 0 999993 (by omega) (by omega)
  rw [cw0] at hl19
  have o4 : st (st h (244 * n + 3) 2) (244 * n + 11) n (244 * n + 4) = h (244 * n + 4) := by rw [st_ne (by omega), st_ne (by omega)]
  have o8 : st (st h (244 * n + 3) 2) (244 * n + 11) n (244 * n + 8) = h (244 * n + 8) := by rw [st_ne (by omega), st_ne (by omega)]
  rw [o4, o8] at hl19
  simp (disch := first | assumption | omega) only [sX3_leads, z10, z00, if_true, if_false, iv_add, iv_sub, iv_mul, iv_le, iv_lt, iv_eq, iv_mx, iv_mn, bI_z, bI_o, rZ0, rZ1, rZb, cl_some', lt_eq, rm_eq, dv_eq, iv_01, iv_10, the, lastA, lpA, st_eq, st_ne, sh_addM, cV_cl, cV_nd, cV_mo, cV_lt, gR_t0, aR_nd, gR_c0, gR_c1, gR_c2, gR_c3, gR_c4, gR_c5, gR_c6, gR_c15, gR_c16, gI_c7, pI_c7, gI_c8, pI_c8, gI_c9, pI_c9, gI_c10, pI_c10, gI_c11, pI_c11, gI_c12, pI_c12, gI_c13, pI_c13, gI_c14, pI_c14, gN_9, gN_10, gN_11, gN_12, gN_13, gN_14, gN_15, gN_16, gN_17, gN_18, gN_19, gN_20, gN_21, gN_22, gN_23, pN_9, pN_10, pN_11, pN_12, pN_13, pN_14, pN_15, pN_16, pN_17, pN_18, pN_19, pN_20, pN_21, pN_22, pZ_0, pZ_1, gR_n0, aI_n0, sI_n0, gR_n1, aI_n1, sI_n1, gR_n2, aI_n2, sI_n2, gR_n3, aI_n3, sI_n3, gR_n4, aI_n4, sI_n4, gR_n5, aI_n5, sI_n5, gR_n6, aI_n6, sI_n6, gR_n7, aI_n7, sI_n7, gR_n8, aI_n8, sI_n8, aR_s, aI_s, sI_s, aR_h, aI_h, sI_h, aR_r, aI_r, sI_r, aI_c, sI_c, aI_l, sI_l, aI_ca, aI_ha, sI_ca, sI_ha, gI_mo, pI_mo]
  refine hl19.trans ?_
  show sX3_leads_19b (sX3_leads_19 999992) _ _ _ _ _ = _
  generalize sX3_leads_19 999992 = K
  have hc := crown_eq (g := h) (n := n)
  have ec1 : crownG h n (244 * n + 1) = g (244 * n + 1) := by rw [eq]; exact w1
  have el : crownG h n (10028 + g (244 * n + 1)) = h (10028 + g (244 * n + 1)) := crownG_ne (by omega)
  have ev := I.ld (10028 + g (244 * n + 1)) (by omega) (by omega)
  have er := r.ld (10028 + g (244 * n + 1)) (by omega) (by omega)
  have e36 : crownG h n 11136 = h 11136 := crownG_ne (by omega)
  have e36' := r.gl 11136 (by omega) (by omega)
  have z2 : ∀ Y : Row, Y (244 * n + 1) = g (244 * n + 1) → 0 ≤ Y (10028 + g (244 * n + 1)) → Y (10028 + g (244 * n + 1)) ≤ 7 → st Y (10028 + g (244 * n + 1)) ((if Y (10028 + g (244 * n + 1)) = 0 then n else Y (10028 + g (244 * n + 1)) - 1) + 1) = ledG (crownG h n) n →
      sX3_leads_103 (some B) (iI n) (some (ndA B n)) (tl B Y C Hd Mo M) = some ((), tl B h5 C5 Hd Mo5 M) := by
    intro Y a1 a2 a3 a4
    have := z1 Y _ a4
    simp (disch := first | assumption | omega) only [sX3_leads_103, z10, z00, if_true, if_false, iv_add, iv_sub, iv_mul, iv_le, iv_lt, iv_eq, iv_mx, iv_mn, bI_z, bI_o, rZ0, rZ1, rZb, cl_some', lt_eq, rm_eq, dv_eq, iv_01, iv_10, the, lastA, lpA, st_eq, st_ne, sh_addM, cV_cl, cV_nd, cV_mo, cV_lt, gR_t0, aR_nd, gR_c0, gR_c1, gR_c2, gR_c3, gR_c4, gR_c5, gR_c6, gR_c15, gR_c16, gI_c7, pI_c7, gI_c8, pI_c8, gI_c9, pI_c9, gI_c10, pI_c10, gI_c11, pI_c11, gI_c12, pI_c12, gI_c13, pI_c13, gI_c14, pI_c14, gN_9, gN_10, gN_11, gN_12, gN_13, gN_14, gN_15, gN_16, gN_17, gN_18, gN_19, gN_20, gN_21, gN_22, gN_23, pN_9, pN_10, pN_11, pN_12, pN_13, pN_14, pN_15, pN_16, pN_17, pN_18, pN_19, pN_20, pN_21, pN_22, pZ_0, pZ_1, gR_n0, aI_n0, sI_n0, gR_n1, aI_n1, sI_n1, gR_n2, aI_n2, sI_n2, gR_n3, aI_n3, sI_n3, gR_n4, aI_n4, sI_n4, gR_n5, aI_n5, sI_n5, gR_n6, aI_n6, sI_n6, gR_n7, aI_n7, sI_n7, gR_n8, aI_n8, sI_n8, aR_s, aI_s, sI_s, aR_h, aI_h, sI_h, aR_r, aI_r, sI_r, aI_c, sI_c, aI_l, sI_l, aI_ca, aI_ha, sI_ca, sI_ha, gI_mo, pI_mo, a1]
    by_cases c : Y (10028 + g (244 * n + 1)) = 0
    · rw [if_pos (by omega)]
      rw [if_pos c] at this
      exact this
    · rw [if_neg (by omega)]
      rw [if_neg c] at this
      exact this
  simp (disch := first | assumption | omega) only [sX3_leads_19b, z10, z00, if_true, if_false, iv_add, iv_sub, iv_mul, iv_le, iv_lt, iv_eq, iv_mx, iv_mn, bI_z, bI_o, rZ0, rZ1, rZb, cl_some', lt_eq, rm_eq, dv_eq, iv_01, iv_10, the, lastA, lpA, st_eq, st_ne, sh_addM, cV_cl, cV_nd, cV_mo, cV_lt, gR_t0, aR_nd, gR_c0, gR_c1, gR_c2, gR_c3, gR_c4, gR_c5, gR_c6, gR_c15, gR_c16, gI_c7, pI_c7, gI_c8, pI_c8, gI_c9, pI_c9, gI_c10, pI_c10, gI_c11, pI_c11, gI_c12, pI_c12, gI_c13, pI_c13, gI_c14, pI_c14, gN_9, gN_10, gN_11, gN_12, gN_13, gN_14, gN_15, gN_16, gN_17, gN_18, gN_19, gN_20, gN_21, gN_22, gN_23, pN_9, pN_10, pN_11, pN_12, pN_13, pN_14, pN_15, pN_16, pN_17, pN_18, pN_19, pN_20, pN_21, pN_22, pZ_0, pZ_1, gR_n0, aI_n0, sI_n0, gR_n1, aI_n1, sI_n1, gR_n2, aI_n2, sI_n2, gR_n3, aI_n3, sI_n3, gR_n4, aI_n4, sI_n4, gR_n5, aI_n5, sI_n5, gR_n6, aI_n6, sI_n6, gR_n7, aI_n7, sI_n7, gR_n8, aI_n8, sI_n8, aR_s, aI_s, sI_s, aR_h, aI_h, sI_h, aR_r, aI_r, sI_r, aI_c, sI_c, aI_l, sI_l, aI_ca, aI_ha, sI_ca, sI_ha, gI_mo, pI_mo, hc, ec1, el]
  rw [if_pos (by omega)]
  by_cases c1 : h (10028 + g (244 * n + 1)) = 0
  · rw [if_pos (by omega)]
    refine z2 _ ec1 (by omega) (by omega) ?_
    rw [el, if_pos c1]
    unfold ledG
    simp only [the, ec1, el]
    rw [if_pos c1]
  · rw [if_neg (by omega)]
    by_cases c2 : h (10028 + g (244 * n + 1)) = n + 1
    · rw [if_pos (by omega)]
      refine z2 _ ec1 (by omega) (by omega) ?_
      rw [el, if_neg c1]
      unfold ledG
      simp only [the, ec1, el]
      rw [if_neg c1, if_pos c2]
      funext x
      by_cases d : x = 10028 + g (244 * n + 1)
      · rw [d, st_eq, el]; omega
      · rw [st_ne d]
    · rw [if_neg (by omega)]
      refine z2 _ (by rw [st_ne (by omega)]; exact ec1) (by rw [st_ne (by omega), el]; omega) (by rw [st_ne (by omega), el]; omega) ?_
      rw [st_ne (x := 10028 + g (244 * n + 1)) (e := 11136) (by omega), el, if_neg c1]
      unfold ledG
      simp only [the, ec1, el]
      rw [if_neg c1, if_neg c2]
      unfold breakG
      funext x
      by_cases d : x = 10028 + g (244 * n + 1)
      · rw [d, st_eq, st_ne (by omega), el]; omega
      · rw [st_ne d]
end
