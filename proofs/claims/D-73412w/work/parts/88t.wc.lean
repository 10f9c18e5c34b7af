/-! DEPS: wb -/
/-! WC: what is asked of both: who leads now -/
def leadF (g : Row) : Nat → Int → Int → Int
  | 0, b, _ => b
  | f + 1, b, k => leadF g f (if ldA g k ∧ (b = -2 ∨ g (244 * b + 1) < g (244 * k + 1)) then k else b) (k + 1)
def leadNowS (g : Row) : Int := leadF g 7 (-2) 0
section
variable {B : Nat} {h g C Hd Mo : Row} {M : Mem} {Λ : Law} {hs : His} {FL : Int → ELog} {R : Int} {D : DK}
theorem t_lead_5 (hL : LyC B M) (rel : Rel h g) (I : InvS g hs FL R D) : ∀ (j : Nat) (b k : Int) (fu : Nat), 7 - k = j → 0 ≤ k → (b = -2 ∨ (0 ≤ b ∧ b < 7)) → j < fu →
    sX3_leads_2_5 fu (some B) (iI b) (iI k) (tl B h C Hd Mo M) = some (iI (leadF g j b k), tl B h C Hd Mo M)
  | 0, b, k, fu + 1, e1, e2, e3, e4 => by
    simp (disch := first | assumption | omega) only [sX3_leads_2_5, sX3_leads_2_5b, z10, z00, if_true, if_false, iv_add, iv_sub, iv_mul, iv_le, iv_lt, iv_eq, iv_mx, iv_mn, bI_z, bI_o, rZ0, rZ1, rZb, cl_some', lt_eq, rm_eq, dv_eq, iv_01, iv_10, the, lastA, lpA, st_eq, st_ne, sh_addM, cV_cl, cV_nd, cV_mo, cV_lt, gR_t0, aR_nd, gR_c0, gR_c1, gR_c2, gR_c3, gR_c4, gR_c5, gR_c6, gR_c15, gR_c16, gI_c7, pI_c7, gI_c8, pI_c8, gI_c9, pI_c9, gI_c10, pI_c10, gI_c11, pI_c11, gI_c12, pI_c12, gI_c13, pI_c13, gI_c14, pI_c14, gN_9, gN_10, gN_11, gN_12, gN_13, gN_14, gN_15, gN_16, gN_17, gN_18, gN_19, gN_20, gN_21, gN_22, gN_23, pN_9, pN_10, pN_11, pN_12, pN_13, pN_14, pN_15, pN_16, pN_17, pN_18, pN_19, pN_20, pN_21, pN_22, pZ_0, pZ_1, gR_n0, aI_n0, sI_n0, gR_n1, aI_n1, sI_n1, gR_n2, aI_n2, sI_n2, gR_n3, aI_n3, sI_n3, gR_n4, aI_n4, sI_n4, gR_n5, aI_n5, sI_n5, gR_n6, aI_n6, sI_n6, gR_n7, aI_n7, sI_n7, gR_n8, aI_n8, sI_n8, aR_s, aI_s, sI_s, aR_h, aI_h, sI_h, aR_r, aI_r, sI_r, aI_c, sI_c, aI_l, sI_l, aI_ca, aI_ha, sI_ca, sI_ha, gI_mo, pI_mo]
    rw [if_pos (by omega)]
    rfl
  | j + 1, b, k, fu + 1, e1, e2, e3, e4 => by
    have k1 : k < 7 := by omega
    obtain ⟨⟨s1, s2⟩, _⟩ := I.na k e2 k1
    have rn := rel.nd k e2 k1
    have w0 := rn.s 0 (by omega) (by omega)
    have w1 := rn.s 1 (by omega) (by omega)
    have w3 := rn.s 3 (by omega) (by omega)
    have iy := t_lead_5 hL rel I j k (k + 1) fu (by omega) (by omega) (Or.inr ⟨e2, k1⟩) (by omega)
    have ino := t_lead_5 hL rel I j b (k + 1) fu (by omega) (by omega) e3 (by omega)
    unfold leadF
    show sX3_leads_2_5b (sX3_leads_2_5 fu) _ _ _ _ = _
    generalize sX3_leads_2_5 fu = K at iy ino ⊢
    by_cases c0 : g (244 * k + 0) = 1
    · by_cases c3 : g (244 * k + 3) = 2
      · by_cases cb : b = -2
        · rw [if_pos ⟨⟨c0, c3⟩, Or.inl cb⟩]
          subst cb
          simp (disch := first | assumption | omega) only [sX3_leads_2_5b, sX3_leads_2_63, sX3_leads_2_65, z10, z00, if_true, if_false, iv_add, iv_sub, iv_mul, iv_le, iv_lt, iv_eq, iv_mx, iv_mn, bI_z, bI_o, rZ0, rZ1, rZb, cl_some', lt_eq, rm_eq, dv_eq, iv_01, iv_10, the, lastA, lpA, st_eq, st_ne, sh_addM, cV_cl, cV_nd, cV_mo, cV_lt, gR_t0, aR_nd, gR_c0, gR_c1, gR_c2, gR_c3, gR_c4, gR_c5, gR_c6, gR_c15, gR_c16, gI_c7, pI_c7, gI_c8, pI_c8, gI_c9, pI_c9, gI_c10, pI_c10, gI_c11, pI_c11, gI_c12, pI_c12, gI_c13, pI_c13, gI_c14, pI_c14, gN_9, gN_10, gN_11, gN_12, gN_13, gN_14, gN_15, gN_16, gN_17, gN_18, gN_19, gN_20, gN_21, gN_22, gN_23, pN_9, pN_10, pN_11, pN_12, pN_13, pN_14, pN_15, pN_16, pN_17, pN_18, pN_19, pN_20, pN_21, pN_22, pZ_0, pZ_1, gR_n0, aI_n0, sI_n0, gR_n1, aI_n1, sI_n1, gR_n2, aI_n2, sI_n2, gR_n3, aI_n3, sI_n3, gR_n4, aI_n4, sI_n4, gR_n5, aI_n5, sI_n5, gR_n6, aI_n6, sI_n6, gR_n7, aI_n7, sI_n7, gR_n8, aI_n8, sI_n8, aR_s, aI_s, sI_s, aR_h, aI_h, sI_h, aR_r, aI_r, sI_r, aI_c, sI_c, aI_l, sI_l, aI_ca, aI_ha, sI_ca, sI_ha, gI_mo, pI_mo, w0, w1, w3]
          rw [if_neg (by omega), if_neg (by omega), if_pos c3]
          exact iy
        · have b0 : 0 ≤ b ∧ b < 7 := by omega
          have b00 := b0.1
          have b01 := b0.2
          obtain ⟨⟨t1, t2⟩, _⟩ := I.na b b0.1 b0.2
          have wb := (rel.nd b b0.1 b0.2).s 1 (by omega) (by omega)
          simp (disch := first | assumption | omega) only [sX3_leads_2_5b, sX3_leads_2_63, sX3_leads_2_65, z10, z00, if_true, if_false, iv_add, iv_sub, iv_mul, iv_le, iv_lt, iv_eq, iv_mx, iv_mn, bI_z, bI_o, rZ0, rZ1, rZb, cl_some', lt_eq, rm_eq, dv_eq, iv_01, iv_10, the, lastA, lpA, st_eq, st_ne, sh_addM, cV_cl, cV_nd, cV_mo, cV_lt, gR_t0, aR_nd, gR_c0, gR_c1, gR_c2, gR_c3, gR_c4, gR_c5, gR_c6, gR_c15, gR_c16, gI_c7, pI_c7, gI_c8, pI_c8, gI_c9, pI_c9, gI_c10, pI_c10, gI_c11, pI_c11, gI_c12, pI_c12, gI_c13, pI_c13, gI_c14, pI_c14, gN_9, gN_10, gN_11, gN_12, gN_13, gN_14, gN_15, gN_16, gN_17, gN_18, gN_19, gN_20, gN_21, gN_22, gN_23, pN_9, pN_10, pN_11, pN_12, pN_13, pN_14, pN_15, pN_16, pN_17, pN_18, pN_19, pN_20, pN_21, pN_22, pZ_0, pZ_1, gR_n0, aI_n0, sI_n0, gR_n1, aI_n1, sI_n1, gR_n2, aI_n2, sI_n2, gR_n3, aI_n3, sI_n3, gR_n4, aI_n4, sI_n4, gR_n5, aI_n5, sI_n5, gR_n6, aI_n6, sI_n6, gR_n7, aI_n7, sI_n7, gR_n8, aI_n8, sI_n8, aR_s, aI_s, sI_s, aR_h, aI_h, sI_h, aR_r, aI_r, sI_r, aI_c, sI_c, aI_l, sI_l, aI_ca, aI_ha, sI_ca, sI_ha, gI_mo, pI_mo, w0, w1, w3, wb]
          rw [if_neg (by omega), if_neg (by omega), if_pos c3, if_neg cb]
          by_cases ct : g (244 * b + 1) < g (244 * k + 1)
          · rw [if_neg (by omega), if_pos ⟨⟨c0, c3⟩, Or.inr ct⟩]
            exact iy
          · rw [if_pos (by omega), if_neg (fun hc => by rcases hc.2 with q | q; exact cb q; exact ct q)]
            exact ino
      · rw [if_neg (fun hc => c3 hc.1.2)]
        rcases e3 with e3 | e3
        · subst e3
          simp (disch := first | assumption | omega) only [sX3_leads_2_5b, sX3_leads_2_65, z10, z00, if_true, if_false, iv_add, iv_sub, iv_mul, iv_le, iv_lt, iv_eq, iv_mx, iv_mn, bI_z, bI_o, rZ0, rZ1, rZb, cl_some', lt_eq, rm_eq, dv_eq, iv_01, iv_10, the, lastA, lpA, st_eq, st_ne, sh_addM, cV_cl, cV_nd, cV_mo, cV_lt, gR_t0, aR_nd, gR_c0, gR_c1, gR_c2, gR_c3, gR_c4, gR_c5, gR_c6, gR_c15, gR_c16, gI_c7, pI_c7, gI_c8, pI_c8, gI_c9, pI_c9, gI_c10, pI_c10, gI_c11, pI_c11, gI_c12, pI_c12, gI_c13, pI_c13, gI_c14, pI_c14, gN_9, gN_10, gN_11, gN_12, gN_13, gN_14, gN_15, gN_16, gN_17, gN_18, gN_19, gN_20, gN_21, gN_22, gN_23, pN_9, pN_10, pN_11, pN_12, pN_13, pN_14, pN_15, pN_16, pN_17, pN_18, pN_19, pN_20, pN_21, pN_22, pZ_0, pZ_1, gR_n0, aI_n0, sI_n0, gR_n1, aI_n1, sI_n1, gR_n2, aI_n2, sI_n2, gR_n3, aI_n3, sI_n3, gR_n4, aI_n4, sI_n4, gR_n5, aI_n5, sI_n5, gR_n6, aI_n6, sI_n6, gR_n7, aI_n7, sI_n7, gR_n8, aI_n8, sI_n8, aR_s, aI_s, sI_s, aR_h, aI_h, sI_h, aR_r, aI_r, sI_r, aI_c, sI_c, aI_l, sI_l, aI_ca, aI_ha, sI_ca, sI_ha, gI_mo, pI_mo, w0, w3]
          rw [if_neg (by omega), if_neg (by omega), if_neg c3]
          exact ino
        · unfold sX3_leads_2_5b
          rw [if_neg (by rw [iv_le (by omega) (by omega) (by omega) (by omega)]; omega), gR_c0 hL, aR_nd hL e2 k1, gN_23 hL e2 k1, w0]
          rw [if_neg (by rw [iv_eq (by omega) (by omega) (by omega) (by omega)]; omega), gR_c0 hL, aR_nd hL e2 k1, gN_16 hL e2 k1, w3]
          rw [if_neg (by rw [iv_eq (by omega) (by omega) (by omega) (by omega)]; exact c3)]
          simp (disch := first | assumption | omega) only [sX3_leads_2_65, z10, z00, if_true, if_false, iv_add, iv_sub, iv_mul, iv_le, iv_lt, iv_eq, iv_mx, iv_mn, bI_z, bI_o, rZ0, rZ1, rZb, cl_some', lt_eq, rm_eq, dv_eq, iv_01, iv_10, the, lastA, lpA, st_eq, st_ne, sh_addM, cV_cl, cV_nd, cV_mo, cV_lt, gR_t0, aR_nd, gR_c0, gR_c1, gR_c2, gR_c3, gR_c4, gR_c5, gR_c6, gR_c15, gR_c16, gI_c7, pI_c7, gI_c8, pI_c8, gI_c9, pI_c9, gI_c10, pI_c10, gI_c11, pI_c11, gI_c12, pI_c12, gI_c13, pI_c13, gI_c14, pI_c14, gN_9, gN_10, gN_11, gN_12, gN_13, gN_14, gN_15, gN_16, gN_17, gN_18, gN_19, gN_20, gN_21, gN_22, gN_23, pN_9, pN_10, pN_11, pN_12, pN_13, pN_14, pN_15, pN_16, pN_17, pN_18, pN_19, pN_20, pN_21, pN_22, pZ_0, pZ_1, gR_n0, aI_n0, sI_n0, gR_n1, aI_n1, sI_n1, gR_n2, aI_n2, sI_n2, gR_n3, aI_n3, sI_n3, gR_n4, aI_n4, sI_n4, gR_n5, aI_n5, sI_n5, gR_n6, aI_n6, sI_n6, gR_n7, aI_n7, sI_n7, gR_n8, aI_n8, sI_n8, aR_s, aI_s, sI_s, aR_h, aI_h, sI_h, aR_r, aI_r, sI_r, aI_c, sI_c, aI_l, sI_l, aI_ca, aI_ha, sI_ca, sI_ha, gI_mo, pI_mo]
          exact ino
    · rw [if_neg (fun hc => c0 hc.1.1)]
      unfold sX3_leads_2_5b
      rw [if_neg (by rw [iv_le (by omega) (by omega) (by omega) (by omega)]; omega), gR_c0 hL, aR_nd hL e2 k1, gN_23 hL e2 k1, w0]
      rw [if_pos (by rw [iv_eq (by omega) (by omega) (by omega) (by omega)]; omega)]
      simp (disch := first | assumption | omega) only [sX3_leads_2_65, z10, z00, if_true, if_false, iv_add, iv_sub, iv_mul, iv_le, iv_lt, iv_eq, iv_mx, iv_mn, bI_z, bI_o, rZ0, rZ1, rZb, cl_some', lt_eq, rm_eq, dv_eq, iv_01, iv_10, the, lastA, lpA, st_eq, st_ne, sh_addM, cV_cl, cV_nd, cV_mo, cV_lt, gR_t0, aR_nd, gR_c0, gR_c1, gR_c2, gR_c3, gR_c4, gR_c5, gR_c6, gR_c15, gR_c16, gI_c7, pI_c7, gI_c8, pI_c8, gI_c9, pI_c9, gI_c10, pI_c10, gI_c11, pI_c11, gI_c12, pI_c12, gI_c13, pI_c13, gI_c14, pI_c14, gN_9, gN_10, gN_11, gN_12, gN_13, gN_14, gN_15, gN_16, gN_17, gN_18, gN_19, gN_20, gN_21, gN_22, gN_23, pN_9, pN_10, pN_11, pN_12, pN_13, pN_14, pN_15, pN_16, pN_17, pN_18, pN_19, pN_20, pN_21, pN_22, pZ_0, pZ_1, gR_n0, aI_n0, sI_n0, gR_n1, aI_n1, sI_n1, gR_n2, aI_n2, sI_n2, gR_n3, aI_n3, sI_n3, gR_n4, aI_n4, sI_n4, gR_n5, aI_n5, sI_n5, gR_n6, aI_n6, sI_n6, gR_n7, aI_n7, sI_n7, gR_n8, aI_n8, sI_n8, aR_s, aI_s, sI_s, aR_h, aI_h, sI_h, aR_r, aI_r, sI_r, aI_c, sI_c, aI_l, sI_l, aI_ca, aI_ha, sI_ca, sI_ha, gI_mo, pI_mo]
      exact ino
theorem t_leaderNow (hL : LyC B M) (hN : mP M 0 1 = some B) (rel : Rel h g) (I : InvS g hs FL R D) : sX0_leaderNow (some 0) (tl B h C Hd Mo M) = some (iI (leadNowS g), tl B h C Hd Mo M) := by
  have := t_lead_5 (C := C) (Hd := Hd) (Mo := Mo) hL rel I 7 (-2) 0 FU (by omega) (by omega) (Or.inl rfl) (by unfold FU; omega)
  have e : sX3_leads_2 (some B) (tl B h C Hd Mo M) = some (iI (leadNowS g), tl B h C Hd Mo M) := this
  simp (disch := first | assumption | omega) only [sX0_leaderNow, gR_t1, z10, z00, if_true, if_false, iv_add, iv_sub, iv_mul, iv_le, iv_lt, iv_eq, iv_mx, iv_mn, bI_z, bI_o, rZ0, rZ1, rZb, cl_some', lt_eq, rm_eq, dv_eq, iv_01, iv_10, the, lastA, lpA, st_eq, st_ne, sh_addM, cV_cl, cV_nd, cV_mo, cV_lt, gR_t0, aR_nd, gR_c0, gR_c1, gR_c2, gR_c3, gR_c4, gR_c5, gR_c6, gR_c15, gR_c16, gI_c7, pI_c7, gI_c8, pI_c8, gI_c9, pI_c9, gI_c10, pI_c10, gI_c11, pI_c11, gI_c12, pI_c12, gI_c13, pI_c13, gI_c14, pI_c14, gN_9, gN_10, gN_11, gN_12, gN_13, gN_14, gN_15, gN_16, gN_17, gN_18, gN_19, gN_20, gN_21, gN_22, gN_23, pN_9, pN_10, pN_11, pN_12, pN_13, pN_14, pN_15, pN_16, pN_17, pN_18, pN_19, pN_20, pN_21, pN_22, pZ_0, pZ_1, gR_n0, aI_n0, sI_n0, gR_n1, aI_n1, sI_n1, gR_n2, aI_n2, sI_n2, gR_n3, aI_n3, sI_n3, gR_n4, aI_n4, sI_n4, gR_n5, aI_n5, sI_n5, gR_n6, aI_n6, sI_n6, gR_n7, aI_n7, sI_n7, gR_n8, aI_n8, sI_n8, aR_s, aI_s, sI_s, aR_h, aI_h, sI_h, aR_r, aI_r, sI_r, aI_c, sI_c, aI_l, sI_l, aI_ca, aI_ha, sI_ca, sI_ha, gI_mo, pI_mo, e]
end
section
variable {g mi mn F : Row} {S : Nat → Int32} {M : Mem} {Λ : Law} {h : His} {FL : Int → ELog} {R : Int} {D : DK}
theorem m_lead_5 (hT : LT M) (I : InvS g h FL R D) : ∀ (j : Nat) (b k : Int) (fu : Nat), 7 - k = j → 0 ≤ k → (b = -2 ∨ (0 ≤ b ∧ b < 7)) → j < fu →
    sX8_leading_5 fu (some 3772) (iI b) (iI k) (tw g mi mn F S M) = some (iI (leadF g j b k), tw g mi mn F S M)
  | 0, b, k, fu + 1, e1, e2, e3, e4 => by
    simp (disch := first | assumption | omega) only [sX8_leading_5, sX8_leading_5b, z10, z00, if_true, if_false, iv_add, iv_sub, iv_mul, iv_le, iv_lt, iv_eq, iv_mx, iv_mn, bI_z, bI_o, rZ0, rZ1, rZb, cl_some', lt_eq, rm_eq, dv_eq, iv_01, iv_10, the, lastA, lpA, st_eq, st_ne, cV_tw, gR_0, gR_3, gR_4, gR_27, gR_28, gI_29, aI_now, aI_mn, aI_mi, aI_fa, sI_now, sI_mn, sI_mi, sI_fa, pI_29]
    rw [if_pos (by omega)]
    rfl
  | j + 1, b, k, fu + 1, e1, e2, e3, e4 => by
    have k1 : k < 7 := by omega
    obtain ⟨⟨s1, s2⟩, _⟩ := I.na k e2 k1
    have y1 := m_isLeader (mi := mi) (mn := mn) (F := F) (S := S) (n := k) hT I (by omega) (by omega)
    have iy := m_lead_5 hT I j k (k + 1) fu (by omega) (by omega) (Or.inr ⟨e2, k1⟩) (by omega)
    have ino := m_lead_5 hT I j b (k + 1) fu (by omega) (by omega) e3 (by omega)
    unfold leadF
    show sX8_leading_5b (sX8_leading_5 fu) _ _ _ _ = _
    generalize sX8_leading_5 fu = K at iy ino ⊢
    by_cases c0 : ldA g k
    · by_cases cb : b = -2
      · rw [if_pos ⟨c0, Or.inl cb⟩]
        subst cb
        simp (disch := first | assumption | omega) only [sX8_leading_5b, sX8_leading_40, sX8_leading_42, z10, z00, if_true, if_false, iv_add, iv_sub, iv_mul, iv_le, iv_lt, iv_eq, iv_mx, iv_mn, bI_z, bI_o, rZ0, rZ1, rZb, cl_some', lt_eq, rm_eq, dv_eq, iv_01, iv_10, the, lastA, lpA, st_eq, st_ne, cV_tw, gR_0, gR_3, gR_4, gR_27, gR_28, gI_29, aI_now, aI_mn, aI_mi, aI_fa, sI_now, sI_mn, sI_mi, sI_fa, pI_29, y1]
        rw [if_neg (by omega), if_neg (fun hc => hc ⟨⟨e2, k1⟩, c0⟩)]
        exact iy
      · have b0 : 0 ≤ b ∧ b < 7 := by omega
        have b00 := b0.1
        have b01 := b0.2
        obtain ⟨⟨t1, t2⟩, _⟩ := I.na b b0.1 b0.2
        simp (disch := first | assumption | omega) only [sX8_leading_5b, sX8_leading_40, sX8_leading_42, m_the, z10, z00, if_true, if_false, iv_add, iv_sub, iv_mul, iv_le, iv_lt, iv_eq, iv_mx, iv_mn, bI_z, bI_o, rZ0, rZ1, rZb, cl_some', lt_eq, rm_eq, dv_eq, iv_01, iv_10, the, lastA, lpA, st_eq, st_ne, cV_tw, gR_0, gR_3, gR_4, gR_27, gR_28, gI_29, aI_now, aI_mn, aI_mi, aI_fa, sI_now, sI_mn, sI_mi, sI_fa, pI_29, y1]
        rw [if_neg (by omega), if_neg (fun hc => hc ⟨⟨e2, k1⟩, c0⟩), if_neg cb]
        by_cases ct : g (244 * b + 1) < g (244 * k + 1)
        · rw [if_neg (by omega), if_pos ⟨c0, Or.inr ct⟩]
          exact iy
        · rw [if_pos (by omega), if_neg (fun hc => by rcases hc.2 with q | q; exact cb q; exact ct q)]
          exact ino
    · rw [if_neg (fun hc => c0 hc.1)]
      unfold sX8_leading_5b
      rw [if_neg (by rw [iv_le (by omega) (by omega) (by omega) (by omega)]; omega), cV_tw hT, y1, cl_some', bI_f (fun hc => c0 hc.2), if_pos rfl]
      simp (disch := first | assumption | omega) only [sX8_leading_42, z10, z00, if_true, if_false, iv_add, iv_sub, iv_mul, iv_le, iv_lt, iv_eq, iv_mx, iv_mn, bI_z, bI_o, rZ0, rZ1, rZb, cl_some', lt_eq, rm_eq, dv_eq, iv_01, iv_10, the, lastA, lpA, st_eq, st_ne, cV_tw, gR_0, gR_3, gR_4, gR_27, gR_28, gI_29, aI_now, aI_mn, aI_mi, aI_fa, sI_now, sI_mn, sI_mi, sI_fa, pI_29]
      exact ino
theorem m_leaderNow (hT : LT M) (I : InvS g h FL R D) : sX8_leaderNow (some 3772) (tw g mi mn F S M) = some (iI (leadNowS g), tw g mi mn F S M) := by
  have e : sX8_leading (some 3772) (tw g mi mn F S M) = some (iI (leadNowS g), tw g mi mn F S M) := m_lead_5 hT I 7 (-2) 0 FU (by omega) (by omega) (Or.inl rfl) (by unfold FU; omega)
  simp (disch := first | assumption | omega) only [sX8_leaderNow, z10, z00, if_true, if_false, iv_add, iv_sub, iv_mul, iv_le, iv_lt, iv_eq, iv_mx, iv_mn, bI_z, bI_o, rZ0, rZ1, rZb, cl_some', lt_eq, rm_eq, dv_eq, iv_01, iv_10, the, lastA, lpA, st_eq, st_ne, cV_tw, gR_0, gR_3, gR_4, gR_27, gR_28, gI_29, aI_now, aI_mn, aI_mi, aI_fa, sI_now, sI_mn, sI_mi, sI_fa, pI_29, e]
end
