/-! DEPS: vx -/
/-! VY: TermLog is told to tick -/
/-- TermLog's own word about ticking is set -/
def tkM (M : Mem) (z : Int) : Mem := (up2 (mI M) 0 8 (iI z), M.2)
noncomputable def ticksS (Λ : Law) (g : Row) (v : Int) : Int × Row := if 1 ≤ v ∧ v ≤ 200 then (ticksG Λ g v.toNat 11138, ticksG Λ g v.toNat) else (-1, g)
section
variable {B : Nat} {h g C Hd Mo : Row} {M : Mem} {Λ : Law} {hs : His} {FL : Int → ELog} {R : Int} {D : DK}
theorem tk_tk {z y : Int} : tkM (tkM M z) y = tkM M y := by
  refine Prod.ext ?_ rfl
  funext a k
  show up2 (up2 (mI M) 0 8 (iI z)) 0 8 (iI y) a k = up2 (mI M) 0 8 (iI y) a k
  unfold up2
  split <;> rfl
theorem tk_Ly {z : Int} (hL : LyC B M) : LyC B (tkM M z) := hL
theorem tk_13 {z : Int} (hL : LyC B M) : mI (tkM M z) B 13 = mI M B 13 := by
  have b2 := hL.b2
  show (if B = 0 ∧ 13 = 8 then _ else mI M B 13) = _
  rw [if_neg (by omega)]
theorem tk_pZ {β : Type} (hL : LyC B M) {z : Int} (hz : z = 0 ∨ z = 1) {f : Mem → Option β} : pZ (tl B h C Hd Mo M) (some 0) 0 8 (iI z) f = f (tl B h C Hd Mo (tkM M z)) := by
  have e1 : iI z = iI 0 ∨ iI z = iI 1 := by
    rcases hz with e | e <;> subst e
    · exact Or.inl rfl
    · exact Or.inr rfl
  refine (if_pos ⟨hL.k0.1, e1⟩).trans (congrArg f (Prod.ext ?_ rfl))
  have b2 := hL.b2
  funext a k
  show up2 (tlI B h C Hd Mo (mI M)) 0 8 (iI z) a k = tlI B h C Hd Mo (up2 (mI M) 0 8 (iI z)) a k
  have eu : ∀ I : Nat → Nat → Int32, up2 I 0 8 (iI z) a k = if a = 0 ∧ k = 8 then iI z else I a k := fun _ => rfl
  by_cases c : a = 0 ∧ k = 8
  · rw [eu, if_pos c]
    unfold tlI
    rw [if_neg (by omega), if_pos (by omega), eu, if_pos c]
  · have e13 : up2 (mI M) 0 8 (iI z) B 13 = mI M B 13 := if_neg (by omega)
    rw [eu, if_neg c]
    unfold tlI
    rw [eu, if_neg c, e13]
def tkW (M : Mem) (g : Row) (v : Int) : Mem := if 1 ≤ v ∧ v ≤ 200 then tkM M (if g 11131 < 9999 then 1 else 0) else M
theorem t_ticks (hL : LyC B M) (h13 : mI M B 13 = 0) (hN : mP M 0 1 = some B) (hΛ : ∀ z, LawL (tkM M z) Λ) (rel : Rel h g) (I : InvS g hs FL R D) {v : Int} (c0 : -2147483648 ≤ v) (c1 : v ≤ 2147483647) (hR : R + 1400 ≤ 1000000) :
    ∃ h' C' Hd' Mo', sX0_ticks (some 0) (iI v) (tl B h C Hd Mo M) = some (iI (ticksS Λ g v).1, tl B h' C' Hd' Mo' (tkW M g v)) ∧ Rel h' (ticksS Λ g v).2 := by
  have hG := I.gl
  obtain ⟨_, _, _, _, _, _, _, _, _, _, _, _⟩ := hG
  have e31 := rel.gl 11131 (by omega) (by omega)
  unfold ticksS
  by_cases d : 1 ≤ v ∧ v ≤ 200
  · rw [if_pos d]
    obtain ⟨z, hz⟩ : ∃ z : Int, z = if g 11131 < 9999 then 1 else 0 := ⟨_, rfl⟩
    have hz1 : z = 0 ∨ z = 1 := by rw [hz]; split <;> omega
    have hz2 : mI (tkM M z) B 13 = 0 := (tk_13 hL).trans h13
    obtain ⟨h2, C2, Hd2, M2, x2, r2⟩ := t_goesTicks (C := C) (Hd := Hd) (Mo := Mo) (M := tkM M z) (tk_Ly hL) hz2 (hΛ z) rel I (v := v) (by omega) (by omega) (by omega)
    have e38 := r2.gl 11138 (by omega) (by omega)
    have x3 : sX0_ticks_32 (some 0) (iI v) (some 0) (iI z) (tl B h C Hd Mo M) = some (iI (ticksG Λ g v.toNat 11138), tl B h2 C2 Hd2 M2 (tkM M z)) := by
      have hL2 : LyC B (tkM M z) := hL
      have hN2 : mP (tkM M z) 0 1 = some B := hN
      simp (disch := first | assumption | omega) only [sX0_ticks_32, tk_pZ, gR_t1, z10, z00, if_true, if_false, iv_add, iv_sub, iv_mul, iv_le, iv_lt, iv_eq, iv_mx, iv_mn, bI_z, bI_o, rZ0, rZ1, rZb, cl_some', lt_eq, rm_eq, dv_eq, iv_01, iv_10, the, lastA, lpA, st_eq, st_ne, sh_addM, cV_cl, cV_nd, cV_mo, cV_lt, gR_t0, aR_nd, gR_c0, gR_c1, gR_c2, gR_c3, gR_c4, gR_c5, gR_c6, gR_c15, gR_c16, gI_c7, pI_c7, gI_c8, pI_c8, gI_c9, pI_c9, gI_c10, pI_c10, gI_c11, pI_c11, gI_c12, pI_c12, gI_c13, pI_c13, gI_c14, pI_c14, gN_9, gN_10, gN_11, gN_12, gN_13, gN_14, gN_15, gN_16, gN_17, gN_18, gN_19, gN_20, gN_21, gN_22, gN_23, pN_9, pN_10, pN_11, pN_12, pN_13, pN_14, pN_15, pN_16, pN_17, pN_18, pN_19, pN_20, pN_21, pN_22, pZ_0, pZ_1, gR_n0, aI_n0, sI_n0, gR_n1, aI_n1, sI_n1, gR_n2, aI_n2, sI_n2, gR_n3, aI_n3, sI_n3, gR_n4, aI_n4, sI_n4, gR_n5, aI_n5, sI_n5, gR_n6, aI_n6, sI_n6, gR_n7, aI_n7, sI_n7, gR_n8, aI_n8, sI_n8, aR_s, aI_s, sI_s, aR_h, aI_h, sI_h, aR_r, aI_r, sI_r, aI_c, sI_c, aI_l, sI_l, aI_ca, aI_ha, sI_ca, sI_ha, gI_mo, pI_mo, x2, e38]
      rw [hz2, Int32.add_zero]
    have ew : tkW M g v = tkM M z := by
      unfold tkW
      rw [if_pos d, hz]
    rw [ew]
    refine ⟨h2, C2, Hd2, M2, ?_, r2⟩
    simp (disch := first | assumption | omega) only [sX0_ticks, t_within, gR_t1, z10, z00, if_true, if_false, iv_add, iv_sub, iv_mul, iv_le, iv_lt, iv_eq, iv_mx, iv_mn, bI_z, bI_o, rZ0, rZ1, rZb, cl_some', lt_eq, rm_eq, dv_eq, iv_01, iv_10, the, lastA, lpA, st_eq, st_ne, sh_addM, cV_cl, cV_nd, cV_mo, cV_lt, gR_t0, aR_nd, gR_c0, gR_c1, gR_c2, gR_c3, gR_c4, gR_c5, gR_c6, gR_c15, gR_c16, gI_c7, pI_c7, gI_c8, pI_c8, gI_c9, pI_c9, gI_c10, pI_c10, gI_c11, pI_c11, gI_c12, pI_c12, gI_c13, pI_c13, gI_c14, pI_c14, gN_9, gN_10, gN_11, gN_12, gN_13, gN_14, gN_15, gN_16, gN_17, gN_18, gN_19, gN_20, gN_21, gN_22, gN_23, pN_9, pN_10, pN_11, pN_12, pN_13, pN_14, pN_15, pN_16, pN_17, pN_18, pN_19, pN_20, pN_21, pN_22, pZ_0, pZ_1, gR_n0, aI_n0, sI_n0, gR_n1, aI_n1, sI_n1, gR_n2, aI_n2, sI_n2, gR_n3, aI_n3, sI_n3, gR_n4, aI_n4, sI_n4, gR_n5, aI_n5, sI_n5, gR_n6, aI_n6, sI_n6, gR_n7, aI_n7, sI_n7, gR_n8, aI_n8, sI_n8, aR_s, aI_s, sI_s, aR_h, aI_h, sI_h, aR_r, aI_r, sI_r, aI_c, sI_c, aI_l, sI_l, aI_ca, aI_ha, sI_ca, sI_ha, gI_mo, pI_mo, e31]
    rw [if_neg (fun hc => hc d), ← x3]
    by_cases c : g 11131 < 9999
    · rw [if_neg (by omega), hz, if_pos c]
    · rw [if_pos (by omega), hz, if_neg c]
  · have ew : tkW M g v = M := by
      unfold tkW
      rw [if_neg d]
    rw [if_neg d, ew]
    refine ⟨h, C, Hd, Mo, ?_, rel⟩
    simp (disch := first | assumption | omega) only [sX0_ticks, t_within, z10, z00, if_true, if_false, iv_add, iv_sub, iv_mul, iv_le, iv_lt, iv_eq, iv_mx, iv_mn, bI_z, bI_o, rZ0, rZ1, rZb, cl_some', lt_eq, rm_eq, dv_eq, iv_01, iv_10, the, lastA, lpA, st_eq, st_ne, sh_addM, cV_cl, cV_nd, cV_mo, cV_lt, gR_t0, aR_nd, gR_c0, gR_c1, gR_c2, gR_c3, gR_c4, gR_c5, gR_c6, gR_c15, gR_c16, gI_c7, pI_c7, gI_c8, pI_c8, gI_c9, pI_c9, gI_c10, pI_c10, gI_c11, pI_c11, gI_c12, pI_c12, gI_c13, pI_c13, gI_c14, pI_c14, gN_9, gN_10, gN_11, gN_12, gN_13, gN_14, gN_15, gN_16, gN_17, gN_18, gN_19, gN_20, gN_21, gN_22, gN_23, pN_9, pN_10, pN_11, pN_12, pN_13, pN_14, pN_15, pN_16, pN_17, pN_18, pN_19, pN_20, pN_21, pN_22, pZ_0, pZ_1, gR_n0, aI_n0, sI_n0, gR_n1, aI_n1, sI_n1, gR_n2, aI_n2, sI_n2, gR_n3, aI_n3, sI_n3, gR_n4, aI_n4, sI_n4, gR_n5, aI_n5, sI_n5, gR_n6, aI_n6, sI_n6, gR_n7, aI_n7, sI_n7, gR_n8, aI_n8, sI_n8, aR_s, aI_s, sI_s, aR_h, aI_h, sI_h, aR_r, aI_r, sI_r, aI_c, sI_c, aI_l, sI_l, aI_ca, aI_ha, sI_ca, sI_ha, gI_mo, pI_mo]
    rw [if_pos d]
end
section
variable {g mi mn F : Row} {S : Nat → Int32} {M : Mem} {Λ : Law} {h : His} {FL : Int → ELog} {R : Int} {D : DK}
theorem m_ticks (hT : LT M) (hΛ : LawT M Λ) (I : InvS g h FL R D) (hmi : clip mi = mi) {v : Int} (c0 : -2147483648 ≤ v) (c1 : v ≤ 2147483647) (hR : R + 1400 ≤ 1000000) :
    ∃ mi' mn' F' S', clip mi' = mi' ∧ sX8_ticks (some 3772) (iI v) (tw g mi mn F S M) = some (iI (ticksS Λ g v).1, tw (ticksS Λ g v).2 mi' mn' F' S' M) := by
  have y1 : ∀ σ, sX8_in (iI v) (iI 1) (iI 200) σ = some (bI (1 ≤ v ∧ v ≤ 200), σ) := fun σ => m_in c0 c1 (by omega) (by omega) (by omega) (by omega)
  unfold ticksS
  by_cases d : 1 ≤ v ∧ v ≤ 200
  · rw [if_pos d]
    obtain ⟨m1, m2, F2, S2, x0, x1⟩ := m_ticksGo (mn := mn) (F := F) (S := S) hT hΛ I hmi (v := v) (by omega) (by omega) (by omega)
    refine ⟨m1, m2, F2, S2, x0, ?_⟩
    simp (disch := first | assumption | omega) only [sX8_ticks, z10, z00, if_true, if_false, iv_add, iv_sub, iv_mul, iv_le, iv_lt, iv_eq, iv_mx, iv_mn, bI_z, bI_o, rZ0, rZ1, rZb, cl_some', lt_eq, rm_eq, dv_eq, iv_01, iv_10, the, lastA, lpA, st_eq, st_ne, cV_tw, gR_0, gR_3, gR_4, gR_27, gR_28, gI_29, aI_now, aI_mn, aI_mi, aI_fa, sI_now, sI_mn, sI_mi, sI_fa, pI_29, y1, x1]
    rw [if_neg (fun hc => hc d)]
  · rw [if_neg d]
    refine ⟨mi, mn, F, S, hmi, ?_⟩
    simp (disch := first | assumption | omega) only [sX8_ticks, z10, z00, if_true, if_false, iv_add, iv_sub, iv_mul, iv_le, iv_lt, iv_eq, iv_mx, iv_mn, bI_z, bI_o, rZ0, rZ1, rZb, cl_some', lt_eq, rm_eq, dv_eq, iv_01, iv_10, the, lastA, lpA, st_eq, st_ne, cV_tw, gR_0, gR_3, gR_4, gR_27, gR_28, gI_29, aI_now, aI_mn, aI_mi, aI_fa, sI_now, sI_mn, sI_mi, sI_fa, pI_29, y1]
    rw [if_pos d]
end
