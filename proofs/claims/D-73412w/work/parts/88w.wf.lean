/-! DEPS: we -/
/-! WF: TermLog tries, waits, keeps, puts back -/
theorem iI_wrap (x : Int) : iI x = iI (x + 4294967296) := by
  unfold iI
  rw [← Int32.toInt_inj, Int32.toInt_ofInt, Int32.toInt_ofInt]
  show x.bmod 4294967296 = (x + ((4294967296 : Nat) : Int)).bmod 4294967296
  rw [Int.add_bmod_right]
/-- a number less a little, in range -/
theorem iv_less {w c : Int} (w0 : -2147483648 ≤ w) (w1 : w ≤ 2147483647) (c0 : 0 ≤ c) (c1 : c ≤ 100) : ∃ a, iI w - iI c = iI a ∧ -2147483648 ≤ a ∧ a ≤ 2147483647 ∧ ∀ n, n ≤ 1000 → ((0 ≤ a ∧ a < n) = (0 ≤ w - c ∧ w - c < n)) := by
  by_cases d : -2147483648 ≤ w - c
  · exact ⟨w - c, iv_sub w c, d, by omega, fun n _ => rfl⟩
  · exact ⟨w - c + 4294967296, (iv_sub w c).trans (iI_wrap _), by omega, by omega, fun n _ => propext (by omega)⟩
theorem InvS.heldV {g : Row} {h : His} {FL : Int → ELog} {R : Int} {D : DK} (I : InvS g h FL R D) {v : Int} (v0 : 0 ≤ v) : InvS (st g 11138 v) h FL R (g 11134 - v, D.2) := by
  have o : ∀ x, x < 11138 → st g 11138 v x = g x := fun x a => st_ne (by omega)
  have hA := I.ar
  have hG := I.gl
  refine ⟨I.hi, fun n n0 n1 => NA_ext (fun x _ _ => o x (by omega)) (o _ (by omega)) (I.na n n0 n1), fun n n0 n1 => ?_, fun i a b => ?_, GlA_ext hG (o _ (by omega)) (o _ (by omega)) (o _ (by omega)) (by rw [o _ (by omega)]; obtain ⟨_, _, _, _, _, _, _, _, _, _, _, _⟩ := hG; omega) (o _ (by omega)) (o _ (by omega)), fun x a b => by rw [o x (by omega)]; exact I.hd x a b, fun i a b => by rw [o _ (by omega), o _ (by omega)]; exact I.hc i a b, RdA_ext (o _ (by omega)) hA.2 (fun x _ _ => o x (by omega)) I.rd, fun r a b c => ?_, fun t a b => by rw [o t (by omega)]; exact I.ld t a b, fun k a b => by rw [o _ (by omega)]; exact I.ct k a b, by rw [o _ (by omega), st_eq, o _ (by omega)]; exact ⟨by show g 11134 = v + (g 11134 - v); omega, v0, I.dd.2.2⟩, I.rr⟩
  · obtain ⟨⟨s1, s2⟩, _⟩ := I.na n n0 n1
    exact NB_ext (fun x _ _ _ => o x (by omega)) ⟨n0, by omega, by omega⟩ (I.nb n n0 n1)
  · rw [o _ (by omega)] at b
    rw [o 11134 (by omega)]
    obtain ⟨_, _, _, _, _, _, _, _, _, _, _, _⟩ := hG
    obtain ⟨q1, q2⟩ := I.ml i a b
    have e : ∀ w, 0 ≤ w → w < 27 → msg (st g 11138 v) i w = msg g i w := fun w w0 w1 => o _ (by omega)
    exact ⟨MI_ext (fun w w0 w1 _ => e w w0 w1) q1, by rw [e 4 (by omega) (by omega)]; exact q2⟩
  · rw [o _ (by omega)] at b
    rw [o _ (by omega)] at c
    have := I.rd r a b
    rw [o (11028 + 6 * r) (by omega), o _ (by omega)]
    exact I.rl r a b c
abbrev tryOk (w : Int) : Prop := (0 ≤ w ∧ w < 4) ∨ (0 ≤ w - 10 ∧ w - 10 < 7) ∨ (0 ≤ w - 20 ∧ w - 20 < 7) ∨ (0 ≤ w - 30 ∧ w - 30 < 7)
/-- what is told of a row that was tried -/
def toldS (h : Row) (w : Int) : Int := if w = 0 then h 11138 else if w = 1 then leadNowS h else if w = 2 then h 11133 else if w = 3 then h 11136 else if 20 ≤ w then (if 30 ≤ w then h (244 * (w - 30) + 3) else h (244 * (w - 20) + 1)) else h (244 * (w - 10) + 9)
noncomputable def triedS (Λ : Law) (g : Row) (v w : Int) : Int := if ¬ (1 ≤ v ∧ v ≤ 200) then -1 else if ¬ tryOk w then -1 else toldS (ticksG Λ g v.toNat) w
section
variable {A B : Nat} {h g C Hd Mo k Ck Hk Mk : Row} {M N : Mem} {Λ : Law} {hs : His} {FL : Int → ELog} {R : Int} {D : DK}
theorem gR_t2 {β : Type} (hL : LyC B M) (hN : mP M 0 2 = some A) {f : Option Nat → Option β} : gR (tl B h C Hd Mo M) (some 0) 0 2 f = f (some A) := (if_pos hL.k0.1).trans (congrArg f hN)
theorem gR_t3 {β : Type} (hL : LyC B M) (hN : mP M 0 3 = some A) {f : Option Nat → Option β} : gR (tl B h C Hd Mo M) (some 0) 0 3 f = f (some A) := (if_pos hL.k0.1).trans (congrArg f hN)
theorem gR_t1' {β : Type} (hL : LyC B M) (hN : mP M 0 1 = some A) {f : Option Nat → Option β} : gR (tl B h C Hd Mo M) (some 0) 0 1 f = f (some A) := (if_pos hL.k0.1).trans (congrArg f hN)
theorem t_told (hL : LyC A N) (h2 : mP N 0 2 = some A) (h13 : mI N A 13 = 0) (rel : Rel h g) (I : InvS g hs FL R D) {v w : Int} (ok : tryOk w) :
    (if iI w = iI 0 then
    gR (tl A h C Hd Mo N) (some 0) 0 2 fun x7 =>
    gI (tl A h C Hd Mo N) x7 2 13 fun x8 =>
    some (x8, tl A h C Hd Mo N)
  else
    if iI w = iI 1 then
      gR (tl A h C Hd Mo N) (some 0) 0 2 fun x9 =>
      cV (tl A h C Hd Mo N) x9 2 <|
      cl (sX3_leads_2 x9 (tl A h C Hd Mo N)) fun x10 s11 =>
      some (x10, s11)
    else
      if iI w = iI 2 then
        gR (tl A h C Hd Mo N) (some 0) 0 2 fun x12 =>
        gI (tl A h C Hd Mo N) x12 2 7 fun x13 =>
        some (x13, tl A h C Hd Mo N)
      else
        if iI w = iI 3 then
          gR (tl A h C Hd Mo N) (some 0) 0 2 fun x14 =>
          gI (tl A h C Hd Mo N) x14 2 10 fun x15 =>
          some (x15, tl A h C Hd Mo N)
        else
          if (iI 20) ≤ iI w then
            if (iI 30) ≤ iI w then
              gR (tl A h C Hd Mo N) (some 0) 0 2 fun x16 =>
              gR (tl A h C Hd Mo N) x16 2 0 fun x17 =>
              aR (tl A h C Hd Mo N) x17 23 (iI w - (iI 30)) fun x18 =>
              gI (tl A h C Hd Mo N) x18 3 16 fun x19 =>
              some (x19, tl A h C Hd Mo N)
            else
              gR (tl A h C Hd Mo N) (some 0) 0 2 fun x20 =>
              gR (tl A h C Hd Mo N) x20 2 0 fun x21 =>
              aR (tl A h C Hd Mo N) x21 23 (iI w - (iI 20)) fun x22 =>
              gI (tl A h C Hd Mo N) x22 3 9 fun x23 =>
              some (x23, tl A h C Hd Mo N)
          else
            gR (tl A h C Hd Mo N) (some 0) 0 2 fun x24 =>
            gR (tl A h C Hd Mo N) x24 2 0 fun x25 =>
            aR (tl A h C Hd Mo N) x25 23 (iI w - (iI 10)) fun x26 =>
            gI (tl A h C Hd Mo N) x26 3 17 fun x27 =>
            some (x27, tl A h C Hd Mo N)) = some (iI (toldS g w), tl A h C Hd Mo N) := by
  have e38 := rel.gl 11138 (by omega) (by omega)
  have e33 := rel.gl 11133 (by omega) (by omega)
  have e36 := rel.gl 11136 (by omega) (by omega)
  have le : sX3_leads_2 (some A) (tl A h C Hd Mo N) = some (iI (leadNowS g), tl A h C Hd Mo N) := t_lead_5 (C := C) (Hd := Hd) (Mo := Mo) hL rel I 7 (-2) 0 FU (by omega) (by omega) (Or.inl rfl) (by unfold FU; omega)
  unfold toldS
  unfold tryOk at ok
  by_cases c0 : w = 0
  · subst c0
    simp (disch := first | assumption | omega) only [gR_t2, z10, z00, if_true, if_false, iv_add, iv_sub, iv_mul, iv_le, iv_lt, iv_eq, iv_mx, iv_mn, bI_z, bI_o, rZ0, rZ1, rZb, cl_some', lt_eq, rm_eq, dv_eq, iv_01, iv_10, the, lastA, lpA, st_eq, st_ne, sh_addM, cV_cl, cV_nd, cV_mo, cV_lt, gR_t0, aR_nd, gR_c0, gR_c1, gR_c2, gR_c3, gR_c4, gR_c5, gR_c6, gR_c15, gR_c16, gI_c7, pI_c7, gI_c8, pI_c8, gI_c9, pI_c9, gI_c10, pI_c10, gI_c11, pI_c11, gI_c12, pI_c12, gI_c13, pI_c13, gI_c14, pI_c14, gN_9, gN_10, gN_11, gN_12, gN_13, gN_14, gN_15, gN_16, gN_17, gN_18, gN_19, gN_20, gN_21, gN_22, gN_23, pN_9, pN_10, pN_11, pN_12, pN_13, pN_14, pN_15, pN_16, pN_17, pN_18, pN_19, pN_20, pN_21, pN_22, pZ_0, pZ_1, gR_n0, aI_n0, sI_n0, gR_n1, aI_n1, sI_n1, gR_n2, aI_n2, sI_n2, gR_n3, aI_n3, sI_n3, gR_n4, aI_n4, sI_n4, gR_n5, aI_n5, sI_n5, gR_n6, aI_n6, sI_n6, gR_n7, aI_n7, sI_n7, gR_n8, aI_n8, sI_n8, aR_s, aI_s, sI_s, aR_h, aI_h, sI_h, aR_r, aI_r, sI_r, aI_c, sI_c, aI_l, sI_l, aI_ca, aI_ha, sI_ca, sI_ha, gI_mo, pI_mo]
    rw [h13, Int32.add_zero, e38]
  · rw [if_neg c0]
    by_cases c1 : w = 1
    · subst c1
      simp (disch := first | assumption | omega) only [gR_t2, z10, z00, if_true, if_false, iv_add, iv_sub, iv_mul, iv_le, iv_lt, iv_eq, iv_mx, iv_mn, bI_z, bI_o, rZ0, rZ1, rZb, cl_some', lt_eq, rm_eq, dv_eq, iv_01, iv_10, the, lastA, lpA, st_eq, st_ne, sh_addM, cV_cl, cV_nd, cV_mo, cV_lt, gR_t0, aR_nd, gR_c0, gR_c1, gR_c2, gR_c3, gR_c4, gR_c5, gR_c6, gR_c15, gR_c16, gI_c7, pI_c7, gI_c8, pI_c8, gI_c9, pI_c9, gI_c10, pI_c10, gI_c11, pI_c11, gI_c12, pI_c12, gI_c13, pI_c13, gI_c14, pI_c14, gN_9, gN_10, gN_11, gN_12, gN_13, gN_14, gN_15, gN_16, gN_17, gN_18, gN_19, gN_20, gN_21, gN_22, gN_23, pN_9, pN_10, pN_11, pN_12, pN_13, pN_14, pN_15, pN_16, pN_17, pN_18, pN_19, pN_20, pN_21, pN_22, pZ_0, pZ_1, gR_n0, aI_n0, sI_n0, gR_n1, aI_n1, sI_n1, gR_n2, aI_n2, sI_n2, gR_n3, aI_n3, sI_n3, gR_n4, aI_n4, sI_n4, gR_n5, aI_n5, sI_n5, gR_n6, aI_n6, sI_n6, gR_n7, aI_n7, sI_n7, gR_n8, aI_n8, sI_n8, aR_s, aI_s, sI_s, aR_h, aI_h, sI_h, aR_r, aI_r, sI_r, aI_c, sI_c, aI_l, sI_l, aI_ca, aI_ha, sI_ca, sI_ha, gI_mo, pI_mo, le, ↓reduceIte]
    · rw [if_neg c1]
      by_cases c2 : w = 2
      · subst c2
        simp (disch := first | assumption | omega) only [gR_t2, z10, z00, if_true, if_false, iv_add, iv_sub, iv_mul, iv_le, iv_lt, iv_eq, iv_mx, iv_mn, bI_z, bI_o, rZ0, rZ1, rZb, cl_some', lt_eq, rm_eq, dv_eq, iv_01, iv_10, the, lastA, lpA, st_eq, st_ne, sh_addM, cV_cl, cV_nd, cV_mo, cV_lt, gR_t0, aR_nd, gR_c0, gR_c1, gR_c2, gR_c3, gR_c4, gR_c5, gR_c6, gR_c15, gR_c16, gI_c7, pI_c7, gI_c8, pI_c8, gI_c9, pI_c9, gI_c10, pI_c10, gI_c11, pI_c11, gI_c12, pI_c12, gI_c13, pI_c13, gI_c14, pI_c14, gN_9, gN_10, gN_11, gN_12, gN_13, gN_14, gN_15, gN_16, gN_17, gN_18, gN_19, gN_20, gN_21, gN_22, gN_23, pN_9, pN_10, pN_11, pN_12, pN_13, pN_14, pN_15, pN_16, pN_17, pN_18, pN_19, pN_20, pN_21, pN_22, pZ_0, pZ_1, gR_n0, aI_n0, sI_n0, gR_n1, aI_n1, sI_n1, gR_n2, aI_n2, sI_n2, gR_n3, aI_n3, sI_n3, gR_n4, aI_n4, sI_n4, gR_n5, aI_n5, sI_n5, gR_n6, aI_n6, sI_n6, gR_n7, aI_n7, sI_n7, gR_n8, aI_n8, sI_n8, aR_s, aI_s, sI_s, aR_h, aI_h, sI_h, aR_r, aI_r, sI_r, aI_c, sI_c, aI_l, sI_l, aI_ca, aI_ha, sI_ca, sI_ha, gI_mo, pI_mo, e33, ↓reduceIte]
        rw [if_neg (by omega), if_neg (by omega)]
      · rw [if_neg c2]
        by_cases c3 : w = 3
        · subst c3
          simp (disch := first | assumption | omega) only [gR_t2, z10, z00, if_true, if_false, iv_add, iv_sub, iv_mul, iv_le, iv_lt, iv_eq, iv_mx, iv_mn, bI_z, bI_o, rZ0, rZ1, rZb, cl_some', lt_eq, rm_eq, dv_eq, iv_01, iv_10, the, lastA, lpA, st_eq, st_ne, sh_addM, cV_cl, cV_nd, cV_mo, cV_lt, gR_t0, aR_nd, gR_c0, gR_c1, gR_c2, gR_c3, gR_c4, gR_c5, gR_c6, gR_c15, gR_c16, gI_c7, pI_c7, gI_c8, pI_c8, gI_c9, pI_c9, gI_c10, pI_c10, gI_c11, pI_c11, gI_c12, pI_c12, gI_c13, pI_c13, gI_c14, pI_c14, gN_9, gN_10, gN_11, gN_12, gN_13, gN_14, gN_15, gN_16, gN_17, gN_18, gN_19, gN_20, gN_21, gN_22, gN_23, pN_9, pN_10, pN_11, pN_12, pN_13, pN_14, pN_15, pN_16, pN_17, pN_18, pN_19, pN_20, pN_21, pN_22, pZ_0, pZ_1, gR_n0, aI_n0, sI_n0, gR_n1, aI_n1, sI_n1, gR_n2, aI_n2, sI_n2, gR_n3, aI_n3, sI_n3, gR_n4, aI_n4, sI_n4, gR_n5, aI_n5, sI_n5, gR_n6, aI_n6, sI_n6, gR_n7, aI_n7, sI_n7, gR_n8, aI_n8, sI_n8, aR_s, aI_s, sI_s, aR_h, aI_h, sI_h, aR_r, aI_r, sI_r, aI_c, sI_c, aI_l, sI_l, aI_ca, aI_ha, sI_ca, sI_ha, gI_mo, pI_mo, e36, ↓reduceIte]
          rw [if_neg (by omega), if_neg (by omega), if_neg (by omega)]
        · rw [if_neg c3]
          have f0 : ¬ iI w = iI 0 := by rw [iv_eq (by omega) (by omega) (by omega) (by omega)]; exact c0
          have f1 : ¬ iI w = iI 1 := by rw [iv_eq (by omega) (by omega) (by omega) (by omega)]; exact c1
          have f2 : ¬ iI w = iI 2 := by rw [iv_eq (by omega) (by omega) (by omega) (by omega)]; exact c2
          have f3 : ¬ iI w = iI 3 := by rw [iv_eq (by omega) (by omega) (by omega) (by omega)]; exact c3
          rw [if_neg f0, if_neg f1, if_neg f2, if_neg f3]
          by_cases c4 : 20 ≤ w
          · rw [if_pos c4, if_pos (show iI 20 ≤ iI w by rw [iv_le (by omega) (by omega) (by omega) (by omega)]; exact c4)]
            by_cases c5 : 30 ≤ w
            · have q := (rel.nd (w - 30) (by omega) (by omega)).s 3 (by omega) (by omega)
              rw [if_pos c5, if_pos (show iI 30 ≤ iI w by rw [iv_le (by omega) (by omega) (by omega) (by omega)]; exact c5)]
              simp (disch := first | assumption | omega) only [gR_t2, z10, z00, if_true, if_false, iv_add, iv_sub, iv_mul, iv_le, iv_lt, iv_eq, iv_mx, iv_mn, bI_z, bI_o, rZ0, rZ1, rZb, cl_some', lt_eq, rm_eq, dv_eq, iv_01, iv_10, the, lastA, lpA, st_eq, st_ne, sh_addM, cV_cl, cV_nd, cV_mo, cV_lt, gR_t0, aR_nd, gR_c0, gR_c1, gR_c2, gR_c3, gR_c4, gR_c5, gR_c6, gR_c15, gR_c16, gI_c7, pI_c7, gI_c8, pI_c8, gI_c9, pI_c9, gI_c10, pI_c10, gI_c11, pI_c11, gI_c12, pI_c12, gI_c13, pI_c13, gI_c14, pI_c14, gN_9, gN_10, gN_11, gN_12, gN_13, gN_14, gN_15, gN_16, gN_17, gN_18, gN_19, gN_20, gN_21, gN_22, gN_23, pN_9, pN_10, pN_11, pN_12, pN_13, pN_14, pN_15, pN_16, pN_17, pN_18, pN_19, pN_20, pN_21, pN_22, pZ_0, pZ_1, gR_n0, aI_n0, sI_n0, gR_n1, aI_n1, sI_n1, gR_n2, aI_n2, sI_n2, gR_n3, aI_n3, sI_n3, gR_n4, aI_n4, sI_n4, gR_n5, aI_n5, sI_n5, gR_n6, aI_n6, sI_n6, gR_n7, aI_n7, sI_n7, gR_n8, aI_n8, sI_n8, aR_s, aI_s, sI_s, aR_h, aI_h, sI_h, aR_r, aI_r, sI_r, aI_c, sI_c, aI_l, sI_l, aI_ca, aI_ha, sI_ca, sI_ha, gI_mo, pI_mo, q]
            · have q := (rel.nd (w - 20) (by omega) (by omega)).s 1 (by omega) (by omega)
              rw [if_neg c5, if_neg (show ¬ iI 30 ≤ iI w by rw [iv_le (by omega) (by omega) (by omega) (by omega)]; exact c5)]
              simp (disch := first | assumption | omega) only [gR_t2, z10, z00, if_true, if_false, iv_add, iv_sub, iv_mul, iv_le, iv_lt, iv_eq, iv_mx, iv_mn, bI_z, bI_o, rZ0, rZ1, rZb, cl_some', lt_eq, rm_eq, dv_eq, iv_01, iv_10, the, lastA, lpA, st_eq, st_ne, sh_addM, cV_cl, cV_nd, cV_mo, cV_lt, gR_t0, aR_nd, gR_c0, gR_c1, gR_c2, gR_c3, gR_c4, gR_c5, gR_c6, gR_c15, gR_c16, gI_c7, pI_c7, gI_c8, pI_c8, gI_c9, pI_c9, gI_c10, pI_c10, gI_c11, pI_c11, gI_c12, pI_c12, gI_c13, pI_c13, gI_c14, pI_c14, gN_9, gN_10, gN_11, gN_12, gN_13, gN_14, gN_15, gN_16, gN_17, gN_18, gN_19, gN_20, gN_21, gN_22, gN_23, pN_9, pN_10, pN_11, pN_12, pN_13, pN_14, pN_15, pN_16, pN_17, pN_18, pN_19, pN_20, pN_21, pN_22, pZ_0, pZ_1, gR_n0, aI_n0, sI_n0, gR_n1, aI_n1, sI_n1, gR_n2, aI_n2, sI_n2, gR_n3, aI_n3, sI_n3, gR_n4, aI_n4, sI_n4, gR_n5, aI_n5, sI_n5, gR_n6, aI_n6, sI_n6, gR_n7, aI_n7, sI_n7, gR_n8, aI_n8, sI_n8, aR_s, aI_s, sI_s, aR_h, aI_h, sI_h, aR_r, aI_r, sI_r, aI_c, sI_c, aI_l, sI_l, aI_ca, aI_ha, sI_ca, sI_ha, gI_mo, pI_mo, q]
          · have q := (rel.nd (w - 10) (by omega) (by omega)).s 9 (by omega) (by omega)
            rw [if_neg c4, if_neg (show ¬ iI 20 ≤ iI w by rw [iv_le (by omega) (by omega) (by omega) (by omega)]; exact c4)]
            simp (disch := first | assumption | omega) only [gR_t2, z10, z00, if_true, if_false, iv_add, iv_sub, iv_mul, iv_le, iv_lt, iv_eq, iv_mx, iv_mn, bI_z, bI_o, rZ0, rZ1, rZb, cl_some', lt_eq, rm_eq, dv_eq, iv_01, iv_10, the, lastA, lpA, st_eq, st_ne, sh_addM, cV_cl, cV_nd, cV_mo, cV_lt, gR_t0, aR_nd, gR_c0, gR_c1, gR_c2, gR_c3, gR_c4, gR_c5, gR_c6, gR_c15, gR_c16, gI_c7, pI_c7, gI_c8, pI_c8, gI_c9, pI_c9, gI_c10, pI_c10, gI_c11, pI_c11, gI_c12, pI_c12, gI_c13, pI_c13, gI_c14, pI_c14, gN_9, gN_10, gN_11, gN_12, gN_13, gN_14, gN_15, gN_16, gN_17, gN_18, gN_19, gN_20, gN_21, gN_22, gN_23, pN_9, pN_10, pN_11, pN_12, pN_13, pN_14, pN_15, pN_16, pN_17, pN_18, pN_19, pN_20, pN_21, pN_22, pZ_0, pZ_1, gR_n0, aI_n0, sI_n0, gR_n1, aI_n1, sI_n1, gR_n2, aI_n2, sI_n2, gR_n3, aI_n3, sI_n3, gR_n4, aI_n4, sI_n4, gR_n5, aI_n5, sI_n5, gR_n6, aI_n6, sI_n6, gR_n7, aI_n7, sI_n7, gR_n8, aI_n8, sI_n8, aR_s, aI_s, sI_s, aR_h, aI_h, sI_h, aR_r, aI_r, sI_r, aI_c, sI_c, aI_l, sI_l, aI_ca, aI_ha, sI_ca, sI_ha, gI_mo, pI_mo, q]
theorem t_tried_51 (d : Dj A B) (hA : LyC A M) (hB : LyC B M) (h1 : mP M 0 1 = some B) (h2 : mP M 0 2 = some A) (h13 : mI M A 13 = 0) (hΛ : LawL (tl B h C Hd Mo M) Λ) (rel : Rel h g) (I : InvS g hs FL R D) {v w : Int} (v0 : 1 ≤ v) (v1 : v ≤ 200) (ok : tryOk w) (hR : R + 1400 ≤ 1000000) :
    ∃ k' Ck' Hk' Mo', sX0_tried_51 (some 0) (iI v) (iI w) (tl A k Ck Hk Mo (tl B h C Hd Mo M)) = some (iI (toldS (ticksG Λ g v.toNat) w), tl A k' Ck' Hk' Mo' (tl B h C Hd Mo M)) := by
  have hA2 : LyC A (tl B h C Hd Mo M) := hA
  have n1 : mP (tl B h C Hd Mo M) 0 1 = some B := h1
  have n2 : mP (tl B h C Hd Mo M) 0 2 = some A := h2
  have n13 : mI (tl B h C Hd Mo M) A 13 = 0 := by
    have a2 := hA.b2
    have d' := d
    unfold Dj at d'
    exact (tl_out (by omega) (by omega)).trans h13
  have rx := rel.clock I.bd (p := 11138) (v := 0) (by omega)
  obtain ⟨k1, x1, x2⟩ := t_takes (h := k) (C := Ck) (Hd := Hk) (Mo := Mo) (k := h) (Ck := C) (Hk := Hd) (Mk := Mo) d hA hB (rx.tkb I)
  have r1 := rx.copied I.bd (fun n n0 n1 => ((rx.tkb I).1 n n0 n1).2.1) x2
  have bd1 : BdA (st g 11138 (k1 11138)) := (I.heldV (v := 0) (by omega)).bd.elim (fun a b => ⟨fun n n0 n1 => by rw [st_ne (by omega)]; exact I.bd.1 n n0 n1, by
    have hG := I.gl
    exact GlA_ext hG (st_ne (by omega)) (st_ne (by omega)) (st_ne (by omega)) (by rw [st_ne (by omega)]; obtain ⟨_, _, _, _, _, _, _, _, _, _, _, _⟩ := hG; omega) (st_ne (by omega)) (st_ne (by omega))⟩)
  have r2 := r1.clock bd1 (p := 11138) (v := 0) (by omega)
  have ess : st (st g 11138 (k1 11138)) 11138 0 = st g 11138 0 := by
    funext x
    unfold st
    split
    · rfl
    · rfl
  rw [ess] at r2
  obtain ⟨k2, C2, H2, M2, y1, y2⟩ := t_goesTicks0 (C := Ck) (Hd := Hk) (Mo := Mo) hA2 n13 hΛ r2 I (v := v) (by omega) (by omega) (by omega)
  obtain ⟨K, hs3, FL3, G3, I3⟩ := InvS.ticksK (Λ := Λ) v.toNat _ hs FL R _ I.anew (by omega)
  have z := t_told (h := k2) (C := C2) (Hd := H2) (Mo := M2) (v := v) (w := w) hA2 n2 n13 y2 I3 ok
  refine ⟨k2, C2, H2, M2, ?_⟩
  rw [← z]
  simp (disch := first | assumption | omega) only [sX0_tried_51, gR_t2, gR_t1', z10, z00, if_true, if_false, iv_add, iv_sub, iv_mul, iv_le, iv_lt, iv_eq, iv_mx, iv_mn, bI_z, bI_o, rZ0, rZ1, rZb, cl_some', lt_eq, rm_eq, dv_eq, iv_01, iv_10, the, lastA, lpA, st_eq, st_ne, sh_addM, cV_cl, cV_nd, cV_mo, cV_lt, gR_t0, aR_nd, gR_c0, gR_c1, gR_c2, gR_c3, gR_c4, gR_c5, gR_c6, gR_c15, gR_c16, gI_c7, pI_c7, gI_c8, pI_c8, gI_c9, pI_c9, gI_c10, pI_c10, gI_c11, pI_c11, gI_c12, pI_c12, gI_c13, pI_c13, gI_c14, pI_c14, gN_9, gN_10, gN_11, gN_12, gN_13, gN_14, gN_15, gN_16, gN_17, gN_18, gN_19, gN_20, gN_21, gN_22, gN_23, pN_9, pN_10, pN_11, pN_12, pN_13, pN_14, pN_15, pN_16, pN_17, pN_18, pN_19, pN_20, pN_21, pN_22, pZ_0, pZ_1, gR_n0, aI_n0, sI_n0, gR_n1, aI_n1, sI_n1, gR_n2, aI_n2, sI_n2, gR_n3, aI_n3, sI_n3, gR_n4, aI_n4, sI_n4, gR_n5, aI_n5, sI_n5, gR_n6, aI_n6, sI_n6, gR_n7, aI_n7, sI_n7, gR_n8, aI_n8, sI_n8, aR_s, aI_s, sI_s, aR_h, aI_h, sI_h, aR_r, aI_r, sI_r, aI_c, sI_c, aI_l, sI_l, aI_ca, aI_ha, sI_ca, sI_ha, gI_mo, pI_mo, x1, y1]
theorem t_tried (d : Dj A B) (hA : LyC A M) (hB : LyC B M) (h1 : mP M 0 1 = some B) (h2 : mP M 0 2 = some A) (h13 : mI M A 13 = 0) (hΛ : LawL (tl B h C Hd Mo M) Λ) (rel : Rel h g) (I : InvS g hs FL R D) {v w : Int} (v0 : -2147483648 ≤ v) (v1 : v ≤ 2147483647) (w0 : -2147483648 ≤ w) (w1 : w ≤ 2147483647) (hR : R + 1400 ≤ 1000000) :
    ∃ k' Ck' Hk' Mo' Mk', sX0_tried (some 0) (iI v) (iI w) (tl B h C Hd Mo (tl A k Ck Hk Mk M)) = some (iI (triedS Λ g v w), tl B h C Hd Mo' (tl A k' Ck' Hk' Mk' M)) := by
  have a2 := hA.b2
  have b2 := hB.b2
  unfold triedS
  by_cases c : 1 ≤ v ∧ v ≤ 200
  · rw [if_neg (fun q => q c)]
    obtain ⟨a10, e10, r10, s10, t10⟩ := iv_less (c := 10) w0 w1 (by omega) (by omega)
    obtain ⟨a20, e20, r20, s20, t20⟩ := iv_less (c := 20) w0 w1 (by omega) (by omega)
    obtain ⟨a30, e30, r30, s30, t30⟩ := iv_less (c := 30) w0 w1 (by omega) (by omega)
    have t10 := t10 7 (by omega)
    have t20 := t20 7 (by omega)
    have t30 := t30 7 (by omega)
    by_cases ok : tryOk w
    · rw [if_neg (fun q => q ok)]
      obtain ⟨k', C', H', M', x1⟩ := t_tried_51 (k := k) (Ck := Ck) (Hk := Hk) d hA hB h1 h2 h13 hΛ rel I c.1 c.2 ok hR
      refine ⟨k', C', H', M', M', ?_⟩
      rw [tl_com Mo d.sym b2 a2, tl_com Mo d.sym b2 a2, ← x1]
      unfold tryOk at ok
      unfold sX0_tried
      simp only [t_within v0 v1 (show -1000000 ≤ (1 : Int) by omega) (by omega) (show -1000000 ≤ (200 : Int) by omega) (by omega), cl_some', bI_z, t_in w0 w1 (show (0 : Int) ≤ 4 by omega) (by omega), e10, e20, e30, t_isNode r10 s10, t_isNode r20 s20, t_isNode r30 s30, t10, t20, t30]
      rw [if_neg (fun q => q c)]
      by_cases p1 : 0 ≤ w ∧ w < 4
      · rw [if_neg (fun q => q p1)]
      · rw [if_pos p1]
        by_cases p2 : 0 ≤ w - 10 ∧ w - 10 < 7
        · rw [if_neg (fun q => q p2)]
        · rw [if_pos p2]
          by_cases p3 : 0 ≤ w - 20 ∧ w - 20 < 7
          · rw [if_neg (fun q => q p3)]
          · rw [if_pos p3, if_neg (fun q => by rcases ok with o | o | o | o <;> contradiction)]
    · rw [if_pos ok]
      refine ⟨k, Ck, Hk, Mo, Mk, ?_⟩
      unfold tryOk at ok
      unfold sX0_tried
      simp only [t_within v0 v1 (show -1000000 ≤ (1 : Int) by omega) (by omega) (show -1000000 ≤ (200 : Int) by omega) (by omega), cl_some', bI_z, t_in w0 w1 (show (0 : Int) ≤ 4 by omega) (by omega), e10, e20, e30, t_isNode r10 s10, t_isNode r20 s20, t_isNode r30 s30, t10, t20, t30]
      rw [if_neg (fun q => q c), if_pos (fun q => ok (Or.inl q)), if_pos (fun q => ok (Or.inr (Or.inl q))), if_pos (fun q => ok (Or.inr (Or.inr (Or.inl q)))), if_pos (fun q => ok (Or.inr (Or.inr (Or.inr q))))]
  · rw [if_pos c]
    refine ⟨k, Ck, Hk, Mo, Mk, ?_⟩
    unfold sX0_tried
    simp only [t_within v0 v1 (show -1000000 ≤ (1 : Int) by omega) (by omega) (show -1000000 ≤ (200 : Int) by omega) (by omega), cl_some', bI_z]
    rw [if_pos c]
end
