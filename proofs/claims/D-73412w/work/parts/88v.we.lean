/-! DEPS: wd -/
/-! WE: a cluster of TermLog takes another: all of it -/
/-- as many as the copies need to know of the source -/
abbrev TkB (k : Row) : Prop := (∀ n, 0 ≤ n → n < 7 → (k (244 * n + 0) = 0 ∨ k (244 * n + 0) = 1) ∧ 0 ≤ k (244 * n + 8) ∧ k (244 * n + 8) ≤ 48) ∧ 0 ≤ k 11133 ∧ k 11133 ≤ 160 ∧ 0 ≤ k 11134 ∧ k 11134 ≤ 999 ∧ 0 ≤ k 11135 ∧ k 11135 ≤ 16
section
variable {β : Type} {A B : Nat} {h C Hd Mo k Ck Hk Mk : Row} {M N : Mem}
theorem t_cp_r (d : Dj A B) (hA : LyC A M) (hB : LyC B M) {i : Int} (i0 : 0 ≤ i) (i1 : i < 16) {v : Option Nat} :
    ∃ h', sX3_copies v (some (B + 1165 + i.toNat)) (some (A + 1165 + i.toNat)) (tl A h C Hd Mo (tl B k Ck Hk Mk M)) = some ((), tl A h' C Hd Mo (tl B k Ck Hk Mk M)) ∧ Cpd h h' k (fun x => 11028 + 6 * i ≤ x ∧ x < 11028 + 6 * i + 6) := by
  have kA := (hA.kr.2 i.toNat (by omega)).2
  have kB := (hB.kr.2 i.toNat (by omega)).2
  rw [Nat.add_assoc] at kA kB
  have := t_copies (h := h) (C := C) (Hd := Hd) (Mo := Mo) (k := k) (Ck := Ck) (Hk := Hk) (Mk := Mk) (v := v) (p := 11028 + 6 * i) d hA hB (by omega) kA kB (by omega) (fun j hj => by have := plc_r (i := i) (e := j) i0 i1 (by omega) (by omega); rw [show (j : Int).toNat = j by omega] at this; exact this) (by omega)
  rw [Nat.add_assoc, Nat.add_assoc]
  exact this
theorem t_cp_h (d : Dj A B) (hA : LyC A M) (hB : LyC B M) {i : Int} (i0 : 0 ≤ i) (i1 : i < 1000) {v : Option Nat} :
    ∃ h', sX3_copies v (some (B + 164 + i.toNat)) (some (A + 164 + i.toNat)) (tl A h C Hd Mo (tl B k Ck Hk Mk M)) = some ((), tl A h' C Hd Mo (tl B k Ck Hk Mk M)) ∧ Cpd h h' k (fun x => 6028 + 4 * i ≤ x ∧ x < 6028 + 4 * i + 4) := by
  have kA := (hA.kh.2 i.toNat (by omega)).2
  have kB := (hB.kh.2 i.toNat (by omega)).2
  rw [Nat.add_assoc] at kA kB
  have := t_copies (h := h) (C := C) (Hd := Hd) (Mo := Mo) (k := k) (Ck := Ck) (Hk := Hk) (Mk := Mk) (v := v) (p := 6028 + 4 * i) d hA hB (by omega) kA kB (by omega) (fun j hj => by have := plc_h (i := i) (e := j) i0 i1 (by omega) (by omega); rw [show (j : Int).toNat = j by omega] at this; exact this) (by omega)
  rw [Nat.add_assoc, Nat.add_assoc]
  exact this
theorem t_cp_s (d : Dj A B) (hA : LyC A M) (hB : LyC B M) {i : Int} (i0 : 0 ≤ i) (i1 : i < 160) {v : Option Nat} :
    ∃ h', sX3_copies v (some (B + 3 + i.toNat)) (some (A + 3 + i.toNat)) (tl A h C Hd Mo (tl B k Ck Hk Mk M)) = some ((), tl A h' C Hd Mo (tl B k Ck Hk Mk M)) ∧ Cpd h h' k (fun x => 100000 + 32 * i ≤ x ∧ x < 100000 + 32 * i + 32) := by
  have kA := (hA.ks.2 i.toNat (by omega)).2
  have kB := (hB.ks.2 i.toNat (by omega)).2
  rw [Nat.add_assoc] at kA kB
  have := t_copies (h := h) (C := C) (Hd := Hd) (Mo := Mo) (k := k) (Ck := Ck) (Hk := Hk) (Mk := Mk) (v := v) (p := 100000 + 32 * i) d hA hB (by omega) kA kB (by omega) (fun j hj => by have := plc_s (i := i) (e := j) i0 i1 (by omega) (by omega); rw [show (j : Int).toNat = j by omega] at this; exact this) (by omega)
  rw [Nat.add_assoc, Nat.add_assoc]
  exact this
theorem t_cp_l (d : Dj A B) (hA : LyC A M) (hB : LyC B M) {v : Option Nat} :
    ∃ h', sX3_copies v (some (B + 1182)) (some (A + 1182)) (tl A h C Hd Mo (tl B k Ck Hk Mk M)) = some ((), tl A h' C Hd Mo (tl B k Ck Hk Mk M)) ∧ Cpd h h' k (fun x => 10028 ≤ x ∧ x < 11028) := by
  obtain ⟨h', x1, x2⟩ := t_copies (h := h) (C := C) (Hd := Hd) (Mo := Mo) (k := k) (Ck := Ck) (Hk := Hk) (Mk := Mk) (v := v) (p := 10028) d hA hB (show 1182 < 1255 by omega) hA.kc.2.1 hB.kc.2.1 (by omega) (fun j hj => by have := plc_l (e := j) (by omega) (by omega); rw [show (j : Int).toNat = j by omega] at this; exact this) (by omega)
  exact ⟨h', x1, x2.wk (fun x q => by omega)⟩
theorem t_takes_131 (d : Dj A B) (hA : LyC A M) (hB : LyC B M) (tk : TkB k) : ∀ (j : Nat) (h : Row) (i : Int) (fu : Nat), k 11135 - i = j → 0 ≤ i → h 11135 = k 11135 → j < fu →
    ∃ h', sX3_takes_131 fu (some A) (some B) (iI i) (tl A h C Hd Mo (tl B k Ck Hk Mk M)) = some (some A, tl A h' C Hd Mo (tl B k Ck Hk Mk M)) ∧ Cpd h h' k (fun x => (11028 + 6 * i ≤ x ∧ x < 11028 + 6 * k 11135) ∨ (10028 ≤ x ∧ x < 11028) ∨ x = 11131 ∨ x = 11132 ∨ x = 11136 ∨ x = 11137)
  | 0, h, i, fu + 1, e1, e2, em, e3 => by
    obtain ⟨_, _, _, _, _, _, _⟩ := tk
    have hA2 : LyC A (tl B k Ck Hk Mk M) := hA
    obtain ⟨h1, x1, x2⟩ := t_cp_l (h := h) (C := C) (Hd := Hd) (Mo := Mo) (k := k) (Ck := Ck) (Hk := Hk) (Mk := Mk) (v := some A) d hA hB
    refine ⟨st (st (st (st h1 11131 (k 11131)) 11132 (k 11132)) 11136 (k 11136)) 11137 (k 11137), ?_, ((((x2.thn (Cpd.st (p := 11131) (by omega))).thn (Cpd.st (p := 11132) (by omega))).thn (Cpd.st (p := 11136) (by omega))).thn (Cpd.st (p := 11137) (by omega))).wk (fun x q => by omega)⟩
    show sX3_takes_131b (sX3_takes_131 fu) _ _ _ _ = _
    generalize sX3_takes_131 fu = K
    simp (disch := first | assumption | omega) only [sX3_takes_131b, dj_gIc, dj_gIn, dj_aIn, dj_aIc, dj_gRc, dj_gRn, dj_aRc, z10, z00, if_true, if_false, iv_add, iv_sub, iv_mul, iv_le, iv_lt, iv_eq, iv_mx, iv_mn, bI_z, bI_o, rZ0, rZ1, rZb, cl_some', lt_eq, rm_eq, dv_eq, iv_01, iv_10, the, lastA, lpA, st_eq, st_ne, sh_addM, cV_cl, cV_nd, cV_mo, cV_lt, gR_t0, aR_nd, gR_c0, gR_c1, gR_c2, gR_c3, gR_c4, gR_c5, gR_c6, gR_c15, gR_c16, gI_c7, pI_c7, gI_c8, pI_c8, gI_c9, pI_c9, gI_c10, pI_c10, gI_c11, pI_c11, gI_c12, pI_c12, gI_c13, pI_c13, gI_c14, pI_c14, gN_9, gN_10, gN_11, gN_12, gN_13, gN_14, gN_15, gN_16, gN_17, gN_18, gN_19, gN_20, gN_21, gN_22, gN_23, pN_9, pN_10, pN_11, pN_12, pN_13, pN_14, pN_15, pN_16, pN_17, pN_18, pN_19, pN_20, pN_21, pN_22, pZ_0, pZ_1, gR_n0, aI_n0, sI_n0, gR_n1, aI_n1, sI_n1, gR_n2, aI_n2, sI_n2, gR_n3, aI_n3, sI_n3, gR_n4, aI_n4, sI_n4, gR_n5, aI_n5, sI_n5, gR_n6, aI_n6, sI_n6, gR_n7, aI_n7, sI_n7, gR_n8, aI_n8, sI_n8, aR_s, aI_s, sI_s, aR_h, aI_h, sI_h, aR_r, aI_r, sI_r, aI_c, sI_c, aI_l, sI_l, aI_ca, aI_ha, sI_ca, sI_ha, gI_mo, pI_mo, em, x1]
    rw [if_pos (by omega)]
  | j + 1, h, i, fu + 1, e1, e2, em, e3 => by
    have tk' := tk
    obtain ⟨_, _, _, _, _, _, _⟩ := tk'
    have hA2 : LyC A (tl B k Ck Hk Mk M) := hA
    obtain ⟨h1, x1, x2⟩ := t_cp_r (h := h) (C := C) (Hd := Hd) (Mo := Mo) (k := k) (Ck := Ck) (Hk := Hk) (Mk := Mk) (v := some A) d hA hB e2 (show i < 16 by omega)
    obtain ⟨h', y1, y2⟩ := t_takes_131 d hA hB tk j h1 (i + 1) fu (by omega) (by omega) (x2.o em) (by omega)
    refine ⟨h', ?_, (x2.thn y2).wk (fun x q => by omega)⟩
    show sX3_takes_131b (sX3_takes_131 fu) _ _ _ _ = _
    generalize sX3_takes_131 fu = K at y1 ⊢
    simp (disch := first | assumption | omega) only [sX3_takes_131b, dj_gIc, dj_gIn, dj_aIn, dj_aIc, dj_gRc, dj_gRn, dj_aRc, z10, z00, if_true, if_false, iv_add, iv_sub, iv_mul, iv_le, iv_lt, iv_eq, iv_mx, iv_mn, bI_z, bI_o, rZ0, rZ1, rZb, cl_some', lt_eq, rm_eq, dv_eq, iv_01, iv_10, the, lastA, lpA, st_eq, st_ne, sh_addM, cV_cl, cV_nd, cV_mo, cV_lt, gR_t0, aR_nd, gR_c0, gR_c1, gR_c2, gR_c3, gR_c4, gR_c5, gR_c6, gR_c15, gR_c16, gI_c7, pI_c7, gI_c8, pI_c8, gI_c9, pI_c9, gI_c10, pI_c10, gI_c11, pI_c11, gI_c12, pI_c12, gI_c13, pI_c13, gI_c14, pI_c14, gN_9, gN_10, gN_11, gN_12, gN_13, gN_14, gN_15, gN_16, gN_17, gN_18, gN_19, gN_20, gN_21, gN_22, gN_23, pN_9, pN_10, pN_11, pN_12, pN_13, pN_14, pN_15, pN_16, pN_17, pN_18, pN_19, pN_20, pN_21, pN_22, pZ_0, pZ_1, gR_n0, aI_n0, sI_n0, gR_n1, aI_n1, sI_n1, gR_n2, aI_n2, sI_n2, gR_n3, aI_n3, sI_n3, gR_n4, aI_n4, sI_n4, gR_n5, aI_n5, sI_n5, gR_n6, aI_n6, sI_n6, gR_n7, aI_n7, sI_n7, gR_n8, aI_n8, sI_n8, aR_s, aI_s, sI_s, aR_h, aI_h, sI_h, aR_r, aI_r, sI_r, aI_c, sI_c, aI_l, sI_l, aI_ca, aI_ha, sI_ca, sI_ha, gI_mo, pI_mo, em, x1]
    rw [if_neg (by omega)]
    exact y1
theorem t_takes_91 (d : Dj A B) (hA : LyC A M) (hB : LyC B M) (tk : TkB k) : ∀ (j : Nat) (h : Row) (i : Int) (fu : Nat), k 11134 + 1 - i = j → 1 ≤ i → h 11134 = k 11134 → j < fu →
    ∃ h', sX3_takes_91 fu (some A) (some B) (iI i) (tl A h C Hd Mo (tl B k Ck Hk Mk M)) = some (some A, tl A h' C Hd Mo (tl B k Ck Hk Mk M)) ∧ Cpd h h' k (fun x => (6028 + 4 * i ≤ x ∧ x < 6028 + 4 * (k 11134 + 1)) ∨ (11028 ≤ x ∧ x < 11028 + 6 * k 11135) ∨ (10028 ≤ x ∧ x < 11028) ∨ x = 11131 ∨ x = 11132 ∨ x = 11135 ∨ x = 11136 ∨ x = 11137)
  | 0, h, i, fu + 1, e1, e2, em, e3 => by
    have tk' := tk
    obtain ⟨_, _, _, _, _, _, _⟩ := tk'
    have hA2 : LyC A (tl B k Ck Hk Mk M) := hA
    obtain ⟨h1, x1, x2⟩ := t_takes_131 (C := C) (Hd := Hd) (Mo := Mo) (k := k) (Ck := Ck) (Hk := Hk) (Mk := Mk) d hA hB tk (k 11135).toNat (st h 11135 (k 11135)) 0 FU (by omega) (by omega) (st_eq _ _ _) (by unfold FU; omega)
    refine ⟨h1, ?_, ((Cpd.st (h := h) (p := 11135) (by omega)).thn x2).wk (fun x q => by omega)⟩
    show sX3_takes_91b (sX3_takes_91 fu) _ _ _ _ = _
    generalize sX3_takes_91 fu = K
    simp (disch := first | assumption | omega) only [sX3_takes_91b, dj_gIc, dj_gIn, dj_aIn, dj_aIc, dj_gRc, dj_gRn, dj_aRc, z10, z00, if_true, if_false, iv_add, iv_sub, iv_mul, iv_le, iv_lt, iv_eq, iv_mx, iv_mn, bI_z, bI_o, rZ0, rZ1, rZb, cl_some', lt_eq, rm_eq, dv_eq, iv_01, iv_10, the, lastA, lpA, st_eq, st_ne, sh_addM, cV_cl, cV_nd, cV_mo, cV_lt, gR_t0, aR_nd, gR_c0, gR_c1, gR_c2, gR_c3, gR_c4, gR_c5, gR_c6, gR_c15, gR_c16, gI_c7, pI_c7, gI_c8, pI_c8, gI_c9, pI_c9, gI_c10, pI_c10, gI_c11, pI_c11, gI_c12, pI_c12, gI_c13, pI_c13, gI_c14, pI_c14, gN_9, gN_10, gN_11, gN_12, gN_13, gN_14, gN_15, gN_16, gN_17, gN_18, gN_19, gN_20, gN_21, gN_22, gN_23, pN_9, pN_10, pN_11, pN_12, pN_13, pN_14, pN_15, pN_16, pN_17, pN_18, pN_19, pN_20, pN_21, pN_22, pZ_0, pZ_1, gR_n0, aI_n0, sI_n0, gR_n1, aI_n1, sI_n1, gR_n2, aI_n2, sI_n2, gR_n3, aI_n3, sI_n3, gR_n4, aI_n4, sI_n4, gR_n5, aI_n5, sI_n5, gR_n6, aI_n6, sI_n6, gR_n7, aI_n7, sI_n7, gR_n8, aI_n8, sI_n8, aR_s, aI_s, sI_s, aR_h, aI_h, sI_h, aR_r, aI_r, sI_r, aI_c, sI_c, aI_l, sI_l, aI_ca, aI_ha, sI_ca, sI_ha, gI_mo, pI_mo, em, x1]
    rw [if_pos (by omega)]
  | j + 1, h, i, fu + 1, e1, e2, em, e3 => by
    have tk' := tk
    obtain ⟨_, _, _, _, _, _, _⟩ := tk'
    have hA2 : LyC A (tl B k Ck Hk Mk M) := hA
    obtain ⟨h1, x1, x2⟩ := t_cp_h (h := h) (C := C) (Hd := Hd) (Mo := Mo) (k := k) (Ck := Ck) (Hk := Hk) (Mk := Mk) (v := some A) d hA hB (show 0 ≤ i by omega) (show i < 1000 by omega)
    obtain ⟨h', y1, y2⟩ := t_takes_91 d hA hB tk j h1 (i + 1) fu (by omega) (by omega) (x2.o em) (by omega)
    refine ⟨h', ?_, (x2.thn y2).wk (fun x q => by omega)⟩
    show sX3_takes_91b (sX3_takes_91 fu) _ _ _ _ = _
    generalize sX3_takes_91 fu = K at y1 ⊢
    simp (disch := first | assumption | omega) only [sX3_takes_91b, dj_gIc, dj_gIn, dj_aIn, dj_aIc, dj_gRc, dj_gRn, dj_aRc, z10, z00, if_true, if_false, iv_add, iv_sub, iv_mul, iv_le, iv_lt, iv_eq, iv_mx, iv_mn, bI_z, bI_o, rZ0, rZ1, rZb, cl_some', lt_eq, rm_eq, dv_eq, iv_01, iv_10, the, lastA, lpA, st_eq, st_ne, sh_addM, cV_cl, cV_nd, cV_mo, cV_lt, gR_t0, aR_nd, gR_c0, gR_c1, gR_c2, gR_c3, gR_c4, gR_c5, gR_c6, gR_c15, gR_c16, gI_c7, pI_c7, gI_c8, pI_c8, gI_c9, pI_c9, gI_c10, pI_c10, gI_c11, pI_c11, gI_c12, pI_c12, gI_c13, pI_c13, gI_c14, pI_c14, gN_9, gN_10, gN_11, gN_12, gN_13, gN_14, gN_15, gN_16, gN_17, gN_18, gN_19, gN_20, gN_21, gN_22, gN_23, pN_9, pN_10, pN_11, pN_12, pN_13, pN_14, pN_15, pN_16, pN_17, pN_18, pN_19, pN_20, pN_21, pN_22, pZ_0, pZ_1, gR_n0, aI_n0, sI_n0, gR_n1, aI_n1, sI_n1, gR_n2, aI_n2, sI_n2, gR_n3, aI_n3, sI_n3, gR_n4, aI_n4, sI_n4, gR_n5, aI_n5, sI_n5, gR_n6, aI_n6, sI_n6, gR_n7, aI_n7, sI_n7, gR_n8, aI_n8, sI_n8, aR_s, aI_s, sI_s, aR_h, aI_h, sI_h, aR_r, aI_r, sI_r, aI_c, sI_c, aI_l, sI_l, aI_ca, aI_ha, sI_ca, sI_ha, gI_mo, pI_mo, em, x1]
    rw [if_neg (by omega)]
    exact y1
theorem t_takes_51 (d : Dj A B) (hA : LyC A M) (hB : LyC B M) (tk : TkB k) : ∀ (j : Nat) (h : Row) (i : Int) (fu : Nat), k 11133 - i = j → 0 ≤ i → h 11133 = k 11133 → j < fu →
    ∃ h', sX3_takes_51 fu (some A) (some B) (iI i) (tl A h C Hd Mo (tl B k Ck Hk Mk M)) = some (some A, tl A h' C Hd Mo (tl B k Ck Hk Mk M)) ∧ Cpd h h' k (fun x => (100000 + 32 * i ≤ x ∧ x < 100000 + 32 * k 11133) ∨ (6032 ≤ x ∧ x < 6028 + 4 * (k 11134 + 1)) ∨ (11028 ≤ x ∧ x < 11028 + 6 * k 11135) ∨ (10028 ≤ x ∧ x < 11028) ∨ x = 11131 ∨ x = 11132 ∨ x = 11134 ∨ x = 11135 ∨ x = 11136 ∨ x = 11137)
  | 0, h, i, fu + 1, e1, e2, em, e3 => by
    have tk' := tk
    obtain ⟨_, _, _, _, _, _, _⟩ := tk'
    have hA2 : LyC A (tl B k Ck Hk Mk M) := hA
    obtain ⟨h1, x1, x2⟩ := t_takes_91 (C := C) (Hd := Hd) (Mo := Mo) (k := k) (Ck := Ck) (Hk := Hk) (Mk := Mk) d hA hB tk (k 11134).toNat (st h 11134 (k 11134)) 1 FU (by omega) (by omega) (st_eq _ _ _) (by unfold FU; omega)
    refine ⟨h1, ?_, ((Cpd.st (h := h) (p := 11134) (by omega)).thn x2).wk (fun x q => by omega)⟩
    show sX3_takes_51b (sX3_takes_51 fu) _ _ _ _ = _
    generalize sX3_takes_51 fu = K
    simp (disch := first | assumption | omega) only [sX3_takes_51b, dj_gIc, dj_gIn, dj_aIn, dj_aIc, dj_gRc, dj_gRn, dj_aRc, z10, z00, if_true, if_false, iv_add, iv_sub, iv_mul, iv_le, iv_lt, iv_eq, iv_mx, iv_mn, bI_z, bI_o, rZ0, rZ1, rZb, cl_some', lt_eq, rm_eq, dv_eq, iv_01, iv_10, the, lastA, lpA, st_eq, st_ne, sh_addM, cV_cl, cV_nd, cV_mo, cV_lt, gR_t0, aR_nd, gR_c0, gR_c1, gR_c2, gR_c3, gR_c4, gR_c5, gR_c6, gR_c15, gR_c16, gI_c7, pI_c7, gI_c8, pI_c8, gI_c9, pI_c9, gI_c10, pI_c10, gI_c11, pI_c11, gI_c12, pI_c12, gI_c13, pI_c13, gI_c14, pI_c14, gN_9, gN_10, gN_11, gN_12, gN_13, gN_14, gN_15, gN_16, gN_17, gN_18, gN_19, gN_20, gN_21, gN_22, gN_23, pN_9, pN_10, pN_11, pN_12, pN_13, pN_14, pN_15, pN_16, pN_17, pN_18, pN_19, pN_20, pN_21, pN_22, pZ_0, pZ_1, gR_n0, aI_n0, sI_n0, gR_n1, aI_n1, sI_n1, gR_n2, aI_n2, sI_n2, gR_n3, aI_n3, sI_n3, gR_n4, aI_n4, sI_n4, gR_n5, aI_n5, sI_n5, gR_n6, aI_n6, sI_n6, gR_n7, aI_n7, sI_n7, gR_n8, aI_n8, sI_n8, aR_s, aI_s, sI_s, aR_h, aI_h, sI_h, aR_r, aI_r, sI_r, aI_c, sI_c, aI_l, sI_l, aI_ca, aI_ha, sI_ca, sI_ha, gI_mo, pI_mo, em, x1]
    rw [if_pos (by omega)]
  | j + 1, h, i, fu + 1, e1, e2, em, e3 => by
    have tk' := tk
    obtain ⟨_, _, _, _, _, _, _⟩ := tk'
    have hA2 : LyC A (tl B k Ck Hk Mk M) := hA
    obtain ⟨h1, x1, x2⟩ := t_cp_s (h := h) (C := C) (Hd := Hd) (Mo := Mo) (k := k) (Ck := Ck) (Hk := Hk) (Mk := Mk) (v := some A) d hA hB e2 (show i < 160 by omega)
    obtain ⟨h', y1, y2⟩ := t_takes_51 d hA hB tk j h1 (i + 1) fu (by omega) (by omega) (x2.o em) (by omega)
    refine ⟨h', ?_, (x2.thn y2).wk (fun x q => by omega)⟩
    show sX3_takes_51b (sX3_takes_51 fu) _ _ _ _ = _
    generalize sX3_takes_51 fu = K at y1 ⊢
    simp (disch := first | assumption | omega) only [sX3_takes_51b, dj_gIc, dj_gIn, dj_aIn, dj_aIc, dj_gRc, dj_gRn, dj_aRc, z10, z00, if_true, if_false, iv_add, iv_sub, iv_mul, iv_le, iv_lt, iv_eq, iv_mx, iv_mn, bI_z, bI_o, rZ0, rZ1, rZb, cl_some', lt_eq, rm_eq, dv_eq, iv_01, iv_10, the, lastA, lpA, st_eq, st_ne, sh_addM, cV_cl, cV_nd, cV_mo, cV_lt, gR_t0, aR_nd, gR_c0, gR_c1, gR_c2, gR_c3, gR_c4, gR_c5, gR_c6, gR_c15, gR_c16, gI_c7, pI_c7, gI_c8, pI_c8, gI_c9, pI_c9, gI_c10, pI_c10, gI_c11, pI_c11, gI_c12, pI_c12, gI_c13, pI_c13, gI_c14, pI_c14, gN_9, gN_10, gN_11, gN_12, gN_13, gN_14, gN_15, gN_16, gN_17, gN_18, gN_19, gN_20, gN_21, gN_22, gN_23, pN_9, pN_10, pN_11, pN_12, pN_13, pN_14, pN_15, pN_16, pN_17, pN_18, pN_19, pN_20, pN_21, pN_22, pZ_0, pZ_1, gR_n0, aI_n0, sI_n0, gR_n1, aI_n1, sI_n1, gR_n2, aI_n2, sI_n2, gR_n3, aI_n3, sI_n3, gR_n4, aI_n4, sI_n4, gR_n5, aI_n5, sI_n5, gR_n6, aI_n6, sI_n6, gR_n7, aI_n7, sI_n7, gR_n8, aI_n8, sI_n8, aR_s, aI_s, sI_s, aR_h, aI_h, sI_h, aR_r, aI_r, sI_r, aI_c, sI_c, aI_l, sI_l, aI_ca, aI_ha, sI_ca, sI_ha, gI_mo, pI_mo, em, x1]
    rw [if_neg (by omega)]
    exact y1
/-- the places of a cluster that count -/
def clP (k : Row) (x : Int) : Prop := (∃ n, 0 ≤ n ∧ n < 7 ∧ nodeP k n x) ∨ (11124 ≤ x ∧ x < 11131) ∨ (100000 ≤ x ∧ x < 100000 + 32 * k 11133) ∨ (6032 ≤ x ∧ x < 6028 + 4 * (k 11134 + 1)) ∨ (11028 ≤ x ∧ x < 11028 + 6 * k 11135) ∨ (10028 ≤ x ∧ x < 11028) ∨ x = 11131 ∨ x = 11132 ∨ x = 11133 ∨ x = 11134 ∨ x = 11135 ∨ x = 11136 ∨ x = 11137
theorem t_takes_2 (d : Dj A B) (hA : LyC A M) (hB : LyC B M) (tk : TkB k) : ∀ (j : Nat) (h : Row) (i : Int) (fu : Nat), 7 - i = j → 0 ≤ i → j < fu →
    ∃ h', sX3_takes_2 fu (some A) (some B) (iI i) (tl A h C Hd Mo (tl B k Ck Hk Mk M)) = some (some A, tl A h' C Hd Mo (tl B k Ck Hk Mk M)) ∧ Cpd h h' k (fun x => (∃ n, i ≤ n ∧ n < 7 ∧ nodeP k n x) ∨ (11124 + i ≤ x ∧ x < 11131) ∨ (100000 ≤ x ∧ x < 100000 + 32 * k 11133) ∨ (6032 ≤ x ∧ x < 6028 + 4 * (k 11134 + 1)) ∨ (11028 ≤ x ∧ x < 11028 + 6 * k 11135) ∨ (10028 ≤ x ∧ x < 11028) ∨ x = 11131 ∨ x = 11132 ∨ x = 11133 ∨ x = 11134 ∨ x = 11135 ∨ x = 11136 ∨ x = 11137)
  | 0, h, i, fu + 1, e1, e2, e3 => by
    have tk' := tk
    obtain ⟨_, _, _, _, _, _, _⟩ := tk'
    have hA2 : LyC A (tl B k Ck Hk Mk M) := hA
    obtain ⟨h1, x1, x2⟩ := t_takes_51 (C := C) (Hd := Hd) (Mo := Mo) (k := k) (Ck := Ck) (Hk := Hk) (Mk := Mk) d hA hB tk (k 11133).toNat (st h 11133 (k 11133)) 0 FU (by omega) (by omega) (st_eq _ _ _) (by unfold FU; omega)
    refine ⟨h1, ?_, ((Cpd.st (h := h) (p := 11133) (by omega)).thn x2).wk (fun x q => ?_)⟩
    · show sX3_takes_2b (sX3_takes_2 fu) _ _ _ _ = _
      generalize sX3_takes_2 fu = K
      simp (disch := first | assumption | omega) only [sX3_takes_2b, dj_gIc, dj_gIn, dj_aIn, dj_aIc, dj_gRc, dj_gRn, dj_aRc, z10, z00, if_true, if_false, iv_add, iv_sub, iv_mul, iv_le, iv_lt, iv_eq, iv_mx, iv_mn, bI_z, bI_o, rZ0, rZ1, rZb, cl_some', lt_eq, rm_eq, dv_eq, iv_01, iv_10, the, lastA, lpA, st_eq, st_ne, sh_addM, cV_cl, cV_nd, cV_mo, cV_lt, gR_t0, aR_nd, gR_c0, gR_c1, gR_c2, gR_c3, gR_c4, gR_c5, gR_c6, gR_c15, gR_c16, gI_c7, pI_c7, gI_c8, pI_c8, gI_c9, pI_c9, gI_c10, pI_c10, gI_c11, pI_c11, gI_c12, pI_c12, gI_c13, pI_c13, gI_c14, pI_c14, gN_9, gN_10, gN_11, gN_12, gN_13, gN_14, gN_15, gN_16, gN_17, gN_18, gN_19, gN_20, gN_21, gN_22, gN_23, pN_9, pN_10, pN_11, pN_12, pN_13, pN_14, pN_15, pN_16, pN_17, pN_18, pN_19, pN_20, pN_21, pN_22, pZ_0, pZ_1, gR_n0, aI_n0, sI_n0, gR_n1, aI_n1, sI_n1, gR_n2, aI_n2, sI_n2, gR_n3, aI_n3, sI_n3, gR_n4, aI_n4, sI_n4, gR_n5, aI_n5, sI_n5, gR_n6, aI_n6, sI_n6, gR_n7, aI_n7, sI_n7, gR_n8, aI_n8, sI_n8, aR_s, aI_s, sI_s, aR_h, aI_h, sI_h, aR_r, aI_r, sI_r, aI_c, sI_c, aI_l, sI_l, aI_ca, aI_ha, sI_ca, sI_ha, gI_mo, pI_mo, x1]
      rw [if_pos (by omega)]
    · rcases q with ⟨n, q1, q2, q3⟩ | q
      · omega
      · omega
  | j + 1, h, i, fu + 1, e1, e2, e3 => by
    have tk' := tk
    obtain ⟨t1, _, _, _, _, _, _⟩ := tk'
    have hA2 : LyC A (tl B k Ck Hk Mk M) := hA
    obtain ⟨u1, u2, u3⟩ := t1 i e2 (by omega)
    obtain ⟨h1, x1, x2⟩ := t_ntakes (h := h) (C := C) (Hd := Hd) (Mo := Mo) (k := k) (Ck := Ck) (Hk := Hk) (Mk := Mk) d hA hB e2 (show i < 7 by omega) u1 u2 u3
    obtain ⟨h', y1, y2⟩ := t_takes_2 d hA hB tk j (st h1 (11124 + i) (k (11124 + i))) (i + 1) fu (by omega) (by omega) (by omega)
    refine ⟨h', ?_, ((x2.thn (Cpd.st (p := 11124 + i) (by omega))).thn y2).wk (fun x q => ?_)⟩
    · show sX3_takes_2b (sX3_takes_2 fu) _ _ _ _ = _
      generalize sX3_takes_2 fu = K at y1 ⊢
      simp (disch := first | assumption | omega) only [sX3_takes_2b, dj_gIc, dj_gIn, dj_aIn, dj_aIc, dj_gRc, dj_gRn, dj_aRc, z10, z00, if_true, if_false, iv_add, iv_sub, iv_mul, iv_le, iv_lt, iv_eq, iv_mx, iv_mn, bI_z, bI_o, rZ0, rZ1, rZb, cl_some', lt_eq, rm_eq, dv_eq, iv_01, iv_10, the, lastA, lpA, st_eq, st_ne, sh_addM, cV_cl, cV_nd, cV_mo, cV_lt, gR_t0, aR_nd, gR_c0, gR_c1, gR_c2, gR_c3, gR_c4, gR_c5, gR_c6, gR_c15, gR_c16, gI_c7, pI_c7, gI_c8, pI_c8, gI_c9, pI_c9, gI_c10, pI_c10, gI_c11, pI_c11, gI_c12, pI_c12, gI_c13, pI_c13, gI_c14, pI_c14, gN_9, gN_10, gN_11, gN_12, gN_13, gN_14, gN_15, gN_16, gN_17, gN_18, gN_19, gN_20, gN_21, gN_22, gN_23, pN_9, pN_10, pN_11, pN_12, pN_13, pN_14, pN_15, pN_16, pN_17, pN_18, pN_19, pN_20, pN_21, pN_22, pZ_0, pZ_1, gR_n0, aI_n0, sI_n0, gR_n1, aI_n1, sI_n1, gR_n2, aI_n2, sI_n2, gR_n3, aI_n3, sI_n3, gR_n4, aI_n4, sI_n4, gR_n5, aI_n5, sI_n5, gR_n6, aI_n6, sI_n6, gR_n7, aI_n7, sI_n7, gR_n8, aI_n8, sI_n8, aR_s, aI_s, sI_s, aR_h, aI_h, sI_h, aR_r, aI_r, sI_r, aI_c, sI_c, aI_l, sI_l, aI_ca, aI_ha, sI_ca, sI_ha, gI_mo, pI_mo, x1]
      rw [if_neg (by omega)]
      exact y1
    · rcases q with ⟨n, q1, q2, q3⟩ | q
      · by_cases c : n = i
        · subst c
          exact Or.inl (Or.inl q3)
        · exact Or.inr (Or.inl ⟨n, by omega, q2, q3⟩)
      · by_cases c : x = 11124 + i
        · exact Or.inl (Or.inr c)
        · exact Or.inr (Or.inr (by omega))
theorem t_takes (d : Dj A B) (hA : LyC A M) (hB : LyC B M) (tk : TkB k) :
    ∃ h', sX3_takes (some A) (some B) (tl A h C Hd Mo (tl B k Ck Hk Mk M)) = some (some A, tl A h' C Hd Mo (tl B k Ck Hk Mk M)) ∧ Cpd h h' k (clP k) := by
  obtain ⟨h', x1, x2⟩ := t_takes_2 (C := C) (Hd := Hd) (Mo := Mo) (k := k) (Ck := Ck) (Hk := Hk) (Mk := Mk) d hA hB tk 7 h 0 FU (by omega) (by omega) (by unfold FU; omega)
  exact ⟨h', x1, x2.wk (fun x q => by
    unfold clP at q
    rcases q with ⟨n, q1, q2, q3⟩ | q
    · exact Or.inl ⟨n, q1, q2, q3⟩
    · exact Or.inr (by omega))⟩
/-- what was copied stands to the twin's row as its source -/
theorem Rel.copied {h' k g : Row} (r : Rel (st k 11138 0) (st g 11138 0)) (b : BdA g) (m8 : ∀ n, 0 ≤ n → n < 7 → 0 ≤ k (244 * n + 8)) (c : Cpd h h' k (clP k)) : Rel h' (st g 11138 (h' 11138)) := by
  have o : ∀ x, ¬ x = 11138 → st k 11138 0 x = k x := fun x q => st_ne q
  have o' : ∀ x, ¬ x = 11138 → st g 11138 0 x = g x := fun x q => st_ne q
  have oh : ∀ x, ¬ x = 11138 → clP k x → h' x = st k 11138 0 x := fun x q p => (c.at p).trans (o x q).symm
  have og : ∀ x, ¬ x = 11138 → st g 11138 (h' 11138) x = st g 11138 0 x := fun x q => (st_ne q).trans (st_ne q).symm
  have e33 := r.gl 11133 (by omega) (by omega)
  have e34 := r.gl 11134 (by omega) (by omega)
  have e35 := r.gl 11135 (by omega) (by omega)
  rw [o _ (by omega)] at e33 e34 e35
  obtain ⟨b1, hG⟩ := b
  obtain ⟨_, _, _, _, _, _, _, _, _, _, _, _⟩ := hG
  have f33 := o' 11133 (by omega)
  have f34 := o' 11134 (by omega)
  have f35 := o' 11135 (by omega)
  refine ⟨fun n n0 n1 => ?_, fun i a b w w0 w1 => ?_, fun x a b => ?_, fun q a b => ?_, fun x a b => ?_, fun x a b => ?_, fun i a b => ?_⟩
  · have rn := r.nd n n0 n1
    have w8 := rn.s 8 (by omega) (by omega)
    rw [o _ (by omega)] at w8
    have b8 := b1 n n0 n1
    have f8 := o' (244 * n + 8) (by omega)
    have g8 := og (244 * n + 8) (by omega)
    have no : ∀ x, 244 * n ≤ x → x < 244 * n + 52 + 4 * k (244 * n + 8) → h' x = st k 11138 0 x := fun x a b => oh x (by omega) (Or.inl ⟨n, n0, n1, a, b⟩)
    have m0 : 0 ≤ k (244 * n + 8) := m8 n n0 n1
    refine ⟨fun w a b => ?_, fun w a b => ?_, fun c => ?_, fun x a b => ?_, fun c w a b => ?_⟩
    · rw [no _ (by omega) (by omega), og _ (by omega)]; exact rn.s w a b
    · rw [no _ (by omega) (by omega), og _ (by omega)]; exact rn.t w a b
    · rw [og _ (by omega)] at c
      rw [no _ (by omega) (by omega), og _ (by omega)]; exact rn.k c
    · rw [g8] at b
      rw [no _ (by omega) (by omega), og _ (by omega)]; exact rn.e x a b
    · rw [og _ (by omega)] at c
      rw [no _ (by omega) (by omega), og _ (by omega)]; exact rn.l c w a b
  · rw [og _ (by omega)] at b
    rw [oh _ (by omega) (Or.inr (by omega)), og _ (by omega)]
    exact r.hl i a b w w0 w1
  · rw [oh _ (by omega) (Or.inr (by omega)), og _ (by omega)]
    exact r.ld x a b
  · rw [og _ (by omega)] at b
    obtain ⟨u1, u2, u3⟩ := r.rd q a b
    refine ⟨fun w x0 x1 => ?_, fun y => ?_, fun y => ?_⟩
    · rw [oh _ (by omega) (Or.inr (by omega)), og _ (by omega)]
      exact u1 w x0 x1
    · rw [og _ (by omega)] at y
      rw [oh _ (by omega) (Or.inr (by omega)), og _ (by omega)]
      exact u2 y
    · rw [og _ (by omega)] at y
      rw [oh _ (by omega) (Or.inr (by omega))]
      exact u3 y
  · rw [oh _ (by omega) (Or.inr (by omega)), og _ (by omega)]
    exact r.ct x a b
  · by_cases q : x = 11138
    · rw [q, st_eq]
    · rw [oh _ q (Or.inr (by omega)), og _ q]
      exact r.gl x a b
  · rw [og _ (by omega)] at b
    obtain ⟨u1, u2⟩ := r.ml i a b
    refine ⟨MR_ext u1 (fun f x0 x1 _ => oh _ (by omega) (Or.inr (by omega))) (fun w x0 x1 _ => og _ (by omega)), ?_⟩
    show h' (100000 + 32 * i + 4) = st g 11138 (h' 11138) (1708 + 27 * i + 4)
    rw [oh _ (by omega) (Or.inr (by omega)), og _ (by omega)]
    exact u2
theorem Rel.tkb {k g : Row} {hs : His} {FL : Int → ELog} {R : Int} {D : DK} (r : Rel (st k 11138 0) (st g 11138 0)) (I : InvS g hs FL R D) : TkB k := by
  have hG := I.gl
  obtain ⟨_, _, _, _, _, _, _, _, _, _, _, _⟩ := hG
  have o : ∀ x, ¬ x = 11138 → st k 11138 0 x = k x := fun x q => st_ne q
  have o' : ∀ x, ¬ x = 11138 → st g 11138 0 x = g x := fun x q => st_ne q
  have e33 := r.gl 11133 (by omega) (by omega)
  have e34 := r.gl 11134 (by omega) (by omega)
  have e35 := r.gl 11135 (by omega) (by omega)
  rw [o _ (by omega), o' _ (by omega)] at e33 e34 e35
  refine ⟨fun n n0 n1 => ?_, by omega⟩
  obtain ⟨⟨s1, s2⟩, _⟩ := I.na n n0 n1
  have rn := r.nd n n0 n1
  have w0 := rn.s 0 (by omega) (by omega)
  have w8 := rn.s 8 (by omega) (by omega)
  rw [o _ (by omega), o' _ (by omega)] at w0 w8
  omega
end
