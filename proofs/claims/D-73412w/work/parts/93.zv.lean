/-! DEPS: zu -/
/-! ZV: TermLog ticks, whatever its share; the acts of a plan on one side at a time -/
section
variable {B : Nat} {h g C Hd Mo : Row} {M : Mem} {Λ : Law} {hs : His} {FL : Int → ELog} {R : Int} {D : DK}
abbrev tkZ (g : Row) : Int := if g 11131 < 9999 then 1 else 0
theorem tkZ_r (g : Row) : tkZ g = 0 ∨ tkZ g = 1 := by
  unfold tkZ
  split
  · exact Or.inr rfl
  · exact Or.inl rfl
/-- with no share: it may have held any number before -/
theorem t_ticksR (hL : LyC B M) (h13 : mI M B 13 = 0) (hN : mP M 0 1 = some B) (hΛ : ∀ z, LawL (tkM M z) Λ) (e31 : h 11131 = g 11131) (rel : Rel (st h 11138 0) (st g 11138 0)) (I : InvS g hs FL R D) {v : Int} (d : 1 ≤ v ∧ v ≤ 200) (hR : R + 1400 ≤ 1000000) :
    ∃ h' C' Hd' Mo', sX0_ticks (some 0) (iI v) (tl B h C Hd Mo M) = some (iI (ticksG Λ g v.toNat 11138), tl B h' C' Hd' Mo' (tkM M (tkZ g))) ∧ Rel h' (ticksG Λ g v.toNat) := by
  have hG := I.gl
  obtain ⟨_, _, _, _, _, _, _, _, _, _, _, _⟩ := hG
  obtain ⟨z, hz⟩ : ∃ z : Int, z = tkZ g := ⟨_, rfl⟩
  have hz1 : z = 0 ∨ z = 1 := by rw [hz]; exact tkZ_r g
  have hz2 : mI (tkM M z) B 13 = 0 := (tk_13 hL).trans h13
  obtain ⟨h2, C2, Hd2, M2, x2, r2⟩ := t_goesTicks0 (h := h) (C := C) (Hd := Hd) (Mo := Mo) (M := tkM M z) (tk_Ly hL) hz2 (hΛ z) rel I (v := v) (by omega) (by omega) (by omega)
  have e38 := r2.gl 11138 (by omega) (by omega)
  have x3 : sX0_ticks_32 (some 0) (iI v) (some 0) (iI z) (tl B h C Hd Mo M) = some (iI (ticksG Λ g v.toNat 11138), tl B h2 C2 Hd2 M2 (tkM M z)) := by
    have hL2 : LyC B (tkM M z) := hL
    have hN2 : mP (tkM M z) 0 1 = some B := hN
    simp (disch := first | assumption | omega) only [sX0_ticks_32, tk_pZ, gR_t1, z10, z00, if_true, if_false, iv_add, iv_sub, iv_mul, iv_le, iv_lt, iv_eq, iv_mx, iv_mn, bI_z, bI_o, rZ0, rZ1, rZb, cl_some', lt_eq, rm_eq, dv_eq, iv_01, iv_10, the, lastA, lpA, st_eq, st_ne, sh_addM, cV_cl, cV_nd, cV_mo, cV_lt, gR_t0, aR_nd, gR_c0, gR_c1, gR_c2, gR_c3, gR_c4, gR_c5, gR_c6, gR_c15, gR_c16, gI_c7, pI_c7, gI_c8, pI_c8, gI_c9, pI_c9, gI_c10, pI_c10, gI_c11, pI_c11, gI_c12, pI_c12, gI_c13, pI_c13, gI_c14, pI_c14, gN_9, gN_10, gN_11, gN_12, gN_13, gN_14, gN_15, gN_16, gN_17, gN_18, gN_19, gN_20, gN_21, gN_22, gN_23, pN_9, pN_10, pN_11, pN_12, pN_13, pN_14, pN_15, pN_16, pN_17, pN_18, pN_19, pN_20, pN_21, pN_22, pZ_0, pZ_1, gR_n0, aI_n0, sI_n0, gR_n1, aI_n1, sI_n1, gR_n2, aI_n2, sI_n2, gR_n3, aI_n3, sI_n3, gR_n4, aI_n4, sI_n4, gR_n5, aI_n5, sI_n5, gR_n6, aI_n6, sI_n6, gR_n7, aI_n7, sI_n7, gR_n8, aI_n8, sI_n8, aR_s, aI_s, sI_s, aR_h, aI_h, sI_h, aR_r, aI_r, sI_r, aI_c, sI_c, aI_l, sI_l, aI_ca, aI_ha, sI_ca, sI_ha, gI_mo, pI_mo, x2, e38]
    rw [hz2, Int32.add_zero]
  rw [← hz]
  refine ⟨h2, C2, Hd2, M2, ?_, r2⟩
  have w1 : (1 : Int) ≤ v := d.1
  have w2 : v ≤ 200 := d.2
  simp (disch := first | assumption | omega) only [sX0_ticks, t_within, gR_t1, z10, z00, if_true, if_false, iv_add, iv_sub, iv_mul, iv_le, iv_lt, iv_eq, iv_mx, iv_mn, bI_z, bI_o, rZ0, rZ1, rZb, cl_some', lt_eq, rm_eq, dv_eq, iv_01, iv_10, the, lastA, lpA, st_eq, st_ne, sh_addM, cV_cl, cV_nd, cV_mo, cV_lt, gR_t0, aR_nd, gR_c0, gR_c1, gR_c2, gR_c3, gR_c4, gR_c5, gR_c6, gR_c15, gR_c16, gI_c7, pI_c7, gI_c8, pI_c8, gI_c9, pI_c9, gI_c10, pI_c10, gI_c11, pI_c11, gI_c12, pI_c12, gI_c13, pI_c13, gI_c14, pI_c14, gN_9, gN_10, gN_11, gN_12, gN_13, gN_14, gN_15, gN_16, gN_17, gN_18, gN_19, gN_20, gN_21, gN_22, gN_23, pN_9, pN_10, pN_11, pN_12, pN_13, pN_14, pN_15, pN_16, pN_17, pN_18, pN_19, pN_20, pN_21, pN_22, pZ_0, pZ_1, gR_n0, aI_n0, sI_n0, gR_n1, aI_n1, sI_n1, gR_n2, aI_n2, sI_n2, gR_n3, aI_n3, sI_n3, gR_n4, aI_n4, sI_n4, gR_n5, aI_n5, sI_n5, gR_n6, aI_n6, sI_n6, gR_n7, aI_n7, sI_n7, gR_n8, aI_n8, sI_n8, aR_s, aI_s, sI_s, aR_h, aI_h, sI_h, aR_r, aI_r, sI_r, aI_c, sI_c, aI_l, sI_l, aI_ca, aI_ha, sI_ca, sI_ha, gI_mo, pI_mo, e31]
  rw [if_neg (fun hc => hc d), ← x3]
  by_cases c : g 11131 < 9999
  · rw [if_neg (by omega), hz]; unfold tkZ; rw [if_pos c]
  · rw [if_pos (by omega), hz]; unfold tkZ; rw [if_neg c]
theorem sh_Ly {A : Nat} {s : Int32} (hL : LyC B M) : LyC B (shM M A s) := hL
/-- it begins anew, and the share takes it up -/
theorem t_goesS (hL : LyC B M) {s : Int32} (hs0 : s = iI 0 - iI (h 11138)) (hΛ : LawL (shM M B s) Λ) (rel : Rel h g) (I : InvS g hs FL R D) {v : Int} (v0 : 0 ≤ v) (hv : v ≤ 1000) (hR : R + 7 * v ≤ 1000000) :
    ∃ h' C' Hd' Mo', sX3_goes (some B) (iI v) (tl B h C Hd Mo M) = some (some B, tl B h' C' Hd' Mo' (shM M B s)) ∧ Rel h' (ticksF Λ v.toNat g) := by
  have b2 := hL.b2
  obtain ⟨h2, C2, Hd2, M2, x1, r2⟩ := t_goes_7 (B := B) (M := shM M B s) hL hΛ hv v.toNat h g hs FL R D 0 C Hd Mo FU rel I (by omega) (by omega) (by omega) (by unfold FU; omega)
  refine ⟨h2, C2, Hd2, M2, ?_, r2⟩
  have p : ∀ f : Mem → Option (Option Nat × Mem), pI (tl B h C Hd Mo M) (some B) 2 13 (iI 0) f = f (tl B h C Hd Mo (shM M B s)) := by
    intro f
    refine (if_pos hL.kB.1).trans (congrArg f (Prod.ext ?_ rfl))
    funext a j
    show (if a = B ∧ j = 13 then iI 0 else tlI B h C Hd Mo (mI M) a j) = tlI B h C Hd Mo (up2 (mI M) B 13 s) a j
    have e13 : up2 (mI M) B 13 s B 13 = s := if_pos ⟨rfl, rfl⟩
    by_cases c1 : a = 1
    · rw [c1, if_neg (by omega), tl_one, tl_one]
    · by_cases c2 : a < B
      · rw [if_neg (by omega), tl_out c1 (Or.inl c2), tl_out c1 (Or.inl c2)]
        exact (if_neg (by omega)).symm
      · rw [tl_in c1 c2, tl_in c1 c2, e13]
        by_cases c3 : a = B ∧ j = 13
        · have hp : plc (a - B) j = some 11138 := by rw [c3.1, c3.2, Nat.sub_self]; rfl
          rw [if_pos c3]
          unfold tlE
          rw [hp]
          show iI 0 = if (11138 : Int) = 11138 then iI (h 11138) + s else _
          rw [if_pos rfl, hs0, iv_sub, iv_add, show h 11138 + (0 - h 11138) = 0 by omega]
        · have e2 : up2 (mI M) B 13 s a j = mI M a j := if_neg c3
          rw [if_neg c3, e2]
          unfold tlE
          cases e : plc (a - B) j with
          | none => rfl
          | some p =>
            show (if p = 11138 then iI (h p) + mI M B 13 else iI (valT p (h p))) = (if p = 11138 then iI (h p) + s else iI (valT p (h p)))
            have : p ≠ 11138 := by
              intro hp
              have q := plc_inj (p := 11138) (by rw [e, hp]) (show plc 0 13 = some 11138 from rfl)
              exact c3 ⟨by omega, q.2⟩
            rw [if_neg this, if_neg this]
  unfold sX3_goes
  rw [p]
  exact x1
theorem t_ticksS (hL : LyC B M) {s : Int32} (hs0 : s = iI 0 - iI (h 11138)) (hN : mP M 0 1 = some B) (hΛ : LawL (shM (tkM M (tkZ g)) B s) Λ) (rel : Rel h g) (I : InvS g hs FL R D) {v : Int} (d : 1 ≤ v ∧ v ≤ 200) (hR : R + 1400 ≤ 1000000) :
    ∃ h' C' Hd' Mo' y, sX0_ticks (some 0) (iI v) (tl B h C Hd Mo M) = some (y, tl B h' C' Hd' Mo' (shM (tkM M (tkZ g)) B s)) ∧ Rel h' (ticksF Λ v.toNat g) := by
  have hG := I.gl
  obtain ⟨_, _, _, _, _, _, _, _, _, _, _, _⟩ := hG
  have e31 := rel.gl 11131 (by omega) (by omega)
  obtain ⟨z, hz⟩ : ∃ z : Int, z = tkZ g := ⟨_, rfl⟩
  have hz1 : z = 0 ∨ z = 1 := by rw [hz]; exact tkZ_r g
  rw [← hz] at hΛ ⊢
  obtain ⟨h2, C2, Hd2, M2, x2, r2⟩ := t_goesS (h := h) (C := C) (Hd := Hd) (Mo := Mo) (M := tkM M z) (tk_Ly hL) hs0 hΛ rel I (v := v) (by omega) (by omega) (by omega)
  have x3 : sX0_ticks_32 (some 0) (iI v) (some 0) (iI z) (tl B h C Hd Mo M) = some (iI (h2 11138) + s, tl B h2 C2 Hd2 M2 (shM (tkM M z) B s)) := by
    have hL2 : LyC B (shM (tkM M z) B s) := hL
    have hL3 : LyC B (tkM M z) := hL
    have hN2 : mP (tkM M z) 0 1 = some B := hN
    have e13 : mI (shM (tkM M z) B s) B 13 = s := if_pos ⟨rfl, rfl⟩
    simp (disch := first | assumption | omega) only [sX0_ticks_32, tk_pZ, gR_t1, z10, z00, if_true, if_false, iv_add, iv_sub, iv_mul, iv_le, iv_lt, iv_eq, iv_mx, iv_mn, bI_z, bI_o, rZ0, rZ1, rZb, cl_some', lt_eq, rm_eq, dv_eq, iv_01, iv_10, the, lastA, lpA, st_eq, st_ne, sh_addM, cV_cl, cV_nd, cV_mo, cV_lt, gR_t0, aR_nd, gR_c0, gR_c1, gR_c2, gR_c3, gR_c4, gR_c5, gR_c6, gR_c15, gR_c16, gI_c7, pI_c7, gI_c8, pI_c8, gI_c9, pI_c9, gI_c10, pI_c10, gI_c11, pI_c11, gI_c12, pI_c12, gI_c13, pI_c13, gI_c14, pI_c14, gN_9, gN_10, gN_11, gN_12, gN_13, gN_14, gN_15, gN_16, gN_17, gN_18, gN_19, gN_20, gN_21, gN_22, gN_23, pN_9, pN_10, pN_11, pN_12, pN_13, pN_14, pN_15, pN_16, pN_17, pN_18, pN_19, pN_20, pN_21, pN_22, pZ_0, pZ_1, gR_n0, aI_n0, sI_n0, gR_n1, aI_n1, sI_n1, gR_n2, aI_n2, sI_n2, gR_n3, aI_n3, sI_n3, gR_n4, aI_n4, sI_n4, gR_n5, aI_n5, sI_n5, gR_n6, aI_n6, sI_n6, gR_n7, aI_n7, sI_n7, gR_n8, aI_n8, sI_n8, aR_s, aI_s, sI_s, aR_h, aI_h, sI_h, aR_r, aI_r, sI_r, aI_c, sI_c, aI_l, sI_l, aI_ca, aI_ha, sI_ca, sI_ha, gI_mo, pI_mo, x2, e13]
  refine ⟨h2, C2, Hd2, M2, iI (h2 11138) + s, ?_, r2⟩
  have w1 : (1 : Int) ≤ v := d.1
  have w2 : v ≤ 200 := d.2
  simp (disch := first | assumption | omega) only [sX0_ticks, t_within, gR_t1, z10, z00, if_true, if_false, iv_add, iv_sub, iv_mul, iv_le, iv_lt, iv_eq, iv_mx, iv_mn, bI_z, bI_o, rZ0, rZ1, rZb, cl_some', lt_eq, rm_eq, dv_eq, iv_01, iv_10, the, lastA, lpA, st_eq, st_ne, sh_addM, cV_cl, cV_nd, cV_mo, cV_lt, gR_t0, aR_nd, gR_c0, gR_c1, gR_c2, gR_c3, gR_c4, gR_c5, gR_c6, gR_c15, gR_c16, gI_c7, pI_c7, gI_c8, pI_c8, gI_c9, pI_c9, gI_c10, pI_c10, gI_c11, pI_c11, gI_c12, pI_c12, gI_c13, pI_c13, gI_c14, pI_c14, gN_9, gN_10, gN_11, gN_12, gN_13, gN_14, gN_15, gN_16, gN_17, gN_18, gN_19, gN_20, gN_21, gN_22, gN_23, pN_9, pN_10, pN_11, pN_12, pN_13, pN_14, pN_15, pN_16, pN_17, pN_18, pN_19, pN_20, pN_21, pN_22, pZ_0, pZ_1, gR_n0, aI_n0, sI_n0, gR_n1, aI_n1, sI_n1, gR_n2, aI_n2, sI_n2, gR_n3, aI_n3, sI_n3, gR_n4, aI_n4, sI_n4, gR_n5, aI_n5, sI_n5, gR_n6, aI_n6, sI_n6, gR_n7, aI_n7, sI_n7, gR_n8, aI_n8, sI_n8, aR_s, aI_s, sI_s, aR_h, aI_h, sI_h, aR_r, aI_r, sI_r, aI_c, sI_c, aI_l, sI_l, aI_ca, aI_ha, sI_ca, sI_ha, gI_mo, pI_mo, e31]
  rw [if_neg (fun hc => hc d), ← x3]
  by_cases c : g 11131 < 9999
  · rw [if_neg (by omega), hz]; unfold tkZ; rw [if_pos c]
  · rw [if_pos (by omega), hz]; unfold tkZ; rw [if_neg c]
end
section
variable {σ σ' : Mem} {h k g gk : Row} {l : List Cls} {t b : Int} {T : Nat → Int32}
abbrev tchL (a j : Nat) : Prop := a = 1 ∨ (2 ≤ a ∧ a < 1257) ∨ (a = 0 ∧ j = 8)
theorem sh_share {N : Mem} {B : Nat} {s : Int32} : mI (shM N B s) B 13 = s := if_pos ⟨rfl, rfl⟩
theorem sh_sh {N : Mem} {B : Nat} {s s' : Int32} : shM (shM N B s) B s' = shM N B s' := by
  refine Prod.ext ?_ rfl
  funext a j
  show (if a = B ∧ j = 13 then s' else if a = B ∧ j = 13 then s else mI N a j) = if a = B ∧ j = 13 then s' else mI N a j
  split <;> rfl
/-- the same with no share -/
theorem CLv.rep0 {B : Nat} (b2 : 2 ≤ B) (x : CLv B h σ) : ∃ (v : Int) (C Hd Mo : Row), σ = tl B (st h 11138 v) C Hd Mo (shM σ B 0) := by
  obtain ⟨C, Hd, Mo, s, e⟩ := x.rep b2
  refine ⟨h 11138 + s.toInt, C, Hd, Mo, ?_⟩
  have q := tl_share (h := h) (C := C) (Hd := Hd) (Mo := Mo) (N := shM σ B s) (h 11138 + s.toInt) b2
  rw [← e, sh_share, sh_sh] at q
  have z : iI (h 11138) - iI (h 11138 + s.toInt) + s = 0 := by
    conv => lhs; rhs; rw [← iv_of s]
    rw [iv_sub, iv_add, show h 11138 - (h 11138 + s.toInt) + s.toInt = 0 by omega]
    rfl
  rw [z] at q
  exact q
theorem tk_chg {N : Mem} {z : Int} : Chg N (tkM N z) (fun a j => a = 0 ∧ j = 8) := ⟨rfl, fun a j q => if_neg q⟩
theorem tk_8 {N : Mem} {z : Int} : mI (tkM N z) 0 8 = iI z := by
  show (if (0 : Nat) = 0 ∧ (8 : Nat) = 8 then iI z else mI N 0 8) = iI z
  exact if_pos ⟨rfl, rfl⟩
theorem sh_chg {N : Mem} {B : Nat} {s : Int32} : Chg N (shM N B s) (fun a j => a = B ∧ j = 13) := ⟨rfl, fun a j q => if_neg q⟩
theorem txt_chg (S : Stt σ) (L : TxtL σ l) (c : Chg σ σ' (fun a j => a < 3768 ∨ (3772 ≤ a ∧ a < 3799))) : TxtL σ' l := by
  have z : mZ σ' = mZ σ := by show σ'.2.2.2.1 = σ.2.2.2.1; rw [c.1]
  exact L.up (S.to c.1).k2 (mP_2 c.1 0 5) (by omega) (fun b hb h9 => chg_sm c (fun j => by omega))
/-- a tick of TermLog, in a plan -/
theorem k_tick1 (S : Stt σ) (L : LSd σ h k l t b T) (r : Rel h g) {hs : His} {FL : Int → ELog} {R : Int} {D : DK} (I : InvS g hs FL R D) (hR : R + 1400 ≤ 1000000) :
    ∃ v σ1 h', sX0_ticks (some 0) (iI 1) σ = some (v, σ1) ∧ ¬ v < iI 0 ∧ mI σ1 0 8 = iI (tkZ g) ∧ Rel h' (if g 11131 < 9999 then tickG (lawOf l) g else g) ∧ LSd σ1 h' k l t b T ∧ Chg σ σ1 tchL := by
  -- the answer
  obtain ⟨v, C, Hd, Mo, e⟩ := L.c.rep0 (by omega)
  have e31 := r.gl 11131 (by omega) (by omega)
  have r0 := r.clock I.bd (p := 11138) (v := 0) (by omega)
  have ss : st (st h 11138 v) 11138 0 = st h 11138 0 := by
    funext x
    unfold st
    split <;> rfl
  have tx0 : ∀ z, TxtL (tkM (shM σ 2 0) z) l := fun z => txt_chg S L.tx ((sh_chg.wk (fun a j q => by omega)).thn (tk_chg.wk (fun a j q => by omega)))
  obtain ⟨h1, C1, Hd1, Mo1, x1, r1⟩ := t_ticksR (h := st h 11138 v) (C := C) (Hd := Hd) (Mo := Mo) (g := g) (M := shM σ 2 0) (Λ := lawOf l) S.ly.1 sh_share S.p0.1 (fun z => (tx0 z).law) (by rw [st_ne (by omega)]; exact e31) (by rw [ss]; exact r0) I (v := 1) (by omega) hR
  rw [← e] at x1
  obtain ⟨K, hs3, FL3, G3, I3⟩ := InvS.ticksK (Λ := lawOf l) 1 _ hs FL R _ I.anew (by omega)
  have hG0 := I.gl
  have hG := I3.gl
  have dd := I3.dd
  have tg : ticksG (lawOf l) g (1 : Int).toNat = ticksF (lawOf l) 1 (st g 11138 0) := rfl
  rw [tg] at x1
  have neg : ¬ iI (ticksF (lawOf l) 1 (st g 11138 0) 11138) < iI 0 := by
    have a := dd.1
    have b := dd.2.1
    have a : ticksF (lawOf l) 1 (st g 11138 0) 11134 = ticksF (lawOf l) 1 (st g 11138 0) 11138 + g 11134 := a
    obtain ⟨_, _, _, _, _, _, q7, q8, _⟩ := hG
    obtain ⟨_, _, _, _, _, _, p7, p8, _⟩ := hG0
    rw [iv_lt (by omega) (by omega) (by omega) (by omega)]
    omega
  -- the shape
  obtain ⟨C2, Hd2, Mo2, s2, e2⟩ := L.c.rep (by omega)
  have tx2 : TxtL (shM (tkM (shM σ 2 s2) (tkZ g)) 2 (iI 0 - iI (h 11138))) l := txt_chg S L.tx (((sh_chg (N := σ) (B := 2) (s := s2)).wk (fun a j q => by omega)).thn ((tk_chg.wk (fun a j q => by omega)).thn (sh_chg.wk (fun a j q => by omega))))
  obtain ⟨h', C3, Hd3, Mo3, y, x3, r3⟩ := t_ticksS (h := h) (C := C2) (Hd := Hd2) (Mo := Mo2) (g := g) (M := shM σ 2 s2) (Λ := lawOf l) S.ly.1 rfl S.p0.1 tx2.law r I (v := 1) (by omega) hR
  rw [← e2] at x3
  have ee := x1.symm.trans x3
  have ey : iI (ticksF (lawOf l) 1 (st g 11138 0) 11138) = y := congrArg Prod.fst (Option.some.inj ee)
  obtain ⟨σ1, hσ1⟩ : ∃ σ1, σ1 = tl 2 h' C3 Hd3 Mo3 (shM (tkM (shM σ 2 s2) (tkZ g)) 2 (iI 0 - iI (h 11138))) := ⟨_, rfl⟩
  rw [← hσ1] at x3
  have ch : Chg σ σ1 tchL := by
    have q := tl_chg (B := 2) (h := h) (h' := h') (C := C2) (Hd := Hd2) (Mo := Mo2) (C' := C3) (Hd' := Hd3) (Mo' := Mo3) (N := shM σ 2 s2) (by omega)
    rw [← e2] at q
    refine ⟨by rw [hσ1]; rfl, fun a j n => ?_⟩
    rw [hσ1]
    show tlI 2 h' C3 Hd3 Mo3 _ a j = _
    unfold tchL at n
    rw [tl_out (by omega) (by omega)]
    show (if a = 2 ∧ j = 13 then _ else if a = 0 ∧ j = 8 then _ else if a = 2 ∧ j = 13 then _ else mI σ a j) = _
    rw [if_neg (by omega), if_neg (by omega), if_neg (by omega)]
  refine ⟨y, σ1, h', x3, by rw [← ey]; exact neg, ?_, r3, L.act S hσ1 ch, ch⟩
  rw [hσ1]
  show tlI 2 h' C3 Hd3 Mo3 _ 0 8 = _
  rw [tl_out (by omega) (by omega)]
  exact ((sh_chg (N := tkM (shM σ 2 s2) (tkZ g)) (B := 2) (s := iI 0 - iI (h 11138))).2 0 8 (by omega)).trans tk_8
end
