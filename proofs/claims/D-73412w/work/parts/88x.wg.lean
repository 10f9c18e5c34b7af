/-! DEPS: wf -/
/-! WG: TermLog waits, keeps, puts back -/
/-- TermLog's own word in slot s is set -/
def wM (M : Mem) (s : Nat) (z : Int) : Mem := (up2 (mI M) 0 s (iI z), M.2)
/-- the hidden share of how many are held now -/
def shM (M : Mem) (A : Nat) (s : Int32) : Mem := (up2 (mI M) A 13 s, M.2)
def haveF (g : Row) : Nat → Int → Bool
  | 0, _ => true
  | f + 1, n => if g (244 * n + 0) = 1 ∧ g (244 * n + 9) < g 11134 then false else haveF g f (n + 1)
def soB (g : Row) (w : Int) : Bool := if w = 0 then decide (leadNowS g ≠ -2) else if w = 1 then decide (0 < g 11138) else haveF g 7 0
noncomputable def tillF (Λ : Law) (w : Int) : Nat → Row → Int → Int
  | 0, g, t => if soB g w = true then t else -2
  | f + 1, g, t => if soB g w = true then t else if g 11131 = 9999 then -2 else tillF Λ w f (tickG Λ g) (t + 1)
noncomputable def tillS (Λ : Law) (g : Row) (v w : Int) : Int := if ¬ (1 ≤ v ∧ v ≤ 200) then -1 else if ¬ (0 ≤ w ∧ w < 3) then -1 else tillF Λ w v.toNat (st g 11138 0) 0
theorem InvS.tick1 {g : Row} {h : His} {FL : Int → ELog} {R : Int} {D : DK} {Λ : Law} (I : InvS g h FL R D) (h9 : g 11131 < 9999) (hR : R + 7 ≤ 1000000) : ∃ K, Ex (tickG Λ g) h (R + 7) (D.1, K, g 11131 + 1) := by
  unfold tickG
  simp only []
  obtain ⟨K, e⟩ := InvS.handK (Λ := Λ) ((st g 11131 (g 11131 + 1) 11133).toNat + 1) _ h FL _ (I.clock h9)
  exact ⟨K, e.bind (fun h2 FL2 G2 I2 => InvS.beatK 7 _ h2 FL2 R 0 I2 (by omega) (by omega) (by omega))⟩
theorem tl_wM {A s : Nat} {z : Int} {h C Hd Mo : Row} {N : Mem} (a2 : 2 ≤ A) : tl A h C Hd Mo (wM N s z) = wM (tl A h C Hd Mo N) s z := by
  refine Prod.ext ?_ rfl
  funext a j
  show tlI A h C Hd Mo (up2 (mI N) 0 s (iI z)) a j = up2 (tlI A h C Hd Mo (mI N)) 0 s (iI z) a j
  unfold up2
  by_cases c : a = 0 ∧ j = s
  · rw [if_pos c, tl_out (by omega) (by omega), if_pos c]
  · rw [if_neg c]
    by_cases c1 : a = 1
    · rw [c1, tl_one, tl_one]
    · by_cases c2 : a < A
      · rw [tl_out c1 (Or.inl c2), tl_out c1 (Or.inl c2), if_neg c]
      · rw [tl_in c1 c2, tl_in c1 c2, if_neg c, if_neg (by omega)]
theorem tl_share {A : Nat} {h C Hd Mo : Row} {N : Mem} (v : Int) (a2 : 2 ≤ A) : tl A h C Hd Mo N = tl A (st h 11138 v) C Hd Mo (shM N A (iI (h 11138) - iI v + mI N A 13)) := by
  refine Prod.ext ?_ rfl
  funext a j
  show tlI A h C Hd Mo (mI N) a j = tlI A (st h 11138 v) C Hd Mo (up2 (mI N) A 13 (iI (h 11138) - iI v + mI N A 13)) a j
  by_cases c1 : a = 1
  · rw [c1, tl_one, tl_one]
  · by_cases c2 : a < A
    · rw [tl_out c1 (Or.inl c2), tl_out c1 (Or.inl c2)]
      exact (if_neg (by omega)).symm
    · rw [tl_in c1 c2, tl_in c1 c2]
      have e : up2 (mI N) A 13 (iI (h 11138) - iI v + mI N A 13) A 13 = iI (h 11138) - iI v + mI N A 13 := if_pos ⟨rfl, rfl⟩
      rw [e]
      unfold tlE
      cases e2 : plc (a - A) j with
      | none =>
        show (if a = A + 1183 then _ else if a = A + 1184 then _ else _) = (if a = A + 1183 then _ else if a = A + 1184 then _ else _)
        split
        · rfl
        · split
          · rfl
          · have : ¬ (a = A ∧ j = 13) := by
              intro q
              have hp : plc (a - A) j = some 11138 := by rw [q.1, q.2, Nat.sub_self]; rfl
              rw [hp] at e2
              cases e2
            exact (if_neg this).symm
      | some p =>
        show (if p = 11138 then iI (h p) + mI N A 13 else iI (valT p (h p))) = (if p = 11138 then iI (st h 11138 v p) + (iI (h 11138) - iI v + mI N A 13) else iI (valT p (st h 11138 v p)))
        by_cases c3 : p = 11138
        · rw [if_pos c3, if_pos c3, c3, st_eq, ← Int32.add_assoc, iv_sub, iv_add, show v + (h 11138 - v) = h 11138 by omega]
        · rw [if_neg c3, if_neg c3, st_ne c3]
section
variable {A B : Nat} {h g C Hd Mo k Ck Hk Mk : Row} {M N : Mem} {Λ : Law} {hs : His} {FL : Int → ELog} {R : Int} {D : DK}
theorem gI_t0 {β : Type} {s : Nat} (hL : LyC B M) {f : Int32 → Option β} : gI (tl B h C Hd Mo M) (some 0) 0 s f = f (mI M 0 s) := by
  have b2 := hL.b2
  exact (if_pos hL.k0.1).trans (congrArg f (show tlI B h C Hd Mo (mI M) 0 s = mI M 0 s from tl_out (by omega) (by omega)))
theorem pI_t0 {β : Type} {s : Nat} (hL : LyC B M) {z : Int} {f : Mem → Option β} : pI (tl B h C Hd Mo M) (some 0) 0 s (iI z) f = f (tl B h C Hd Mo (wM M s z)) := by
  have b2 := hL.b2
  rw [tl_wM b2]
  exact if_pos hL.k0.1
theorem pZ_t0 {β : Type} {s : Nat} (hL : LyC B M) {z : Int} (hz : z = 0 ∨ z = 1) {f : Mem → Option β} : pZ (tl B h C Hd Mo M) (some 0) 0 s (iI z) f = f (tl B h C Hd Mo (wM M s z)) := by
  have b2 := hL.b2
  rw [tl_wM b2]
  refine if_pos ⟨hL.k0.1, ?_⟩
  rcases hz with e | e <;> subst e
  · exact Or.inl rfl
  · exact Or.inr rfl
theorem t_keep (d : Dj A B) (hA : LyC A M) (hB : LyC B M) (h1 : mP M 0 1 = some B) (h3 : mP M 0 3 = some A) (rel : Rel h g) (I : InvS g hs FL R D) :
    ∃ k' Mk', sX0_keep (some 0) (tl B h C Hd Mo (tl A k Ck Hk Mk M)) = some (iI (g 11131), tl B h C Hd Mo (tl A k' Ck Hk Mk' (wM M 7 1))) ∧ Rel (st k' 11138 0) (st g 11138 0) := by
  have a2 := hA.b2
  have b2 := hB.b2
  have hB2 : LyC B (tl A k Ck Hk Mk M) := hB
  have rx := rel.clock I.bd (p := 11138) (v := 0) (by omega)
  obtain ⟨k1, x1, x2⟩ := t_takes (h := k) (C := Ck) (Hd := Hk) (Mo := Mo) (k := h) (Ck := C) (Hk := Hd) (Mk := Mo) (M := wM M 7 1) d hA hB (rx.tkb I)
  have r1 := rx.copied I.bd (fun n n0 n1 => ((rx.tkb I).1 n n0 n1).2.1) x2
  have bd1 : BdA (st g 11138 (k1 11138)) := ⟨fun n n0 n1 => by rw [st_ne (by omega)]; exact I.bd.1 n n0 n1, by
    have hG := I.gl
    exact GlA_ext hG (st_ne (by omega)) (st_ne (by omega)) (st_ne (by omega)) (by rw [st_ne (by omega)]; obtain ⟨_, _, _, _, _, _, _, _, _, _, _, _⟩ := hG; omega) (st_ne (by omega)) (st_ne (by omega))⟩
  have r2 := r1.clock bd1 (p := 11138) (v := 0) (by omega)
  have ess : st (st g 11138 (k1 11138)) 11138 0 = st g 11138 0 := by
    funext x
    unfold st
    split
    · rfl
    · rfl
  rw [ess] at r2
  rw [tl_com Mo d a2 b2] at x1
  rw [tl_com Mo d a2 b2] at x1
  have e31 := rel.gl 11131 (by omega) (by omega)
  refine ⟨k1, Mo, ?_, r2⟩
  have hBw : LyC B (tl A k Ck Hk Mk (wM M 7 1)) := hB
  have hBw1 : LyC B (tl A k1 Ck Hk Mo (wM M 7 1)) := hB
  have hBw2 : LyC B (tl A k Ck Hk Mo (wM M 7 1)) := hB
  have n1 : mP (tl A k Ck Hk Mk (wM M 7 1)) 0 1 = some B := h1
  have n3 : mP (tl A k Ck Hk Mk (wM M 7 1)) 0 3 = some A := h3
  have n12 : mP (tl A k1 Ck Hk Mo (wM M 7 1)) 0 1 = some B := h1
  have cA : ∀ f : Option (Int32 × Mem), cV (tl B h C Hd Mo (tl A k Ck Hk Mk (wM M 7 1))) (some A) 2 f = f := fun f => if_pos hA.kB.1
  have em : tl B h C Hd Mo (tl A k Ck Hk Mk (wM M 7 1)) = tl B h C Hd Mo (tl A k Ck Hk Mo (wM M 7 1)) := by
    rw [tl_com Mo d.sym b2 a2, tl_com Mo d.sym b2 a2]
  unfold sX0_keep
  rw [pZ_t0 hB2 (Or.inr rfl), ← tl_wM a2, gR_t3 hBw n3, gR_t1' hBw n1, cA, em, x1, cl_some', gR_t1' hBw1 n12, gI_c8 hBw1, e31]
theorem t_undo (d : Dj B A) (hA : LyC A M) (hB : LyC B M) (h1 : mP M 0 1 = some B) (h3 : mP M 0 3 = some A) (e38 : h 11138 = g 11138) {gk : Row} (rk : mI M 0 7 = iI 1 → Rel (st k 11138 0) (st gk 11138 0)) (I : mI M 0 7 = iI 1 → InvS gk hs FL R D) (h7 : mI M 0 7 = iI 0 ∨ mI M 0 7 = iI 1) :
    ∃ h', sX0_undo (some 0) (tl B h C Hd Mo (tl A k Ck Hk Mk M)) = some (mI M 0 7, tl B h' C Hd Mo (tl A k Ck Hk Mk M)) ∧ (mI M 0 7 = iI 1 → Rel h' (st gk 11138 (g 11138))) ∧ (mI M 0 7 = iI 0 → h' = h) := by
  have a2 := hA.b2
  have b2 := hB.b2
  have hB2 : LyC B (tl A k Ck Hk Mk M) := hB
  have e7 : mI (tl A k Ck Hk Mk M) 0 7 = mI M 0 7 := show tlI A k Ck Hk Mk (mI M) 0 7 = mI M 0 7 from tl_out (by omega) (by omega)
  have n1 : mP (tl A k Ck Hk Mk M) 0 1 = some B := h1
  have n3 : mP (tl A k Ck Hk Mk M) 0 3 = some A := h3
  rcases h7 with h7 | h7
  · refine ⟨h, ?_, fun q => absurd (h7.symm.trans q) (by decide), fun _ => rfl⟩
    simp (disch := first | assumption | omega) only [sX0_undo, gI_t0, e7, h7, z10, z00, if_true, if_false, iv_add, iv_sub, iv_mul, iv_le, iv_lt, iv_eq, iv_mx, iv_mn, bI_z, bI_o, rZ0, rZ1, rZb, cl_some', lt_eq, rm_eq, dv_eq, iv_01, iv_10, the, lastA, lpA, st_eq, st_ne, sh_addM, cV_cl, cV_nd, cV_mo, cV_lt, gR_t0, aR_nd, gR_c0, gR_c1, gR_c2, gR_c3, gR_c4, gR_c5, gR_c6, gR_c15, gR_c16, gI_c7, pI_c7, gI_c8, pI_c8, gI_c9, pI_c9, gI_c10, pI_c10, gI_c11, pI_c11, gI_c12, pI_c12, gI_c13, pI_c13, gI_c14, pI_c14, gN_9, gN_10, gN_11, gN_12, gN_13, gN_14, gN_15, gN_16, gN_17, gN_18, gN_19, gN_20, gN_21, gN_22, gN_23, pN_9, pN_10, pN_11, pN_12, pN_13, pN_14, pN_15, pN_16, pN_17, pN_18, pN_19, pN_20, pN_21, pN_22, pZ_0, pZ_1, gR_n0, aI_n0, sI_n0, gR_n1, aI_n1, sI_n1, gR_n2, aI_n2, sI_n2, gR_n3, aI_n3, sI_n3, gR_n4, aI_n4, sI_n4, gR_n5, aI_n5, sI_n5, gR_n6, aI_n6, sI_n6, gR_n7, aI_n7, sI_n7, gR_n8, aI_n8, sI_n8, aR_s, aI_s, sI_s, aR_h, aI_h, sI_h, aR_r, aI_r, sI_r, aI_c, sI_c, aI_l, sI_l, aI_ca, aI_ha, sI_ca, sI_ha, gI_mo, pI_mo]
  · have rk := rk h7
    have I := I h7
    obtain ⟨h', x1, x2⟩ := t_takes (h := h) (C := C) (Hd := Hd) (Mo := Mo) (k := k) (Ck := Ck) (Hk := Hk) (Mk := Mk) d hB hA (rk.tkb I)
    have r1 := rk.copied I.bd (fun n n0 n1 => ((rk.tkb I).1 n n0 n1).2.1) x2
    rw [x2.2, e38] at r1
    refine ⟨h', ?_, fun _ => r1, fun q => absurd (h7.symm.trans q) (by decide)⟩
    rw [h7]
    simp (disch := first | assumption | omega) only [sX0_undo, gI_t0, e7, h7, gR_t1', gR_t3, z10, z00, if_true, if_false, iv_add, iv_sub, iv_mul, iv_le, iv_lt, iv_eq, iv_mx, iv_mn, bI_z, bI_o, rZ0, rZ1, rZb, cl_some', lt_eq, rm_eq, dv_eq, iv_01, iv_10, the, lastA, lpA, st_eq, st_ne, sh_addM, cV_cl, cV_nd, cV_mo, cV_lt, gR_t0, aR_nd, gR_c0, gR_c1, gR_c2, gR_c3, gR_c4, gR_c5, gR_c6, gR_c15, gR_c16, gI_c7, pI_c7, gI_c8, pI_c8, gI_c9, pI_c9, gI_c10, pI_c10, gI_c11, pI_c11, gI_c12, pI_c12, gI_c13, pI_c13, gI_c14, pI_c14, gN_9, gN_10, gN_11, gN_12, gN_13, gN_14, gN_15, gN_16, gN_17, gN_18, gN_19, gN_20, gN_21, gN_22, gN_23, pN_9, pN_10, pN_11, pN_12, pN_13, pN_14, pN_15, pN_16, pN_17, pN_18, pN_19, pN_20, pN_21, pN_22, pZ_0, pZ_1, gR_n0, aI_n0, sI_n0, gR_n1, aI_n1, sI_n1, gR_n2, aI_n2, sI_n2, gR_n3, aI_n3, sI_n3, gR_n4, aI_n4, sI_n4, gR_n5, aI_n5, sI_n5, gR_n6, aI_n6, sI_n6, gR_n7, aI_n7, sI_n7, gR_n8, aI_n8, sI_n8, aR_s, aI_s, sI_s, aR_h, aI_h, sI_h, aR_r, aI_r, sI_r, aI_c, sI_c, aI_l, sI_l, aI_ca, aI_ha, sI_ca, sI_ha, gI_mo, pI_mo, x1]
theorem t_have_10 (hL : LyC B M) (rel : Rel h g) (I : InvS g hs FL R D) : ∀ (j : Nat) (n : Int) (fu : Nat), 7 - n = j → 0 ≤ n → j < fu →
    sX3_haveAllHeld_10 fu (some B) (some (B + 1)) (iI 7) (iI n) (tl B h C Hd Mo M) = some (bI (haveF g j n = true), tl B h C Hd Mo M)
  | 0, n, fu + 1, e1, e2, e3 => by
    simp (disch := first | assumption | omega) only [sX3_haveAllHeld_10, sX3_haveAllHeld_10b, z10, z00, if_true, if_false, iv_add, iv_sub, iv_mul, iv_le, iv_lt, iv_eq, iv_mx, iv_mn, bI_z, bI_o, rZ0, rZ1, rZb, cl_some', lt_eq, rm_eq, dv_eq, iv_01, iv_10, the, lastA, lpA, st_eq, st_ne, sh_addM, cV_cl, cV_nd, cV_mo, cV_lt, gR_t0, aR_nd, gR_c0, gR_c1, gR_c2, gR_c3, gR_c4, gR_c5, gR_c6, gR_c15, gR_c16, gI_c7, pI_c7, gI_c8, pI_c8, gI_c9, pI_c9, gI_c10, pI_c10, gI_c11, pI_c11, gI_c12, pI_c12, gI_c13, pI_c13, gI_c14, pI_c14, gN_9, gN_10, gN_11, gN_12, gN_13, gN_14, gN_15, gN_16, gN_17, gN_18, gN_19, gN_20, gN_21, gN_22, gN_23, pN_9, pN_10, pN_11, pN_12, pN_13, pN_14, pN_15, pN_16, pN_17, pN_18, pN_19, pN_20, pN_21, pN_22, pZ_0, pZ_1, gR_n0, aI_n0, sI_n0, gR_n1, aI_n1, sI_n1, gR_n2, aI_n2, sI_n2, gR_n3, aI_n3, sI_n3, gR_n4, aI_n4, sI_n4, gR_n5, aI_n5, sI_n5, gR_n6, aI_n6, sI_n6, gR_n7, aI_n7, sI_n7, gR_n8, aI_n8, sI_n8, aR_s, aI_s, sI_s, aR_h, aI_h, sI_h, aR_r, aI_r, sI_r, aI_c, sI_c, aI_l, sI_l, aI_ca, aI_ha, sI_ca, sI_ha, gI_mo, pI_mo]
    rw [if_pos (by omega)]
    rfl
  | j + 1, n, fu + 1, e1, e2, e3 => by
    have n1 : n < 7 := by omega
    obtain ⟨⟨s1, s2⟩, _⟩ := I.na n e2 n1
    have rn := rel.nd n e2 n1
    have w0 := rn.s 0 (by omega) (by omega)
    have w9 := rn.s 9 (by omega) (by omega)
    have e34 := rel.gl 11134 (by omega) (by omega)
    have hG := I.gl
    obtain ⟨_, _, _, _, _, _, _, _, _, _, _, _⟩ := hG
    have ih := t_have_10 hL rel I j (n + 1) fu (by omega) (by omega) (by omega)
    unfold haveF
    show sX3_haveAllHeld_10b (sX3_haveAllHeld_10 fu) _ _ _ _ _ = _
    generalize sX3_haveAllHeld_10 fu = K at ih ⊢
    simp (disch := first | assumption | omega) only [sX3_haveAllHeld_10b, sX3_haveAllHeld_42, z10, z00, if_true, if_false, iv_add, iv_sub, iv_mul, iv_le, iv_lt, iv_eq, iv_mx, iv_mn, bI_z, bI_o, rZ0, rZ1, rZb, cl_some', lt_eq, rm_eq, dv_eq, iv_01, iv_10, the, lastA, lpA, st_eq, st_ne, sh_addM, cV_cl, cV_nd, cV_mo, cV_lt, gR_t0, aR_nd, gR_c0, gR_c1, gR_c2, gR_c3, gR_c4, gR_c5, gR_c6, gR_c15, gR_c16, gI_c7, pI_c7, gI_c8, pI_c8, gI_c9, pI_c9, gI_c10, pI_c10, gI_c11, pI_c11, gI_c12, pI_c12, gI_c13, pI_c13, gI_c14, pI_c14, gN_9, gN_10, gN_11, gN_12, gN_13, gN_14, gN_15, gN_16, gN_17, gN_18, gN_19, gN_20, gN_21, gN_22, gN_23, pN_9, pN_10, pN_11, pN_12, pN_13, pN_14, pN_15, pN_16, pN_17, pN_18, pN_19, pN_20, pN_21, pN_22, pZ_0, pZ_1, gR_n0, aI_n0, sI_n0, gR_n1, aI_n1, sI_n1, gR_n2, aI_n2, sI_n2, gR_n3, aI_n3, sI_n3, gR_n4, aI_n4, sI_n4, gR_n5, aI_n5, sI_n5, gR_n6, aI_n6, sI_n6, gR_n7, aI_n7, sI_n7, gR_n8, aI_n8, sI_n8, aR_s, aI_s, sI_s, aR_h, aI_h, sI_h, aR_r, aI_r, sI_r, aI_c, sI_c, aI_l, sI_l, aI_ca, aI_ha, sI_ca, sI_ha, gI_mo, pI_mo, w0, w9, e34]
    rw [if_neg (by omega)]
    by_cases c : g (244 * n + 0) = 0
    · rw [if_pos c, if_neg (fun q => by omega)]
      exact ih
    · rw [if_neg c]
      by_cases c2 : g 11134 ≤ g (244 * n + 9)
      · rw [if_pos c2, if_neg (fun q => by omega)]
        exact ih
      · rw [if_neg c2, if_pos ⟨by omega, by omega⟩]
        rfl
theorem t_haveAll (hL : LyC B M) (rel : Rel h g) (I : InvS g hs FL R D) : sX3_haveAllHeld (some B) (tl B h C Hd Mo M) = some (bI (haveF g 7 0 = true), tl B h C Hd Mo M) := by
  have x := t_have_10 (C := C) (Hd := Hd) (Mo := Mo) hL rel I 7 0 FU (by omega) (by omega) (by unfold FU; omega)
  have e : ∀ f : Int32 → Option (Int32 × Mem), aL (tl B h C Hd Mo M) (some (B + 1)) 23 f = f (iI 7) := by
    intro f
    show (if (mK M (B + 1)).1 = 23 then f (Int32.ofNat (mK M (B + 1)).2) else none) = _
    rw [hL.kn.1, if_pos rfl]
    rfl
  unfold sX3_haveAllHeld
  rw [gR_c0 hL, e]
  exact x
/-- how TermLog sees that it is so; w is what, G the greatest at first -/
theorem t_till_101 {K : Option Nat → Int32 → Int32 → Int32 → Mem → Option (Int32 × Mem)} (hA : LyC A N) (h2 : mP N 0 2 = some A) (hΛ : LawL N Λ) (rel : Rel h g) (I : InvS g hs FL R D) {v w t : Int} (t0 : 0 ≤ t) (tv : t ≤ v) (v1 : v ≤ 200) (h9 : g 11131 ≤ 9999) {p : Prop} [Decidable p] :
    (p → sX0_till_101 K (some 0) (iI v) (iI w) (iI t) (bI p) (tl A h C Hd Mo N) = some (iI t, tl A h C Hd Mo N)) ∧
    (¬ p → t = v ∨ g 11131 = 9999 → sX0_till_101 K (some 0) (iI v) (iI w) (iI t) (bI p) (tl A h C Hd Mo N) = some (iI (-2), tl A h C Hd Mo N)) ∧
    (¬ p → ¬ t = v → ¬ g 11131 = 9999 → R + 7 ≤ 1000000 → ∃ h' C' Hd' Mo', sX0_till_101 K (some 0) (iI v) (iI w) (iI t) (bI p) (tl A h C Hd Mo N) = K (some 0) (iI v) (iI w) (iI (t + 1)) (tl A h' C' Hd' Mo' N) ∧ Rel h' (tickG Λ g)) := by
  have e31 := rel.gl 11131 (by omega) (by omega)
  have hG := I.gl
  obtain ⟨_, _, _, _, _, _, _, _, _, _, _, _⟩ := hG
  refine ⟨fun q => ?_, fun q c => ?_, fun q c1 c2 hR => ?_⟩
  · simp (disch := first | assumption | omega) only [sX0_till_101, z10, z00, if_true, if_false, iv_add, iv_sub, iv_mul, iv_le, iv_lt, iv_eq, iv_mx, iv_mn, bI_z, bI_o, rZ0, rZ1, rZb, cl_some', lt_eq, rm_eq, dv_eq, iv_01, iv_10, the, lastA, lpA, st_eq, st_ne, sh_addM, cV_cl, cV_nd, cV_mo, cV_lt, gR_t0, aR_nd, gR_c0, gR_c1, gR_c2, gR_c3, gR_c4, gR_c5, gR_c6, gR_c15, gR_c16, gI_c7, pI_c7, gI_c8, pI_c8, gI_c9, pI_c9, gI_c10, pI_c10, gI_c11, pI_c11, gI_c12, pI_c12, gI_c13, pI_c13, gI_c14, pI_c14, gN_9, gN_10, gN_11, gN_12, gN_13, gN_14, gN_15, gN_16, gN_17, gN_18, gN_19, gN_20, gN_21, gN_22, gN_23, pN_9, pN_10, pN_11, pN_12, pN_13, pN_14, pN_15, pN_16, pN_17, pN_18, pN_19, pN_20, pN_21, pN_22, pZ_0, pZ_1, gR_n0, aI_n0, sI_n0, gR_n1, aI_n1, sI_n1, gR_n2, aI_n2, sI_n2, gR_n3, aI_n3, sI_n3, gR_n4, aI_n4, sI_n4, gR_n5, aI_n5, sI_n5, gR_n6, aI_n6, sI_n6, gR_n7, aI_n7, sI_n7, gR_n8, aI_n8, sI_n8, aR_s, aI_s, sI_s, aR_h, aI_h, sI_h, aR_r, aI_r, sI_r, aI_c, sI_c, aI_l, sI_l, aI_ca, aI_ha, sI_ca, sI_ha, gI_mo, pI_mo]
    rw [if_neg (fun x => x q)]
  · by_cases c1 : t = v
    · simp (disch := first | assumption | omega) only [sX0_till_101, z10, z00, if_true, if_false, iv_add, iv_sub, iv_mul, iv_le, iv_lt, iv_eq, iv_mx, iv_mn, bI_z, bI_o, rZ0, rZ1, rZb, cl_some', lt_eq, rm_eq, dv_eq, iv_01, iv_10, the, lastA, lpA, st_eq, st_ne, sh_addM, cV_cl, cV_nd, cV_mo, cV_lt, gR_t0, aR_nd, gR_c0, gR_c1, gR_c2, gR_c3, gR_c4, gR_c5, gR_c6, gR_c15, gR_c16, gI_c7, pI_c7, gI_c8, pI_c8, gI_c9, pI_c9, gI_c10, pI_c10, gI_c11, pI_c11, gI_c12, pI_c12, gI_c13, pI_c13, gI_c14, pI_c14, gN_9, gN_10, gN_11, gN_12, gN_13, gN_14, gN_15, gN_16, gN_17, gN_18, gN_19, gN_20, gN_21, gN_22, gN_23, pN_9, pN_10, pN_11, pN_12, pN_13, pN_14, pN_15, pN_16, pN_17, pN_18, pN_19, pN_20, pN_21, pN_22, pZ_0, pZ_1, gR_n0, aI_n0, sI_n0, gR_n1, aI_n1, sI_n1, gR_n2, aI_n2, sI_n2, gR_n3, aI_n3, sI_n3, gR_n4, aI_n4, sI_n4, gR_n5, aI_n5, sI_n5, gR_n6, aI_n6, sI_n6, gR_n7, aI_n7, sI_n7, gR_n8, aI_n8, sI_n8, aR_s, aI_s, sI_s, aR_h, aI_h, sI_h, aR_r, aI_r, sI_r, aI_c, sI_c, aI_l, sI_l, aI_ca, aI_ha, sI_ca, sI_ha, gI_mo, pI_mo]
      rw [if_pos q, if_pos c1]
    · simp (disch := first | assumption | omega) only [sX0_till_101, gR_t2, z10, z00, if_true, if_false, iv_add, iv_sub, iv_mul, iv_le, iv_lt, iv_eq, iv_mx, iv_mn, bI_z, bI_o, rZ0, rZ1, rZb, cl_some', lt_eq, rm_eq, dv_eq, iv_01, iv_10, the, lastA, lpA, st_eq, st_ne, sh_addM, cV_cl, cV_nd, cV_mo, cV_lt, gR_t0, aR_nd, gR_c0, gR_c1, gR_c2, gR_c3, gR_c4, gR_c5, gR_c6, gR_c15, gR_c16, gI_c7, pI_c7, gI_c8, pI_c8, gI_c9, pI_c9, gI_c10, pI_c10, gI_c11, pI_c11, gI_c12, pI_c12, gI_c13, pI_c13, gI_c14, pI_c14, gN_9, gN_10, gN_11, gN_12, gN_13, gN_14, gN_15, gN_16, gN_17, gN_18, gN_19, gN_20, gN_21, gN_22, gN_23, pN_9, pN_10, pN_11, pN_12, pN_13, pN_14, pN_15, pN_16, pN_17, pN_18, pN_19, pN_20, pN_21, pN_22, pZ_0, pZ_1, gR_n0, aI_n0, sI_n0, gR_n1, aI_n1, sI_n1, gR_n2, aI_n2, sI_n2, gR_n3, aI_n3, sI_n3, gR_n4, aI_n4, sI_n4, gR_n5, aI_n5, sI_n5, gR_n6, aI_n6, sI_n6, gR_n7, aI_n7, sI_n7, gR_n8, aI_n8, sI_n8, aR_s, aI_s, sI_s, aR_h, aI_h, sI_h, aR_r, aI_r, sI_r, aI_c, sI_c, aI_l, sI_l, aI_ca, aI_ha, sI_ca, sI_ha, gI_mo, pI_mo, e31]
      rw [if_pos q, if_neg c1, if_pos (c.resolve_left c1)]
  · obtain ⟨h', C', Hd', M', x1, x2⟩ := t_tickGoes (C := C) (Hd := Hd) (Mo := Mo) hA hΛ rel I (by omega) hR
    refine ⟨h', C', Hd', M', ?_, x2⟩
    simp (disch := first | assumption | omega) only [sX0_till_101, gR_t2, z10, z00, if_true, if_false, iv_add, iv_sub, iv_mul, iv_le, iv_lt, iv_eq, iv_mx, iv_mn, bI_z, bI_o, rZ0, rZ1, rZb, cl_some', lt_eq, rm_eq, dv_eq, iv_01, iv_10, the, lastA, lpA, st_eq, st_ne, sh_addM, cV_cl, cV_nd, cV_mo, cV_lt, gR_t0, aR_nd, gR_c0, gR_c1, gR_c2, gR_c3, gR_c4, gR_c5, gR_c6, gR_c15, gR_c16, gI_c7, pI_c7, gI_c8, pI_c8, gI_c9, pI_c9, gI_c10, pI_c10, gI_c11, pI_c11, gI_c12, pI_c12, gI_c13, pI_c13, gI_c14, pI_c14, gN_9, gN_10, gN_11, gN_12, gN_13, gN_14, gN_15, gN_16, gN_17, gN_18, gN_19, gN_20, gN_21, gN_22, gN_23, pN_9, pN_10, pN_11, pN_12, pN_13, pN_14, pN_15, pN_16, pN_17, pN_18, pN_19, pN_20, pN_21, pN_22, pZ_0, pZ_1, gR_n0, aI_n0, sI_n0, gR_n1, aI_n1, sI_n1, gR_n2, aI_n2, sI_n2, gR_n3, aI_n3, sI_n3, gR_n4, aI_n4, sI_n4, gR_n5, aI_n5, sI_n5, gR_n6, aI_n6, sI_n6, gR_n7, aI_n7, sI_n7, gR_n8, aI_n8, sI_n8, aR_s, aI_s, sI_s, aR_h, aI_h, sI_h, aR_r, aI_r, sI_r, aI_c, sI_c, aI_l, sI_l, aI_ca, aI_ha, sI_ca, sI_ha, gI_mo, pI_mo, e31, x1]
    rw [if_pos q, if_neg c1, if_neg c2]
theorem leadF_r {g : Row} : ∀ (j : Nat) (b k : Int), (b = -2 ∨ (0 ≤ b ∧ b < 7)) → 0 ≤ k → k + j ≤ 7 → leadF g j b k = -2 ∨ (0 ≤ leadF g j b k ∧ leadF g j b k < 7)
  | 0, b, k, e1, e2, e3 => e1
  | j + 1, b, k, e1, e2, e3 => by
    unfold leadF
    split
    · exact leadF_r j k (k + 1) (Or.inr (by omega)) (by omega) (by omega)
    · exact leadF_r j b (k + 1) e1 (by omega) (by omega)
theorem leadNow_r {g : Row} : leadNowS g = -2 ∨ (0 ≤ leadNowS g ∧ leadNowS g < 7) := leadF_r 7 (-2) 0 (Or.inl rfl) (by omega) (by omega)
theorem t_till_key {K : Option Nat → Int32 → Int32 → Int32 → Mem → Option (Int32 × Mem)} (hA : LyC A N) (h1 : mP N 0 1 = some B) (h2 : mP N 0 2 = some A) {G v w t : Int} (hG : ∀ (h C Hd Mo : Row) (f : Int32 → Option (Int32 × Mem)), gI (tl A h C Hd Mo N) (some B) 2 12 f = f (iI G)) (G0 : 0 ≤ G ∧ G ≤ 999) (t0 : 0 ≤ t) (tv : t ≤ v) (v1 : v ≤ 200) (w0 : 0 ≤ w) (w1 : w < 3)
    (rel : Rel h g) (I : InvS g hs FL R D) (eD : D.1 = G) : sX0_till_35b K (some 0) (iI v) (iI w) (iI t) (tl A h C Hd Mo N) = sX0_till_101 K (some 0) (iI v) (iI w) (iI t) (bI (soB g w = true)) (tl A h C Hd Mo N) := by
  have e34 := rel.gl 11134 (by omega) (by omega)
  have hGl := I.gl
  obtain ⟨_, _, _, _, _, _, _, _, _, _, _, _⟩ := hGl
  have dd := I.dd
  have le : sX3_leads_2 (some A) (tl A h C Hd Mo N) = some (iI (leadNowS g), tl A h C Hd Mo N) := t_lead_5 (C := C) (Hd := Hd) (Mo := Mo) hA rel I 7 (-2) 0 FU (by omega) (by omega) (Or.inl rfl) (by unfold FU; omega)
  have hv := t_haveAll (C := C) (Hd := Hd) (Mo := Mo) hA rel I
  unfold sX0_till_35b
  rw [if_neg (by rw [iv_lt (by omega) (by omega) (by omega) (by omega)]; omega)]
  unfold soB
  by_cases c0 : w = 0
  · subst c0
    rw [if_pos rfl, gR_t2 hA h2, cV_cl hA, le, cl_some']
    have lr := leadNow_r (g := g)
    by_cases c : leadNowS g = -2
    · rw [c, if_pos rfl, bI_f (by simp)]
    · rw [if_neg (by rw [iv_eq (by omega) (by omega) (by omega) (by omega)]; exact c), bI_t (by simp [c])]
  · rw [if_neg (show ¬ iI w = iI 0 by rw [iv_eq (by omega) (by omega) (by omega) (by omega)]; exact c0)]
    by_cases c1 : w = 1
    · subst c1
      rw [if_pos rfl, gR_t2 hA h2, gI_c12 hA, gR_t1' hA h1, hG, e34]
      by_cases c : g 11134 ≤ G
      · rw [if_pos (by rw [iv_le (by omega) (by omega) (by omega) (by omega)]; exact c), bI_f (by simp; omega)]
      · rw [if_neg (by rw [iv_le (by omega) (by omega) (by omega) (by omega)]; exact c), bI_t (by simp; omega)]
    · rw [if_neg (show ¬ iI w = iI 1 by rw [iv_eq (by omega) (by omega) (by omega) (by omega)]; exact c1), gR_t2 hA h2, cV_cl hA, hv, cl_some']
      have : (haveF g 7 0 = true) = ((if w = 0 then decide (leadNowS g ≠ -2) else if w = 1 then decide (0 < g 11138) else haveF g 7 0) = true) := by
        rw [if_neg c0, if_neg c1]
      exact congrArg (fun z => sX0_till_101 K (some 0) (iI v) (iI w) (iI t) z (tl A h C Hd Mo N)) (bI_c (Iff.of_eq this))
/-- the loop: on the copy, with the main cluster's greatest beside -/
theorem t_till_35 (hA : LyC A N) (h1 : mP N 0 1 = some B) (h2 : mP N 0 2 = some A) (hΛ : LawL N Λ) {G v w : Int} (hG : ∀ (h C Hd Mo : Row) (f : Int32 → Option (Int32 × Mem)), gI (tl A h C Hd Mo N) (some B) 2 12 f = f (iI G)) (G0 : 0 ≤ G ∧ G ≤ 999) (v1 : v ≤ 200) (w0 : 0 ≤ w) (w1 : w < 3) :
    ∀ (j : Nat) (h g : Row) (hs : His) (FL : Int → ELog) (R : Int) (D : DK) (C Hd Mo : Row) (t : Int) (fu : Nat), Rel h g → InvS g hs FL R D → D.1 = G → v - t = j → 0 ≤ t → g 11131 ≤ 9999 → R + 7 * j ≤ 1000000 → j < fu →
    ∃ h' C' Hd' Mo', sX0_till_35 fu (some 0) (iI v) (iI w) (iI t) (tl A h C Hd Mo N) = some (iI (tillF Λ w j g t), tl A h' C' Hd' Mo' N)
  | 0, h, g, hs, FL, R, D, C, Hd, Mo, t, fu + 1, rel, I, eD, e1, e2, e9, e4, e5 => by
    have key := t_till_key (K := sX0_till_35 fu) (C := C) (Hd := Hd) (Mo := Mo) hA h1 h2 hG G0 e2 (show t ≤ v by omega) v1 w0 w1 rel I eD
    obtain ⟨z1, z2, z3⟩ := t_till_101 (K := sX0_till_35 fu) (C := C) (Hd := Hd) (Mo := Mo) (w := w) hA h2 hΛ rel I (v := v) (t := t) e2 (by omega) v1 e9 (p := soB g w = true)
    unfold tillF
    show ∃ h' C' Hd' Mo', sX0_till_35b (sX0_till_35 fu) _ _ _ _ _ = _
    rw [key]
    by_cases c : soB g w = true
    · rw [if_pos c]
      exact ⟨h, C, Hd, Mo, z1 c⟩
    · rw [if_neg c]
      exact ⟨h, C, Hd, Mo, z2 c (Or.inl (by omega))⟩
  | j + 1, h, g, hs, FL, R, D, C, Hd, Mo, t, fu + 1, rel, I, eD, e1, e2, e9, e4, e5 => by
    have key := t_till_key (K := sX0_till_35 fu) (C := C) (Hd := Hd) (Mo := Mo) hA h1 h2 hG G0 e2 (show t ≤ v by omega) v1 w0 w1 rel I eD
    obtain ⟨z1, z2, z3⟩ := t_till_101 (K := sX0_till_35 fu) (C := C) (Hd := Hd) (Mo := Mo) (w := w) hA h2 hΛ rel I (v := v) (t := t) e2 (by omega) v1 e9 (p := soB g w = true)
    unfold tillF
    show ∃ h' C' Hd' Mo', sX0_till_35b (sX0_till_35 fu) _ _ _ _ _ = _
    rw [key]
    by_cases c : soB g w = true
    · rw [if_pos c]
      exact ⟨h, C, Hd, Mo, z1 c⟩
    · rw [if_neg c]
      by_cases c9 : g 11131 = 9999
      · rw [if_pos c9]
        exact ⟨h, C, Hd, Mo, z2 c (Or.inr c9)⟩
      · rw [if_neg c9]
        obtain ⟨h2', C2, H2, M2, y1, y2⟩ := z3 c (by omega) c9 (by omega)
        obtain ⟨K, hs3, FL3, G3, I3⟩ := I.tick1 (Λ := Λ) (by omega) (by omega)
        have d31 := I3.dd.2.2
        have d31 : tickG Λ g 11131 = g 11131 + 1 := d31
        obtain ⟨h3, C3, H3, M3, q⟩ := t_till_35 hA h1 h2 hΛ hG G0 v1 w0 w1 j h2' _ hs3 FL3 _ _ C2 H2 M2 (t + 1) fu y2 I3 eD (by omega) (by omega) (by omega) (by omega) (by omega)
        exact ⟨h3, C3, H3, M3, y1.trans q⟩
theorem t_till (d : Dj A B) (hA : LyC A M) (hB : LyC B M) (h1 : mP M 0 1 = some B) (h2 : mP M 0 2 = some A) (h13 : mI M A 13 = 0) (hΛ : ∀ s, LawL (shM (tl B h C Hd Mo M) A s) Λ) (rel : Rel h g) (I : InvS g hs FL R D) (h9 : g 11131 ≤ 9999) {v w : Int} (v0 : -2147483648 ≤ v) (v1 : v ≤ 2147483647) (w0 : -2147483648 ≤ w) (w1 : w ≤ 2147483647) (hR : R + 1400 ≤ 1000000) :
    ∃ k' Ck' Hk' Mo' Mk', sX0_till (some 0) (iI v) (iI w) (tl B h C Hd Mo (tl A k Ck Hk Mk M)) = some (iI (tillS Λ g v w), tl B h C Hd Mo' (tl A k' Ck' Hk' Mk' M)) := by
  have a2 := hA.b2
  have b2 := hB.b2
  have hB2 : LyC B (tl A k Ck Hk Mk M) := hB
  have n1 : mP (tl A k Ck Hk Mk M) 0 1 = some B := h1
  have n2 : mP (tl A k Ck Hk Mk M) 0 2 = some A := h2
  unfold tillS
  by_cases c : 1 ≤ v ∧ v ≤ 200
  · rw [if_neg (fun q => q c)]
    by_cases e : 0 ≤ w ∧ w < 3
    · rw [if_neg (fun q => q e)]
      have rx := rel.clock I.bd (p := 11138) (v := 0) (by omega)
      obtain ⟨k1, x1, x2⟩ := t_takes (h := k) (C := Ck) (Hd := Hk) (Mo := Mo) (k := h) (Ck := C) (Hk := Hd) (Mk := Mo) (M := M) d hA hB (rx.tkb I)
      have r1 := rx.copied I.bd (fun n n0 n1 => ((rx.tkb I).1 n n0 n1).2.1) x2
      have bd1 : BdA (st g 11138 (k1 11138)) := ⟨fun n n0 n1 => by rw [st_ne (by omega)]; exact I.bd.1 n n0 n1, by
        have hG := I.gl
        exact GlA_ext hG (st_ne (by omega)) (st_ne (by omega)) (st_ne (by omega)) (by rw [st_ne (by omega)]; obtain ⟨_, _, _, _, _, _, _, _, _, _, _, _⟩ := hG; omega) (st_ne (by omega)) (st_ne (by omega))⟩
      have r2 := r1.clock bd1 (p := 11138) (v := 0) (by omega)
      have ess : st (st g 11138 (k1 11138)) 11138 0 = st g 11138 0 := by
        funext x
        unfold st
        split
        · rfl
        · rfl
      rw [ess] at r2
      have cm := tl_com (h := k) (C := Ck) (Hd := Hk) (Mo := Mo) (k := h) (Ck := C) (Hk := Hd) (Mk := Mo) (M := M) Mk d a2 b2
      have hG := I.gl
      obtain ⟨_, _, _, _, _, _, _, _, _, _, _, _⟩ := hG
      have e34 := rel.gl 11134 (by omega) (by omega)
      obtain ⟨s, hs'⟩ : ∃ s, iI (k1 11138) - iI 0 + mI (tl B h C Hd Mo M) A 13 = s := ⟨_, rfl⟩
      have sh := tl_share (A := A) (h := k1) (C := Ck) (Hd := Hk) (Mo := Mo) (N := tl B h C Hd Mo M) 0 a2
      rw [hs'] at sh
      have hAn : LyC A (shM (tl B h C Hd Mo M) A s) := hA
      have m1 : mP (shM (tl B h C Hd Mo M) A s) 0 1 = some B := h1
      have m2 : mP (shM (tl B h C Hd Mo M) A s) 0 2 = some A := h2
      have gg : ∀ (h' C' Hd' Mo' : Row) (f : Int32 → Option (Int32 × Mem)), gI (tl A h' C' Hd' Mo' (shM (tl B h C Hd Mo M) A s)) (some B) 2 12 f = f (iI (g 11134)) := by
        intro h' C' Hd' Mo' f
        have d' := d
        unfold Dj at d'
        have := gI_c12 (h := h) (C := C) (Hd := Hd) (Mo := Mo) hB (f := f)
        rw [← e34, ← this]
        show (if (mK M B).1 = 2 then f (tlI A h' C' Hd' Mo' (up2 (mI (tl B h C Hd Mo M)) A 13 s) B 12) else none) = if (mK M B).1 = 2 then f (mI (tl B h C Hd Mo M) B 12) else none
        rw [tl_out (by omega) (by omega)]
        have : up2 (mI (tl B h C Hd Mo M)) A 13 s B 12 = mI (tl B h C Hd Mo M) B 12 := if_neg (by omega)
        rw [this]
      obtain ⟨k3, C3, H3, M3, q⟩ := t_till_35 (N := shM (tl B h C Hd Mo M) A s) hAn m1 m2 (hΛ s) gg (v := v) (w := w) (by omega) (by omega) e.1 e.2 v.toNat _ _ hs FL R _ Ck Hk Mo 0 FU r2 I.anew rfl (by omega) (by omega) (by rw [st_ne (by omega)]; exact h9) (by omega) (by unfold FU; omega)
      obtain ⟨z, hz⟩ : ∃ z : Int, iI z = iI (k3 11138) + s := ⟨(iI (k3 11138) + s).toInt, iv_of _⟩
      have bk := tl_share (A := A) (h := st k3 11138 z) (C := C3) (Hd := H3) (Mo := M3) (N := tl B h C Hd Mo M) (k3 11138) a2
      have es : iI (st k3 11138 z 11138) - iI (k3 11138) + mI (tl B h C Hd Mo M) A 13 = s := by
        have n13 : mI (tl B h C Hd Mo M) A 13 = 0 := by
          have d' := d
          unfold Dj at d'
          exact (show tlI B h C Hd Mo (mI M) A 13 = mI M A 13 from tl_out (by omega) (by omega)).trans h13
        rw [st_eq, hz, n13, Int32.add_zero, Int32.add_comm, Int32.add_sub_cancel]
      have e3 : st (st k3 11138 z) 11138 (k3 11138) = k3 := by
        funext x
        unfold st
        split
        · rename_i hx; rw [hx]
        · rfl
      rw [es, e3] at bk
      have cm2 := tl_com (h := st k3 11138 z) (C := C3) (Hd := H3) (Mo := M3) (k := h) (Ck := C) (Hk := Hd) (Mk := Mo) (M := M) Mk d a2 b2
      refine ⟨st k3 11138 z, C3, H3, M3, Mk, ?_⟩
      rw [← cm2, bk, ← q, ← sh]
      rw [cm] at x1
      have cA : ∀ f : Option (Int32 × Mem), cV (tl B h C Hd Mo (tl A k Ck Hk Mk M)) (some A) 2 f = f := fun f => if_pos hA.kB.1
      unfold sX0_till
      rw [t_within v0 v1 (by omega) (by omega) (by omega) (by omega), cl_some', if_neg (show ¬ bI (1 ≤ v ∧ v ≤ 200) = iI 0 by rw [bI_z]; exact fun q => q c), t_in w0 w1 (by omega) (by omega), cl_some', if_neg (show ¬ bI (0 ≤ w ∧ w < 3) = iI 0 by rw [bI_z]; exact fun q => q e), gR_t2 hB2 n2, gR_t1' hB2 n1, cA, x1, cl_some']
    · rw [if_pos e]
      refine ⟨k, Ck, Hk, Mo, Mk, ?_⟩
      unfold sX0_till
      rw [t_within v0 v1 (by omega) (by omega) (by omega) (by omega), cl_some', if_neg (show ¬ bI (1 ≤ v ∧ v ≤ 200) = iI 0 by rw [bI_z]; exact fun q => q c), t_in w0 w1 (by omega) (by omega), cl_some', if_pos (show bI (0 ≤ w ∧ w < 3) = iI 0 by rw [bI_z]; exact e)]
  · rw [if_pos c]
    refine ⟨k, Ck, Hk, Mo, Mk, ?_⟩
    unfold sX0_till
    rw [t_within v0 v1 (by omega) (by omega) (by omega) (by omega), cl_some', if_pos (show bI (1 ≤ v ∧ v ≤ 200) = iI 0 by rw [bI_z]; exact c)]
end
