/-! DEPS: xd -/
/-! XE: what is asked of both: check, count -/
def farF (g : Row) : Nat → Int → Int → Int
  | 0, b, _ => b
  | f + 1, b, k => farF g f (if g (244 * k + 0) = 1 ∧ (b = -1 ∨ g (244 * b + 9) < g (244 * k + 9)) then k else b) (k + 1)
def farS (g : Row) : Int := farF g 7 (-1) 0
def keyAt (g : Row) (b i : Int) : Int32 := if b = -1 then iI 255 else iI (g (244 * b + (15 + i)))
def chkF (g : Row) (T : Nat → Int32) (b : Int) : Nat → Int → Int
  | 0, _ => -1
  | f + 1, i => if T i.toNat &&& iI 255 = keyAt g b i then chkF g T b f (i + 1) else i
def chkS (g : Row) (T : Nat → Int32) (t n : Int) : Int := if ¬ (0 ≤ n ∧ n ≤ 8) then -2 else if n ≤ t then chkF g T (farS g) n.toNat 0 else -2
def upF (g : Row) : Nat → Int → Int → Int
  | 0, s, _ => s
  | f + 1, s, k => upF g f (if g (244 * k + 0) = 1 then orI s (bitI k) else s) (k + 1)
def cutF (g : Row) : Nat → Int → Int → Int
  | 0, s, _ => s
  | f + 1, s, k => cutF g f (s + bitsI (g (11124 + k))) (k + 1)
def countS (g : Row) (cl t w : Int) : Int := if w = 0 then g 11131 else if w = 1 then upF g 7 0 0 else if w = 2 then g 11133 else if w = 3 then g 11134 else if w = 4 then cl else if w = 5 then t else if w = 6 then g 11132 else if w = 7 then g 11135 else if w = 8 then g 11137 else if w = 9 then cutF g 7 0 0 / 2 else -1
theorem farF_r {g : Row} : ∀ (j : Nat) (b k : Int), (b = -1 ∨ (0 ≤ b ∧ b < 7)) → 0 ≤ k → k + j ≤ 7 → farF g j b k = -1 ∨ (0 ≤ farF g j b k ∧ farF g j b k < 7)
  | 0, b, k, e1, e2, e3 => e1
  | j + 1, b, k, e1, e2, e3 => by
    unfold farF
    split
    · exact farF_r j k (k + 1) (Or.inr (by omega)) (by omega) (by omega)
    · exact farF_r j b (k + 1) e1 (by omega) (by omega)
theorem farS_r {g : Row} : farS g = -1 ∨ (0 ≤ farS g ∧ farS g < 7) := farF_r 7 (-1) 0 (Or.inl rfl) (by omega) (by omega)
section
variable {B : Nat} {h g C Hd Mo : Row} {M : Mem} {Λ : Law} {hs : His} {FL : Int → ELog} {R : Int} {D : DK}
theorem t_far_4 (hL : LyC B M) (hN : mP M 0 1 = some B) (rel : Rel h g) (I : InvS g hs FL R D) : ∀ (j : Nat) (b k : Int) (fu : Nat), 7 - k = j → 0 ≤ k → (b = -1 ∨ (0 ≤ b ∧ b < 7)) → j < fu →
    sX0_farthest_4 fu (some 0) (iI b) (iI k) (tl B h C Hd Mo M) = some (iI (farF g j b k), tl B h C Hd Mo M)
  | 0, b, k, fu + 1, e1, e2, e3, e4 => by
    simp (disch := first | assumption | omega) only [sX0_farthest_4, sX0_farthest_4b, z10, z00, if_true, if_false, iv_add, iv_sub, iv_mul, iv_le, iv_lt, iv_eq, iv_mx, iv_mn, bI_z, bI_o, rZ0, rZ1, rZb, cl_some', lt_eq, rm_eq, dv_eq, iv_01, iv_10, the, lastA, lpA, st_eq, st_ne, sh_addM, cV_cl, cV_nd, cV_mo, cV_lt, gR_t0, aR_nd, gR_c0, gR_c1, gR_c2, gR_c3, gR_c4, gR_c5, gR_c6, gR_c15, gR_c16, gI_c7, pI_c7, gI_c8, pI_c8, gI_c9, pI_c9, gI_c10, pI_c10, gI_c11, pI_c11, gI_c12, pI_c12, gI_c13, pI_c13, gI_c14, pI_c14, gN_9, gN_10, gN_11, gN_12, gN_13, gN_14, gN_15, gN_16, gN_17, gN_18, gN_19, gN_20, gN_21, gN_22, gN_23, pN_9, pN_10, pN_11, pN_12, pN_13, pN_14, pN_15, pN_16, pN_17, pN_18, pN_19, pN_20, pN_21, pN_22, pZ_0, pZ_1, gR_n0, aI_n0, sI_n0, gR_n1, aI_n1, sI_n1, gR_n2, aI_n2, sI_n2, gR_n3, aI_n3, sI_n3, gR_n4, aI_n4, sI_n4, gR_n5, aI_n5, sI_n5, gR_n6, aI_n6, sI_n6, gR_n7, aI_n7, sI_n7, gR_n8, aI_n8, sI_n8, aR_s, aI_s, sI_s, aR_h, aI_h, sI_h, aR_r, aI_r, sI_r, aI_c, sI_c, aI_l, sI_l, aI_ca, aI_ha, sI_ca, sI_ha, gI_mo, pI_mo]
    rw [if_pos (by omega)]
    rfl
  | j + 1, b, k, fu + 1, e1, e2, e3, e4 => by
    have k1 : k < 7 := by omega
    obtain ⟨⟨s1, s2⟩, _⟩ := I.na k e2 k1
    have hG := I.gl
    obtain ⟨_, _, _, _, _, _, _, _, _, _, _, _⟩ := hG
    have rn := rel.nd k e2 k1
    have w0 := rn.s 0 (by omega) (by omega)
    have w9 := rn.s 9 (by omega) (by omega)
    have iy := t_far_4 hL hN rel I j k (k + 1) fu (by omega) (by omega) (Or.inr ⟨e2, k1⟩) (by omega)
    have ino := t_far_4 hL hN rel I j b (k + 1) fu (by omega) (by omega) e3 (by omega)
    unfold farF
    show sX0_farthest_4b (sX0_farthest_4 fu) _ _ _ _ = _
    generalize sX0_farthest_4 fu = K at iy ino ⊢
    unfold sX0_farthest_4b sX0_farthest_57 sX0_farthest_59
    rw [if_neg (show ¬ iI 7 ≤ iI k by rw [iv_le (by omega) (by omega) (by omega) (by omega)]; omega), iv_add, gR_t1 hL hN, gR_c0 hL, aR_nd hL e2 k1, gN_23 hL e2 k1, w0]
    by_cases c0 : g (244 * k + 0) = 1
    · rw [if_neg (show ¬ iI (g (244 * k + 0)) = iI 0 by rw [iv_eq (by omega) (by omega) (by omega) (by omega)]; omega)]
      by_cases cb : b = -1
      · rw [if_pos (congrArg iI cb), if_pos ⟨c0, Or.inl cb⟩]
        exact iy
      · have b0 : 0 ≤ b ∧ b < 7 := by omega
        obtain ⟨⟨t1, t2⟩, _⟩ := I.na b b0.1 b0.2
        have wb := (rel.nd b b0.1 b0.2).s 9 (by omega) (by omega)
        rw [if_neg (show ¬ iI b = iI (-1) by rw [iv_eq (by omega) (by omega) (by omega) (by omega)]; exact cb), gR_t1 hL hN, gR_c0 hL, aR_nd hL e2 k1, gN_17 hL e2 k1, w9, gR_t1 hL hN, gR_c0 hL, aR_nd hL b0.1 b0.2, gN_17 hL b0.1 b0.2, wb]
        by_cases ct : g (244 * b + 9) < g (244 * k + 9)
        · rw [if_neg (by rw [iv_le (by omega) (by omega) (by omega) (by omega)]; omega), if_pos ⟨c0, Or.inr ct⟩]
          exact iy
        · rw [if_pos (by rw [iv_le (by omega) (by omega) (by omega) (by omega)]; omega), if_neg (fun hc => by rcases hc.2 with q | q; exact cb q; exact ct q)]
          exact ino
    · rw [if_pos (show iI (g (244 * k + 0)) = iI 0 by rw [iv_eq (by omega) (by omega) (by omega) (by omega)]; omega), if_neg (fun hc => c0 hc.1)]
      exact ino
theorem t_fed (hL : LyC B M) (hB : B + 1255 ≤ 3767) (h4 : mP M 0 4 = some 3767) (hk : mK M 3767 = (21, 260)) {i : Int} (i0 : 0 ≤ i) (i1 : i < 260) : sX0_fed (some 0) (iI i) (tl B h C Hd Mo M) = some (mI M 3767 i.toNat &&& iI 255, tl B h C Hd Mo M) := by
  have b2 := hL.b2
  have gR4 : ∀ f : Option Nat → Option (Int32 × Mem), gR (tl B h C Hd Mo M) (some 0) 0 4 f = f (some 3767) := fun f => (if_pos hL.k0.1).trans (congrArg f h4)
  unfold sX0_fed
  rw [gR4]
  show (if (mK M 3767).1 = 21 ∧ inR (iI i) (mK M 3767).2 then some (tlI B h C Hd Mo (mI M) 3767 (ix (iI i)) &&& iI 255, tl B h C Hd Mo M) else none) = _
  rw [hk, if_pos ⟨rfl, by rw [iv_in (by omega) (by omega)]; exact ⟨i0, i1⟩⟩, iv_ix i0 (by omega), tl_out (by omega) (by omega)]
theorem t_check_33 (hL : LyC B M) (hB : B + 1255 ≤ 3767) (hN : mP M 0 1 = some B) (h4 : mP M 0 4 = some 3767) (hk : mK M 3767 = (21, 260)) (rel : Rel h g) (I : InvS g hs FL R D) {n b : Int} (n8 : n ≤ 8) (hb : b = -1 ∨ (0 ≤ b ∧ b < 7)) : ∀ (j : Nat) (i : Int) (fu : Nat), n - i = j → 0 ≤ i → j < fu →
    sX0_check_33 fu (some 0) (iI n) (iI b) (iI i) (tl B h C Hd Mo M) = some (iI (chkF g (mI M 3767) b j i), tl B h C Hd Mo M)
  | 0, i, fu + 1, e1, e2, e3 => by
    show sX0_check_33b (sX0_check_33 fu) _ _ _ _ _ = _
    generalize sX0_check_33 fu = K
    unfold sX0_check_33b
    rw [if_pos (by rw [iv_le (by omega) (by omega) (by omega) (by omega)]; omega)]
    rfl
  | j + 1, i, fu + 1, e1, e2, e3 => by
    have ih := t_check_33 hL hB hN h4 hk rel I n8 hb j (i + 1) fu (by omega) (by omega) (by omega)
    have x := t_fed (h := h) (C := C) (Hd := Hd) (Mo := Mo) hL hB h4 hk e2 (show i < 260 by omega)
    unfold chkF keyAt
    show sX0_check_33b (sX0_check_33 fu) _ _ _ _ _ = _
    generalize sX0_check_33 fu = K at ih ⊢
    unfold sX0_check_33b sX0_check_68
    rw [if_neg (show ¬ iI n ≤ iI i by rw [iv_le (by omega) (by omega) (by omega) (by omega)]; omega), cV_lt hL, x, clp, iv_add]
    by_cases cb : b = -1
    · rw [if_pos (congrArg iI cb), if_pos cb]
      by_cases c : mI M 3767 i.toNat &&& iI 255 = iI 255
      · rw [if_pos c, if_pos c]; exact ih
      · rw [if_neg c, if_neg c]
    · have b0 : 0 ≤ b ∧ b < 7 := by omega
      have wk := (rel.nd b b0.1 b0.2).t (15 + i) (by omega) (by omega)
      rw [if_neg (show ¬ iI b = iI (-1) by rw [iv_eq (by omega) (by omega) (by omega) (by omega)]; exact cb), if_neg cb, gR_t1 hL hN, gR_c0 hL, aR_nd hL b0.1 b0.2, gR_n4 hL b0.1 b0.2, aI_n4 hL b0.1 b0.2 e2 (by omega), wk]
      by_cases c : mI M 3767 i.toNat &&& iI 255 = iI (g (244 * b + (15 + i)))
      · rw [if_pos c, if_pos c]; exact ih
      · rw [if_neg c, if_neg c]
theorem t_check (hL : LyC B M) (hB : B + 1255 ≤ 3767) (hN : mP M 0 1 = some B) (h4 : mP M 0 4 = some 3767) (hk : mK M 3767 = (21, 260)) (rel : Rel h g) (I : InvS g hs FL R D) {n t : Int} (n0 : -2147483648 ≤ n) (n1 : n ≤ 2147483647) (t0 : 0 ≤ t) (t1 : t ≤ 260) (hw : mI M 0 6 = iI t) :
    sX0_check (some 0) (iI n) (tl B h C Hd Mo M) = some (iI (chkS g (mI M 3767) t n), tl B h C Hd Mo (if 0 ≤ n ∧ n ≤ 8 ∧ n ≤ t then wM M 6 0 else M)) := by
  unfold chkS
  by_cases c : 0 ≤ n ∧ n ≤ 8
  · by_cases d : n ≤ t
    · rw [if_neg (fun q => q c), if_pos d, if_pos ⟨c.1, c.2, d⟩]
      have l1 : LyC B (wM M 6 0) := hL
      have x1 : sX0_farthest (some 0) (tl B h C Hd Mo (wM M 6 0)) = some (iI (farS g), tl B h C Hd Mo (wM M 6 0)) := t_far_4 (M := wM M 6 0) l1 hN rel I 7 (-1) 0 FU (by omega) (by omega) (Or.inl rfl) (by unfold FU; omega)
      have x2 := t_check_33 (M := wM M 6 0) (C := C) (Hd := Hd) (Mo := Mo) l1 hB hN h4 hk rel I c.2 (farS_r (g := g)) n.toNat 0 FU (by omega) (by omega) (by unfold FU; omega)
      have e : mI (wM M 6 0) 3767 = mI M 3767 := by
        funext j
        exact (show (if 3767 = 0 ∧ j = 6 then iI 0 else mI M 3767 j) = mI M 3767 j from if_neg (by omega))
      rw [e] at x2
      unfold sX0_check
      rw [t_within n0 n1 (by omega) (by omega) (by omega) (by omega), clp, if_neg (show ¬ bI (0 ≤ n ∧ n ≤ 8) = iI 0 by rw [bI_z]; exact fun q => q c), gI_t0 hL, hw, if_pos (by rw [iv_le (by omega) (by omega) (by omega) (by omega)]; exact d), pI_t0 hL, cV_lt l1, x1, clp, x2]
    · rw [if_neg (fun q => q c), if_neg d, if_neg (fun q => d q.2.2)]
      unfold sX0_check
      rw [t_within n0 n1 (by omega) (by omega) (by omega) (by omega), clp, if_neg (show ¬ bI (0 ≤ n ∧ n ≤ 8) = iI 0 by rw [bI_z]; exact fun q => q c), gI_t0 hL, hw, if_neg (by rw [iv_le (by omega) (by omega) (by omega) (by omega)]; exact d)]
  · rw [if_pos c, if_neg (fun q => c ⟨q.1, q.2.1⟩)]
    unfold sX0_check
    rw [t_within n0 n1 (by omega) (by omega) (by omega) (by omega), clp, if_pos (show bI (0 ≤ n ∧ n ≤ 8) = iI 0 by rw [bI_z]; exact c)]
theorem t_ups_4 (hL : LyC B M) (hN : mP M 0 1 = some B) (rel : Rel h g) (I : InvS g hs FL R D) : ∀ (j : Nat) (s k : Int) (fu : Nat), 7 - k = j → 0 ≤ k → 0 ≤ s → s < 128 → j < fu →
    sX0_ups_4 fu (some 0) (iI s) (iI k) (tl B h C Hd Mo M) = some (iI (upF g j s k), tl B h C Hd Mo M)
  | 0, s, k, fu + 1, e1, e2, s0, s1, e4 => by
    simp (disch := first | assumption | omega) only [sX0_ups_4, sX0_ups_4b, z10, z00, if_true, if_false, iv_add, iv_sub, iv_mul, iv_le, iv_lt, iv_eq, iv_mx, iv_mn, bI_z, bI_o, rZ0, rZ1, rZb, cl_some', lt_eq, rm_eq, dv_eq, iv_01, iv_10, the, lastA, lpA, st_eq, st_ne, sh_addM, cV_cl, cV_nd, cV_mo, cV_lt, gR_t0, aR_nd, gR_c0, gR_c1, gR_c2, gR_c3, gR_c4, gR_c5, gR_c6, gR_c15, gR_c16, gI_c7, pI_c7, gI_c8, pI_c8, gI_c9, pI_c9, gI_c10, pI_c10, gI_c11, pI_c11, gI_c12, pI_c12, gI_c13, pI_c13, gI_c14, pI_c14, gN_9, gN_10, gN_11, gN_12, gN_13, gN_14, gN_15, gN_16, gN_17, gN_18, gN_19, gN_20, gN_21, gN_22, gN_23, pN_9, pN_10, pN_11, pN_12, pN_13, pN_14, pN_15, pN_16, pN_17, pN_18, pN_19, pN_20, pN_21, pN_22, pZ_0, pZ_1, gR_n0, aI_n0, sI_n0, gR_n1, aI_n1, sI_n1, gR_n2, aI_n2, sI_n2, gR_n3, aI_n3, sI_n3, gR_n4, aI_n4, sI_n4, gR_n5, aI_n5, sI_n5, gR_n6, aI_n6, sI_n6, gR_n7, aI_n7, sI_n7, gR_n8, aI_n8, sI_n8, aR_s, aI_s, sI_s, aR_h, aI_h, sI_h, aR_r, aI_r, sI_r, aI_c, sI_c, aI_l, sI_l, aI_ca, aI_ha, sI_ca, sI_ha, gI_mo, pI_mo]
    rw [if_pos (by omega)]
    rfl
  | j + 1, s, k, fu + 1, e1, e2, s0, s1, e4 => by
    have k1 : k < 7 := by omega
    obtain ⟨⟨q1, q2⟩, _⟩ := I.na k e2 k1
    have w0 := (rel.nd k e2 k1).s 0 (by omega) (by omega)
    have bp := bitR e2 k1
    have o := orR s0 s1 (Int.le_of_lt bp.1) bp.2
    have iy := t_ups_4 hL hN rel I j (orI s (bitI k)) (k + 1) fu (by omega) (by omega) o.1 o.2 (by omega)
    have ino := t_ups_4 hL hN rel I j s (k + 1) fu (by omega) (by omega) s0 s1 (by omega)
    have z : iI s ||| iI 0 = iI s := by
      rw [iv_or s0 s1 (by omega) (by omega)]
      congr 1
      unfold orI
      rw [show (0 : Int).toNat = 0 from rfl, Nat.or_zero, Int.toNat_of_nonneg s0]
    unfold upF
    show sX0_ups_4b (sX0_ups_4 fu) _ _ _ _ = _
    generalize sX0_ups_4 fu = K at iy ino ⊢
    unfold sX0_ups_4b sX0_ups_33
    rw [if_neg (show ¬ iI 7 ≤ iI k by rw [iv_le (by omega) (by omega) (by omega) (by omega)]; omega), gR_t1 hL hN, gR_c0 hL, aR_nd hL e2 k1, gN_23 hL e2 k1, w0]
    by_cases c : g (244 * k + 0) = 1
    · rw [if_neg (show ¬ iI (g (244 * k + 0)) = iI 0 by rw [iv_eq (by omega) (by omega) (by omega) (by omega)]; omega), if_pos c, iv_shl e2 k1, iv_or s0 s1 (Int.le_of_lt bp.1) bp.2, iv_add]
      exact iy
    · rw [if_pos (show iI (g (244 * k + 0)) = iI 0 by rw [iv_eq (by omega) (by omega) (by omega) (by omega)]; omega), if_neg c, z, iv_add]
      exact ino
theorem cutF_r {g : Row} {hs : His} {FL : Int → ELog} {R : Int} {D : DK} (I : InvS g hs FL R D) : ∀ (f : Nat) (s k : Int), 0 ≤ k → k + f ≤ 7 → s ≤ cutF g f s k ∧ cutF g f s k ≤ s + 7 * f
  | 0, s, k, k0, k1 => by unfold cutF; omega
  | f + 1, s, k, k0, k1 => by
    have c := I.ct k k0 (by omega)
    have b := bitsR c.1 c.2
    have := cutF_r I f (s + bitsI (g (11124 + k))) (k + 1) (by omega) (by omega)
    unfold cutF
    omega
theorem t_cut_16 (hL : LyC B M) (rel : Rel h g) (I : InvS g hs FL R D) : ∀ (j : Nat) (s k : Int) (fu : Nat), 7 - k = j → 0 ≤ k → 0 ≤ s → s ≤ 7 * k → j < fu →
    sX0_cutLinks_16 fu (iI s) (some (B + 1181)) (iI 7) (iI k) (tl B h C Hd Mo M) = some (iI (cutF g j s k / 2), tl B h C Hd Mo M)
  | 0, s, k, fu + 1, e1, e2, s0, s1, e4 => by
    show sX0_cutLinks_16b (sX0_cutLinks_16 fu) _ _ _ _ _ = _
    generalize sX0_cutLinks_16 fu = K
    unfold sX0_cutLinks_16b
    rw [if_pos (by rw [iv_le (by omega) (by omega) (by omega) (by omega)]; omega), dv_eq _ s0 (by omega) (by omega) (by omega)]
    rfl
  | j + 1, s, k, fu + 1, e1, e2, s0, s1, e4 => by
    have k1 : k < 7 := by omega
    have c := I.ct k e2 k1
    have b := bitsR c.1 c.2
    have w := rel.ct (11124 + k) (by omega) (by omega)
    have ih := t_cut_16 hL rel I j (s + bitsI (g (11124 + k))) (k + 1) fu (by omega) (by omega) (by omega) (by omega) (by omega)
    show sX0_cutLinks_16b (sX0_cutLinks_16 fu) _ _ _ _ _ = _
    generalize sX0_cutLinks_16 fu = K at ih ⊢
    unfold cutF sX0_cutLinks_16b
    rw [if_neg (show ¬ iI 7 ≤ iI k by rw [iv_le (by omega) (by omega) (by omega) (by omega)]; omega), aI_c hL e2 k1, w, iv_cnt c.1 c.2, clp, iv_add, iv_add]
    exact ih
theorem t_count (hL : LyC B M) (hN : mP M 0 1 = some B) (rel : Rel h g) (I : InvS g hs FL R D) {T : Nat} (h5 : mP M 0 5 = some T) (hT : (mK M T).1 = 4) (T1 : T ≠ 1) (T2 : T < B ∨ B + 1255 ≤ T) {w t cl : Int} (w0 : -2147483648 ≤ w) (w1 : w ≤ 2147483647) (hw : mI M 0 6 = iI t) (hc : mI M T 3 = iI cl) :
    sX0_count (some 0) (iI w) (tl B h C Hd Mo M) = some (iI (countS g cl t w), tl B h C Hd Mo M) := by
  have e31 := rel.gl 11131 (by omega) (by omega)
  have e32 := rel.gl 11132 (by omega) (by omega)
  have e33 := rel.gl 11133 (by omega) (by omega)
  have e34 := rel.gl 11134 (by omega) (by omega)
  have e35 := rel.gl 11135 (by omega) (by omega)
  have e37 := rel.gl 11137 (by omega) (by omega)
  have x1 : sX0_ups (some 0) (tl B h C Hd Mo M) = some (iI (upF g 7 0 0), tl B h C Hd Mo M) := t_ups_4 hL hN rel I 7 0 0 FU (by omega) (by omega) (by omega) (by omega) (by unfold FU; omega)
  have x9 : sX0_cutLinks (some 0) (tl B h C Hd Mo M) = some (iI (cutF g 7 0 0 / 2), tl B h C Hd Mo M) := by
    have := t_cut_16 (C := C) (Hd := Hd) (Mo := Mo) hL rel I 7 0 0 FU (by omega) (by omega) (by omega) (by omega) (by unfold FU; omega)
    unfold sX0_cutLinks
    rw [gR_t1 hL hN, gR_c4 hL]
    show (if (mK M (B + 1181)).1 = 20 then sX0_cutLinks_16 FU (iI 0) (some (B + 1181)) (Int32.ofNat (mK M (B + 1181)).2) (iI 0) (tl B h C Hd Mo M) else none) = _
    rw [hL.kc.1, if_pos rfl]
    exact this
  have ne : ∀ c : Int, -1 ≤ c → c ≤ 100 → ¬ w = c → ¬ iI w = iI c := fun c c0 c1 q => by rw [iv_eq (by omega) (by omega) (by omega) (by omega)]; exact q
  unfold countS
  by_cases c0 : w = 0
  · rw [if_pos c0]; unfold sX0_count
    rw [if_pos (congrArg iI c0), gR_t1 hL hN, gI_c8 hL, e31]
  rw [if_neg c0]
  by_cases c1 : w = 1
  · rw [if_pos c1]; unfold sX0_count
    rw [if_neg (ne 0 (by omega) (by omega) c0), if_pos (congrArg iI c1), cV_lt hL, x1, clp]
  rw [if_neg c1]
  by_cases c2 : w = 2
  · rw [if_pos c2]; unfold sX0_count
    rw [if_neg (ne 0 (by omega) (by omega) c0), if_neg (ne 1 (by omega) (by omega) c1), if_pos (congrArg iI c2), gR_t1 hL hN, gI_c7 hL, e33]
  rw [if_neg c2]
  by_cases c3 : w = 3
  · rw [if_pos c3]; unfold sX0_count
    rw [if_neg (ne 0 (by omega) (by omega) c0), if_neg (ne 1 (by omega) (by omega) c1), if_neg (ne 2 (by omega) (by omega) c2), if_pos (congrArg iI c3), gR_t1 hL hN, gI_c12 hL, e34]
  rw [if_neg c3]
  by_cases c4 : w = 4
  · rw [if_pos c4]; unfold sX0_count
    rw [if_neg (ne 0 (by omega) (by omega) c0), if_neg (ne 1 (by omega) (by omega) c1), if_neg (ne 2 (by omega) (by omega) c2), if_neg (ne 3 (by omega) (by omega) c3), if_pos (congrArg iI c4)]
    have gR5 : ∀ f : Option Nat → Option (Int32 × Mem), gR (tl B h C Hd Mo M) (some 0) 0 5 f = f (some T) := fun f => (if_pos hL.k0.1).trans (congrArg f h5)
    rw [gR5]
    show (if (mK M T).1 = 4 then some (tlI B h C Hd Mo (mI M) T 3, tl B h C Hd Mo M) else none) = _
    rw [if_pos hT, tl_out T1 T2, hc]
  rw [if_neg c4]
  by_cases c5 : w = 5
  · rw [if_pos c5]; unfold sX0_count
    rw [if_neg (ne 0 (by omega) (by omega) c0), if_neg (ne 1 (by omega) (by omega) c1), if_neg (ne 2 (by omega) (by omega) c2), if_neg (ne 3 (by omega) (by omega) c3), if_neg (ne 4 (by omega) (by omega) c4), if_pos (congrArg iI c5), gI_t0 hL, hw]
  rw [if_neg c5]
  by_cases c6 : w = 6
  · rw [if_pos c6]; unfold sX0_count
    rw [if_neg (ne 0 (by omega) (by omega) c0), if_neg (ne 1 (by omega) (by omega) c1), if_neg (ne 2 (by omega) (by omega) c2), if_neg (ne 3 (by omega) (by omega) c3), if_neg (ne 4 (by omega) (by omega) c4), if_neg (ne 5 (by omega) (by omega) c5), if_pos (congrArg iI c6), gR_t1 hL hN, gI_c9 hL, e32]
  rw [if_neg c6]
  by_cases c7 : w = 7
  · rw [if_pos c7]; unfold sX0_count
    rw [if_neg (ne 0 (by omega) (by omega) c0), if_neg (ne 1 (by omega) (by omega) c1), if_neg (ne 2 (by omega) (by omega) c2), if_neg (ne 3 (by omega) (by omega) c3), if_neg (ne 4 (by omega) (by omega) c4), if_neg (ne 5 (by omega) (by omega) c5), if_neg (ne 6 (by omega) (by omega) c6), if_pos (congrArg iI c7), gR_t1 hL hN, gI_c14 hL, e35]
  rw [if_neg c7]
  by_cases c8 : w = 8
  · rw [if_pos c8]; unfold sX0_count
    rw [if_neg (ne 0 (by omega) (by omega) c0), if_neg (ne 1 (by omega) (by omega) c1), if_neg (ne 2 (by omega) (by omega) c2), if_neg (ne 3 (by omega) (by omega) c3), if_neg (ne 4 (by omega) (by omega) c4), if_neg (ne 5 (by omega) (by omega) c5), if_neg (ne 6 (by omega) (by omega) c6), if_neg (ne 7 (by omega) (by omega) c7), if_pos (congrArg iI c8), gR_t1 hL hN, gI_c11 hL, e37]
  rw [if_neg c8]
  by_cases c9 : w = 9
  · rw [if_pos c9]; unfold sX0_count
    rw [if_neg (ne 0 (by omega) (by omega) c0), if_neg (ne 1 (by omega) (by omega) c1), if_neg (ne 2 (by omega) (by omega) c2), if_neg (ne 3 (by omega) (by omega) c3), if_neg (ne 4 (by omega) (by omega) c4), if_neg (ne 5 (by omega) (by omega) c5), if_neg (ne 6 (by omega) (by omega) c6), if_neg (ne 7 (by omega) (by omega) c7), if_neg (ne 8 (by omega) (by omega) c8), if_pos (congrArg iI c9), cV_lt hL, x9, clp]
  rw [if_neg c9]; unfold sX0_count
  rw [if_neg (ne 0 (by omega) (by omega) c0), if_neg (ne 1 (by omega) (by omega) c1), if_neg (ne 2 (by omega) (by omega) c2), if_neg (ne 3 (by omega) (by omega) c3), if_neg (ne 4 (by omega) (by omega) c4), if_neg (ne 5 (by omega) (by omega) c5), if_neg (ne 6 (by omega) (by omega) c6), if_neg (ne 7 (by omega) (by omega) c7), if_neg (ne 8 (by omega) (by omega) c8), if_neg (ne 9 (by omega) (by omega) c9)]
end
section
variable {g mi mn F : Row} {S : Nat → Int32} {M : Mem} {Λ : Law} {h : His} {FL : Int → ELog} {R : Int} {D : DK}
theorem m_far_4 (hT : LT M) (I : InvS g h FL R D) : ∀ (j : Nat) (b k : Int) (fu : Nat), 7 - k = j → 0 ≤ k → (b = -1 ∨ (0 ≤ b ∧ b < 7)) → j < fu →
    sX8_greatest_4 fu (some 3772) (iI b) (iI k) (tw g mi mn F S M) = some (iI (farF g j b k), tw g mi mn F S M)
  | 0, b, k, fu + 1, e1, e2, e3, e4 => by
    simp (disch := first | assumption | omega) only [sX8_greatest_4, sX8_greatest_4b, z10, z00, if_true, if_false, iv_add, iv_sub, iv_mul, iv_le, iv_lt, iv_eq, iv_mx, iv_mn, bI_z, bI_o, rZ0, rZ1, rZb, cl_some', lt_eq, rm_eq, dv_eq, iv_01, iv_10, the, lastA, lpA, st_eq, st_ne, cV_tw, gR_0, gR_3, gR_4, gR_27, gR_28, gI_29, aI_now, aI_mn, aI_mi, aI_fa, sI_now, sI_mn, sI_mi, sI_fa, pI_29]
    rw [if_pos (by omega)]
    rfl
  | j + 1, b, k, fu + 1, e1, e2, e3, e4 => by
    have k1 : k < 7 := by omega
    obtain ⟨⟨s1, s2⟩, _⟩ := I.na k e2 k1
    have hG := I.gl
    obtain ⟨_, _, _, _, _, _, _, _, _, _, _, _⟩ := hG
    have xu := m_isUp (g := g) (mi := mi) (mn := mn) (F := F) (S := S) (n := k) hT (by omega) (by omega) (fun _ => by omega)
    have iy := m_far_4 hT I j k (k + 1) fu (by omega) (by omega) (Or.inr ⟨e2, k1⟩) (by omega)
    have ino := m_far_4 hT I j b (k + 1) fu (by omega) (by omega) e3 (by omega)
    unfold farF
    show sX8_greatest_4b (sX8_greatest_4 fu) _ _ _ _ = _
    generalize sX8_greatest_4 fu = K at iy ino ⊢
    unfold sX8_greatest_4b sX8_greatest_40 sX8_greatest_42
    rw [if_neg (show ¬ iI 7 ≤ iI k by rw [iv_le (by omega) (by omega) (by omega) (by omega)]; omega), iv_add, cV_tw hT, xu, clp]
    by_cases c0 : g (244 * k + 0) = 1
    · rw [if_neg (show ¬ bI ((0 ≤ k ∧ k < 7) ∧ g (244 * k + 0) = 1) = iI 0 by rw [bI_z]; exact fun q => q ⟨⟨e2, k1⟩, c0⟩)]
      by_cases cb : b = -1
      · rw [if_pos (congrArg iI cb), if_pos ⟨c0, Or.inl cb⟩]
        exact iy
      · have b0 : 0 ≤ b ∧ b < 7 := by omega
        obtain ⟨⟨t1, t2⟩, _⟩ := I.na b b0.1 b0.2
        rw [if_neg (show ¬ iI b = iI (-1) by rw [iv_eq (by omega) (by omega) (by omega) (by omega)]; exact cb), cV_tw hT, m_the hT (by omega) (by omega), clp, cV_tw hT, m_the hT (by omega) (by omega), clp]
        by_cases ct : g (244 * b + 9) < g (244 * k + 9)
        · rw [if_neg (by rw [iv_le (by omega) (by omega) (by omega) (by omega)]; omega), if_pos ⟨c0, Or.inr ct⟩]
          exact iy
        · rw [if_pos (by rw [iv_le (by omega) (by omega) (by omega) (by omega)]; omega), if_neg (fun hc => by rcases hc.2 with q | q; exact cb q; exact ct q)]
          exact ino
    · rw [if_pos (show bI ((0 ≤ k ∧ k < 7) ∧ g (244 * k + 0) = 1) = iI 0 by rw [bI_z]; exact fun q => c0 q.2), if_neg (fun hc => c0 hc.1)]
      exact ino
theorem m_fed (hT : LT M) (h4 : mP M 3772 5 = some 3778) (hk : mK M 3778 = (21, 260)) {i : Int} (i0 : 0 ≤ i) (i1 : i < 260) : sX8_octet (some 3772) (iI i) (tw g mi mn F S M) = some (mI M 3778 i.toNat &&& iI 255, tw g mi mn F S M) := by
  have gR4 : ∀ f : Option Nat → Option (Int32 × Mem), gR (tw g mi mn F S M) (some 3772) 6 5 f = f (some 3778) := fun f => (if_pos hT.1.1).trans (congrArg f h4)
  unfold sX8_octet
  rw [gR4]
  show (if (mK M 3778).1 = 21 ∧ inR (iI i) (mK M 3778).2 then some (twI g mi mn F S (mI M) 3778 (ix (iI i)) &&& iI 255, tw g mi mn F S M) else none) = _
  rw [hk, if_pos ⟨rfl, by rw [iv_in (by omega) (by omega)]; exact ⟨i0, i1⟩⟩, iv_ix i0 (by omega), tw_out (by omega)]
theorem m_check_33 (hT : LT M) (h4 : mP M 3772 5 = some 3778) (hk : mK M 3778 = (21, 260)) (I : InvS g h FL R D) {n b : Int} (n8 : n ≤ 8) (hb : b = -1 ∨ (0 ≤ b ∧ b < 7)) : ∀ (j : Nat) (i : Int) (fu : Nat), n - i = j → 0 ≤ i → j < fu →
    sX8_check_33 fu (some 3772) (iI n) (iI b) (iI i) (tw g mi mn F S M) = some (iI (chkF g (mI M 3778) b j i), tw g mi mn F S M)
  | 0, i, fu + 1, e1, e2, e3 => by
    show sX8_check_33b (sX8_check_33 fu) _ _ _ _ _ = _
    generalize sX8_check_33 fu = K
    unfold sX8_check_33b
    rw [if_pos (by rw [iv_le (by omega) (by omega) (by omega) (by omega)]; omega)]
    rfl
  | j + 1, i, fu + 1, e1, e2, e3 => by
    have ih := m_check_33 hT h4 hk I n8 hb j (i + 1) fu (by omega) (by omega) (by omega)
    have x := m_fed (g := g) (mi := mi) (mn := mn) (F := F) (S := S) hT h4 hk e2 (show i < 260 by omega)
    unfold chkF keyAt
    show sX8_check_33b (sX8_check_33 fu) _ _ _ _ _ = _
    generalize sX8_check_33 fu = K at ih ⊢
    unfold sX8_check_33b sX8_check_63
    rw [if_neg (show ¬ iI n ≤ iI i by rw [iv_le (by omega) (by omega) (by omega) (by omega)]; omega), cV_tw hT, x, clp, iv_add]
    by_cases cb : b = -1
    · rw [if_pos (congrArg iI cb), if_pos cb]
      by_cases c : mI M 3778 i.toNat &&& iI 255 = iI 255
      · rw [if_pos c, if_pos c]; exact ih
      · rw [if_neg c, if_neg c]
    · have b0 : 0 ≤ b ∧ b < 7 := by omega
      rw [if_neg (show ¬ iI b = iI (-1) by rw [iv_eq (by omega) (by omega) (by omega) (by omega)]; exact cb), if_neg cb, cV_tw hT, iv_add, m_the hT (by omega) (by omega), clp]
      by_cases c : mI M 3778 i.toNat &&& iI 255 = iI (g (244 * b + (15 + i)))
      · rw [if_pos c, if_pos c]; exact ih
      · rw [if_neg c, if_neg c]
theorem m_check (hT : LT M) (h4 : mP M 3772 5 = some 3778) (hk : mK M 3778 = (21, 260)) (I : InvS g h FL R D) {n t : Int} (n0 : -2147483648 ≤ n) (n1 : n ≤ 2147483647) (t0 : 0 ≤ t) (t1 : t ≤ 260) (hw : mI M 3772 6 = iI t) :
    sX8_check (some 3772) (iI n) (tw g mi mn F S M) = some (iI (chkS g (mI M 3778) t n), tw g mi mn F S (if 0 ≤ n ∧ n ≤ 8 ∧ n ≤ t then wT M 6 0 else M)) := by
  unfold chkS
  by_cases c : 0 ≤ n ∧ n ≤ 8
  · by_cases d : n ≤ t
    · rw [if_neg (fun q => q c), if_pos d, if_pos ⟨c.1, c.2, d⟩]
      have l1 : LT (wT M 6 0) := hT
      have x1 : sX8_greatest (some 3772) (tw g mi mn F S (wT M 6 0)) = some (iI (farS g), tw g mi mn F S (wT M 6 0)) := m_far_4 (M := wT M 6 0) l1 I 7 (-1) 0 FU (by omega) (by omega) (Or.inl rfl) (by unfold FU; omega)
      have x2 := m_check_33 (M := wT M 6 0) (mi := mi) (mn := mn) (F := F) (S := S) l1 h4 hk I c.2 (farS_r (g := g)) n.toNat 0 FU (by omega) (by omega) (by unfold FU; omega)
      have e : mI (wT M 6 0) 3778 = mI M 3778 := by
        funext j
        exact (show (if 3778 = 3772 ∧ j = 6 then iI 0 else mI M 3778 j) = mI M 3778 j from if_neg (by omega))
      rw [e] at x2
      unfold sX8_check
      rw [m_in n0 n1 (by omega) (by omega) (by omega) (by omega), clp, if_neg (show ¬ bI (0 ≤ n ∧ n ≤ 8) = iI 0 by rw [bI_z]; exact fun q => q c), gI_mw hT (by omega), hw, if_pos (by rw [iv_le (by omega) (by omega) (by omega) (by omega)]; exact d), pI_mw hT (by omega), cV_tw l1, x1, clp, x2]
    · rw [if_neg (fun q => q c), if_neg d, if_neg (fun q => d q.2.2)]
      unfold sX8_check
      rw [m_in n0 n1 (by omega) (by omega) (by omega) (by omega), clp, if_neg (show ¬ bI (0 ≤ n ∧ n ≤ 8) = iI 0 by rw [bI_z]; exact fun q => q c), gI_mw hT (by omega), hw, if_neg (by rw [iv_le (by omega) (by omega) (by omega) (by omega)]; exact d)]
  · rw [if_pos c, if_neg (fun q => c ⟨q.1, q.2.1⟩)]
    unfold sX8_check
    rw [m_in n0 n1 (by omega) (by omega) (by omega) (by omega), clp, if_pos (show bI (0 ≤ n ∧ n ≤ 8) = iI 0 by rw [bI_z]; exact c)]
theorem m_ups_4 (hT : LT M) (I : InvS g h FL R D) : ∀ (j : Nat) (s k : Int) (fu : Nat), 7 - k = j → 0 ≤ k → 0 ≤ s → s < 128 → j < fu →
    sX8_upSet_4 fu (some 3772) (iI s) (iI k) (tw g mi mn F S M) = some (iI (upF g j s k), tw g mi mn F S M)
  | 0, s, k, fu + 1, e1, e2, s0, s1, e4 => by
    simp (disch := first | assumption | omega) only [sX8_upSet_4, sX8_upSet_4b, z10, z00, if_true, if_false, iv_add, iv_sub, iv_mul, iv_le, iv_lt, iv_eq, iv_mx, iv_mn, bI_z, bI_o, rZ0, rZ1, rZb, cl_some', lt_eq, rm_eq, dv_eq, iv_01, iv_10, the, lastA, lpA, st_eq, st_ne, cV_tw, gR_0, gR_3, gR_4, gR_27, gR_28, gI_29, aI_now, aI_mn, aI_mi, aI_fa, sI_now, sI_mn, sI_mi, sI_fa, pI_29]
    rw [if_pos (by omega)]
    rfl
  | j + 1, s, k, fu + 1, e1, e2, s0, s1, e4 => by
    have k1 : k < 7 := by omega
    obtain ⟨⟨q1, q2⟩, _⟩ := I.na k e2 k1
    have xu := m_isUp (g := g) (mi := mi) (mn := mn) (F := F) (S := S) (n := k) hT (by omega) (by omega) (fun _ => by omega)
    have bp := bitR e2 k1
    have o := orR s0 s1 (Int.le_of_lt bp.1) bp.2
    have iy := m_ups_4 hT I j (orI s (bitI k)) (k + 1) fu (by omega) (by omega) o.1 o.2 (by omega)
    have ino := m_ups_4 hT I j s (k + 1) fu (by omega) (by omega) s0 s1 (by omega)
    unfold upF
    show sX8_upSet_4b (sX8_upSet_4 fu) _ _ _ _ = _
    generalize sX8_upSet_4 fu = K at iy ino ⊢
    unfold sX8_upSet_4b sX8_upSet_24
    rw [if_neg (show ¬ iI 7 ≤ iI k by rw [iv_le (by omega) (by omega) (by omega) (by omega)]; omega), cV_tw hT, xu, clp, iv_add]
    by_cases c : g (244 * k + 0) = 1
    · rw [if_neg (show ¬ bI ((0 ≤ k ∧ k < 7) ∧ g (244 * k + 0) = 1) = iI 0 by rw [bI_z]; exact fun q => q ⟨⟨e2, k1⟩, c⟩), if_pos c, iv_shl e2 k1, iv_or s0 s1 (Int.le_of_lt bp.1) bp.2]
      exact iy
    · rw [if_pos (show bI ((0 ≤ k ∧ k < 7) ∧ g (244 * k + 0) = 1) = iI 0 by rw [bI_z]; exact fun q => c q.2), if_neg c]
      exact ino
theorem m_cut_4 (hT : LT M) (I : InvS g h FL R D) : ∀ (j : Nat) (s k : Int) (fu : Nat), 7 - k = j → 0 ≤ k → 0 ≤ s → s ≤ 7 * k → j < fu →
    sX8_cutMany_4 fu (some 3772) (iI s) (iI k) (tw g mi mn F S M) = some (iI (cutF g j s k / 2), tw g mi mn F S M)
  | 0, s, k, fu + 1, e1, e2, s0, s1, e4 => by
    show sX8_cutMany_4b (sX8_cutMany_4 fu) _ _ _ _ = _
    generalize sX8_cutMany_4 fu = K
    unfold sX8_cutMany_4b
    rw [if_pos (by rw [iv_le (by omega) (by omega) (by omega) (by omega)]; omega), dv_eq _ s0 (by omega) (by omega) (by omega)]
    rfl
  | j + 1, s, k, fu + 1, e1, e2, s0, s1, e4 => by
    have k1 : k < 7 := by omega
    have c := I.ct k e2 k1
    have b := bitsR c.1 c.2
    have ih := m_cut_4 hT I j (s + bitsI (g (11124 + k))) (k + 1) fu (by omega) (by omega) (by omega) (by omega) (by omega)
    show sX8_cutMany_4b (sX8_cutMany_4 fu) _ _ _ _ = _
    generalize sX8_cutMany_4 fu = K at ih ⊢
    unfold cutF sX8_cutMany_4b
    rw [if_neg (show ¬ iI 7 ≤ iI k by rw [iv_le (by omega) (by omega) (by omega) (by omega)]; omega), gR_0 hT, iv_add, aI_now hT (by omega) (by omega), m_bits c.1 c.2, clp, iv_add, iv_add]
    exact ih
theorem m_count (hT : LT M) (I : InvS g h FL R D) {w t cl : Int} (w0 : -2147483648 ≤ w) (w1 : w ≤ 2147483647) (hw : mI M 3772 6 = iI t) (hc : mI M 3772 15 = iI cl) :
    sX8_count (some 3772) (iI w) (tw g mi mn F S M) = some (iI (countS g cl t w), tw g mi mn F S M) := by
  have x1 : sX8_upSet (some 3772) (tw g mi mn F S M) = some (iI (upF g 7 0 0), tw g mi mn F S M) := m_ups_4 hT I 7 0 0 FU (by omega) (by omega) (by omega) (by omega) (by unfold FU; omega)
  have x9 : sX8_cutMany (some 3772) (tw g mi mn F S M) = some (iI (cutF g 7 0 0 / 2), tw g mi mn F S M) := m_cut_4 hT I 7 0 0 FU (by omega) (by omega) (by omega) (by omega) (by unfold FU; omega)
  have ne : ∀ c : Int, -1 ≤ c → c ≤ 100 → ¬ w = c → ¬ iI w = iI c := fun c c0 c1 q => by rw [iv_eq (by omega) (by omega) (by omega) (by omega)]; exact q
  unfold countS
  by_cases c0 : w = 0
  · rw [if_pos c0]; unfold sX8_count
    rw [if_pos (congrArg iI c0), gR_0 hT, aI_now hT (by omega) (by omega)]
  rw [if_neg c0]
  by_cases c1 : w = 1
  · rw [if_pos c1]; unfold sX8_count
    rw [if_neg (ne 0 (by omega) (by omega) c0), if_pos (congrArg iI c1), cV_tw hT, x1, clp]
  rw [if_neg c1]
  by_cases c2 : w = 2
  · rw [if_pos c2]; unfold sX8_count
    rw [if_neg (ne 0 (by omega) (by omega) c0), if_neg (ne 1 (by omega) (by omega) c1), if_pos (congrArg iI c2), gR_0 hT, aI_now hT (by omega) (by omega)]
  rw [if_neg c2]
  by_cases c3 : w = 3
  · rw [if_pos c3]; unfold sX8_count
    rw [if_neg (ne 0 (by omega) (by omega) c0), if_neg (ne 1 (by omega) (by omega) c1), if_neg (ne 2 (by omega) (by omega) c2), if_pos (congrArg iI c3), gR_0 hT, aI_now hT (by omega) (by omega)]
  rw [if_neg c3]
  by_cases c4 : w = 4
  · rw [if_pos c4]; unfold sX8_count
    rw [if_neg (ne 0 (by omega) (by omega) c0), if_neg (ne 1 (by omega) (by omega) c1), if_neg (ne 2 (by omega) (by omega) c2), if_neg (ne 3 (by omega) (by omega) c3), if_pos (congrArg iI c4), gI_mw hT (by omega), hc]
  rw [if_neg c4]
  by_cases c5 : w = 5
  · rw [if_pos c5]; unfold sX8_count
    rw [if_neg (ne 0 (by omega) (by omega) c0), if_neg (ne 1 (by omega) (by omega) c1), if_neg (ne 2 (by omega) (by omega) c2), if_neg (ne 3 (by omega) (by omega) c3), if_neg (ne 4 (by omega) (by omega) c4), if_pos (congrArg iI c5), gI_mw hT (by omega), hw]
  rw [if_neg c5]
  by_cases c6 : w = 6
  · rw [if_pos c6]; unfold sX8_count
    rw [if_neg (ne 0 (by omega) (by omega) c0), if_neg (ne 1 (by omega) (by omega) c1), if_neg (ne 2 (by omega) (by omega) c2), if_neg (ne 3 (by omega) (by omega) c3), if_neg (ne 4 (by omega) (by omega) c4), if_neg (ne 5 (by omega) (by omega) c5), if_pos (congrArg iI c6), gR_0 hT, aI_now hT (by omega) (by omega)]
  rw [if_neg c6]
  by_cases c7 : w = 7
  · rw [if_pos c7]; unfold sX8_count
    rw [if_neg (ne 0 (by omega) (by omega) c0), if_neg (ne 1 (by omega) (by omega) c1), if_neg (ne 2 (by omega) (by omega) c2), if_neg (ne 3 (by omega) (by omega) c3), if_neg (ne 4 (by omega) (by omega) c4), if_neg (ne 5 (by omega) (by omega) c5), if_neg (ne 6 (by omega) (by omega) c6), if_pos (congrArg iI c7), gR_0 hT, aI_now hT (by omega) (by omega)]
  rw [if_neg c7]
  by_cases c8 : w = 8
  · rw [if_pos c8]; unfold sX8_count
    rw [if_neg (ne 0 (by omega) (by omega) c0), if_neg (ne 1 (by omega) (by omega) c1), if_neg (ne 2 (by omega) (by omega) c2), if_neg (ne 3 (by omega) (by omega) c3), if_neg (ne 4 (by omega) (by omega) c4), if_neg (ne 5 (by omega) (by omega) c5), if_neg (ne 6 (by omega) (by omega) c6), if_neg (ne 7 (by omega) (by omega) c7), if_pos (congrArg iI c8), gR_0 hT, aI_now hT (by omega) (by omega)]
  rw [if_neg c8]
  by_cases c9 : w = 9
  · rw [if_pos c9]; unfold sX8_count
    rw [if_neg (ne 0 (by omega) (by omega) c0), if_neg (ne 1 (by omega) (by omega) c1), if_neg (ne 2 (by omega) (by omega) c2), if_neg (ne 3 (by omega) (by omega) c3), if_neg (ne 4 (by omega) (by omega) c4), if_neg (ne 5 (by omega) (by omega) c5), if_neg (ne 6 (by omega) (by omega) c6), if_neg (ne 7 (by omega) (by omega) c7), if_neg (ne 8 (by omega) (by omega) c8), if_pos (congrArg iI c9), cV_tw hT, x9, clp]
  rw [if_neg c9]; unfold sX8_count
  rw [if_neg (ne 0 (by omega) (by omega) c0), if_neg (ne 1 (by omega) (by omega) c1), if_neg (ne 2 (by omega) (by omega) c2), if_neg (ne 3 (by omega) (by omega) c3), if_neg (ne 4 (by omega) (by omega) c4), if_neg (ne 5 (by omega) (by omega) c5), if_neg (ne 6 (by omega) (by omega) c6), if_neg (ne 7 (by omega) (by omega) c7), if_neg (ne 8 (by omega) (by omega) c8), if_neg (ne 9 (by omega) (by omega) c9)]
end
