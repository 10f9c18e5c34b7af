/-! DEPS: xa -/
/-! XB: what is asked of both: what is broken, the loops -/
section
variable {B : Nat} {h g C Hd Mo : Row} {M : Mem} {Λ : Law} {hs : His} {FL : Int → ELog} {R : Int} {D : DK}
theorem pair_w {g : Row} {w a b : Int} {p : Prop} (e : (w = 1 ∧ p = matA g a b) ∨ (¬ w = 1 ∧ p = alkA g a b)) : pairP g w a b ↔ p := by
  rcases e with ⟨e1, e2⟩ | ⟨e1, e2⟩
  · rw [e2]
    exact ⟨fun q => by rcases q with q | q; exact q.2; exact absurd e1 q.1, fun q => Or.inl ⟨e1, q⟩⟩
  · rw [e2]
    exact ⟨fun q => by rcases q with q | q; exact absurd q.1 e1; exact q.2, fun q => Or.inr ⟨e1, q⟩⟩
theorem t_broken_35 (hL : LyC B M) (hN : mP M 0 1 = some B) (rel : Rel h g) (I : InvS g hs FL R D) {K : Option Nat → Int32 → Int32 → Int32 → Mem → Option (Int32 × Mem)} {w a : Int} (w0 : 0 ≤ w) (w1 : w < 3) (a0 : 0 ≤ a) (a1 : a < 7) : ∀ (j : Nat) (n b : Int) (fu : Nat), a - b = j → 0 ≤ b → j < fu →
    sX0_broken_35 K fu (some 0) (iI w) (iI n) (iI a) (iI b) (tl B h C Hd Mo M) = K (some 0) (iI w) (iI (prIn g w a j n b)) (iI (a + 1)) (tl B h C Hd Mo M)
  | 0, n, b, fu + 1, e1, e2, e3 => by
    simp (disch := first | assumption | omega) only [sX0_broken_35, sX0_broken_35b, z10, z00, if_true, if_false, iv_add, iv_sub, iv_mul, iv_le, iv_lt, iv_eq, iv_mx, iv_mn, bI_z, bI_o, rZ0, rZ1, rZb, cl_some', lt_eq, rm_eq, dv_eq, iv_01, iv_10, the, lastA, lpA, st_eq, st_ne, sh_addM, cV_cl, cV_nd, cV_mo, cV_lt, gR_t0, aR_nd, gR_c0, gR_c1, gR_c2, gR_c3, gR_c4, gR_c5, gR_c6, gR_c15, gR_c16, gI_c7, pI_c7, gI_c8, pI_c8, gI_c9, pI_c9, gI_c10, pI_c10, gI_c11, pI_c11, gI_c12, pI_c12, gI_c13, pI_c13, gI_c14, pI_c14, gN_9, gN_10, gN_11, gN_12, gN_13, gN_14, gN_15, gN_16, gN_17, gN_18, gN_19, gN_20, gN_21, gN_22, gN_23, pN_9, pN_10, pN_11, pN_12, pN_13, pN_14, pN_15, pN_16, pN_17, pN_18, pN_19, pN_20, pN_21, pN_22, pZ_0, pZ_1, gR_n0, aI_n0, sI_n0, gR_n1, aI_n1, sI_n1, gR_n2, aI_n2, sI_n2, gR_n3, aI_n3, sI_n3, gR_n4, aI_n4, sI_n4, gR_n5, aI_n5, sI_n5, gR_n6, aI_n6, sI_n6, gR_n7, aI_n7, sI_n7, gR_n8, aI_n8, sI_n8, aR_s, aI_s, sI_s, aR_h, aI_h, sI_h, aR_r, aI_r, sI_r, aI_c, sI_c, aI_l, sI_l, aI_ca, aI_ha, sI_ca, sI_ha, gI_mo, pI_mo]
    rw [if_pos (by omega)]
    rfl
  | j + 1, n, b, fu + 1, e1, e2, e3 => by
    have b1 : b < 7 := by omega
    have fin : ∀ p : Prop, (pairP g w a b ↔ p) → (if bC p = iI 0 then sX0_broken_104 K (sX0_broken_35 K fu) (some 0) (iI w) (iI a) (iI b) (iI n) (tl B h C Hd Mo M) else sX0_broken_100 K (sX0_broken_35 K fu) (some 0) (iI w) (iI a) (iI b) (iI n) (tl B h C Hd Mo M)) = K (some 0) (iI w) (iI (prIn g w a (j + 1) n b)) (iI (a + 1)) (tl B h C Hd Mo M) := by
      intro p hp
      unfold prIn sX0_broken_104 sX0_broken_100 sX0_broken_105
      by_cases c : p
      · rw [bC_t c, if_neg iv_01, tC_t (hp.mpr c), iv_add, iv_add, show n + (1 - 1) = n + 0 by omega]
        exact t_broken_35 hL hN rel I w0 w1 a0 a1 j _ (b + 1) fu (by omega) (by omega) (by omega)
      · rw [bC_f c, if_pos rfl, tC_f (fun q => c (hp.mp q)), iv_add, iv_add, show n + (1 - 0) = n + 1 by omega]
        exact t_broken_35 hL hN rel I w0 w1 a0 a1 j _ (b + 1) fu (by omega) (by omega) (by omega)
    have x1 := t_areMatched (C := C) (Hd := Hd) (Mo := Mo) hL rel I a0 a1 e2 b1
    have x2 := t_areAlike (C := C) (Hd := Hd) (Mo := Mo) hL rel I a0 a1 e2 b1
    show sX0_broken_35b K (sX0_broken_35 K fu) _ _ _ _ _ _ = _
    generalize sX0_broken_35 K fu = K2 at fin ⊢
    unfold sX0_broken_35b
    rw [if_neg (by rw [iv_le (by omega) (by omega) (by omega) (by omega)]; omega)]
    by_cases c : w = 1
    · rw [if_pos (congrArg iI c), gR_t1 hL hN, gR_c0 hL, aR_nd hL a0 a1, gR_t1 hL hN, gR_c0 hL, aR_nd hL e2 b1, x1, cl_some']
      exact fin _ (pair_w (Or.inl ⟨c, rfl⟩))
    · rw [if_neg (by rw [iv_eq (by omega) (by omega) (by omega) (by omega)]; exact c), gR_t1 hL hN, gR_c0 hL, aR_nd hL a0 a1, gR_t1 hL hN, gR_c0 hL, aR_nd hL e2 b1, x2, cl_some']
      exact fin _ (pair_w (Or.inr ⟨c, rfl⟩))
theorem t_broken_26 (hL : LyC B M) (hN : mP M 0 1 = some B) (rel : Rel h g) (I : InvS g hs FL R D) {w : Int} (w0 : 0 ≤ w) (w1 : w < 3) : ∀ (j : Nat) (n a : Int) (fu : Nat), 7 - a = j → 0 ≤ a → j < fu →
    sX0_broken_26 fu (some 0) (iI w) (iI n) (iI a) (tl B h C Hd Mo M) = some (iI (prOut g w j n a), tl B h C Hd Mo M)
  | 0, n, a, fu + 1, e1, e2, e3 => by
    simp (disch := first | assumption | omega) only [sX0_broken_26, sX0_broken_26b, z10, z00, if_true, if_false, iv_add, iv_sub, iv_mul, iv_le, iv_lt, iv_eq, iv_mx, iv_mn, bI_z, bI_o, rZ0, rZ1, rZb, cl_some', lt_eq, rm_eq, dv_eq, iv_01, iv_10, the, lastA, lpA, st_eq, st_ne, sh_addM, cV_cl, cV_nd, cV_mo, cV_lt, gR_t0, aR_nd, gR_c0, gR_c1, gR_c2, gR_c3, gR_c4, gR_c5, gR_c6, gR_c15, gR_c16, gI_c7, pI_c7, gI_c8, pI_c8, gI_c9, pI_c9, gI_c10, pI_c10, gI_c11, pI_c11, gI_c12, pI_c12, gI_c13, pI_c13, gI_c14, pI_c14, gN_9, gN_10, gN_11, gN_12, gN_13, gN_14, gN_15, gN_16, gN_17, gN_18, gN_19, gN_20, gN_21, gN_22, gN_23, pN_9, pN_10, pN_11, pN_12, pN_13, pN_14, pN_15, pN_16, pN_17, pN_18, pN_19, pN_20, pN_21, pN_22, pZ_0, pZ_1, gR_n0, aI_n0, sI_n0, gR_n1, aI_n1, sI_n1, gR_n2, aI_n2, sI_n2, gR_n3, aI_n3, sI_n3, gR_n4, aI_n4, sI_n4, gR_n5, aI_n5, sI_n5, gR_n6, aI_n6, sI_n6, gR_n7, aI_n7, sI_n7, gR_n8, aI_n8, sI_n8, aR_s, aI_s, sI_s, aR_h, aI_h, sI_h, aR_r, aI_r, sI_r, aI_c, sI_c, aI_l, sI_l, aI_ca, aI_ha, sI_ca, sI_ha, gI_mo, pI_mo]
    rw [if_pos (by omega)]
    rfl
  | j + 1, n, a, fu + 1, e1, e2, e3 => by
    have ih := t_broken_26 hL hN rel I w0 w1 j (prIn g w a a.toNat n 0) (a + 1) fu (by omega) (by omega) (by omega)
    have x := t_broken_35 (C := C) (Hd := Hd) (Mo := Mo) (K := sX0_broken_26 fu) hL hN rel I w0 w1 e2 (show a < 7 by omega) a.toNat n 0 FU (by omega) (by omega) (by unfold FU; omega)
    unfold prOut
    rw [← ih, ← x]
    show sX0_broken_26b (sX0_broken_26 fu) _ _ _ _ _ = _
    generalize sX0_broken_26 fu = K
    unfold sX0_broken_26b
    rw [if_neg (by rw [iv_le (by omega) (by omega) (by omega) (by omega)]; omega)]
theorem t_broken (hL : LyC B M) (hN : mP M 0 1 = some B) (rel : Rel h g) (I : InvS g hs FL R D) {w : Int} (w0 : -2147483648 ≤ w) (w1 : w ≤ 2147483647) :
    sX0_broken (some 0) (iI w) (tl B h C Hd Mo M) = some (iI (brokeS g w), tl B h C Hd Mo M) := by
  have e36 := rel.gl 11136 (by omega) (by omega)
  unfold brokeS
  by_cases c : 0 ≤ w ∧ w < 3
  · rw [if_neg (fun q => q c)]
    by_cases c0 : w = 0
    · rw [if_pos c0]
      unfold sX0_broken
      rw [t_in w0 w1 (by omega) (by omega), cl_some', if_neg (show ¬ bI (0 ≤ w ∧ w < 3) = iI 0 by rw [bI_z]; exact fun q => q c), if_pos (congrArg iI c0), gR_t1 hL hN, gI_c10 hL, e36]
    · rw [if_neg c0]
      unfold sX0_broken
      rw [t_in w0 w1 (by omega) (by omega), cl_some', if_neg (show ¬ bI (0 ≤ w ∧ w < 3) = iI 0 by rw [bI_z]; exact fun q => q c), if_neg (show ¬ iI w = iI 0 by rw [iv_eq (by omega) (by omega) (by omega) (by omega)]; exact c0)]
      exact t_broken_26 hL hN rel I c.1 c.2 7 0 0 FU (by omega) (by omega) (by unfold FU; omega)
  · rw [if_pos c]
    unfold sX0_broken
    rw [t_in w0 w1 (by omega) (by omega), cl_some', if_pos (show bI (0 ≤ w ∧ w < 3) = iI 0 by rw [bI_z]; exact c)]
end
section
variable {g mi mn F : Row} {S : Nat → Int32} {M : Mem} {Λ : Law} {h : His} {FL : Int → ELog} {R : Int} {D : DK}
theorem m_same_3 (hT : LT M) (I : InvS g h FL R D) {a b i : Int} (a0 : 0 ≤ a) (a1 : a < 7) (b0 : 0 ≤ b) (b1 : b < 7) (i0 : lowA g a b < i) (i1 : i ≤ topB g a b) : ∀ (j : Nat) (k : Int) (fu : Nat), 4 - k = j → 0 ≤ k → j < fu →
    sX8_areSame_3 fu (some 3772) (iI a) (iI b) (iI i) (iI k) (tw g mi mn F S M) = some (bC (∀ x, k ≤ x → x < 4 → g (lpA g a i + x) = g (lpA g b i + x)), tw g mi mn F S M)
  | 0, k, fu + 1, e1, e2, e3 => by
    simp (disch := first | assumption | omega) only [sX8_areSame_3, sX8_areSame_3b, z10, z00, if_true, if_false, iv_add, iv_sub, iv_mul, iv_le, iv_lt, iv_eq, iv_mx, iv_mn, bI_z, bI_o, rZ0, rZ1, rZb, cl_some', lt_eq, rm_eq, dv_eq, iv_01, iv_10, the, lastA, lpA, st_eq, st_ne, cV_tw, gR_0, gR_3, gR_4, gR_27, gR_28, gI_29, aI_now, aI_mn, aI_mi, aI_fa, sI_now, sI_mn, sI_mi, sI_fa, pI_29]
    rw [if_pos (by omega), bC_t (fun x x0 x1 => by omega)]
  | j + 1, k, fu + 1, e1, e2, e3 => by
    have ih := m_same_3 hT I a0 a1 b0 b1 i0 i1 j (k + 1) fu (by omega) (by omega) (by omega)
    have el : lowA g a b = max (g (244 * a + 4)) (g (244 * b + 4)) := rfl
    have et : topB g a b = min (g (244 * a + 4) + g (244 * a + 8)) (g (244 * b + 4) + g (244 * b + 8)) := rfl
    have ha := I.lg a0 a1
    have hb := I.lg b0 b1
    have ba := ha.1
    have bb := hb.1
    have ea := ha.2 i (by omega) (by omega)
    have eb := hb.2 i (by omega) (by omega)
    unfold EntA at ea eb
    show sX8_areSame_3b (sX8_areSame_3 fu) _ _ _ _ _ _ = _
    generalize sX8_areSame_3 fu = K at ih ⊢
    unfold sX8_areSame_3b
    rw [if_neg (by rw [iv_le (by omega) (by omega) (by omega) (by omega)]; omega), gR_0 hT, cV_tw hT, m_logPlace hT a0 a1, cl_some', iv_add, aI_now hT (by omega) (by omega), gR_0 hT, cV_tw hT, m_logPlace hT b0 b1, cl_some', iv_add, aI_now hT (by omega) (by omega)]
    simp only [lpA, the] at *
    by_cases c : g (244 * a + 52 + 4 * (i - g (244 * a + 4) - 1) + k) = g (244 * b + 52 + 4 * (i - g (244 * b + 4) - 1) + k)
    · rw [if_pos (congrArg iI c), iv_add, ih]
      refine congrArg (fun z => some (z, tw g mi mn F S M)) (bC_c ⟨fun q x x0 x1 => ?_, fun q x x0 x1 => q x (by omega) x1⟩)
      by_cases d : x = k
      · rw [d]; exact c
      · exact q x (by omega) x1
    · have ne : ¬ iI (g (244 * a + 52 + 4 * (i - g (244 * a + 4) - 1) + k)) = iI (g (244 * b + 52 + 4 * (i - g (244 * b + 4) - 1) + k)) := by
        rcases (show k = 0 ∨ k = 1 ∨ k = 2 ∨ k = 3 by omega) with q | q | q | q <;> subst q
        · rw [Int.add_zero, Int.add_zero] at c ⊢
          rw [iv_eq (by omega) (by omega) (by omega) (by omega)]; exact c
        · rw [iv_eq (by omega) (by omega) (by omega) (by omega)]; exact c
        · rw [iv_eq (by omega) (by omega) (by omega) (by omega)]; exact c
        · rw [iv_eq (by omega) (by omega) (by omega) (by omega)]; exact c
      rw [if_neg ne, rZ0, bC_f (fun q => c (q k (Int.le_refl _) (by omega)))]
theorem m_areSame (hT : LT M) (I : InvS g h FL R D) {a b i : Int} (a0 : 0 ≤ a) (a1 : a < 7) (b0 : 0 ≤ b) (b1 : b < 7) (i0 : lowA g a b < i) (i1 : i ≤ topB g a b) :
    sX8_areSame (some 3772) (iI a) (iI b) (iI i) (tw g mi mn F S M) = some (bC (smA g a b i), tw g mi mn F S M) := by
  have := m_same_3 (mi := mi) (mn := mn) (F := F) (S := S) hT I a0 a1 b0 b1 i0 i1 4 0 FU (by omega) (by omega) (by unfold FU; omega)
  refine this.trans (congrArg (fun z => some (z, tw g mi mn F S M)) (bC_c ⟨fun q => ?_, fun q x x0 x1 => ?_⟩))
  · have q0 := q 0 (by omega) (by omega)
    rw [Int.add_zero, Int.add_zero] at q0
    exact ⟨q0, q 1 (by omega) (by omega), q 2 (by omega) (by omega), q 3 (by omega) (by omega)⟩
  · obtain ⟨q0, q1, q2, q3⟩ := q
    rcases (show x = 0 ∨ x = 1 ∨ x = 2 ∨ x = 3 by omega) with e | e | e | e <;> subst e
    · rw [Int.add_zero, Int.add_zero]; exact q0
    · exact q1
    · exact q2
    · exact q3
theorem m_matched_17 (hT : LT M) (I : InvS g h FL R D) {a b : Int} (a0 : 0 ≤ a) (a1 : a < 7) (b0 : 0 ≤ b) (b1 : b < 7) : ∀ (j : Nat) (p : Prop) [Decidable p] (i : Int) (fu : Nat), i - lowA g a b ≤ j → i ≤ topB g a b → -1 ≤ i → j < fu →
    sX8_areMatched_17 fu (some 3772) (iI a) (iI b) (bI p) (iI i) (tw g mi mn F S M) = some (bC (bwP g a b p i), tw g mi mn F S M)
  | j, p, _, i, fu + 1, e1, e2, e4, e3 => by
    have el : lowA g a b = max (g (244 * a + 4)) (g (244 * b + 4)) := rfl
    have et : topB g a b = min (g (244 * a + 4) + g (244 * a + 8)) (g (244 * b + 4) + g (244 * b + 8)) := rfl
    have ha := I.lg a0 a1
    have hb := I.lg b0 b1
    have ba := ha.1
    have bb := hb.1
    have ea : hasEnt g a i ↔ g (244 * a + 4) < i := ⟨fun q => q.1, fun q => ⟨q, by show i ≤ g (244 * a + 4) + g (244 * a + 8); omega⟩⟩
    have eb : hasEnt g b i ↔ g (244 * b + 4) < i := ⟨fun q => q.1, fun q => ⟨q, by show i ≤ g (244 * b + 4) + g (244 * b + 8); omega⟩⟩
    have xa := m_hasEntry (mi := mi) (mn := mn) (F := F) (S := S) (i := i) hT ha (by omega) (by omega)
    have xb := m_hasEntry (mi := mi) (mn := mn) (F := F) (S := S) (i := i) hT hb (by omega) (by omega)
    rw [bI_c ea] at xa
    rw [bI_c eb] at xb
    show sX8_areMatched_17b (sX8_areMatched_17 fu) _ _ _ _ _ _ = _
    unfold sX8_areMatched_17b
    rw [cV_tw hT, xa, cl_some']
    by_cases ca : g (244 * a + 4) < i
    · rw [if_neg (by rw [bI_z]; exact fun q => q ca), cV_tw hT, xb, cl_some']
      by_cases cb : g (244 * b + 4) < i
      · rw [if_neg (by rw [bI_z]; exact fun q => q cb)]
        have ta := m_termAt (mi := mi) (mn := mn) (F := F) (S := S) (i := i) hT ha (by omega) (by omega)
        have tb := m_termAt (mi := mi) (mn := mn) (F := F) (S := S) (i := i) hT hb (by omega) (by omega)
        have ta2 : termA g a i = g (lpA g a i) := if_neg (by show ¬ i = g (244 * a + 4); omega)
        have tb2 : termA g b i = g (lpA g b i) := if_neg (by show ¬ i = g (244 * b + 4); omega)
        have fa := ha.2 i (by omega) (by omega)
        have fb := hb.2 i (by omega) (by omega)
        unfold EntA at fa fb
        rw [ta2] at ta
        rw [tb2] at tb
        have sm := m_areSame (mi := mi) (mn := mn) (F := F) (S := S) hT I a0 a1 b0 b1 (show lowA g a b < i by omega) e2
        have step : ∀ (p2 : Prop) [Decidable p2], (p2 ↔ p ∨ teA g a b i) → sX8_areMatched_63 (sX8_areMatched_17 fu) (some 3772) (iI a) (iI b) (iI i) (bI p2) (tw g mi mn F S M) = some (bC (bwP g a b p i), tw g mi mn F S M) := by
          intro p2 _ hp2
          have ih : sX8_areMatched_17 fu (some 3772) (iI a) (iI b) (bI p2) (iI (i - 1)) (tw g mi mn F S M) = some (bC (bwP g a b p2 (i - 1)), tw g mi mn F S M) := by
            cases j with
            | zero => omega
            | succ j => exact m_matched_17 hT I a0 a1 b0 b1 j p2 (i - 1) fu (by omega) (by omega) (by omega) (by omega)
          have down : ∀ j, j ≤ i → ((p ∨ ∃ i', j ≤ i' ∧ i' ≤ i ∧ teA g a b i') ↔ (p2 ∨ ∃ i', j ≤ i' ∧ i' ≤ i - 1 ∧ teA g a b i')) := by
            intro j hj
            constructor
            · rintro (q | ⟨i', q1, q2, q3⟩)
              · exact Or.inl (hp2.mpr (Or.inl q))
              · by_cases d : i' = i
                · subst d; exact Or.inl (hp2.mpr (Or.inr q3))
                · exact Or.inr ⟨i', q1, by omega, q3⟩
            · rintro (q | ⟨i', q1, q2, q3⟩)
              · rcases hp2.mp q with q | q
                · exact Or.inl q
                · exact Or.inr ⟨i, hj, Int.le_refl _, q⟩
              · exact Or.inr ⟨i', q1, by omega, q3⟩
          generalize sX8_areMatched_17 fu = K at ih ⊢
          unfold sX8_areMatched_63 sX8_areMatched_81
          by_cases cp : p2
          · rw [if_neg (by rw [bI_z]; exact fun q => q cp), cV_tw hT, sm, cl_some']
            by_cases cs : smA g a b i
            · rw [bC_t cs, if_neg iv_01, iv_add, show i + -1 = i - 1 by omega, ih]
              refine congrArg (fun z => some (z, tw g mi mn F S M)) (bC_c ⟨fun q j j0 j1 hj => ?_, fun q j j0 j1 hj => q j j0 (by omega) ((down j (by omega)).mpr hj)⟩)
              by_cases d : j = i
              · rw [d]; exact cs
              · exact q j j0 (by omega) ((down j j1).mp hj)
            · rw [bC_f cs, if_pos rfl, rZ0, bC_f]
              intro q
              refine cs (q i (by omega) (Int.le_refl _) ?_)
              rcases hp2.mp cp with r | r
              · exact Or.inl r
              · exact Or.inr ⟨i, Int.le_refl _, Int.le_refl _, r⟩
          · rw [if_pos (by rw [bI_z]; exact cp), iv_add, show i + -1 = i - 1 by omega, ih]
            refine congrArg (fun z => some (z, tw g mi mn F S M)) (bC_c ⟨fun q j j0 j1 hj => ?_, fun q j j0 j1 hj => q j j0 (by omega) ((down j (by omega)).mpr hj)⟩)
            have hj' := (down j j1).mp hj
            by_cases d : j = i
            · rcases hj' with r | ⟨i', r1, r2, r3⟩
              · exact absurd r cp
              · omega
            · exact q j j0 (by omega) hj'
        simp only [lpA, the] at ta tb
        by_cases cp : p
        · rw [if_neg (by rw [bI_z]; exact fun q => q cp)]
          have := step True ⟨fun _ => Or.inl cp, fun _ => trivial⟩
          rw [bI_t trivial] at this
          exact this
        · rw [if_pos (by rw [bI_z]; exact cp), cV_tw hT, ta, cl_some', cV_tw hT, tb, cl_some']
          by_cases ct : g (244 * a + 52 + 4 * (i - g (244 * a + 4) - 1)) = g (244 * b + 52 + 4 * (i - g (244 * b + 4) - 1))
          · rw [if_pos (congrArg iI ct)]
            have := step True ⟨fun _ => Or.inr ct, fun _ => trivial⟩
            rw [bI_t trivial] at this
            exact this
          · rw [if_neg (by rw [iv_eq (by omega) (by omega) (by omega) (by omega)]; exact ct)]
            have := step False ⟨fun q => q.elim, fun q => q.elim cp ct⟩
            rw [bI_f (fun q => q)] at this
            exact this
      · rw [if_pos (by rw [bI_z]; exact cb), rZ1, bC_t]
        intro j j0 j1
        omega
    · rw [if_pos (by rw [bI_z]; exact ca), rZ1, bC_t]
      intro j j0 j1
      omega
theorem m_areMatched (hT : LT M) (I : InvS g h FL R D) {a b : Int} (a0 : 0 ≤ a) (a1 : a < 7) (b0 : 0 ≤ b) (b1 : b < 7) : sX8_areMatched (some 3772) (iI a) (iI b) (tw g mi mn F S M) = some (bC (matA g a b), tw g mi mn F S M) := by
  have el : lowA g a b = max (g (244 * a + 4)) (g (244 * b + 4)) := rfl
  have et : topB g a b = min (g (244 * a + 4) + g (244 * a + 8)) (g (244 * b + 4) + g (244 * b + 8)) := rfl
  have ba := (I.lg a0 a1).1
  have bb := (I.lg b0 b1).1
  have x := m_matched_17 (mi := mi) (mn := mn) (F := F) (S := S) hT I a0 a1 b0 b1 1000 False (topB g a b) FU (by omega) (by omega) (by omega) (by unfold FU; omega)
  rw [bI_f (fun q => q)] at x
  have y : ∀ σ, sX8_min (iI (g (244 * a + 4) + g (244 * a + 8))) (iI (g (244 * b + 4) + g (244 * b + 8))) σ = some (iI (topB g a b), σ) := fun σ => m_min (by omega) (by omega) (by omega) (by omega)
  unfold sX8_areMatched
  rw [cV_tw hT, m_lastOf hT a0 a1, cl_some', cV_tw hT, m_lastOf hT b0 b1, cl_some', y, cl_some', x, bC_c mat_bw]
theorem m_alike_21 (hT : LT M) (I : InvS g h FL R D) {a b : Int} (a0 : 0 ≤ a) (a1 : a < 7) (b0 : 0 ≤ b) (b1 : b < 7) : ∀ (j : Nat) (k : Int) (fu : Nat), 8 - k = j → 0 ≤ k → j < fu →
    sX8_areAlike_21 fu (some 3772) (iI a) (iI b) (iI k) (tw g mi mn F S M) = some (bC (∀ x, k ≤ x → x < 8 → g (244 * a + (15 + x)) = g (244 * b + (15 + x))), tw g mi mn F S M)
  | 0, k, fu + 1, e1, e2, e3 => by
    simp (disch := first | assumption | omega) only [sX8_areAlike_21, sX8_areAlike_21b, z10, z00, if_true, if_false, iv_add, iv_sub, iv_mul, iv_le, iv_lt, iv_eq, iv_mx, iv_mn, bI_z, bI_o, rZ0, rZ1, rZb, cl_some', lt_eq, rm_eq, dv_eq, iv_01, iv_10, the, lastA, lpA, st_eq, st_ne, cV_tw, gR_0, gR_3, gR_4, gR_27, gR_28, gI_29, aI_now, aI_mn, aI_mi, aI_fa, sI_now, sI_mn, sI_mi, sI_fa, pI_29]
    rw [if_pos (by omega), bC_t (fun x x0 x1 => by omega)]
  | j + 1, k, fu + 1, e1, e2, e3 => by
    have ih := m_alike_21 hT I a0 a1 b0 b1 j (k + 1) fu (by omega) (by omega) (by omega)
    have ka := (I.na a a0 a1).ky (244 * a + (15 + k)) (by omega) (by omega)
    have kb := (I.na b b0 b1).ky (244 * b + (15 + k)) (by omega) (by omega)
    show sX8_areAlike_21b (sX8_areAlike_21 fu) _ _ _ _ _ = _
    generalize sX8_areAlike_21 fu = K at ih ⊢
    unfold sX8_areAlike_21b
    rw [if_neg (by rw [iv_le (by omega) (by omega) (by omega) (by omega)]; omega), iv_add, cV_tw hT, m_the hT (by omega) (by omega), cl_some', cV_tw hT, m_the hT (by omega) (by omega), cl_some']
    by_cases c : g (244 * a + (15 + k)) = g (244 * b + (15 + k))
    · rw [if_pos (congrArg iI c), iv_add, ih]
      refine congrArg (fun z => some (z, tw g mi mn F S M)) (bC_c ⟨fun q x x0 x1 => ?_, fun q x x0 x1 => q x (by omega) x1⟩)
      by_cases d : x = k
      · rw [d]; exact c
      · exact q x (by omega) x1
    · rw [if_neg (by rw [iv_eq (by omega) (by omega) (by omega) (by omega)]; exact c), rZ0, bC_f (fun q => c (q k (Int.le_refl _) (by omega)))]
theorem m_broken_37 (hT : LT M) (I : InvS g h FL R D) {K : Option Nat → Int32 → Int32 → Int32 → Mem → Option (Int32 × Mem)} {w a : Int} (w0 : 0 ≤ w) (w1 : w < 3) (a0 : 0 ≤ a) (a1 : a < 7) : ∀ (j : Nat) (n b : Int) (fu : Nat), a - b = j → 0 ≤ b → j < fu →
    sX8_broken_37 K fu (some 3772) (iI w) (iI n) (iI a) (iI b) (tw g mi mn F S M) = K (some 3772) (iI w) (iI (prIn g w a j n b)) (iI (a + 1)) (tw g mi mn F S M)
  | 0, n, b, fu + 1, e1, e2, e3 => by
    simp (disch := first | assumption | omega) only [sX8_broken_37, sX8_broken_37b, z10, z00, if_true, if_false, iv_add, iv_sub, iv_mul, iv_le, iv_lt, iv_eq, iv_mx, iv_mn, bI_z, bI_o, rZ0, rZ1, rZb, cl_some', lt_eq, rm_eq, dv_eq, iv_01, iv_10, the, lastA, lpA, st_eq, st_ne, cV_tw, gR_0, gR_3, gR_4, gR_27, gR_28, gI_29, aI_now, aI_mn, aI_mi, aI_fa, sI_now, sI_mn, sI_mi, sI_fa, pI_29]
    rw [if_pos (by omega)]
    rfl
  | j + 1, n, b, fu + 1, e1, e2, e3 => by
    have b1 : b < 7 := by omega
    obtain ⟨⟨s1, s2⟩, _⟩ := I.na a a0 a1
    obtain ⟨⟨u1, u2⟩, _⟩ := I.na b e2 b1
    have hG := I.gl
    obtain ⟨_, _, _, _, _, _, _, _, _, _, _, _⟩ := hG
    have yes : ∀ p : Prop, (pairP g w a b ↔ p) → p → sX8_broken_92 K (sX8_broken_37 K fu) (some 3772) (iI w) (iI n) (iI a) (iI b) (tw g mi mn F S M) = K (some 3772) (iI w) (iI (prIn g w a (j + 1) n b)) (iI (a + 1)) (tw g mi mn F S M) := by
      intro p hp c
      unfold prIn sX8_broken_92
      rw [tC_t (hp.mpr c), iv_add, show n + (1 - 1) = n by omega]
      exact m_broken_37 hT I w0 w1 a0 a1 j _ (b + 1) fu (by omega) (by omega) (by omega)
    have no : ∀ p : Prop, (pairP g w a b ↔ p) → ¬ p → sX8_broken_88 K (sX8_broken_37 K fu) (some 3772) (iI w) (iI n) (iI a) (iI b) (tw g mi mn F S M) = K (some 3772) (iI w) (iI (prIn g w a (j + 1) n b)) (iI (a + 1)) (tw g mi mn F S M) := by
      intro p hp c
      unfold prIn sX8_broken_88 sX8_broken_92
      rw [tC_f (fun q => c (hp.mp q)), iv_add, iv_add, show n + (1 - 0) = n + 1 by omega]
      exact m_broken_37 hT I w0 w1 a0 a1 j _ (b + 1) fu (by omega) (by omega) (by omega)
    have x1 := m_areMatched (mi := mi) (mn := mn) (F := F) (S := S) hT I a0 a1 e2 b1
    have x2 := m_alike_21 (mi := mi) (mn := mn) (F := F) (S := S) hT I a0 a1 e2 b1 8 0 FU (by omega) (by omega) (by unfold FU; omega)
    have ya := m_isUp (g := g) (mi := mi) (mn := mn) (F := F) (S := S) (n := a) hT (by omega) (by omega) (fun _ => by omega)
    have yb := m_isUp (g := g) (mi := mi) (mn := mn) (F := F) (S := S) (n := b) hT (by omega) (by omega) (fun _ => by omega)
    show sX8_broken_37b K (sX8_broken_37 K fu) _ _ _ _ _ _ = _
    generalize sX8_broken_37 K fu = K2 at yes no ⊢
    unfold sX8_broken_37b
    rw [if_neg (by rw [iv_le (by omega) (by omega) (by omega) (by omega)]; omega)]
    by_cases c : w = 1
    · have pw := pair_w (g := g) (a := a) (b := b) (Or.inl ⟨c, rfl⟩)
      rw [if_pos (congrArg iI c), cV_tw hT, x1, cl_some']
      by_cases cm : matA g a b
      · rw [bC_t cm, if_neg iv_01]
        exact yes _ pw cm
      · rw [bC_f cm, if_pos rfl]
        exact no _ pw cm
    · have pw := pair_w (g := g) (a := a) (b := b) (Or.inr ⟨c, rfl⟩)
      rw [if_neg (by rw [iv_eq (by omega) (by omega) (by omega) (by omega)]; exact c), cV_tw hT, ya, cl_some']
      by_cases ca : g (244 * a + 0) = 1
      · rw [if_neg (by rw [bI_z]; exact fun q => q ⟨⟨a0, a1⟩, ca⟩), cV_tw hT, yb, cl_some']
        by_cases cb : g (244 * b + 0) = 1
        · rw [if_neg (by rw [bI_z]; exact fun q => q ⟨⟨e2, b1⟩, cb⟩), cV_tw hT]
          unfold sX8_areAlike
          rw [cV_tw hT, m_the hT (by omega) (by omega), cl_some', cV_tw hT, m_the hT (by omega) (by omega), cl_some']
          by_cases cc : g (244 * a + 9) = g (244 * b + 9)
          · rw [if_pos (congrArg iI cc), x2, cl_some']
            by_cases ck : ∀ x, 0 ≤ x → x < 8 → g (244 * a + (15 + x)) = g (244 * b + (15 + x))
            · rw [bC_t ck, if_neg iv_01]
              exact yes _ pw (Or.inr (Or.inr (Or.inr ck)))
            · rw [bC_f ck, if_pos rfl]
              refine no _ pw (fun q => ?_)
              rcases q with q | q | q | q
              · exact q ca
              · exact q cb
              · exact q cc
              · exact ck q
          · rw [if_neg (by rw [iv_eq (by omega) (by omega) (by omega) (by omega)]; exact cc), rZ1, cl_some', if_neg iv_01]
            exact yes _ pw (Or.inr (Or.inr (Or.inl cc)))
        · rw [if_pos (by rw [bI_z]; exact fun q => cb q.2)]
          exact yes _ pw (Or.inr (Or.inl cb))
      · rw [if_pos (by rw [bI_z]; exact fun q => ca q.2)]
        exact yes _ pw (Or.inl ca)
theorem m_broken_28 (hT : LT M) (I : InvS g h FL R D) {w : Int} (w0 : 0 ≤ w) (w1 : w < 3) : ∀ (j : Nat) (n a : Int) (fu : Nat), 7 - a = j → 0 ≤ a → j < fu →
    sX8_broken_28 fu (some 3772) (iI w) (iI n) (iI a) (tw g mi mn F S M) = some (iI (prOut g w j n a), tw g mi mn F S M)
  | 0, n, a, fu + 1, e1, e2, e3 => by
    simp (disch := first | assumption | omega) only [sX8_broken_28, sX8_broken_28b, z10, z00, if_true, if_false, iv_add, iv_sub, iv_mul, iv_le, iv_lt, iv_eq, iv_mx, iv_mn, bI_z, bI_o, rZ0, rZ1, rZb, cl_some', lt_eq, rm_eq, dv_eq, iv_01, iv_10, the, lastA, lpA, st_eq, st_ne, cV_tw, gR_0, gR_3, gR_4, gR_27, gR_28, gI_29, aI_now, aI_mn, aI_mi, aI_fa, sI_now, sI_mn, sI_mi, sI_fa, pI_29]
    rw [if_pos (by omega)]
    rfl
  | j + 1, n, a, fu + 1, e1, e2, e3 => by
    have ih := m_broken_28 hT I w0 w1 j (prIn g w a a.toNat n 0) (a + 1) fu (by omega) (by omega) (by omega)
    have x := m_broken_37 (mi := mi) (mn := mn) (F := F) (S := S) (K := sX8_broken_28 fu) hT I w0 w1 e2 (show a < 7 by omega) a.toNat n 0 FU (by omega) (by omega) (by unfold FU; omega)
    unfold prOut
    rw [← ih, ← x]
    show sX8_broken_28b (sX8_broken_28 fu) _ _ _ _ _ = _
    generalize sX8_broken_28 fu = K
    unfold sX8_broken_28b
    rw [if_neg (by rw [iv_le (by omega) (by omega) (by omega) (by omega)]; omega)]
theorem m_broken (hT : LT M) (I : InvS g h FL R D) {w : Int} (w0 : -2147483648 ≤ w) (w1 : w ≤ 2147483647) :
    sX8_broken (some 3772) (iI w) (tw g mi mn F S M) = some (iI (brokeS g w), tw g mi mn F S M) := by
  unfold brokeS
  by_cases c : 0 ≤ w ∧ w < 3
  · rw [if_neg (fun q => q c)]
    by_cases c0 : w = 0
    · rw [if_pos c0]
      unfold sX8_broken
      rw [m_in w0 w1 (by omega) (by omega) (by omega) (by omega), cl_some', if_neg (show ¬ bI (0 ≤ w ∧ w ≤ 2) = iI 0 by rw [bI_z]; omega), if_pos (congrArg iI c0), gR_0 hT, aI_now hT (by omega) (by omega)]
    · rw [if_neg c0]
      unfold sX8_broken
      rw [m_in w0 w1 (by omega) (by omega) (by omega) (by omega), cl_some', if_neg (show ¬ bI (0 ≤ w ∧ w ≤ 2) = iI 0 by rw [bI_z]; omega), if_neg (show ¬ iI w = iI 0 by rw [iv_eq (by omega) (by omega) (by omega) (by omega)]; exact c0)]
      exact m_broken_28 hT I c.1 c.2 7 0 0 FU (by omega) (by omega) (by unfold FU; omega)
  · rw [if_pos c]
    unfold sX8_broken
    rw [m_in w0 w1 (by omega) (by omega) (by omega) (by omega), cl_some', if_pos (show bI (0 ≤ w ∧ w ≤ 2) = iI 0 by rw [bI_z]; omega)]
end
