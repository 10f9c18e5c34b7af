/-! DEPS: tm -/
/-! TS: the twin sends, follows -/
def RdA (g : Row) : Prop := ∀ r, 0 ≤ r → r < g 11135 → 0 ≤ g (11028 + 6 * r) ∧ g (11028 + 6 * r) ≤ 6 ∧ 0 ≤ g (11028 + 6 * r + 1) ∧ g (11028 + 6 * r + 1) ≤ 7 ∧ 0 ≤ g (11028 + 6 * r + 2) ∧ g (11028 + 6 * r + 2) ≤ 1000000 ∧ 0 ≤ g (11028 + 6 * r + 3) ∧ g (11028 + 6 * r + 3) ≤ 999 ∧ 0 ≤ g (11028 + 6 * r + 4) ∧ g (11028 + 6 * r + 4) ≤ 2
section
variable {g mi mn F : Row} {S : Nat → Int32} {M : Mem} {Λ : Law}
theorem m_tells_56 (h : LT M) {n : Int} (h0 : 0 ≤ n) (h1 : n < 7) : ∀ (j : Nat) (i : Int) (fu : Nat), 8 - i = j → 0 ≤ i → j < fu →
    sX8_tellsSnapshot_56 fu (some 3772) (iI n) (iI i) (tw g mi (mpG mn (fun k => g (244 * n + (23 + k))) 11 i) F S M) = some ((), tw g mi (mpG mn (fun k => g (244 * n + (23 + k))) 11 8) F S M)
  | 0, i, fu + 1, e1, e2, e3 => by
    have e : i = 8 := by omega
    subst e
    simp (disch := first | assumption | omega) only [sX8_tellsSnapshot_56, sX8_tellsSnapshot_56b, z10, z00, if_true, if_false, iv_add, iv_sub, iv_mul, iv_le, iv_lt, iv_eq, iv_mx, iv_mn, bI_z, bI_o, rZ0, rZ1, rZb, cl_some', lt_eq, rm_eq, dv_eq, iv_01, iv_10, the, lastA, lpA, st_eq, st_ne, cV_tw, gR_0, gR_3, gR_4, gR_27, gR_28, gI_29, aI_now, aI_mn, aI_mi, aI_fa, sI_now, sI_mn, sI_mi, sI_fa, pI_29]
    rw [if_pos (by omega)]
  | j + 1, i, fu + 1, e1, e2, e3 => by
    have ih := m_tells_56 h h0 h1 j (i + 1) fu (by omega) (by omega) (by omega)
    have e : st (mpG mn (fun k => g (244 * n + (23 + k))) 11 i) (11 + i) (g (244 * n + (23 + i))) = mpG mn (fun k => g (244 * n + (23 + k))) 11 (i + 1) := mpS e2
    simp (disch := first | assumption | omega) only [sX8_tellsSnapshot_56, sX8_tellsSnapshot_56b, m_the, z10, z00, if_true, if_false, iv_add, iv_sub, iv_mul, iv_le, iv_lt, iv_eq, iv_mx, iv_mn, bI_z, bI_o, rZ0, rZ1, rZb, cl_some', lt_eq, rm_eq, dv_eq, iv_01, iv_10, the, lastA, lpA, st_eq, st_ne, cV_tw, gR_0, gR_3, gR_4, gR_27, gR_28, gI_29, aI_now, aI_mn, aI_mi, aI_fa, sI_now, sI_mn, sI_mi, sI_fa, pI_29]
    rw [if_neg (by omega), e]
    exact ih
theorem m_tellsSnapshot (h : LT M) {n : Int} (h0 : 0 ≤ n) (h1 : n < 7) :
    sX8_tellsSnapshot (some 3772) (iI n) (tw g mi mn F S M) = some ((), tw g mi (mpG (st (st (st (st mn 6 (g (244 * n + 4))) 7 (g (244 * n + 5))) 8 (g (244 * n + 6))) 9 (g (244 * n + 7))) (fun k => g (244 * n + (23 + k))) 11 8) F S M) := by
  have := m_tells_56 (g := g) (mi := mi) (mn := st (st (st (st mn 6 (g (244 * n + 4))) 7 (g (244 * n + 5))) 8 (g (244 * n + 6))) 9 (g (244 * n + 7))) (F := F) (S := S) h h0 h1 8 0 FU (by omega) (by omega) (by unfold FU; omega)
  rw [mp0] at this
  simp (disch := first | assumption | omega) only [sX8_tellsSnapshot, m_the, z10, z00, if_true, if_false, iv_add, iv_sub, iv_mul, iv_le, iv_lt, iv_eq, iv_mx, iv_mn, bI_z, bI_o, rZ0, rZ1, rZb, cl_some', lt_eq, rm_eq, dv_eq, iv_01, iv_10, the, lastA, lpA, st_eq, st_ne, cV_tw, gR_0, gR_3, gR_4, gR_27, gR_28, gI_29, aI_now, aI_mn, aI_mi, aI_fa, sI_now, sI_mn, sI_mi, sI_fa, pI_29]
  exact this
theorem m_tells_67 (h : LT M) {n x m : Int} (h0 : 0 ≤ n) (h1 : n < 7) (hp : 0 ≤ 244 * n + 52 + 4 * (x - g (244 * n + 4) - 1)) (hp9 : 244 * n + 52 + 4 * (x - g (244 * n + 4) - 1) + 4 * m ≤ 11000) (hm0 : 0 ≤ m) (hm : m ≤ 4) : ∀ (j : Nat) (i : Int) (fu : Nat), 4 * m - i = j → 0 ≤ i → j < fu →
    sX8_tellsEntries_67 fu (some 3772) (iI n) (iI x) (iI m) (iI i) (tw g mi (mpG mn (fun k => g (244 * n + 52 + 4 * (x - g (244 * n + 4) - 1) + k)) 11 i) F S M) = some ((), tw g mi (mpG mn (fun k => g (244 * n + 52 + 4 * (x - g (244 * n + 4) - 1) + k)) 11 (4 * m)) F S M)
  | 0, i, fu + 1, e1, e2, e3 => by
    have e : i = 4 * m := by omega
    subst e
    simp (disch := first | assumption | omega) only [sX8_tellsEntries_67, sX8_tellsEntries_67b, z10, z00, if_true, if_false, iv_add, iv_sub, iv_mul, iv_le, iv_lt, iv_eq, iv_mx, iv_mn, bI_z, bI_o, rZ0, rZ1, rZb, cl_some', lt_eq, rm_eq, dv_eq, iv_01, iv_10, the, lastA, lpA, st_eq, st_ne, cV_tw, gR_0, gR_3, gR_4, gR_27, gR_28, gI_29, aI_now, aI_mn, aI_mi, aI_fa, sI_now, sI_mn, sI_mi, sI_fa, pI_29]
    rw [if_pos (by omega)]
  | j + 1, i, fu + 1, e1, e2, e3 => by
    have ih := m_tells_67 h h0 h1 hp hp9 hm0 hm j (i + 1) fu (by omega) (by omega) (by omega)
    have e : st (mpG mn (fun k => g (244 * n + 52 + 4 * (x - g (244 * n + 4) - 1) + k)) 11 i) (11 + i) (g (244 * n + 52 + 4 * (x - g (244 * n + 4) - 1) + i)) = mpG mn (fun k => g (244 * n + 52 + 4 * (x - g (244 * n + 4) - 1) + k)) 11 (i + 1) := mpS e2
    simp (disch := first | assumption | omega) only [sX8_tellsEntries_67, sX8_tellsEntries_67b, m_logPlace, z10, z00, if_true, if_false, iv_add, iv_sub, iv_mul, iv_le, iv_lt, iv_eq, iv_mx, iv_mn, bI_z, bI_o, rZ0, rZ1, rZb, cl_some', lt_eq, rm_eq, dv_eq, iv_01, iv_10, the, lastA, lpA, st_eq, st_ne, cV_tw, gR_0, gR_3, gR_4, gR_27, gR_28, gI_29, aI_now, aI_mn, aI_mi, aI_fa, sI_now, sI_mn, sI_mi, sI_fa, pI_29]
    rw [if_neg (by omega), e]
    exact ih
theorem m_tellsEntries (h : LT M) {n x : Int} (hL : LgA g n) (hx : g (244 * n + 4) < x) (hx9 : x ≤ g (244 * n + 4) + g (244 * n + 8) + 1) :
    sX8_tellsEntries (some 3772) (iI n) (iI x) (tw g mi mn F S M) = some ((), tw g mi (mpG (st (st (st (st mn 6 (x - 1)) 7 (termA g n (x - 1))) 8 (g (244 * n + 9))) 5 (max 0 (min 4 (g (244 * n + 4) + g (244 * n + 8) - x + 1)))) (fun k => g (244 * n + 52 + 4 * (x - g (244 * n + 4) - 1) + k)) 11 (4 * max 0 (min 4 (g (244 * n + 4) + g (244 * n + 8) - x + 1)))) F S M) := by
  have hL' := hL
  obtain ⟨⟨_, _, _, _, _, _, _, _, _, _, _, _, _, _⟩, hE⟩ := hL
  simp (disch := first | assumption | omega) only [sX8_tellsEntries, m_the, m_termAt, m_lastOf, m_min, m_max, z10, z00, if_true, if_false, iv_add, iv_sub, iv_mul, iv_le, iv_lt, iv_eq, iv_mx, iv_mn, bI_z, bI_o, rZ0, rZ1, rZb, cl_some', lt_eq, rm_eq, dv_eq, iv_01, iv_10, the, lastA, lpA, st_eq, st_ne, cV_tw, gR_0, gR_3, gR_4, gR_27, gR_28, gI_29, aI_now, aI_mn, aI_mi, aI_fa, sI_now, sI_mn, sI_mi, sI_fa, pI_29]
  have := m_tells_67 (n := n) (g := g) (x := x) (m := max 0 (min 4 (g (244 * n + 4) + g (244 * n + 8) - x + 1))) (mi := mi) (mn := st (st (st (st mn 6 (x - 1)) 7 (termA g n (x - 1))) 8 (g (244 * n + 9))) 5 (max 0 (min 4 (g (244 * n + 4) + g (244 * n + 8) - x + 1)))) (F := F) (S := S) h (by omega) (by omega) (by omega) (by omega) (by omega) (by omega) (4 * max 0 (min 4 (g (244 * n + 4) + g (244 * n + 8) - x + 1))).toNat 0 FU (by omega) (by omega) (by unfold FU; omega)
  rw [mp0] at this
  exact this
theorem m_sendsOn (h : LT M) (hΛ : LawT M Λ) {n t : Int} (hL : LgA g n) (hG : GlA g) (h2 : 0 ≤ g (244 * n + 1)) (h3 : g (244 * n + 1) ≤ 999) (ht0 : 0 ≤ t) (ht : t < 7) (hx0 : 1 ≤ g (244 * n + (31 + t))) (hx9 : g (244 * n + (31 + t)) ≤ g (244 * n + 4) + g (244 * n + 8) + 1) :
    ∃ mn' F' S', sX8_sendsOn (some 3772) (iI n) (iI t) (tw g mi mn F S M) = some ((), tw (sendG Λ g n t) mi mn' F' S' M) := by
  have hL' := hL
  obtain ⟨⟨_, _, _, _, _, _, _, _, _, _, _, _, _, _⟩, hE⟩ := hL
  obtain ⟨x, hx⟩ : ∃ x, g (244 * n + (31 + t)) = x := ⟨_, rfl⟩
  by_cases c : g (244 * n + (31 + t)) ≤ g (244 * n + 4)
  · obtain ⟨m1, a1, e1⟩ := m_beginsMail (g := g) (mi := mi) (mn := mn) (F := F) (S := S) (f := n) (t := t) (k := 4) h (by omega) (by omega)
    have e2 := m_tellsSnapshot (g := g) (mi := mi) (mn := st m1 10 (g (244 * n + 13))) (F := F) (S := S) (n := n) h (by omega) (by omega)
    generalize hm2 : mpG (st (st (st (st (st m1 10 (g (244 * n + 13))) 6 (g (244 * n + 4))) 7 (g (244 * n + 5))) 8 (g (244 * n + 6))) 9 (g (244 * n + 7))) (fun k => g (244 * n + (23 + k))) 11 8 = m2 at e2
    have hm : ag27 m2 (snapM g n t) := by
      intro w hw hw7
      rw [← hm2]
      unfold snapM st mpG
      simp only [the]
      rw [show (11 : Int) + 8 = 19 from rfl, show 23 + (w - 11) = 12 + w by omega]
      by_cases k1 : 11 ≤ w ∧ w < 19
      · rw [if_pos k1, if_neg (by omega), if_neg (by omega), if_neg (by omega), if_neg (by omega), if_neg (by omega), if_pos k1]
      · rw [if_neg k1, if_neg k1]
        by_cases k9 : w = 9
        · rw [if_pos k9, if_neg (by omega), if_neg (by omega), if_neg (by omega), if_pos k9]
        · rw [if_neg k9, if_neg k9]
          by_cases k8 : w = 8
          · rw [if_pos k8, if_neg (by omega), if_neg (by omega), if_pos k8]
          · rw [if_neg k8, if_neg k8]
            by_cases k7 : w = 7
            · rw [if_pos k7, if_neg (by omega), if_pos k7]
            · rw [if_neg k7, if_neg k7]
              by_cases k6 : w = 6
              · rw [if_pos k6, if_pos k6]
              · rw [if_neg k6, if_neg k6]
                by_cases k10 : w = 10
                · rw [if_pos k10, if_pos k10]
                · rw [if_neg k10, if_neg k10, a1 w hw hw7]
    have b0 : m2 0 = n := (hm 0 (by omega) (by omega)).trans rfl
    obtain ⟨m3, F3, S3, e3⟩ := m_posts (g := g) (mi := mi) (mn := m2) (F := F) (S := S) h hΛ hG (by rw [b0]; omega) (by rw [b0]; omega) (by rw [b0]; exact h2) (by rw [b0]; exact h3)
    refine ⟨m3, F3, S3, ?_⟩
    rw [show sendG Λ g n t = postG Λ g (snapM g n t) from congrArg _ (if_pos c), ← postG_ext hm]
    clear hm2 hm a1 hE
    simp (disch := first | assumption | omega) only [sX8_sendsOn, m_the, z10, z00, if_true, if_false, iv_add, iv_sub, iv_mul, iv_le, iv_lt, iv_eq, iv_mx, iv_mn, bI_z, bI_o, rZ0, rZ1, rZb, cl_some', lt_eq, rm_eq, dv_eq, iv_01, iv_10, the, lastA, lpA, st_eq, st_ne, cV_tw, gR_0, gR_3, gR_4, gR_27, gR_28, gI_29, aI_now, aI_mn, aI_mi, aI_fa, sI_now, sI_mn, sI_mi, sI_fa, pI_29]
    rw [if_neg (by omega)]
    simp (disch := first | assumption | omega) only [sX8_sendsOn_25, z10, z00, if_true, if_false, iv_add, iv_sub, iv_mul, iv_le, iv_lt, iv_eq, iv_mx, iv_mn, bI_z, bI_o, rZ0, rZ1, rZb, cl_some', lt_eq, rm_eq, dv_eq, iv_01, iv_10, the, lastA, lpA, st_eq, st_ne, cV_tw, gR_0, gR_3, gR_4, gR_27, gR_28, gI_29, aI_now, aI_mn, aI_mi, aI_fa, sI_now, sI_mn, sI_mi, sI_fa, pI_29]
    simp (disch := first | assumption | omega) only [sX8_sendsOn_40, sX8_sendsOn_76, m_the, z10, z00, if_true, if_false, iv_add, iv_sub, iv_mul, iv_le, iv_lt, iv_eq, iv_mx, iv_mn, bI_z, bI_o, rZ0, rZ1, rZb, cl_some', lt_eq, rm_eq, dv_eq, iv_01, iv_10, the, lastA, lpA, st_eq, st_ne, cV_tw, gR_0, gR_3, gR_4, gR_27, gR_28, gI_29, aI_now, aI_mn, aI_mi, aI_fa, sI_now, sI_mn, sI_mi, sI_fa, pI_29, e1, e2, e3]
  · obtain ⟨m1, a1, e1⟩ := m_beginsMail (g := g) (mi := mi) (mn := mn) (F := F) (S := S) (f := n) (t := t) (k := 2) h (by omega) (by omega)
    have e2 := m_tellsEntries (g := g) (mi := mi) (mn := st m1 10 (g (244 * n + 13))) (F := F) (S := S) (n := n) (x := x) h hL' (by omega) (by omega)
    generalize hm2 : mpG (st (st (st (st (st m1 10 (g (244 * n + 13))) 6 (x - 1)) 7 (termA g n (x - 1))) 8 (g (244 * n + 9))) 5 (max 0 (min 4 (g (244 * n + 4) + g (244 * n + 8) - x + 1)))) (fun k => g (244 * n + 52 + 4 * (x - g (244 * n + 4) - 1) + k)) 11 (4 * max 0 (min 4 (g (244 * n + 4) + g (244 * n + 8) - x + 1))) = m2 at e2
    have hm : ag27 m2 (entsM g n t) := by
      intro w hw hw7
      rw [← hm2]
      unfold entsM manyA st mpG
      simp only [the, lastA, lpA, hx]
      generalize max 0 (min 4 (g (244 * n + 4) + g (244 * n + 8) - x + 1)) = m
      by_cases k1 : 11 ≤ w ∧ w < 11 + 4 * m
      · rw [if_pos k1, if_neg (by omega), if_neg (by omega), if_neg (by omega), if_neg (by omega), if_neg (by omega), if_pos k1]
      · rw [if_neg k1, if_neg k1]
        by_cases k5 : w = 5
        · rw [if_pos k5, if_pos k5]
        · rw [if_neg k5, if_neg k5]
          by_cases k8 : w = 8
          · rw [if_pos k8, if_neg (by omega), if_neg (by omega), if_pos k8]
          · rw [if_neg k8, if_neg k8]
            by_cases k7 : w = 7
            · rw [if_pos k7, if_neg (by omega), if_pos k7]
            · rw [if_neg k7, if_neg k7]
              by_cases k6 : w = 6
              · rw [if_pos k6, if_pos k6]
              · rw [if_neg k6, if_neg k6]
                by_cases k10 : w = 10
                · rw [if_pos k10, if_pos k10]
                · rw [if_neg k10, if_neg k10, a1 w hw hw7]
    have b0 : m2 0 = n := by
      rw [hm 0 (by omega) (by omega)]
      unfold entsM mail0
      rw [if_neg (by omega), if_neg (by omega), if_neg (by omega), if_neg (by omega), if_neg (by omega), if_neg (by omega), if_pos rfl]
    obtain ⟨m3, F3, S3, e3⟩ := m_posts (g := g) (mi := mi) (mn := m2) (F := F) (S := S) h hΛ hG (by rw [b0]; omega) (by rw [b0]; omega) (by rw [b0]; exact h2) (by rw [b0]; exact h3)
    refine ⟨m3, F3, S3, ?_⟩
    rw [show sendG Λ g n t = postG Λ g (entsM g n t) from congrArg _ (if_neg c), ← postG_ext hm]
    clear hm2 hm a1 hE
    simp (disch := first | assumption | omega) only [sX8_sendsOn, m_the, z10, z00, if_true, if_false, iv_add, iv_sub, iv_mul, iv_le, iv_lt, iv_eq, iv_mx, iv_mn, bI_z, bI_o, rZ0, rZ1, rZb, cl_some', lt_eq, rm_eq, dv_eq, iv_01, iv_10, the, lastA, lpA, st_eq, st_ne, cV_tw, gR_0, gR_3, gR_4, gR_27, gR_28, gI_29, aI_now, aI_mn, aI_mi, aI_fa, sI_now, sI_mn, sI_mi, sI_fa, pI_29]
    rw [if_pos (by omega)]
    simp (disch := first | assumption | omega) only [sX8_sendsOn_25, z10, z00, if_true, if_false, iv_add, iv_sub, iv_mul, iv_le, iv_lt, iv_eq, iv_mx, iv_mn, bI_z, bI_o, rZ0, rZ1, rZb, cl_some', lt_eq, rm_eq, dv_eq, iv_01, iv_10, the, lastA, lpA, st_eq, st_ne, cV_tw, gR_0, gR_3, gR_4, gR_27, gR_28, gI_29, aI_now, aI_mn, aI_mi, aI_fa, sI_now, sI_mn, sI_mi, sI_fa, pI_29]
    simp (disch := first | assumption | omega) only [sX8_sendsOn_40, sX8_sendsOn_76, m_the, z10, z00, if_true, if_false, iv_add, iv_sub, iv_mul, iv_le, iv_lt, iv_eq, iv_mx, iv_mn, bI_z, bI_o, rZ0, rZ1, rZb, cl_some', lt_eq, rm_eq, dv_eq, iv_01, iv_10, the, lastA, lpA, st_eq, st_ne, cV_tw, gR_0, gR_3, gR_4, gR_27, gR_28, gI_29, aI_now, aI_mn, aI_mi, aI_fa, sI_now, sI_mn, sI_mi, sI_fa, pI_29, hx, e1, e2, e3]
/-! what lies on one node's block -/
theorem LgA_ext {g' : Row} {n : Int} (he : ∀ x, 244 * n ≤ x → x < 244 * n + 244 → g' x = g x) (hL : LgA g n) : LgA g' n := by
  obtain ⟨⟨_, _, _, _, _, _, _, _, _, _, _, _, _, _⟩, hE⟩ := hL
  unfold LgA
  rw [he (244 * n + 4) (by omega) (by omega), he (244 * n + 5) (by omega) (by omega), he (244 * n + 6) (by omega) (by omega), he (244 * n + 7) (by omega) (by omega), he (244 * n + 8) (by omega) (by omega), he (244 * n + 9) (by omega) (by omega)]
  refine ⟨by omega, fun i hi1 hi2 => ?_⟩
  have := hE i hi1 hi2
  unfold EntA at this ⊢
  rw [he _ (by omega) (by omega), he _ (by omega) (by omega), he _ (by omega) (by omega), he _ (by omega) (by omega)]
  exact this
theorem sendG_lo {n t x : Int} (hG : GlA g) (hx : x < 1708 ∨ (6028 ≤ x ∧ x < 11132) ∨ (11134 ≤ x ∧ ¬ x = 11137)) : sendG Λ g n t x = g x := by
  have hG' := hG
  obtain ⟨_, _, _, _, _, _, _, _, _, _, _, _⟩ := hG
  unfold sendG
  exact postG_ne hG' (by omega) (by omega) (by omega) (by omega)
theorem sendG_Gl {n t : Int} (hG : GlA g) : GlA (sendG Λ g n t) := postG_Gl hG
end
