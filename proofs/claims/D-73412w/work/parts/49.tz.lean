/-! DEPS: ty -/
/-! TZ: the twin takes entries -/
section
variable {g mi mn F : Row} {S : Nat → Int32} {M : Mem} {Λ : Law}
theorem m_firstOf_18 (h : LT M) {n i : Int} (hL : LgA g n) (hi0 : g (244 * n + 4) < i) (hi : i ≤ g (244 * n + 4) + g (244 * n + 8)) : ∀ (j : Nat) (k : Int) (fu : Nat), k - g (244 * n + 4) = j → g (244 * n + 4) < k → k ≤ i → j < fu →
    sX8_firstOfTerm_18 fu (some 3772) (iI n) (iI i) (iI k) (tw g mi mn F S M) = some (iI (firstF g n i j k), tw g mi mn F S M) ∧ g (244 * n + 4) < firstF g n i j k ∧ firstF g n i j k ≤ i
  | 0, k, fu + 1, e1, e2, e3, e4 => by omega
  | j + 1, k, fu + 1, e1, e2, e3, e4 => by
    have hn := hL.1
    unfold firstF
    simp only [the]
    show sX8_firstOfTerm_18b (sX8_firstOfTerm_18 fu) _ _ _ _ _ = _ ∧ _
    have ht := m_termAt (mi := mi) (mn := mn) (F := F) (S := S) h hL (i := i) (by omega) (by omega)
    have hr := termR hL (i := i) (by omega) (by omega)
    by_cases c1 : k - 1 ≤ g (244 * n + 4)
    · rw [if_neg (by omega)]
      refine ⟨?_, e2, e3⟩
      simp (disch := first | assumption | omega) only [sX8_firstOfTerm_18b, m_the, z10, z00, if_true, if_false, iv_add, iv_sub, iv_mul, iv_le, iv_lt, iv_eq, iv_mx, iv_mn, bI_z, bI_o, rZ0, rZ1, rZb, cl_some', lt_eq, rm_eq, dv_eq, iv_01, iv_10, the, lastA, lpA, st_eq, st_ne, cV_tw, gR_0, gR_3, gR_4, gR_27, gR_28, gI_29, aI_now, aI_mn, aI_mi, aI_fa, sI_now, sI_mn, sI_mi, sI_fa, pI_29]
      rw [if_pos c1]
    · have ht2 := m_termAt (mi := mi) (mn := mn) (F := F) (S := S) h hL (i := k - 1) (by omega) (by omega)
      have hr2 := termR hL (i := k - 1) (by omega) (by omega)
      by_cases c2 : termA g n (k - 1) = termA g n i
      · rw [if_pos ⟨by omega, c2⟩]
        have ih := m_firstOf_18 h hL hi0 hi j (k - 1) fu (by omega) (by omega) (by omega) (by omega)
        refine ⟨?_, ih.2⟩
        generalize sX8_firstOfTerm_18 fu = K at ih ⊢
        simp (disch := first | assumption | omega) only [sX8_firstOfTerm_18b, m_the, z10, z00, if_true, if_false, iv_add, iv_sub, iv_mul, iv_le, iv_lt, iv_eq, iv_mx, iv_mn, bI_z, bI_o, rZ0, rZ1, rZb, cl_some', lt_eq, rm_eq, dv_eq, iv_01, iv_10, the, lastA, lpA, st_eq, st_ne, cV_tw, gR_0, gR_3, gR_4, gR_27, gR_28, gI_29, aI_now, aI_mn, aI_mi, aI_fa, sI_now, sI_mn, sI_mi, sI_fa, pI_29, ht, ht2]
        rw [if_neg c1, if_pos c2]
        exact ih.1
      · rw [if_neg (fun hc => c2 hc.2)]
        refine ⟨?_, e2, e3⟩
        generalize sX8_firstOfTerm_18 fu = K
        simp (disch := first | assumption | omega) only [sX8_firstOfTerm_18b, m_the, z10, z00, if_true, if_false, iv_add, iv_sub, iv_mul, iv_le, iv_lt, iv_eq, iv_mx, iv_mn, bI_z, bI_o, rZ0, rZ1, rZb, cl_some', lt_eq, rm_eq, dv_eq, iv_01, iv_10, the, lastA, lpA, st_eq, st_ne, cV_tw, gR_0, gR_3, gR_4, gR_27, gR_28, gI_29, aI_now, aI_mn, aI_mi, aI_fa, sI_now, sI_mn, sI_mi, sI_fa, pI_29, ht, ht2]
        rw [if_neg c1, if_neg c2]
theorem m_firstOfTerm (h : LT M) {n i : Int} (hL : LgA g n) (hi0 : g (244 * n + 4) ≤ i) (hi : i ≤ g (244 * n + 4) + g (244 * n + 8)) :
    sX8_firstOfTerm (some 3772) (iI n) (iI i) (tw g mi mn F S M) = some (iI (firstA g n i), tw g mi mn F S M) ∧ 1 ≤ firstA g n i ∧ firstA g n i ≤ 999 := by
  have hn := hL.1
  unfold firstA
  simp only [the]
  by_cases c : i = g (244 * n + 4)
  · rw [show (i - g (244 * n + 4)).toNat = 0 by omega]
    refine ⟨?_, by unfold firstF; omega, by unfold firstF; omega⟩
    simp (disch := first | assumption | omega) only [sX8_firstOfTerm, m_the, m_max, z10, z00, if_true, if_false, iv_add, iv_sub, iv_mul, iv_le, iv_lt, iv_eq, iv_mx, iv_mn, bI_z, bI_o, rZ0, rZ1, rZb, cl_some', lt_eq, rm_eq, dv_eq, iv_01, iv_10, the, lastA, lpA, st_eq, st_ne, cV_tw, gR_0, gR_3, gR_4, gR_27, gR_28, gI_29, aI_now, aI_mn, aI_mi, aI_fa, sI_now, sI_mn, sI_mi, sI_fa, pI_29]
    rw [if_pos c]
    rfl
  · have := m_firstOf_18 (mi := mi) (mn := mn) (F := F) (S := S) h hL (i := i) (by omega) hi (i - g (244 * n + 4)).toNat i FU (by omega) (by omega) (by omega) (by unfold FU; omega)
    rw [show max 1 (firstF g n i (i - g (244 * n + 4)).toNat i) = firstF g n i (i - g (244 * n + 4)).toNat i by omega]
    refine ⟨?_, by omega, by omega⟩
    simp (disch := first | assumption | omega) only [sX8_firstOfTerm, m_the, m_max, z10, z00, if_true, if_false, iv_add, iv_sub, iv_mul, iv_le, iv_lt, iv_eq, iv_mx, iv_mn, bI_z, bI_o, rZ0, rZ1, rZb, cl_some', lt_eq, rm_eq, dv_eq, iv_01, iv_10, the, lastA, lpA, st_eq, st_ne, cV_tw, gR_0, gR_3, gR_4, gR_27, gR_28, gI_29, aI_now, aI_mn, aI_mi, aI_fa, sI_now, sI_mn, sI_mi, sI_fa, pI_29]
    rw [if_neg c]
    exact this.1
end
