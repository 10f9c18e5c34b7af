/-! DEPS: tz -/
/-! UA: the twin lays entries told -/
section
variable {g mi mn F : Row} {S : Nat → Int32} {M : Mem} {Λ : Law}
theorem cutG_ne {n i x : Int} (h1 : ¬ x = 244 * n + 8) (h2 : ¬ x = 244 * n + 9) (h3 : ¬ x = 11136) : cutG g n i x = g x := by
  unfold cutG
  split
  · rfl
  · split
    · rw [st_ne h2]
      exact (st_ne h3).trans (st_ne h1)
    · exact st_ne h1
theorem cut_Lg {n i : Int} (hL : LgA g n) (h0 : g (244 * n + 4) < i) : LgA (cutG g n i) n := by
  have hL' := hL
  obtain ⟨⟨_, _, _, _, _, _, _, _, _, _, _, _, _, _⟩, hE⟩ := hL
  have o := fun x a b c => cutG_ne (g := g) (n := n) (i := i) (x := x) a b c
  unfold LgA
  rw [o (244 * n + 4) (by omega) (by omega) (by omega), o (244 * n + 5) (by omega) (by omega) (by omega), o (244 * n + 6) (by omega) (by omega) (by omega), o (244 * n + 7) (by omega) (by omega) (by omega)]
  have e : ∀ j, EntA g (244 * n + 52 + 4 * (j - g (244 * n + 4) - 1)) → g (244 * n + 4) < j → j ≤ g (244 * n + 4) + g (244 * n + 8) → EntA (cutG g n i) (244 * n + 52 + 4 * (j - g (244 * n + 4) - 1)) := by
    intro j hj j0 j1
    unfold EntA at hj ⊢
    rw [o _ (by omega) (by omega) (by omega), o _ (by omega) (by omega) (by omega), o _ (by omega) (by omega) (by omega), o _ (by omega) (by omega) (by omega)]
    exact hj
  have e89 : (cutG g n i (244 * n + 8) = g (244 * n + 8) ∧ cutG g n i (244 * n + 9) = g (244 * n + 9)) ∨ (i ≤ g (244 * n + 4) + g (244 * n + 8) ∧ cutG g n i (244 * n + 8) = i - g (244 * n + 4) - 1 ∧ ((i ≤ g (244 * n + 9) ∧ cutG g n i (244 * n + 9) = i - 1) ∨ (g (244 * n + 9) < i ∧ cutG g n i (244 * n + 9) = g (244 * n + 9)))) := by
    unfold cutG
    simp only [the, lastA]
    by_cases c1 : g (244 * n + 4) + g (244 * n + 8) < i
    · rw [if_pos c1]
      exact Or.inl ⟨rfl, rfl⟩
    · rw [if_neg c1]
      refine Or.inr ⟨by omega, ?_⟩
      by_cases c2 : i ≤ g (244 * n + 9)
      · rw [if_pos c2]
        refine ⟨?_, Or.inl ⟨c2, st_eq _ _ _⟩⟩
        rw [st_ne (by omega)]
        unfold breakG
        rw [st_ne (by omega), st_eq]
      · rw [if_neg c2]
        exact ⟨st_eq _ _ _, Or.inr ⟨by omega, st_ne (by omega)⟩⟩
  refine ⟨by omega, fun j j0 j1 => e j (hE j j0 (by omega)) j0 (by omega)⟩
/-- an entry in the message at place a -/
def MeA (mi : Row) (a : Int) : Prop := EntA mi a
theorem m_laysAs (h : LT M) {n i a : Int} (hL : LgA g n) (hi0 : -1000000 ≤ i) (hi : i ≤ 1000000) (ha0 : 0 ≤ a) (ha : a + 3 < 27) (hM : MeA mi a) :
    sX8_laysAs (some 3772) (iI n) (iI i) (iI a) (tw g mi mn F S M) = some (bI (asOk g mi n i a), tw (asG g mi n i a) mi mn F S M) := by
  have hL' := hL
  obtain ⟨⟨_, _, _, _, _, _, _, _, _, _, _, _, _, _⟩, hE⟩ := hL
  unfold MeA EntA at hM
  have h80 : ∀ g', LgA g' n → sX8_laysAs_80 (some 3772) (iI n) (iI a) (tw g' mi mn F S M) = some (bI (layOk g' n), tw (layG g' n (mi a) (mi (a + 1)) (mi (a + 2)) (mi (a + 3))) mi mn F S M) := by
    intro g' hg
    have e := m_lays (g := g') (mi := mi) (mn := mn) (F := F) (S := S) (t := mi a) (k := mi (a + 1)) (a := mi (a + 2)) (b := mi (a + 3)) h hg
    simp (disch := first | assumption | omega) only [sX8_laysAs_80, z10, z00, if_true, if_false, iv_add, iv_sub, iv_mul, iv_le, iv_lt, iv_eq, iv_mx, iv_mn, bI_z, bI_o, rZ0, rZ1, rZb, cl_some', lt_eq, rm_eq, dv_eq, iv_01, iv_10, the, lastA, lpA, st_eq, st_ne, cV_tw, gR_0, gR_3, gR_4, gR_27, gR_28, gI_29, aI_now, aI_mn, aI_mi, aI_fa, sI_now, sI_mn, sI_mi, sI_fa, pI_29, e]
  unfold asOk asG hasAs
  simp only [the, lastA]
  by_cases c1 : i ≤ g (244 * n + 4)
  · rw [if_pos (Or.inl c1), bI_t (Or.inl (Or.inl c1))]
    simp (disch := first | assumption | omega) only [sX8_laysAs, m_the, z10, z00, if_true, if_false, iv_add, iv_sub, iv_mul, iv_le, iv_lt, iv_eq, iv_mx, iv_mn, bI_z, bI_o, rZ0, rZ1, rZb, cl_some', lt_eq, rm_eq, dv_eq, iv_01, iv_10, the, lastA, lpA, st_eq, st_ne, cV_tw, gR_0, gR_3, gR_4, gR_27, gR_28, gI_29, aI_now, aI_mn, aI_mi, aI_fa, sI_now, sI_mn, sI_mi, sI_fa, pI_29]
    rw [if_neg (by omega)]
  · have hc := cut_Lg hL' (i := i) (by omega)
    by_cases c2 : g (244 * n + 4) + g (244 * n + 8) < i
    · have ec : cutG g n i = g := if_pos c2
      rw [if_neg (by omega), ec]
      have e80 := h80 g hL'
      simp (disch := first | assumption | omega) only [sX8_laysAs, m_the, m_lastOf, z10, z00, if_true, if_false, iv_add, iv_sub, iv_mul, iv_le, iv_lt, iv_eq, iv_mx, iv_mn, bI_z, bI_o, rZ0, rZ1, rZb, cl_some', lt_eq, rm_eq, dv_eq, iv_01, iv_10, the, lastA, lpA, st_eq, st_ne, cV_tw, gR_0, gR_3, gR_4, gR_27, gR_28, gI_29, aI_now, aI_mn, aI_mi, aI_fa, sI_now, sI_mn, sI_mi, sI_fa, pI_29]
      rw [if_pos (by omega), if_pos c2, e80]
      congr 2
      exact bI_c ⟨fun hx => Or.inr hx, fun hx => by
        rcases hx with hx | hx
        · omega
        · exact hx⟩
    · have ht := m_termAt (mi := mi) (mn := mn) (F := F) (S := S) h hL' (i := i) (by omega) (by omega)
      have hr := termR hL' (i := i) (by omega) (by omega)
      by_cases c3 : termA g n i = mi a
      · rw [if_pos (Or.inr ⟨by omega, c3⟩), bI_t (Or.inl (Or.inr ⟨by omega, c3⟩))]
        simp (disch := first | assumption | omega) only [sX8_laysAs, m_the, m_lastOf, z10, z00, if_true, if_false, iv_add, iv_sub, iv_mul, iv_le, iv_lt, iv_eq, iv_mx, iv_mn, bI_z, bI_o, rZ0, rZ1, rZb, cl_some', lt_eq, rm_eq, dv_eq, iv_01, iv_10, the, lastA, lpA, st_eq, st_ne, cV_tw, gR_0, gR_3, gR_4, gR_27, gR_28, gI_29, aI_now, aI_mn, aI_mi, aI_fa, sI_now, sI_mn, sI_mi, sI_fa, pI_29, ht]
        rw [if_pos (by omega), if_neg c2, if_pos c3]
      · rw [if_neg (by omega)]
        have e80 := h80 _ hc
        have ebi : bI ((i ≤ g (244 * n + 4) ∨ i ≤ g (244 * n + 4) + g (244 * n + 8) ∧ termA g n i = mi a) ∨ layOk (cutG g n i) n) = bI (layOk (cutG g n i) n) := bI_c ⟨fun hx => by
          rcases hx with hx | hx
          · omega
          · exact hx, fun hx => Or.inr hx⟩
        rw [ebi]
        unfold cutG at e80 ⊢
        simp only [the, lastA] at e80 ⊢
        rw [if_neg c2] at e80 ⊢
        simp (disch := first | assumption | omega) only [sX8_laysAs, m_the, m_lastOf, m_sets, m_breaks, z10, z00, if_true, if_false, iv_add, iv_sub, iv_mul, iv_le, iv_lt, iv_eq, iv_mx, iv_mn, bI_z, bI_o, rZ0, rZ1, rZb, cl_some', lt_eq, rm_eq, dv_eq, iv_01, iv_10, the, lastA, lpA, st_eq, st_ne, cV_tw, gR_0, gR_3, gR_4, gR_27, gR_28, gI_29, aI_now, aI_mn, aI_mi, aI_fa, sI_now, sI_mn, sI_mi, sI_fa, pI_29, ht]
        rw [if_pos (by omega), if_neg c2, if_neg c3]
        by_cases c4 : i ≤ g (244 * n + 9)
        · rw [if_pos c4] at e80 ⊢
          rw [if_neg (by omega)]
          exact e80
        · rw [if_neg c4] at e80 ⊢
          rw [if_pos (by omega)]
          exact e80
end
