/-! DEPS: tx -/
/-! TY: the twin is asked to vote -/
section
variable {g mi mn F : Row} {S : Nat → Int32} {M : Mem} {Λ : Law}
theorem m_isNoLess (h : LT M) {n l t : Int} (hL : LgA g n) (hl : -1000000 ≤ l ∧ l ≤ 1000000) (ht : -1000000 ≤ t ∧ t ≤ 1000000) : sX8_isNoLess (some 3772) (iI n) (iI l) (iI t) (tw g mi mn F S M) = some (bI (noLess g n l t), tw g mi mn F S M) := by
  have hn := hL.1
  have hr := termR hL (i := g (244 * n + 4) + g (244 * n + 8)) (by omega) (by omega)
  have e1 := m_termAt (mi := mi) (mn := mn) (F := F) (S := S) h hL (i := g (244 * n + 4) + g (244 * n + 8)) (by omega) (by omega)
  unfold noLess
  simp (disch := first | assumption | omega) only [sX8_isNoLess, m_lastOf, z10, z00, if_true, if_false, iv_add, iv_sub, iv_mul, iv_le, iv_lt, iv_eq, iv_mx, iv_mn, bI_z, bI_o, rZ0, rZ1, rZb, cl_some', lt_eq, rm_eq, dv_eq, iv_01, iv_10, the, lastA, lpA, st_eq, st_ne, cV_tw, gR_0, gR_3, gR_4, gR_27, gR_28, gI_29, aI_now, aI_mn, aI_mi, aI_fa, sI_now, sI_mn, sI_mi, sI_fa, pI_29, e1]
  by_cases c1 : termA g n (g (244 * n + 4) + g (244 * n + 8)) < t
  · rw [if_pos c1, bI_t (Or.inl c1)]
  · rw [if_neg c1]
    by_cases c2 : t = termA g n (g (244 * n + 4) + g (244 * n + 8))
    · rw [if_pos c2]
      by_cases c3 : l < g (244 * n + 4) + g (244 * n + 8)
      · rw [if_pos c3, bI_f (by omega)]
      · rw [if_neg c3, bI_t (by omega)]
    · rw [if_neg c2, bI_f (by omega)]
theorem m_isAsked (h : LT M) (hΛ : LawT M Λ) {n : Int} (hS : StA g n) (hM : MsA mi) (hm1 : mi 1 = n) (hv : -1 ≤ g (244 * n + 2) ∧ g (244 * n + 2) ≤ 6) :
    ∃ mn' F' S', sX8_isAskedToVote (some 3772) (iI n) (tw g mi mn F S M) = some ((), tw (voteG Λ g mi n) mi mn' F' S' M) := by
  have hL := hS.1
  have hn := hL.1
  obtain ⟨q0, q1, q2, q3, q4, q5, q6, q7, q8, q9⟩ := hM
  have h1 := hS.2.2.2.2.2.1
  have h9 := hS.2.2.2.2.2.2
  have hG := hS.2.2.1
  have e1 := m_isNoLess (mi := mi) (mn := mn) (F := F) (S := S) (l := mi 6) (t := mi 7) h hL ⟨q6, q7⟩ ⟨q8, q9⟩
  obtain ⟨g2, eg⟩ : ∃ g2, st g (244 * n + 2) (mi 0) = g2 := ⟨_, rfl⟩
  have o : ∀ x, ¬ x = 244 * n + 2 → g2 x = g x := fun x hx => by rw [← eg]; exact st_ne hx
  have hG2 : GlA g2 := GlA_blk (fun x _ => o x (by omega)) hG
  obtain ⟨F1, S1, e2⟩ := m_setsTimer (g := g2) (mi := mi) (mn := mn) (F := F) (S := S) (n := n) h hΛ hG2 hn.1 hn.2.1 (by rw [o _ (by omega)]; exact h1) (by rw [o _ (by omega)]; exact h9)
  have ot : timerG Λ g2 n (244 * n + 1) = g (244 * n + 1) := by rw [timerG_ne (by omega) (by omega), o _ (by omega)]
  obtain ⟨m3, F3, S3, e3⟩ := m_answersBy (g := timerG Λ g2 n) (mi := mi) (mn := mn) (F := F1) (S := S1) (k := 1) (a := 1) (b := 0) (r := 0) h hΛ (timerG_Gl hn.2.1 hG2) q2 q3 (by rw [hm1, ot]; exact h1) (by rw [hm1, ot]; exact h9)
  obtain ⟨m4, F4, S4, e4⟩ := m_answersBy (g := g) (mi := mi) (mn := mn) (F := F) (S := S) (k := 1) (a := 0) (b := 0) (r := 0) h hΛ hG q2 q3 (by rw [hm1]; exact h1) (by rw [hm1]; exact h9)
  have f0 : sX8_isAskedToVote_78 (some 3772) (iI n) (iI (mi 0)) (tw g mi mn F S M) = some ((), tw (ansG Λ g mi 1 0 0 0) mi m4 F4 S4 M) := by
    simp (disch := first | assumption | omega) only [sX8_isAskedToVote_78, sX8_isAskedToVote_79, sX8_isAskedToVote_98, sX8_isAskedToVote_110, z10, z00, if_true, if_false, iv_add, iv_sub, iv_mul, iv_le, iv_lt, iv_eq, iv_mx, iv_mn, bI_z, bI_o, rZ0, rZ1, rZb, cl_some', lt_eq, rm_eq, dv_eq, iv_01, iv_10, the, lastA, lpA, st_eq, st_ne, cV_tw, gR_0, gR_3, gR_4, gR_27, gR_28, gI_29, aI_now, aI_mn, aI_mi, aI_fa, sI_now, sI_mn, sI_mi, sI_fa, pI_29, e4]
  have f1 : sX8_isAskedToVote_79 (some 3772) (iI n) (iI (mi 0)) (iI 1) (tw g mi mn F S M) = some ((), tw (ansG Λ (timerG Λ g2 n) mi 1 1 0 0) mi m3 F3 S3 M) := by
    simp (disch := first | assumption | omega) only [sX8_isAskedToVote_79, sX8_isAskedToVote_98, sX8_isAskedToVote_110, m_sets, z10, z00, if_true, if_false, iv_add, iv_sub, iv_mul, iv_le, iv_lt, iv_eq, iv_mx, iv_mn, bI_z, bI_o, rZ0, rZ1, rZb, cl_some', lt_eq, rm_eq, dv_eq, iv_01, iv_10, the, lastA, lpA, st_eq, st_ne, cV_tw, gR_0, gR_3, gR_4, gR_27, gR_28, gI_29, aI_now, aI_mn, aI_mi, aI_fa, sI_now, sI_mn, sI_mi, sI_fa, pI_29, eg, e2, e3]
  unfold voteG
  simp only [the, eg]
  by_cases c1 : mi 3 = g (244 * n + 1)
  · by_cases c2 : g (244 * n + 2) = -1 ∨ g (244 * n + 2) = mi 0
    · have f2 : sX8_isAskedToVote (some 3772) (iI n) (tw g mi mn F S M) = if noLess g n (mi 6) (mi 7) then sX8_isAskedToVote_79 (some 3772) (iI n) (iI (mi 0)) (iI 1) (tw g mi mn F S M) else sX8_isAskedToVote_78 (some 3772) (iI n) (iI (mi 0)) (tw g mi mn F S M) := by
        simp (disch := first | assumption | omega) only [sX8_isAskedToVote, sX8_isAskedToVote_27, sX8_isAskedToVote_32, m_the, z10, z00, if_true, if_false, iv_add, iv_sub, iv_mul, iv_le, iv_lt, iv_eq, iv_mx, iv_mn, bI_z, bI_o, rZ0, rZ1, rZb, cl_some', lt_eq, rm_eq, dv_eq, iv_01, iv_10, the, lastA, lpA, st_eq, st_ne, cV_tw, gR_0, gR_3, gR_4, gR_27, gR_28, gI_29, aI_now, aI_mn, aI_mi, aI_fa, sI_now, sI_mn, sI_mi, sI_fa, pI_29, e1]
        have hz : (if ¬ noLess g n (mi 6) (mi 7) then sX8_isAskedToVote_78 (some 3772) (iI n) (iI (mi 0)) (tw g mi mn F S M) else sX8_isAskedToVote_79 (some 3772) (iI n) (iI (mi 0)) (iI 1) (tw g mi mn F S M)) = if noLess g n (mi 6) (mi 7) then sX8_isAskedToVote_79 (some 3772) (iI n) (iI (mi 0)) (iI 1) (tw g mi mn F S M) else sX8_isAskedToVote_78 (some 3772) (iI n) (iI (mi 0)) (tw g mi mn F S M) := by
          by_cases c3 : noLess g n (mi 6) (mi 7)
          · rw [if_pos c3, if_neg (show ¬ ¬ noLess g n (mi 6) (mi 7) from fun hc => hc c3)]
          · rw [if_neg c3, if_pos c3]
        simp only [if_pos c1]
        rcases c2 with c2 | c2
        · simp only [if_pos c2]
          exact hz
        · simp only [if_pos c2]
          split <;> exact hz
      by_cases c3 : noLess g n (mi 6) (mi 7)
      · rw [if_pos (show mi 3 = g (244 * n + 1) ∧ (g (244 * n + 2) = -1 ∨ g (244 * n + 2) = mi 0) ∧ noLess g n (mi 6) (mi 7) from ⟨c1, c2, c3⟩)]
        rw [if_pos c3, f1] at f2
        exact ⟨_, _, _, f2⟩
      · rw [if_neg (show ¬ (mi 3 = g (244 * n + 1) ∧ (g (244 * n + 2) = -1 ∨ g (244 * n + 2) = mi 0) ∧ noLess g n (mi 6) (mi 7)) from fun hc => c3 hc.2.2)]
        rw [if_neg c3, f0] at f2
        exact ⟨_, _, _, f2⟩
    · rw [if_neg (show ¬ (mi 3 = g (244 * n + 1) ∧ (g (244 * n + 2) = -1 ∨ g (244 * n + 2) = mi 0) ∧ noLess g n (mi 6) (mi 7)) from fun hc => c2 hc.2.1)]
      refine ⟨m4, F4, S4, ?_⟩
      simp (disch := first | assumption | omega) only [sX8_isAskedToVote, sX8_isAskedToVote_27, sX8_isAskedToVote_32, m_the, z10, z00, if_true, if_false, iv_add, iv_sub, iv_mul, iv_le, iv_lt, iv_eq, iv_mx, iv_mn, bI_z, bI_o, rZ0, rZ1, rZb, cl_some', lt_eq, rm_eq, dv_eq, iv_01, iv_10, the, lastA, lpA, st_eq, st_ne, cV_tw, gR_0, gR_3, gR_4, gR_27, gR_28, gI_29, aI_now, aI_mn, aI_mi, aI_fa, sI_now, sI_mn, sI_mi, sI_fa, pI_29, e1, f0]
      rw [if_neg (fun hc => c2 (Or.inl hc)), if_neg (fun hc => c2 (Or.inr hc))]
      split <;> rfl
  · rw [if_neg (show ¬ (mi 3 = g (244 * n + 1) ∧ (g (244 * n + 2) = -1 ∨ g (244 * n + 2) = mi 0) ∧ noLess g n (mi 6) (mi 7)) from fun hc => c1 hc.1)]
    refine ⟨m4, F4, S4, ?_⟩
    simp (disch := first | assumption | omega) only [sX8_isAskedToVote, sX8_isAskedToVote_27, sX8_isAskedToVote_32, m_the, z10, z00, if_true, if_false, iv_add, iv_sub, iv_mul, iv_le, iv_lt, iv_eq, iv_mx, iv_mn, bI_z, bI_o, rZ0, rZ1, rZb, cl_some', lt_eq, rm_eq, dv_eq, iv_01, iv_10, the, lastA, lpA, st_eq, st_ne, cV_tw, gR_0, gR_3, gR_4, gR_27, gR_28, gI_29, aI_now, aI_mn, aI_mi, aI_fa, sI_now, sI_mn, sI_mi, sI_fa, pI_29, e1, f0]
    rw [if_neg c1]
    split
    · rfl
    · split <;> rfl
end
