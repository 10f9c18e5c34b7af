/-! DEPS: rq -/
/-! UB: the twin hears answers, answers reads -/
section
variable {g mi mn F : Row} {S : Nat → Int32} {M : Mem} {Λ : Law} {h : His} {FL : Int → ELog} {R : Int} {D : DK}
theorem m_reads_2 (hT : LT M) {n : Int} (n0 : 0 ≤ n) (n1 : n < 7) : ∀ (j : Nat) (g : Row) (r : Int) (fu : Nat), InvS g h FL R D → g (244 * n + 3) = 2 → g 11135 - r = j → 0 ≤ r → j < fu →
    sX8_answersReads_2 fu (some 3772) (iI n) (iI r) (tw g mi mn F S M) = some ((), tw (readF n j g r) mi mn F S M)
  | 0, g, r, fu + 1, I, hr, e1, e2, e3 => by
    have hA := I.ar
    simp (disch := first | assumption | omega) only [sX8_answersReads_2, sX8_answersReads_2b, z10, z00, if_true, if_false, iv_add, iv_sub, iv_mul, iv_le, iv_lt, iv_eq, iv_mx, iv_mn, bI_z, bI_o, rZ0, rZ1, rZb, cl_some', lt_eq, rm_eq, dv_eq, iv_01, iv_10, the, lastA, lpA, st_eq, st_ne, cV_tw, gR_0, gR_3, gR_4, gR_27, gR_28, gI_29, aI_now, aI_mn, aI_mi, aI_fa, sI_now, sI_mn, sI_mi, sI_fa, pI_29]
    rw [if_pos (by omega)]
    rfl
  | j + 1, g, r, fu + 1, I, hr, e1, e2, e3 => by
    have hA := I.ar
    have hL := I.lg n0 n1
    have hH := I.ho n0 n1 hr
    obtain ⟨⟨s1, s2⟩, _⟩ := I.na n n0 n1
    obtain ⟨d0, d1, d2, d3, d4, d5, d6, d7, d8, d9⟩ := I.rd r e2 (by omega)
    have I1 := InvS.readK (n := n) 1 g r I e2 (by omega)
    have e : readF n (j + 1) g r = readF n j (readF n 1 g r) (r + 1) := rfl
    have hw := m_whoHeard (g := g) (mi := mi) (mn := mn) (F := F) (S := S) hT (n := n) (i := g (11030 + 6 * r)) n0 n1 (by rw [show 11030 + 6 * r = 11028 + 6 * r + 2 by omega]; omega) (fun k a b => by have := hH.2.1 k a b; omega)
    have hm := m_isMost (g := g) (mi := mi) (mn := mn) (F := F) (S := S) hT hL hw.2.1 hw.2.2
    have r0 : 11028 + 6 * r + 4 = 11032 + 6 * r := by omega
    have r1 : 11028 + 6 * r + 2 = 11030 + 6 * r := by omega
    have r2 : 11028 + 6 * r + 1 = 11029 + 6 * r := by omega
    have r3 : 11028 + 6 * r + 5 = 11033 + 6 * r := by omega
    have r4 : 11028 + 6 * r + 3 = 11031 + 6 * r := by omega
    rw [r0] at d8 d9
    rw [r1] at d4 d5
    rw [r2] at d2 d3
    rw [r4] at d6 d7
    rw [e]
    have hk := fun gg (q1 : InvS gg h FL R D) (q2 : gg (244 * n + 3) = 2) (q3 : gg 11135 = g 11135) => m_reads_2 hT n0 n1 j gg (r + 1) fu q1 q2 (by rw [q3]; omega) (by omega) (by omega)
    show sX8_answersReads_2b (sX8_answersReads_2 fu) _ _ _ _ = _
    generalize sX8_answersReads_2 fu = K at hk ⊢
    have u1 : readF n 1 g r = if g (11028 + 6 * r) = n ∧ g (11032 + 6 * r) = 0 ∧ mostA g n (whoHeardA g n (g (11030 + 6 * r))) then
      (let h := st (st g (11032 + 6 * r) 1) (11033 + 6 * r) (the g n (15 + g (11029 + 6 * r)))
       if the h n 9 < h (11031 + 6 * r) then breakG h else h) else g := rfl
    rw [u1] at I1 ⊢
    simp (disch := first | assumption | omega) only [sX8_answersReads_2b, sX8_answersReads_133, m_the, z10, z00, if_true, if_false, iv_add, iv_sub, iv_mul, iv_le, iv_lt, iv_eq, iv_mx, iv_mn, bI_z, bI_o, rZ0, rZ1, rZb, cl_some', lt_eq, rm_eq, dv_eq, iv_01, iv_10, the, lastA, lpA, st_eq, st_ne, cV_tw, gR_0, gR_3, gR_4, gR_27, gR_28, gI_29, aI_now, aI_mn, aI_mi, aI_fa, sI_now, sI_mn, sI_mi, sI_fa, pI_29, r0, r1, r2, r3, r4, hr, hw.1, hm]
    rw [if_neg (by omega)]
    by_cases c1 : g (11028 + 6 * r) = n
    · rw [if_pos c1]
      by_cases c2 : g (11032 + 6 * r) = 0
      · rw [if_pos c2]
        by_cases c3 : mostA g n (whoHeardA g n (g (11030 + 6 * r)))
        · have hP : g (11028 + 6 * r) = n ∧ g (11032 + 6 * r) = 0 ∧ mostA g n (whoHeardA g n (g (11030 + 6 * r))) := ⟨c1, c2, c3⟩
          rw [if_neg (fun hc => hc c3), if_pos hP]
          rw [if_pos hP] at I1
          simp only [the] at I1 ⊢
          have v1 : g (244 * n + (15 + g (11029 + 6 * r))) = st g (11032 + 6 * r) 1 (244 * n + (15 + g (11029 + 6 * r))) := (st_ne (by omega)).symm
          obtain ⟨g2, hg2⟩ : ∃ g2, st (st g (11032 + 6 * r) 1) (11033 + 6 * r) (g (244 * n + (15 + g (11029 + 6 * r)))) = g2 := ⟨_, rfl⟩
          have o : ∀ x, ¬ x = 11032 + 6 * r → ¬ x = 11033 + 6 * r → g2 x = g x := fun x a b => by rw [← hg2, st_ne b, st_ne a]
          rw [hg2] at I1 ⊢
          simp (disch := first | assumption | omega) only [m_the, z10, z00, if_true, if_false, iv_add, iv_sub, iv_mul, iv_le, iv_lt, iv_eq, iv_mx, iv_mn, bI_z, bI_o, rZ0, rZ1, rZb, cl_some', lt_eq, rm_eq, dv_eq, iv_01, iv_10, the, lastA, lpA, st_eq, st_ne, cV_tw, gR_0, gR_3, gR_4, gR_27, gR_28, gI_29, aI_now, aI_mn, aI_mi, aI_fa, sI_now, sI_mn, sI_mi, sI_fa, pI_29, hg2, o, m_breaks]
          rw [o (244 * n + 9) (by omega) (by omega), o (11031 + 6 * r) (by omega) (by omega)] at I1
          have o9 := o (244 * n + 9) (by omega) (by omega)
          by_cases c4 : g (244 * n + 9) < g (11031 + 6 * r)
          · rw [if_neg (by omega), if_pos c4]
            rw [if_pos c4] at I1
            have ob : ∀ x, ¬ x = 11136 → breakG g2 x = g2 x := fun x a => st_ne a
            exact hk _ I1 (by rw [ob _ (by omega), o _ (by omega) (by omega)]; exact hr) (by rw [ob _ (by omega), o _ (by omega) (by omega)])
          · rw [if_pos (by omega), if_neg c4]
            rw [if_neg c4] at I1
            exact hk _ I1 (by rw [o _ (by omega) (by omega)]; exact hr) (by rw [o _ (by omega) (by omega)])
        · rw [if_pos c3, if_neg (fun hc => c3 hc.2.2)]
          rw [if_neg (fun hc => c3 hc.2.2)] at I1
          exact hk _ I1 hr rfl
      · rw [if_neg c2, if_neg (fun hc => c2 hc.2.1)]
        rw [if_neg (fun hc => c2 hc.2.1)] at I1
        exact hk _ I1 hr rfl
    · rw [if_neg c1, if_neg (fun hc => c1 hc.1)]
      rw [if_neg (fun hc => c1 hc.1)] at I1
      exact hk _ I1 hr rfl
theorem m_answersReads (hT : LT M) (I : InvS g h FL R D) {n : Int} (n0 : 0 ≤ n) (n1 : n < 7) :
    sX8_answersReads (some 3772) (iI n) (tw g mi mn F S M) = some ((), tw (readG g n) mi mn F S M) := by
  obtain ⟨⟨s1, s2⟩, _⟩ := I.na n n0 n1
  have hA := I.ar
  unfold readG
  simp only [the]
  by_cases c : g (244 * n + 3) = 2
  · rw [if_pos c]
    exact m_reads_2 hT n0 n1 _ g 0 FU I c (by omega) (by omega) (by unfold FU; omega)
  · rw [if_neg c]
    show sX8_answersReads_2 (999999 + 1) _ _ (iI 0) _ = _
    generalize 999999 = fu
    show sX8_answersReads_2b (sX8_answersReads_2 fu) _ _ (iI 0) _ = _
    unfold sX8_answersReads_2b
    rw [gR_0 hT, aI_now hT (by omega) (by omega)]
    split
    · rfl
    · rw [cV_tw hT, m_the hT (by omega) (by omega), cl_some', if_neg]
      rw [iv_eq (by omega) (by omega) (by omega) (by omega)]
      exact c
theorem m_isOfLeader (hT : LT M) (I : InvS g h FL R D) {n : Int} (n0 : 0 ≤ n) (n1 : n < 7) (hM : MI h R (g 11134) mi) :
    sX8_isOfLeader (some 3772) (iI n) (tw g mi mn F S M) = some (bI (leadsOwn g mi n), tw (if leadsOwn g mi n then heardG g mi n else g) mi mn F S M) := by
  obtain ⟨⟨s1, s2⟩, _⟩ := I.na n n0 n1
  have hs := hM.s
  have rr := I.rr
  unfold leadsOwn
  simp only [the]
  simp (disch := first | assumption | omega) only [sX8_isOfLeader, m_the, z10, z00, if_true, if_false, iv_add, iv_sub, iv_mul, iv_le, iv_lt, iv_eq, iv_mx, iv_mn, bI_z, bI_o, rZ0, rZ1, rZb, cl_some', lt_eq, rm_eq, dv_eq, iv_01, iv_10, the, lastA, lpA, st_eq, st_ne, cV_tw, gR_0, gR_3, gR_4, gR_27, gR_28, gI_29, aI_now, aI_mn, aI_mi, aI_fa, sI_now, sI_mn, sI_mi, sI_fa, pI_29]
  by_cases c1 : g (244 * n + 3) = 2
  · have hl := (I.na n n0 n1).lr c1 (mi 0) (by omega) (by omega)
    rw [if_pos c1]
    by_cases c2 : mi 3 = g (244 * n + 1)
    · rw [if_pos c2, if_pos ⟨c1, c2⟩, bI_t ⟨c1, c2⟩]
      simp (disch := first | assumption | omega) only [m_the, m_max, m_sets, z10, z00, if_true, if_false, iv_add, iv_sub, iv_mul, iv_le, iv_lt, iv_eq, iv_mx, iv_mn, bI_z, bI_o, rZ0, rZ1, rZb, cl_some', lt_eq, rm_eq, dv_eq, iv_01, iv_10, the, lastA, lpA, st_eq, st_ne, cV_tw, gR_0, gR_3, gR_4, gR_27, gR_28, gI_29, aI_now, aI_mn, aI_mi, aI_fa, sI_now, sI_mn, sI_mi, sI_fa, pI_29]
      unfold heardG
      simp only [the]
      rw [show 244 * n + (45 + mi 0) = 244 * n + 45 + mi 0 by omega]
    · rw [if_neg c2, if_neg (fun hc => c2 hc.2), bI_f (fun hc => c2 hc.2)]
  · rw [if_neg c1, if_neg (fun hc => c1 hc.1), bI_f (fun hc => c1 hc.1)]
theorem m_matches (hT : LT M) (hΛ : LawT M Λ) (I : InvS g h FL R D) {n i : Int} (n0 : 0 ≤ n) (n1 : n < 7) (p0 : 0 ≤ mi 0) (p1 : mi 0 < 7) (hr : g (244 * n + 3) = 2) (hi : i ≤ 0 ∨ i ≤ h.ak (g (244 * n + 1)) (mi 0)) (i0 : -1000000 ≤ i) (i1 : i ≤ 1000000) :
    ∃ mn' F' S', sX8_matches (some 3772) (iI n) (iI i) (tw g mi mn F S M) = some ((), tw (matchedG Λ g mi n i) mi mn' F' S' M) := by
  obtain ⟨⟨s1, s2⟩, _⟩ := I.na n n0 n1
  have hl := (I.na n n0 n1).lr hr (mi 0) p0 p1
  have hmt := I.mt n0 n1 hr p0 p1
  have I1 := I.matchd (mi := mi) (i := i) n0 n1 hr p0 p1 hi
  have e3 : matchG g mi n i (244 * n + 3) = 2 := by
    unfold matchG
    simp only [the]
    rw [st_ne (by omega), st_ne (by omega)]
    exact hr
  obtain ⟨h2, FL2, G2, I2⟩ := I1.hold (Λ := Λ) n0 n1 e3
  have hH := I1.ho n0 n1 e3
  obtain ⟨m1, F1, S1, a1⟩ := m_holds (mi := mi) (mn := mn) (F := F) (S := S) hT hΛ hH
  have em : st (st g (244 * n + (38 + mi 0)) (max (g (244 * n + (38 + mi 0))) i)) (244 * n + (31 + mi 0)) (max (g (244 * n + (38 + mi 0))) i + 1) = matchG g mi n i := by
    unfold matchG
    simp only [the]
    rw [show 244 * n + 38 + mi 0 = 244 * n + (38 + mi 0) by omega, st_eq, show 244 * n + 31 + mi 0 = 244 * n + (31 + mi 0) by omega]
  unfold matchedG
  simp only [the, lastA]
  generalize hg : matchG g mi n i = g1 at *
  generalize hgg : holdG Λ g1 n = g2 at *
  obtain ⟨⟨q1, q2⟩, _⟩ := I2.na n n0 n1
  by_cases c1 : g2 (244 * n + 3) = 2
  · have hl2 := (I2.na n n0 n1).lr c1 (mi 0) p0 p1
    by_cases c2 : g2 (244 * n + (31 + mi 0)) ≤ g2 (244 * n + 4) + g2 (244 * n + 8)
    · obtain ⟨m2, F2, S2, a2⟩ := m_sendsOn (g := g2) (mi := mi) (mn := m1) (F := F1) (S := S1) hT hΛ (n := n) (t := mi 0) (I2.lg n0 n1) I2.gl (by omega) (by omega) p0 p1 (by omega) (by omega)
      refine ⟨m2, F2, S2, ?_⟩
      rw [if_pos ⟨c1, c2⟩]
      simp (disch := first | assumption | omega) only [sX8_matches, m_the, m_max, m_sets, m_lastOf, z10, z00, if_true, if_false, iv_add, iv_sub, iv_mul, iv_le, iv_lt, iv_eq, iv_mx, iv_mn, bI_z, bI_o, rZ0, rZ1, rZb, cl_some', lt_eq, rm_eq, dv_eq, iv_01, iv_10, the, lastA, lpA, st_eq, st_ne, cV_tw, gR_0, gR_3, gR_4, gR_27, gR_28, gI_29, aI_now, aI_mn, aI_mi, aI_fa, sI_now, sI_mn, sI_mi, sI_fa, pI_29, em, a1, c1]
      rw [if_neg (by omega)]
      rw [a2]
      rfl
    · refine ⟨m1, F1, S1, ?_⟩
      rw [if_neg (fun hc => c2 hc.2)]
      simp (disch := first | assumption | omega) only [sX8_matches, m_the, m_max, m_sets, m_lastOf, z10, z00, if_true, if_false, iv_add, iv_sub, iv_mul, iv_le, iv_lt, iv_eq, iv_mx, iv_mn, bI_z, bI_o, rZ0, rZ1, rZb, cl_some', lt_eq, rm_eq, dv_eq, iv_01, iv_10, the, lastA, lpA, st_eq, st_ne, cV_tw, gR_0, gR_3, gR_4, gR_27, gR_28, gI_29, aI_now, aI_mn, aI_mi, aI_fa, sI_now, sI_mn, sI_mi, sI_fa, pI_29, em, a1, c1]
      rw [if_pos (by omega)]
  · refine ⟨m1, F1, S1, ?_⟩
    rw [if_neg (fun hc => c1 hc.1)]
    simp (disch := first | assumption | omega) only [sX8_matches, m_the, m_max, m_sets, m_lastOf, z10, z00, if_true, if_false, iv_add, iv_sub, iv_mul, iv_le, iv_lt, iv_eq, iv_mx, iv_mn, bI_z, bI_o, rZ0, rZ1, rZb, cl_some', lt_eq, rm_eq, dv_eq, iv_01, iv_10, the, lastA, lpA, st_eq, st_ne, cV_tw, gR_0, gR_3, gR_4, gR_27, gR_28, gI_29, aI_now, aI_mn, aI_mi, aI_fa, sI_now, sI_mn, sI_mi, sI_fa, pI_29, em, a1]
    rw [if_neg c1]
end
