/-! DEPS: ub -/
/-! UC: messages handed to the twin -/
section
variable {g mi mn F : Row} {S : Nat → Int32} {M : Mem} {Λ : Law} {h : His} {FL : Int → ELog} {R : Int} {D : DK}
theorem m_hearsOfEntries (hT : LT M) (hΛ : LawT M Λ) (I : InvS g h FL R D) {n : Int} (hM : MI h R (g 11134) mi) (hn : mi 1 = n) (hk : mi 2 = 3) :
    ∃ mn' F' S', sX8_hearsOfEntries (some 3772) (iI n) (tw g mi mn F S M) = some ((), tw (hearEG Λ g mi n) mi mn' F' S' M) := by
  have hs := hM.s
  have n0 : 0 ≤ n := by omega
  have n1 : n < 7 := by omega
  have rr := I.rr
  have e1 := m_isOfLeader (mi := mi) (mn := mn) (F := F) (S := S) hT I n0 n1 hM
  unfold hearEG
  by_cases c : leadsOwn g mi n
  · have k3 := hM.k3 hk
    have I1 := I.heard (mi := mi) n0 n1 (by omega) (by omega) (by omega) (by omega)
    have c' := c
    obtain ⟨c1, c2⟩ := c'
    simp only [the] at c1 c2
    have e3 : heardG g mi n (244 * n + 3) = 2 := by
      unfold heardG
      rw [st_ne (by omega)]; exact c1
    have et : heardG g mi n (244 * n + 1) = mi 3 := by
      unfold heardG
      rw [st_ne (by omega)]; exact c2.symm
    rw [if_pos c] at e1 ⊢
    generalize heardG g mi n = g1 at *
    obtain ⟨⟨s1, s2⟩, _⟩ := I1.na n n0 n1
    have hl := (I1.na n n0 n1).lr e3 (mi 0) (by omega) (by omega)
    have hmt := I1.mt n0 n1 e3 (k := mi 0) (by omega) (by omega)
    by_cases c3 : mi 6 = 1
    · rw [if_pos c3]
      obtain ⟨m1, F1, S1, a1⟩ := m_matches (mi := mi) (mn := mn) (F := F) (S := S) (i := mi 7) hT hΛ I1 n0 n1 (by omega) (by omega) e3 (by rw [et]; omega) (by omega) (by omega)
      obtain ⟨h2, FL2, G2, I2⟩ := I1.matched (Λ := Λ) (mi := mi) (i := mi 7) n0 n1 (by omega) (by omega) e3 (by rw [et]; omega)
      have a2 := m_answersReads (mi := mi) (mn := m1) (F := F1) (S := S1) hT I2 n0 n1
      refine ⟨m1, F1, S1, ?_⟩
      simp (disch := first | assumption | omega) only [sX8_hearsOfEntries, sX8_hearsOfEntries_90, z10, z00, if_true, if_false, iv_add, iv_sub, iv_mul, iv_le, iv_lt, iv_eq, iv_mx, iv_mn, bI_z, bI_o, rZ0, rZ1, rZb, cl_some', lt_eq, rm_eq, dv_eq, iv_01, iv_10, the, lastA, lpA, st_eq, st_ne, cV_tw, gR_0, gR_3, gR_4, gR_27, gR_28, gI_29, aI_now, aI_mn, aI_mi, aI_fa, sI_now, sI_mn, sI_mi, sI_fa, pI_29, e1, a1, a2]
      rw [if_neg (fun hc => hc c), if_pos c3]
    · rw [if_neg c3]
      have I2 := I1.backd (mi := mi) n0 n1 e3 (by omega) (by omega)
      have e4 : backG g1 mi n (244 * n + 3) = 2 := by
        unfold backG
        rw [st_ne (by omega)]; exact e3
      have I3 := I2.send (Λ := Λ) (t := mi 0) n0 n1 e4 (by omega) (by omega)
      have eb : st g1 (244 * n + (31 + mi 0)) (max (g1 (244 * n + (38 + mi 0)) + 1) (min (g1 (244 * n + (31 + mi 0))) (mi 7))) = backG g1 mi n := by
        unfold backG
        simp only [the]
        rw [show 244 * n + 31 + mi 0 = 244 * n + (31 + mi 0) by omega]
      have hl2 := (I2.na n n0 n1).lr e4 (mi 0) (by omega) (by omega)
      obtain ⟨⟨t1, t2⟩, _⟩ := I2.na n n0 n1
      obtain ⟨m2, F2, S2, a2⟩ := m_sendsOn (g := backG g1 mi n) (mi := mi) (mn := mn) (F := F) (S := S) hT hΛ (n := n) (t := mi 0) (I2.lg n0 n1) I2.gl (by omega) (by omega) (by omega) (by omega) (by omega) (by omega)
      have a3 := m_answersReads (mi := mi) (mn := m2) (F := F2) (S := S2) hT I3 n0 n1
      refine ⟨m2, F2, S2, ?_⟩
      simp (disch := first | assumption | omega) only [sX8_hearsOfEntries, sX8_hearsOfEntries_90, m_the, m_min, m_max, m_sets, z10, z00, if_true, if_false, iv_add, iv_sub, iv_mul, iv_le, iv_lt, iv_eq, iv_mx, iv_mn, bI_z, bI_o, rZ0, rZ1, rZb, cl_some', lt_eq, rm_eq, dv_eq, iv_01, iv_10, the, lastA, lpA, st_eq, st_ne, cV_tw, gR_0, gR_3, gR_4, gR_27, gR_28, gI_29, aI_now, aI_mn, aI_mi, aI_fa, sI_now, sI_mn, sI_mi, sI_fa, pI_29, e1, eb, a2, a3]
      rw [if_neg (fun hc => hc c), if_neg c3]
  · rw [if_neg c] at e1 ⊢
    refine ⟨mn, F, S, ?_⟩
    simp (disch := first | assumption | omega) only [sX8_hearsOfEntries, z10, z00, if_true, if_false, iv_add, iv_sub, iv_mul, iv_le, iv_lt, iv_eq, iv_mx, iv_mn, bI_z, bI_o, rZ0, rZ1, rZb, cl_some', lt_eq, rm_eq, dv_eq, iv_01, iv_10, the, lastA, lpA, st_eq, st_ne, cV_tw, gR_0, gR_3, gR_4, gR_27, gR_28, gI_29, aI_now, aI_mn, aI_mi, aI_fa, sI_now, sI_mn, sI_mi, sI_fa, pI_29, e1]
    rw [if_pos c]
theorem m_hearsOfSnapshot (hT : LT M) (hΛ : LawT M Λ) (I : InvS g h FL R D) {n : Int} (hM : MI h R (g 11134) mi) (hn : mi 1 = n) (hk : mi 2 = 5) :
    ∃ mn' F' S', sX8_hearsOfSnapshot (some 3772) (iI n) (tw g mi mn F S M) = some ((), tw (hearSG Λ g mi n) mi mn' F' S' M) := by
  have hs := hM.s
  have n0 : 0 ≤ n := by omega
  have n1 : n < 7 := by omega
  have rr := I.rr
  have e1 := m_isOfLeader (mi := mi) (mn := mn) (F := F) (S := S) hT I n0 n1 hM
  unfold hearSG
  by_cases c : leadsOwn g mi n
  · have k5 := hM.k5 hk
    have I1 := I.heard (mi := mi) n0 n1 (by omega) (by omega) (by omega) (by omega)
    have c' := c
    obtain ⟨c1, c2⟩ := c'
    simp only [the] at c1 c2
    have e3 : heardG g mi n (244 * n + 3) = 2 := by
      unfold heardG
      rw [st_ne (by omega)]; exact c1
    have et : heardG g mi n (244 * n + 1) = mi 3 := by
      unfold heardG
      rw [st_ne (by omega)]; exact c2.symm
    rw [if_pos c] at e1 ⊢
    generalize heardG g mi n = g1 at *
    obtain ⟨m1, F1, S1, a1⟩ := m_matches (mi := mi) (mn := mn) (F := F) (S := S) (i := mi 6) hT hΛ I1 n0 n1 (by omega) (by omega) e3 (by rw [et]; omega) (by omega) (by omega)
    obtain ⟨h2, FL2, G2, I2⟩ := I1.matched (Λ := Λ) (mi := mi) (i := mi 6) n0 n1 (by omega) (by omega) e3 (by rw [et]; omega)
    have a2 := m_answersReads (mi := mi) (mn := m1) (F := F1) (S := S1) hT I2 n0 n1
    refine ⟨m1, F1, S1, ?_⟩
    simp (disch := first | assumption | omega) only [sX8_hearsOfSnapshot, z10, z00, if_true, if_false, iv_add, iv_sub, iv_mul, iv_le, iv_lt, iv_eq, iv_mx, iv_mn, bI_z, bI_o, rZ0, rZ1, rZb, cl_some', lt_eq, rm_eq, dv_eq, iv_01, iv_10, the, lastA, lpA, st_eq, st_ne, cV_tw, gR_0, gR_3, gR_4, gR_27, gR_28, gI_29, aI_now, aI_mn, aI_mi, aI_fa, sI_now, sI_mn, sI_mi, sI_fa, pI_29, e1, a1, a2]
    rw [if_neg (fun hc => hc c)]
  · rw [if_neg c] at e1 ⊢
    refine ⟨mn, F, S, ?_⟩
    simp (disch := first | assumption | omega) only [sX8_hearsOfSnapshot, z10, z00, if_true, if_false, iv_add, iv_sub, iv_mul, iv_le, iv_lt, iv_eq, iv_mx, iv_mn, bI_z, bI_o, rZ0, rZ1, rZb, cl_some', lt_eq, rm_eq, dv_eq, iv_01, iv_10, the, lastA, lpA, st_eq, st_ne, cV_tw, gR_0, gR_3, gR_4, gR_27, gR_28, gI_29, aI_now, aI_mn, aI_mi, aI_fa, sI_now, sI_mn, sI_mi, sI_fa, pI_29, e1]
    rw [if_pos c]
/-- entries are laid one after the other, then all is told -/
theorem m_hasEntries_123 (hT : LT M) (hΛ : LawT M Λ) {n : Int} (n0 : 0 ≤ n) (n1 : n < 7) (hn : mi 1 = n) (hk : mi 2 = 2) : ∀ (j : Nat) (g : Row) (r : Int) (FL : Int → ELog) (fu : Nat), MI h R (g 11134) mi → InvS g h FL R D → g (244 * n + 3) = 0 → g (244 * n + 1) = mi 3 → mi 6 ≤ r → r ≤ mi 6 + mi 5 → r ≤ g (244 * n + 4) + g (244 * n + 8) → Ag (FL n) (h.ll (mi 3)) r → mi 6 + mi 5 - r ≤ j → j < fu →
    ∃ mn' F' S', sX8_hasEntries_123 fu (some 3772) (iI n) (iI (mi 6)) (iI (mi 10)) (iI r) (tw g mi mn F S M) = some ((), tw (ansG Λ (growG (reachF mi n (j + 1) g r).1 n (min (mi 8) (reachF mi n (j + 1) g r).2)) mi 3 1 (reachF mi n (j + 1) g r).2 (mi 10)) mi mn' F' S' M) := by
  have fin : ∀ (g : Row) (r : Int) (FL : Int → ELog), MI h R (g 11134) mi → InvS g h FL R D → g (244 * n + 1) = mi 3 → mi 6 ≤ r → r ≤ mi 6 + mi 5 → r ≤ g (244 * n + 4) + g (244 * n + 8) → Ag (FL n) (h.ll (mi 3)) r →
      ∃ mn' F' S', sX8_hasEntries_166 (some 3772) (iI n) (iI (mi 10)) (iI r) (tw g mi mn F S M) = some ((), tw (ansG Λ (growG g n (min (mi 8) r)) mi 3 1 r (mi 10)) mi mn' F' S' M) := by
    intro g r FL hM I e1 a1 a2 a3 a4
    have hs := hM.s
    obtain ⟨k1, k2, k3, k4, k5, k6, k7⟩ := hM.k2 hk
    have rr := I.rr
    have I2 := I.grow (t := min (mi 8) r) n0 n1 (by omega) (by rw [e1]; exact (k5.le (by omega)).ag (a4.le (by omega)))
    have hC := I.cm n0 n1
    have x1 := m_growsCommit (mi := mi) (mn := mn) (F := F) (S := S) (t := min (mi 8) r) hT hC (by omega) (by omega)
    obtain ⟨⟨q1, q2⟩, _⟩ := I2.na n n0 n1
    obtain ⟨⟨q3, q4⟩, _⟩ := I.na n n0 n1
    have hgr := I.gl
    have k34 : g 11134 ≤ 999 := hgr.2.2.2.2.2.2.2.1
    obtain ⟨m3, F3, S3, x2⟩ := m_answersBy (g := growG g n (min (mi 8) r)) (mi := mi) (mn := mn) (F := F) (S := S) (k := 3) (a := 1) (b := r) (r := mi 10) hT hΛ I2.gl (by omega) (by omega) (by rw [hn]; omega) (by rw [hn]; omega)
    refine ⟨m3, F3, S3, ?_⟩
    simp (disch := first | assumption | omega) only [sX8_hasEntries_166, m_min, z10, z00, if_true, if_false, iv_add, iv_sub, iv_mul, iv_le, iv_lt, iv_eq, iv_mx, iv_mn, bI_z, bI_o, rZ0, rZ1, rZb, cl_some', lt_eq, rm_eq, dv_eq, iv_01, iv_10, the, lastA, lpA, st_eq, st_ne, cV_tw, gR_0, gR_3, gR_4, gR_27, gR_28, gI_29, aI_now, aI_mn, aI_mi, aI_fa, sI_now, sI_mn, sI_mi, sI_fa, pI_29, x1, x2]
  intro j
  induction j with
  | zero =>
    intro g r FL fu hM I e3 e1 a1 a2 a3 a4 b1 b2
    have hs := hM.s
    have rr := I.rr
    obtain ⟨fu, rfl⟩ : ∃ k, fu = k + 1 := ⟨fu - 1, by omega⟩
    have e : reachF mi n 1 g r = (g, r) := by
      unfold reachF
      rw [if_neg (by omega)]
    rw [e]
    obtain ⟨m1, F1, S1, x1⟩ := fin g r FL hM I e1 a1 a2 a3 a4
    refine ⟨m1, F1, S1, ?_⟩
    simp (disch := first | assumption | omega) only [sX8_hasEntries_123, sX8_hasEntries_123b, z10, z00, if_true, if_false, iv_add, iv_sub, iv_mul, iv_le, iv_lt, iv_eq, iv_mx, iv_mn, bI_z, bI_o, rZ0, rZ1, rZb, cl_some', lt_eq, rm_eq, dv_eq, iv_01, iv_10, the, lastA, lpA, st_eq, st_ne, cV_tw, gR_0, gR_3, gR_4, gR_27, gR_28, gI_29, aI_now, aI_mn, aI_mi, aI_fa, sI_now, sI_mn, sI_mi, sI_fa, pI_29]
    rw [if_pos (by omega)]
    exact x1
  | succ j ih =>
    intro g r FL fu hM I e3 e1 a1 a2 a3 a4 b1 b2
    have hs := hM.s
    have rr := I.rr
    obtain ⟨fu, rfl⟩ : ∃ k, fu = k + 1 := ⟨fu - 1, by omega⟩
    obtain ⟨k1, k2, k3, k4, k5, k6, k7⟩ := hM.k2 hk
    by_cases c1 : r < mi 6 + mi 5
    · -- one step of reachF
      obtain ⟨FL2, I2, q3, q1, p1, p2, p3, p4⟩ := InvS.reach hM hk n0 n1 1 g r FL I e3 e1 a1 a2 a3 a4
      have u : reachF mi n (j + 1 + 1) g r = if asOk g mi n (r + 1) (11 + 4 * (r - mi 6)) then reachF mi n (j + 1) (asG g mi n (r + 1) (11 + 4 * (r - mi 6))) (r + 1) else (asG g mi n (r + 1) (11 + 4 * (r - mi 6)), r) := if_pos c1
      have u1 : reachF mi n 1 g r = if asOk g mi n (r + 1) (11 + 4 * (r - mi 6)) then (asG g mi n (r + 1) (11 + 4 * (r - mi 6)), r + 1) else (asG g mi n (r + 1) (11 + 4 * (r - mi 6)), r) := if_pos c1
      have ke := k4 (r - mi 6) (by omega) (by omega)
      have kE := I.hi.eok (mi 3) (mi 6 + 1 + (r - mi 6)) k1 (by omega) (by omega)
      rw [← ke] at kE
      have hMe : MeA mi (11 + 4 * (r - mi 6)) := EOK.ent kE rfl rfl rfl rfl
      have x1 := m_laysAs (g := g) (mi := mi) (mn := mn) (F := F) (S := S) (i := r + 1) (a := 11 + 4 * (r - mi 6)) hT (I.lg n0 n1) (by omega) (by omega) (by omega) (by omega) hMe
      have gr2 : ∀ g2, g2 = asG g mi n (r + 1) (11 + 4 * (r - mi 6)) → g2 11134 = g 11134 := by
        intro g2 hg2
        rw [hg2]
        unfold asG
        split
        · rfl
        · rename_i hn'
          have hb : g (244 * n + 4) < r + 1 := by
            unfold hasAs at hn'
            simp only [the] at hn'
            omega
          have hLc := cut_Lg (I.lg n0 n1) hb
          rw [layG_ne hLc (by omega) (by omega) (by omega), cutG_ne (by omega) (by omega) (by omega)]
      rw [u]
      by_cases c2 : asOk g mi n (r + 1) (11 + 4 * (r - mi 6))
      · rw [if_pos c2]
        rw [u1, if_pos c2] at I2 q3 q1 p1 p2 p3 p4
        simp only [] at I2 q3 q1 p1 p2 p3 p4
        obtain ⟨m1, F1, S1, x2⟩ := ih (asG g mi n (r + 1) (11 + 4 * (r - mi 6))) (r + 1) FL2 fu (by rw [gr2 _ rfl]; exact hM) I2 q3 q1 p1 p2 p3 p4 (by omega) (by omega)
        refine ⟨m1, F1, S1, ?_⟩
        show sX8_hasEntries_123b (sX8_hasEntries_123 fu) _ _ _ _ _ _ = _
        generalize sX8_hasEntries_123 fu = K at x2 ⊢
        simp (disch := first | assumption | omega) only [sX8_hasEntries_123b, z10, z00, if_true, if_false, iv_add, iv_sub, iv_mul, iv_le, iv_lt, iv_eq, iv_mx, iv_mn, bI_z, bI_o, rZ0, rZ1, rZb, cl_some', lt_eq, rm_eq, dv_eq, iv_01, iv_10, the, lastA, lpA, st_eq, st_ne, cV_tw, gR_0, gR_3, gR_4, gR_27, gR_28, gI_29, aI_now, aI_mn, aI_mi, aI_fa, sI_now, sI_mn, sI_mi, sI_fa, pI_29, x1]
        rw [if_neg (by omega), if_neg (fun hc => hc c2)]
        exact x2
      · rw [if_neg c2]
        rw [u1, if_neg c2] at I2 q3 q1 p1 p2 p3 p4
        simp only [] at I2 q3 q1 p1 p2 p3 p4
        obtain ⟨m1, F1, S1, x2⟩ := fin (asG g mi n (r + 1) (11 + 4 * (r - mi 6))) r FL2 (by rw [gr2 _ rfl]; exact hM) I2 q1 p1 p2 p3 p4
        refine ⟨m1, F1, S1, ?_⟩
        show sX8_hasEntries_123b (sX8_hasEntries_123 fu) _ _ _ _ _ _ = _
        generalize sX8_hasEntries_123 fu = K
        simp (disch := first | assumption | omega) only [sX8_hasEntries_123b, z10, z00, if_true, if_false, iv_add, iv_sub, iv_mul, iv_le, iv_lt, iv_eq, iv_mx, iv_mn, bI_z, bI_o, rZ0, rZ1, rZb, cl_some', lt_eq, rm_eq, dv_eq, iv_01, iv_10, the, lastA, lpA, st_eq, st_ne, cV_tw, gR_0, gR_3, gR_4, gR_27, gR_28, gI_29, aI_now, aI_mn, aI_mi, aI_fa, sI_now, sI_mn, sI_mi, sI_fa, pI_29, x1]
        rw [if_neg (by omega), if_pos c2]
        exact x2
    · have e : reachF mi n (j + 1 + 1) g r = (g, r) := by
        unfold reachF
        rw [if_neg c1]
      rw [e]
      obtain ⟨m1, F1, S1, x1⟩ := fin g r FL hM I e1 a1 a2 a3 a4
      refine ⟨m1, F1, S1, ?_⟩
      show sX8_hasEntries_123b (sX8_hasEntries_123 fu) _ _ _ _ _ _ = _
      generalize sX8_hasEntries_123 fu = K
      simp (disch := first | assumption | omega) only [sX8_hasEntries_123b, z10, z00, if_true, if_false, iv_add, iv_sub, iv_mul, iv_le, iv_lt, iv_eq, iv_mx, iv_mn, bI_z, bI_o, rZ0, rZ1, rZb, cl_some', lt_eq, rm_eq, dv_eq, iv_01, iv_10, the, lastA, lpA, st_eq, st_ne, cV_tw, gR_0, gR_3, gR_4, gR_27, gR_28, gI_29, aI_now, aI_mn, aI_mi, aI_fa, sI_now, sI_mn, sI_mi, sI_fa, pI_29]
      rw [if_pos (by omega)]
      exact x1
theorem m_hasEntries (hT : LT M) (hΛ : LawT M Λ) (I : InvS g h FL R D) {n : Int} (hM : MI h R (g 11134) mi) (hn : mi 1 = n) (hk : mi 2 = 2) (hrs : mi 3 ≤ g (244 * n + 1)) (hup : g (244 * n + 0) = 1) :
    ∃ mn' F' S', sX8_hasEntries (some 3772) (iI n) (tw g mi mn F S M) = some ((), tw (entriesG Λ g mi n) mi mn' F' S' M) := by
  have hs := hM.s
  have n0 : 0 ≤ n := by omega
  have n1 : n < 7 := by omega
  have rr := I.rr
  obtain ⟨k1, k2, k3, k4, k5, k6, k7⟩ := hM.k2 hk
  obtain ⟨⟨t1, t2⟩, _⟩ := I.na n n0 n1
  unfold entriesG
  simp only [the, lastA]
  by_cases c0 : mi 3 < g (244 * n + 1)
  · rw [if_pos c0]
    obtain ⟨m1, F1, S1, x1⟩ := m_answersBy (g := g) (mi := mi) (mn := mn) (F := F) (S := S) (k := 3) (a := 0) (b := 1) (r := 0) hT hΛ I.gl (by omega) (by omega) (by rw [hn]; omega) (by rw [hn]; omega)
    refine ⟨m1, F1, S1, ?_⟩
    simp (disch := first | assumption | omega) only [sX8_hasEntries, m_the, z10, z00, if_true, if_false, iv_add, iv_sub, iv_mul, iv_le, iv_lt, iv_eq, iv_mx, iv_mn, bI_z, bI_o, rZ0, rZ1, rZb, cl_some', lt_eq, rm_eq, dv_eq, iv_01, iv_10, the, lastA, lpA, st_eq, st_ne, cV_tw, gR_0, gR_3, gR_4, gR_27, gR_28, gI_29, aI_now, aI_mn, aI_mi, aI_fa, sI_now, sI_mn, sI_mi, sI_fa, pI_29]
    rw [if_neg (by omega), x1]
    rfl
  · rw [if_neg c0]
    have I0 := I.follow (w := mi 0) n0 n1 (by omega) (by omega) (Or.inl hup)
    have I1 := I0.timer (Λ := Λ) n0 n1
    have hA := I.ar
    obtain ⟨⟨t3, t4⟩, _⟩ := I0.na n n0 n1
    have y1 := m_follows (g := g) (mi := mi) (mn := mn) (F := F) (S := S) (n := n) (w := mi 0) hT n0 n1 hA I.rd (by omega) (by omega)
    obtain ⟨F0, S0, y2⟩ := m_setsTimer (g := followG g n (mi 0)) (mi := mi) (mn := mn) (F := F) (S := S) (n := n) hT hΛ I0.gl n0 n1 (by omega) (by omega)
    have e3 : timerG Λ (followG g n (mi 0)) n (244 * n + 3) = 0 := by rw [timerG_ne (by omega) (by omega), followG_3]
    have e1 : timerG Λ (followG g n (mi 0)) n (244 * n + 1) = mi 3 := by
      rw [timerG_ne (by omega) (by omega), followG_ne (by omega) hA (by omega) (by omega)]
      omega
    have e34 : timerG Λ (followG g n (mi 0)) n 11134 = g 11134 := by rw [timerG_ne (by omega) (by omega), followG_ne (by omega) hA (by omega) (by omega)]
    have hM1 := hM
    rw [← e34] at hM1
    generalize timerG Λ (followG g n (mi 0)) n = g1 at *
    have nb := I1.nb n n0 n1
    have ni := nb.1
    have hU : h.el (g1 (244 * n + 1)) := by rw [e1]; exact k1
    obtain ⟨⟨s1, s2⟩, _⟩ := I1.na n n0 n1
    have hL1 := I1.lg n0 n1
    have hcm := ni.comm I1.hi hU
    rw [e1] at hcm
    have z1 := m_lastOf (g := g1) (mi := mi) (mn := mn) (F := F0) (S := S0) (n := n) hT n0 n1
    have z2 := m_the (g := g1) (mi := mi) (mn := mn) (F := F0) (S := S0) (n := n) (w := 4) hT (by omega) (by omega)
    have goon : Ag (FL n) (h.ll (mi 3)) (mi 6) → mi 6 ≤ g1 (244 * n + 4) + g1 (244 * n + 8) → ∃ mn' F' S', sX8_hasEntries_120 (some 3772) (iI n) (iI (mi 6)) (iI (mi 10)) (tw g1 mi mn F0 S0 M) = some ((), tw (ansG Λ (growG (reachF mi n 5 g1 (mi 6)).1 n (min (mi 8) (reachF mi n 5 g1 (mi 6)).2)) mi 3 1 (reachF mi n 5 g1 (mi 6)).2 (mi 10)) mi mn' F' S' M) := by
      intro q1 q2
      exact m_hasEntries_123 (mn := mn) (F := F0) (S := S0) hT hΛ n0 n1 hn hk 4 g1 (mi 6) FL FU hM1 I1 e3 e1 (by omega) (by omega) q2 q1 (by omega) (by unfold FU; omega)
    by_cases c1 : g1 (244 * n + 4) + g1 (244 * n + 8) < mi 6
    · rw [if_pos c1]
      obtain ⟨m1, F1, S1, x1⟩ := m_answersBy (g := g1) (mi := mi) (mn := mn) (F := F0) (S := S0) (k := 3) (a := 0) (b := g1 (244 * n + 4) + g1 (244 * n + 8) + 1) (r := mi 10) hT hΛ I1.gl (by omega) (by omega) (by rw [hn]; omega) (by rw [hn]; omega)
      refine ⟨m1, F1, S1, ?_⟩
      simp (disch := first | assumption | omega) only [sX8_hasEntries, m_the, z10, z00, if_true, if_false, iv_add, iv_sub, iv_mul, iv_le, iv_lt, iv_eq, iv_mx, iv_mn, bI_z, bI_o, rZ0, rZ1, rZb, cl_some', lt_eq, rm_eq, dv_eq, iv_01, iv_10, the, lastA, lpA, st_eq, st_ne, cV_tw, gR_0, gR_3, gR_4, gR_27, gR_28, gI_29, aI_now, aI_mn, aI_mi, aI_fa, sI_now, sI_mn, sI_mi, sI_fa, pI_29, y1, y2, z1]
      rw [if_pos (by omega), if_neg (by omega), x1]
      rfl
    · rw [if_neg c1]
      by_cases c2 : mi 6 < g1 (244 * n + 4)
      · rw [if_neg (fun hc => by omega)]
        obtain ⟨m1, F1, S1, x1⟩ := goon (hcm.2.le (by omega)) (by omega)
        refine ⟨m1, F1, S1, ?_⟩
        simp (disch := first | assumption | omega) only [sX8_hasEntries, m_the, z10, z00, if_true, if_false, iv_add, iv_sub, iv_mul, iv_le, iv_lt, iv_eq, iv_mx, iv_mn, bI_z, bI_o, rZ0, rZ1, rZb, cl_some', lt_eq, rm_eq, dv_eq, iv_01, iv_10, the, lastA, lpA, st_eq, st_ne, cV_tw, gR_0, gR_3, gR_4, gR_27, gR_28, gI_29, aI_now, aI_mn, aI_mi, aI_fa, sI_now, sI_mn, sI_mi, sI_fa, pI_29, y1, y2, z1]
        rw [if_pos (by omega), if_pos (by omega), if_pos c2]
        exact x1
      · have z3 := m_termAt (g := g1) (mi := mi) (mn := mn) (F := F0) (S := S0) hT hL1 (i := mi 6) (by omega) (by omega)
        have tr := termR hL1 (i := mi 6) (by omega) (by omega)
        by_cases c3 : termA g1 n (mi 6) = mi 7
        · rw [if_neg (fun hc => hc.2 c3)]
          have hag : Ag (FL n) (h.ll (mi 3)) (mi 6) := by
            have c4 := c3
            rw [nb.2.term (by omega) (by omega), k3] at c4
            by_cases c5 : mi 6 = 0
            · rw [c5]
              exact hcm.2.le (by omega)
            · have := ni.same I1.hi hU (i := mi 6) (by omega) (by omega) (by rw [e1]; omega) (by rw [e1]; exact c4)
              rw [e1] at this
              exact this
          obtain ⟨m1, F1, S1, x1⟩ := goon hag (by omega)
          refine ⟨m1, F1, S1, ?_⟩
          simp (disch := first | assumption | omega) only [sX8_hasEntries, m_the, z10, z00, if_true, if_false, iv_add, iv_sub, iv_mul, iv_le, iv_lt, iv_eq, iv_mx, iv_mn, bI_z, bI_o, rZ0, rZ1, rZb, cl_some', lt_eq, rm_eq, dv_eq, iv_01, iv_10, the, lastA, lpA, st_eq, st_ne, cV_tw, gR_0, gR_3, gR_4, gR_27, gR_28, gI_29, aI_now, aI_mn, aI_mi, aI_fa, sI_now, sI_mn, sI_mi, sI_fa, pI_29, y1, y2, z1, z3]
          rw [if_pos (by omega), if_pos (by omega), if_neg c2, if_pos c3]
          exact x1
        · rw [if_pos ⟨by omega, c3⟩]
          obtain ⟨z4, _, _⟩ := m_firstOfTerm (g := g1) (mi := mi) (mn := mn) (F := F0) (S := S0) hT hL1 (i := mi 6) (by omega) (by omega)
          obtain ⟨m1, F1, S1, x1⟩ := m_answersBy (g := g1) (mi := mi) (mn := mn) (F := F0) (S := S0) (k := 3) (a := 0) (b := firstA g1 n (mi 6)) (r := mi 10) hT hΛ I1.gl (by omega) (by omega) (by rw [hn]; omega) (by rw [hn]; omega)
          refine ⟨m1, F1, S1, ?_⟩
          simp (disch := first | assumption | omega) only [sX8_hasEntries, m_the, z10, z00, if_true, if_false, iv_add, iv_sub, iv_mul, iv_le, iv_lt, iv_eq, iv_mx, iv_mn, bI_z, bI_o, rZ0, rZ1, rZb, cl_some', lt_eq, rm_eq, dv_eq, iv_01, iv_10, the, lastA, lpA, st_eq, st_ne, cV_tw, gR_0, gR_3, gR_4, gR_27, gR_28, gI_29, aI_now, aI_mn, aI_mi, aI_fa, sI_now, sI_mn, sI_mi, sI_fa, pI_29, y1, y2, z1, z3, z4]
          rw [if_pos (by omega), if_pos (by omega), if_neg c2, if_neg c3, x1]
          rfl
end
