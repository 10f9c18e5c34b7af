/-! DEPS: uc -/
/-! UD: the twin takes snapshots, is handed messages -/
section
variable {g mi mn F : Row} {S : Nat → Int32} {M : Mem} {Λ : Law} {h : His} {FL : Int → ELog} {R : Int} {D : DK}
def snapH (hh : Row) (mi : Row) (n : Int) : Row := fun x => if x = 244 * n + 5 then mi 7 else if x = 244 * n + 6 then mi 8 else if x = 244 * n + 7 then mi 9 else if x = 244 * n + 9 then mi 6
    else if 244 * n + 15 ≤ x ∧ x < 244 * n + 23 then mi (11 + (x - (244 * n + 15))) else if 244 * n + 23 ≤ x ∧ x < 244 * n + 31 then mi (11 + (x - (244 * n + 23))) else goesG hh n (mi 6) x
def kkG (g1 mi : Row) (n k : Int) : Row := fun x => if 244 * n + 15 ≤ x ∧ x < 244 * n + 15 + k then mi (11 + (x - (244 * n + 15))) else if 244 * n + 23 ≤ x ∧ x < 244 * n + 23 + k then mi (11 + (x - (244 * n + 23))) else g1 x
theorem kk0 {g1 : Row} {n : Int} : kkG g1 mi n 0 = g1 := by
  funext x
  unfold kkG
  rw [if_neg (by omega), if_neg (by omega)]
theorem kkSt {g1 : Row} {n k : Int} (k0 : 0 ≤ k) (k1 : k < 8) : st (st (kkG g1 mi n k) (244 * n + (23 + k)) (mi (11 + k))) (244 * n + (15 + k)) (mi (11 + k)) = kkG g1 mi n (k + 1) := by
  funext x
  unfold st kkG
  by_cases c1 : x = 244 * n + (15 + k)
  · rw [if_pos c1, if_pos (by omega), show x - (244 * n + 15) = k by omega]
  · rw [if_neg c1]
    by_cases c2 : x = 244 * n + (23 + k)
    · rw [if_pos c2, if_neg (by omega), if_pos (by omega), show x - (244 * n + 23) = k by omega]
    · rw [if_neg c2]
      by_cases d1 : 244 * n + 15 ≤ x ∧ x < 244 * n + 15 + k
      · rw [if_pos d1, if_pos (by omega)]
      · rw [if_neg d1, if_neg (show ¬ (244 * n + 15 ≤ x ∧ x < 244 * n + 15 + (k + 1)) by omega)]
        by_cases d2 : 244 * n + 23 ≤ x ∧ x < 244 * n + 23 + k
        · rw [if_pos d2, if_pos (by omega)]
        · rw [if_neg d2, if_neg (by omega)]
theorem m_snap_170 (hT : LT M) (hΛ : LawT M Λ) {n i : Int} (n0 : 0 ≤ n) (n1 : n < 7) (hn : mi 1 = n) (g1 : Row) (hG : GlA (kkG g1 mi n 8)) (h1 : 0 ≤ g1 (244 * n + 1)) (h2 : g1 (244 * n + 1) ≤ 999) : ∀ (j : Nat) (k : Int) (f : Nat), 8 - k = j → 0 ≤ k → j < f →
    ∃ mn' F' S', sX8_hasSnapshot_170 f (some 3772) (iI n) (iI i) (iI k) (tw (kkG g1 mi n k) mi mn F S M) = some ((), tw (ansG Λ (kkG g1 mi n 8) mi 5 i 0 (mi 10)) mi mn' F' S' M)
  | 0, k, f + 1, e1, e2, e3 => by
    have e : k = 8 := by omega
    subst e
    have o1 : kkG g1 mi n 8 (244 * n + 1) = g1 (244 * n + 1) := by
      unfold kkG
      rw [if_neg (by omega), if_neg (by omega)]
    obtain ⟨m3, F3, S3, x1⟩ := m_answersBy (g := kkG g1 mi n 8) (mi := mi) (mn := mn) (F := F) (S := S) (k := 5) (a := i) (b := 0) (r := mi 10) hT hΛ hG (by omega) (by omega) (by rw [hn, o1]; exact h1) (by rw [hn, o1]; exact h2)
    refine ⟨m3, F3, S3, ?_⟩
    simp (disch := first | assumption | omega) only [sX8_hasSnapshot_170, sX8_hasSnapshot_170b, z10, z00, if_true, if_false, iv_add, iv_sub, iv_mul, iv_le, iv_lt, iv_eq, iv_mx, iv_mn, bI_z, bI_o, rZ0, rZ1, rZb, cl_some', lt_eq, rm_eq, dv_eq, iv_01, iv_10, the, lastA, lpA, st_eq, st_ne, cV_tw, gR_0, gR_3, gR_4, gR_27, gR_28, gI_29, aI_now, aI_mn, aI_mi, aI_fa, sI_now, sI_mn, sI_mi, sI_fa, pI_29, x1]
    rw [if_pos (by omega)]
  | j + 1, k, f + 1, e1, e2, e3 => by
    obtain ⟨m3, F3, S3, ih⟩ := m_snap_170 hT hΛ n0 n1 hn (i := i) g1 hG h1 h2 j (k + 1) f (by omega) (by omega) (by omega)
    refine ⟨m3, F3, S3, ?_⟩
    rw [← ih, ← kkSt e2 (by omega)]
    show sX8_hasSnapshot_170b (sX8_hasSnapshot_170 f) _ _ _ _ _ = _
    generalize sX8_hasSnapshot_170 f = K
    simp (disch := first | assumption | omega) only [sX8_hasSnapshot_170b, m_sets, z10, z00, if_true, if_false, iv_add, iv_sub, iv_mul, iv_le, iv_lt, iv_eq, iv_mx, iv_mn, bI_z, bI_o, rZ0, rZ1, rZb, cl_some', lt_eq, rm_eq, dv_eq, iv_01, iv_10, the, lastA, lpA, st_eq, st_ne, cV_tw, gR_0, gR_3, gR_4, gR_27, gR_28, gI_29, aI_now, aI_mn, aI_mi, aI_fa, sI_now, sI_mn, sI_mi, sI_fa, pI_29]
    rw [if_neg (by omega)]
theorem m_snap_113 (hT : LT M) (hΛ : LawT M Λ) {n : Int} (n0 : 0 ≤ n) (n1 : n < 7) (hn : mi 1 = n) (hh : Row) (h4 : 0 ≤ hh (244 * n + 4)) (h5 : hh (244 * n + 4) ≤ mi 6) (h6 : mi 6 ≤ 999) (h7 : 0 ≤ hh (244 * n + 8)) (h8 : hh (244 * n + 8) ≤ 48) (hG : GlA hh) (h1 : 0 ≤ hh (244 * n + 1)) (h2 : hh (244 * n + 1) ≤ 999) :
    ∃ mn' F' S', sX8_hasSnapshot_113 (some 3772) (iI n) (iI (mi 6)) (tw hh mi mn F S M) = some ((), tw (ansG Λ (snapH hh mi n) mi 5 (mi 6) 0 (mi 10)) mi mn' F' S' M) := by
  obtain ⟨g1, hg1⟩ : ∃ g1, st (st (st (st (goesG hh n (mi 6)) (244 * n + 5) (mi 7)) (244 * n + 6) (mi 8)) (244 * n + 7) (mi 9)) (244 * n + 9) (mi 6) = g1 := ⟨_, rfl⟩
  have ek : kkG g1 mi n 8 = snapH hh mi n := by
    funext x
    rw [← hg1]
    unfold kkG snapH st
    by_cases d1 : 244 * n + 15 ≤ x ∧ x < 244 * n + 15 + 8
    · rw [if_pos d1, if_neg (by omega), if_neg (by omega), if_neg (by omega), if_neg (by omega), if_pos (by omega)]
    · rw [if_neg d1]
      by_cases d2 : 244 * n + 23 ≤ x ∧ x < 244 * n + 23 + 8
      · rw [if_pos d2, if_neg (by omega), if_neg (by omega), if_neg (by omega), if_neg (by omega), if_neg (by omega), if_pos (by omega)]
      · rw [if_neg d2]
        by_cases c9 : x = 244 * n + 9
        · rw [if_pos c9, if_neg (by omega), if_neg (by omega), if_neg (by omega), if_pos c9]
        · rw [if_neg c9]
          by_cases c7 : x = 244 * n + 7
          · rw [if_pos c7, if_neg (by omega), if_neg (by omega), if_pos c7]
          · rw [if_neg c7]
            by_cases c6 : x = 244 * n + 6
            · rw [if_pos c6, if_neg (by omega), if_pos c6]
            · rw [if_neg c6]
              by_cases c5 : x = 244 * n + 5
              · rw [if_pos c5, if_pos c5]
              · rw [if_neg c5, if_neg c5, if_neg c6, if_neg c7, if_neg c9, if_neg (by omega), if_neg (by omega)]
  have o1 : ∀ x, (x < 244 * n + 4 ∨ 244 * n + 244 ≤ x) → g1 x = hh x := by
    intro x hx
    rw [← hg1, st_ne (by omega), st_ne (by omega), st_ne (by omega), st_ne (by omega), goesG_ne (by omega) (by omega) (by omega)]
  have o2 : ∀ x, (x < 244 * n + 4 ∨ 244 * n + 244 ≤ x) → kkG g1 mi n 8 x = hh x := by
    intro x hx
    unfold kkG
    rw [if_neg (by omega), if_neg (by omega), o1 x hx]
  have y1 := m_goesUpTo (g := hh) (mi := mi) (mn := mn) (F := F) (S := S) (n := n) (i := mi 6) hT n0 n1 h4 h5 h6 h7 h8
  obtain ⟨m3, F3, S3, y2⟩ := m_snap_170 (mn := mn) (F := F) (S := S) hT hΛ n0 n1 hn (i := mi 6) g1 (GlA_blk (fun x hx => o2 x (by omega)) hG) (by rw [o1 _ (by omega)]; exact h1) (by rw [o1 _ (by omega)]; exact h2) 8 0 FU (by omega) (by omega) (by unfold FU; omega)
  rw [kk0, ek] at y2
  refine ⟨m3, F3, S3, ?_⟩
  simp (disch := first | assumption | omega) only [sX8_hasSnapshot_113, m_sets, z10, z00, if_true, if_false, iv_add, iv_sub, iv_mul, iv_le, iv_lt, iv_eq, iv_mx, iv_mn, bI_z, bI_o, rZ0, rZ1, rZb, cl_some', lt_eq, rm_eq, dv_eq, iv_01, iv_10, the, lastA, lpA, st_eq, st_ne, cV_tw, gR_0, gR_3, gR_4, gR_27, gR_28, gI_29, aI_now, aI_mn, aI_mi, aI_fa, sI_now, sI_mn, sI_mi, sI_fa, pI_29, y1, hg1, y2]
theorem m_hasSnapshot (hT : LT M) (hΛ : LawT M Λ) (I : InvS g h FL R D) {n : Int} (hM : MI h R (g 11134) mi) (hn : mi 1 = n) (hk : mi 2 = 4) (hrs : mi 3 ≤ g (244 * n + 1)) (hup : g (244 * n + 0) = 1) :
    ∃ mn' F' S', sX8_hasSnapshot (some 3772) (iI n) (tw g mi mn F S M) = some ((), tw (snapshotG Λ g mi n) mi mn' F' S' M) := by
  have hs := hM.s
  have n0 : 0 ≤ n := by omega
  have n1 : n < 7 := by omega
  have rr := I.rr
  obtain ⟨⟨t1, t2⟩, _⟩ := I.na n n0 n1
  unfold snapshotG
  simp only [the]
  by_cases c0 : mi 3 < g (244 * n + 1)
  · rw [if_pos c0]
    obtain ⟨m1, F1, S1, x1⟩ := m_answersBy (g := g) (mi := mi) (mn := mn) (F := F) (S := S) (k := 5) (a := 0) (b := 0) (r := 0) hT hΛ I.gl (by omega) (by omega) (by rw [hn]; omega) (by rw [hn]; omega)
    refine ⟨m1, F1, S1, ?_⟩
    simp (disch := first | assumption | omega) only [sX8_hasSnapshot, m_the, z10, z00, if_true, if_false, iv_add, iv_sub, iv_mul, iv_le, iv_lt, iv_eq, iv_mx, iv_mn, bI_z, bI_o, rZ0, rZ1, rZb, cl_some', lt_eq, rm_eq, dv_eq, iv_01, iv_10, the, lastA, lpA, st_eq, st_ne, cV_tw, gR_0, gR_3, gR_4, gR_27, gR_28, gI_29, aI_now, aI_mn, aI_mi, aI_fa, sI_now, sI_mn, sI_mi, sI_fa, pI_29]
    rw [if_neg (by omega), x1]
    rfl
  · rw [if_neg c0]
    have I0 := I.follow (w := mi 0) n0 n1 (by omega) (by omega) (Or.inl hup)
    have I1 := I0.timer (Λ := Λ) n0 n1
    have hA := I.ar
    obtain ⟨⟨t3, t4⟩, _⟩ := I0.na n n0 n1
    have y1 := m_follows (g := g) (mi := mi) (mn := mn) (F := F) (S := S) (n := n) (w := mi 0) hT n0 n1 hA I.rd (by omega) (by omega)
    obtain ⟨F0, S0, y2⟩ := m_setsTimer (g := followG g n (mi 0)) (mi := mi) (mn := mn) (F := F) (S := S) (n := n) hT hΛ I0.gl n0 n1 (by omega) (by omega)
    generalize timerG Λ (followG g n (mi 0)) n = g1 at *
    obtain ⟨⟨s1, s2⟩, _⟩ := I1.na n n0 n1
    have hL1 := I1.lg n0 n1
    have z1 := m_the (g := g1) (mi := mi) (mn := mn) (F := F0) (S := S0) (n := n) (w := 9) hT (by omega) (by omega)
    by_cases c1 : mi 6 ≤ g1 (244 * n + 9)
    · rw [if_pos c1]
      obtain ⟨m1, F1, S1, x1⟩ := m_answersBy (g := g1) (mi := mi) (mn := mn) (F := F0) (S := S0) (k := 5) (a := g1 (244 * n + 9)) (b := 0) (r := mi 10) hT hΛ I1.gl (by omega) (by omega) (by rw [hn]; omega) (by rw [hn]; omega)
      refine ⟨m1, F1, S1, ?_⟩
      simp (disch := first | assumption | omega) only [sX8_hasSnapshot, m_the, z10, z00, if_true, if_false, iv_add, iv_sub, iv_mul, iv_le, iv_lt, iv_eq, iv_mx, iv_mn, bI_z, bI_o, rZ0, rZ1, rZb, cl_some', lt_eq, rm_eq, dv_eq, iv_01, iv_10, the, lastA, lpA, st_eq, st_ne, cV_tw, gR_0, gR_3, gR_4, gR_27, gR_28, gI_29, aI_now, aI_mn, aI_mi, aI_fa, sI_now, sI_mn, sI_mi, sI_fa, pI_29, y1, y2, z1]
      rw [if_pos (by omega), if_neg (by omega), x1]
      rfl
    · rw [if_neg c1]
      have z2 := m_hasEntry (g := g1) (mi := mi) (mn := mn) (F := F0) (S := S0) (n := n) (i := mi 6) hT hL1 (by omega) (by omega)
      have z5 := m_sets (g := g1) (mi := mi) (mn := mn) (F := F0) (S := S0) (n := n) (w := 8) (v := 0) hT (by omega) (by omega)
      have g105 : ∃ mn' F' S', sX8_hasSnapshot_105 (some 3772) (iI n) (iI (mi 6)) (tw g1 mi mn F0 S0 M) = some ((), tw (ansG Λ (snapH (st g1 (244 * n + 8) 0) mi n) mi 5 (mi 6) 0 (mi 10)) mi mn' F' S' M) := by
        have o : ∀ x, ¬ x = 244 * n + 8 → st g1 (244 * n + 8) 0 x = g1 x := fun x a => st_ne a
        obtain ⟨m1, F1, S1, x1⟩ := m_snap_113 (mn := mn) (F := F0) (S := S0) hT hΛ n0 n1 hn (st g1 (244 * n + 8) 0) (by rw [o _ (by omega)]; omega) (by rw [o _ (by omega)]; omega) (by omega) (by rw [st_eq]; omega) (by rw [st_eq]; omega) (GlA_blk (fun x hx => o x (by omega)) I1.gl) (by rw [o _ (by omega)]; omega) (by rw [o _ (by omega)]; omega)
        refine ⟨m1, F1, S1, ?_⟩
        simp (disch := first | assumption | omega) only [sX8_hasSnapshot_105, z10, z00, if_true, if_false, iv_add, iv_sub, iv_mul, iv_le, iv_lt, iv_eq, iv_mx, iv_mn, bI_z, bI_o, rZ0, rZ1, rZb, cl_some', lt_eq, rm_eq, dv_eq, iv_01, iv_10, the, lastA, lpA, st_eq, st_ne, cV_tw, gR_0, gR_3, gR_4, gR_27, gR_28, gI_29, aI_now, aI_mn, aI_mi, aI_fa, sI_now, sI_mn, sI_mi, sI_fa, pI_29, z5, x1]
      have es : ∀ q : Prop, [Decidable q] → snapH (if q then g1 else st g1 (244 * n + 8) 0) mi n = if q then snapH g1 mi n else snapH (st g1 (244 * n + 8) 0) mi n := by
        intro q _
        split <;> rfl
      have eg : snapG g1 mi n = snapH (if hasEnt g1 n (mi 6) ∧ termA g1 n (mi 6) = mi 7 then g1 else st g1 (244 * n + 8) 0) mi n := rfl
      rw [eg, es]
      by_cases c2 : hasEnt g1 n (mi 6)
      · have c2' := c2
        unfold hasEnt at c2'
        simp only [the, lastA] at c2'
        have z3 := m_termAt (g := g1) (mi := mi) (mn := mn) (F := F0) (S := S0) hT hL1 (i := mi 6) (by omega) (by omega)
        have tr := termR hL1 (i := mi 6) (by omega) (by omega)
        by_cases c3 : termA g1 n (mi 6) = mi 7
        · rw [if_pos ⟨c2, c3⟩]
          obtain ⟨m1, F1, S1, x1⟩ := m_snap_113 (mn := mn) (F := F0) (S := S0) hT hΛ n0 n1 hn g1 (by omega) (by omega) (by omega) (by omega) (by omega) I1.gl (by omega) (by omega)
          refine ⟨m1, F1, S1, ?_⟩
          simp (disch := first | assumption | omega) only [sX8_hasSnapshot, m_the, z10, z00, if_true, if_false, iv_add, iv_sub, iv_mul, iv_le, iv_lt, iv_eq, iv_mx, iv_mn, bI_z, bI_o, rZ0, rZ1, rZb, cl_some', lt_eq, rm_eq, dv_eq, iv_01, iv_10, the, lastA, lpA, st_eq, st_ne, cV_tw, gR_0, gR_3, gR_4, gR_27, gR_28, gI_29, aI_now, aI_mn, aI_mi, aI_fa, sI_now, sI_mn, sI_mi, sI_fa, pI_29, y1, y2, z1, z2, z3]
          rw [if_pos (by omega), if_pos (by omega), if_neg (fun hc => hc c2), if_pos c3]
          exact x1
        · rw [if_neg (fun hc => c3 hc.2)]
          obtain ⟨m1, F1, S1, x1⟩ := g105
          refine ⟨m1, F1, S1, ?_⟩
          simp (disch := first | assumption | omega) only [sX8_hasSnapshot, m_the, z10, z00, if_true, if_false, iv_add, iv_sub, iv_mul, iv_le, iv_lt, iv_eq, iv_mx, iv_mn, bI_z, bI_o, rZ0, rZ1, rZb, cl_some', lt_eq, rm_eq, dv_eq, iv_01, iv_10, the, lastA, lpA, st_eq, st_ne, cV_tw, gR_0, gR_3, gR_4, gR_27, gR_28, gI_29, aI_now, aI_mn, aI_mi, aI_fa, sI_now, sI_mn, sI_mi, sI_fa, pI_29, y1, y2, z1, z2, z3]
          rw [if_pos (by omega), if_pos (by omega), if_neg (fun hc => hc c2), if_neg c3]
          exact x1
      · rw [if_neg (fun hc => c2 hc.1)]
        obtain ⟨m1, F1, S1, x1⟩ := g105
        refine ⟨m1, F1, S1, ?_⟩
        simp (disch := first | assumption | omega) only [sX8_hasSnapshot, m_the, z10, z00, if_true, if_false, iv_add, iv_sub, iv_mul, iv_le, iv_lt, iv_eq, iv_mx, iv_mn, bI_z, bI_o, rZ0, rZ1, rZb, cl_some', lt_eq, rm_eq, dv_eq, iv_01, iv_10, the, lastA, lpA, st_eq, st_ne, cV_tw, gR_0, gR_3, gR_4, gR_27, gR_28, gI_29, aI_now, aI_mn, aI_mi, aI_fa, sI_now, sI_mn, sI_mi, sI_fa, pI_29, y1, y2, z1, z2]
        rw [if_pos (by omega), if_pos (by omega), if_pos c2]
        exact x1
theorem m_areLinked (hT : LT M) {a b : Int} (a0 : 0 ≤ a) (a1 : a < 7) (b0 : 0 ≤ b) (b1 : b < 7) (hc : 0 ≤ g (11124 + a) ∧ g (11124 + a) < 128) :
    sX8_areLinked (some 3772) (iI a) (iI b) (tw g mi mn F S M) = some (bI (¬ hasI (g (11124 + a)) b), tw g mi mn F S M) := by
  simp (disch := first | assumption | omega) only [sX8_areLinked, m_has, z10, z00, if_true, if_false, iv_add, iv_sub, iv_mul, iv_le, iv_lt, iv_eq, iv_mx, iv_mn, bI_z, bI_o, rZ0, rZ1, rZb, cl_some', lt_eq, rm_eq, dv_eq, iv_01, iv_10, the, lastA, lpA, st_eq, st_ne, cV_tw, gR_0, gR_3, gR_4, gR_27, gR_28, gI_29, aI_now, aI_mn, aI_mi, aI_fa, sI_now, sI_mn, sI_mi, sI_fa, pI_29]
  by_cases c : hasI (g (11124 + a)) b
  · rw [if_neg (fun hn => hn c), bI_f (fun hn => hn c)]
  · rw [if_pos c, bI_t c]
theorem m_isHanded (hT : LT M) (hΛ : LawT M Λ) (I : InvS g h FL R D) (hM : MI h R (g 11134) mi) :
    ∃ mn' F' S', sX8_isHanded (some 3772) (tw g mi mn F S M) = some ((), tw (handG Λ g mi) mi mn' F' S' M) := by
  have hs := hM.s
  have n0 : 0 ≤ mi 1 := by omega
  have n1 : mi 1 < 7 := by omega
  have rr := I.rr
  obtain ⟨⟨t1, t2⟩, _⟩ := I.na (mi 1) n0 n1
  have hct := I.ct (mi 1) n0 n1
  have y1 := m_isUp (g := g) (mi := mi) (mn := mn) (F := F) (S := S) (n := mi 1) hT (by omega) (by omega) (fun _ => ⟨by omega, by omega⟩)
  have y2 := m_areLinked (g := g) (mi := mi) (mn := mn) (F := F) (S := S) (a := mi 1) (b := mi 0) hT n0 n1 (by omega) (by omega) hct
  have y3 := m_loses (g := g) (mi := mi) (mn := mn) (F := F) (S := S) hT I.gl
  have I1 := I.rise (mi := mi) (n := mi 1) n0 n1 (by omega)
  obtain ⟨r1, r2, r30⟩ := rise_ge I (mi := mi) (n := mi 1) n0 n1
  have dis : ∀ g1, riseG g mi (mi 1) = g1 → g (244 * mi 1 + 0) = 1 → ∃ mn' F' S', sX8_isHanded_74 (some 3772) (iI (mi 1)) (tw g1 mi mn F S M) = some ((), tw (if mi 2 = 0 then voteG Λ g1 mi (mi 1) else if mi 2 = 1 then countG Λ g1 mi (mi 1) else if mi 2 = 2 then entriesG Λ g1 mi (mi 1) else if mi 2 = 3 then hearEG Λ g1 mi (mi 1) else if mi 2 = 4 then snapshotG Λ g1 mi (mi 1) else hearSG Λ g1 mi (mi 1)) mi mn' F' S' M) := by
    intro g1 hg1 hup
    rw [hup] at r30
    rw [hg1] at I1 r1 r2 r30
    have hM1 := hM
    rw [← r2] at hM1
    have hMs : MsA mi := ⟨by omega, by omega, by omega, by omega, by omega, by omega, by omega, by omega, by omega, by omega⟩
    obtain ⟨⟨u1, u2⟩, _⟩ := I1.na (mi 1) n0 n1
    by_cases c0 : mi 2 = 0
    · obtain ⟨m1, F1, S1, x1⟩ := m_isAsked (g := g1) (mi := mi) (mn := mn) (F := F) (S := S) hT hΛ (I1.sta n0 n1) hMs rfl (by omega)
      refine ⟨m1, F1, S1, ?_⟩
      simp (disch := first | assumption | omega) only [sX8_isHanded_74, z10, z00, if_true, if_false, iv_add, iv_sub, iv_mul, iv_le, iv_lt, iv_eq, iv_mx, iv_mn, bI_z, bI_o, rZ0, rZ1, rZb, cl_some', lt_eq, rm_eq, dv_eq, iv_01, iv_10, the, lastA, lpA, st_eq, st_ne, cV_tw, gR_0, gR_3, gR_4, gR_27, gR_28, gI_29, aI_now, aI_mn, aI_mi, aI_fa, sI_now, sI_mn, sI_mi, sI_fa, pI_29, x1]
      rw [if_pos c0, if_pos c0]
    · rw [if_neg c0]
      by_cases c1 : mi 2 = 1
      · by_cases cr : 1 ≤ g1 (244 * mi 1 + 1)
        · obtain ⟨m1, F1, S1, x1⟩ := m_hasVote (g := g1) (mi := mi) (mn := mn) (F := F) (S := S) hT hΛ (I1.sta n0 n1) hMs cr (by omega) (by omega)
          refine ⟨m1, F1, S1, ?_⟩
          simp (disch := first | assumption | omega) only [sX8_isHanded_74, z10, z00, if_true, if_false, iv_add, iv_sub, iv_mul, iv_le, iv_lt, iv_eq, iv_mx, iv_mn, bI_z, bI_o, rZ0, rZ1, rZb, cl_some', lt_eq, rm_eq, dv_eq, iv_01, iv_10, the, lastA, lpA, st_eq, st_ne, cV_tw, gR_0, gR_3, gR_4, gR_27, gR_28, gI_29, aI_now, aI_mn, aI_mi, aI_fa, sI_now, sI_mn, sI_mi, sI_fa, pI_29, x1]
          rw [if_neg c0, if_pos c1, if_pos c1]
        · have hne : g1 (244 * mi 1 + 3) ≠ 1 := by omega
          have e : countG Λ g1 mi (mi 1) = g1 := by
            unfold countG
            exact if_pos (Or.inl hne)
          refine ⟨mn, F, S, ?_⟩
          simp (disch := first | assumption | omega) only [sX8_isHanded_74, sX8_hasVote, m_the, z10, z00, if_true, if_false, iv_add, iv_sub, iv_mul, iv_le, iv_lt, iv_eq, iv_mx, iv_mn, bI_z, bI_o, rZ0, rZ1, rZb, cl_some', lt_eq, rm_eq, dv_eq, iv_01, iv_10, the, lastA, lpA, st_eq, st_ne, cV_tw, gR_0, gR_3, gR_4, gR_27, gR_28, gI_29, aI_now, aI_mn, aI_mi, aI_fa, sI_now, sI_mn, sI_mi, sI_fa, pI_29]
          rw [if_neg c0, if_pos c1, if_pos c1, if_neg hne, e]
          rfl
      · rw [if_neg c1]
        by_cases c2 : mi 2 = 2
        · obtain ⟨m1, F1, S1, x1⟩ := m_hasEntries (g := g1) (mi := mi) (mn := mn) (F := F) (S := S) hT hΛ I1 hM1 rfl c2 r1 r30
          refine ⟨m1, F1, S1, ?_⟩
          simp (disch := first | assumption | omega) only [sX8_isHanded_74, z10, z00, if_true, if_false, iv_add, iv_sub, iv_mul, iv_le, iv_lt, iv_eq, iv_mx, iv_mn, bI_z, bI_o, rZ0, rZ1, rZb, cl_some', lt_eq, rm_eq, dv_eq, iv_01, iv_10, the, lastA, lpA, st_eq, st_ne, cV_tw, gR_0, gR_3, gR_4, gR_27, gR_28, gI_29, aI_now, aI_mn, aI_mi, aI_fa, sI_now, sI_mn, sI_mi, sI_fa, pI_29, x1]
          rw [if_neg c0, if_neg c1, if_pos c2, if_pos c2]
        · rw [if_neg c2]
          by_cases c3 : mi 2 = 3
          · obtain ⟨m1, F1, S1, x1⟩ := m_hearsOfEntries (g := g1) (mi := mi) (mn := mn) (F := F) (S := S) hT hΛ I1 hM1 rfl c3
            refine ⟨m1, F1, S1, ?_⟩
            simp (disch := first | assumption | omega) only [sX8_isHanded_74, z10, z00, if_true, if_false, iv_add, iv_sub, iv_mul, iv_le, iv_lt, iv_eq, iv_mx, iv_mn, bI_z, bI_o, rZ0, rZ1, rZb, cl_some', lt_eq, rm_eq, dv_eq, iv_01, iv_10, the, lastA, lpA, st_eq, st_ne, cV_tw, gR_0, gR_3, gR_4, gR_27, gR_28, gI_29, aI_now, aI_mn, aI_mi, aI_fa, sI_now, sI_mn, sI_mi, sI_fa, pI_29, x1]
            rw [if_neg c0, if_neg c1, if_neg c2, if_pos c3, if_pos c3]
          · rw [if_neg c3]
            by_cases c4 : mi 2 = 4
            · obtain ⟨m1, F1, S1, x1⟩ := m_hasSnapshot (g := g1) (mi := mi) (mn := mn) (F := F) (S := S) hT hΛ I1 hM1 rfl c4 r1 r30
              refine ⟨m1, F1, S1, ?_⟩
              simp (disch := first | assumption | omega) only [sX8_isHanded_74, z10, z00, if_true, if_false, iv_add, iv_sub, iv_mul, iv_le, iv_lt, iv_eq, iv_mx, iv_mn, bI_z, bI_o, rZ0, rZ1, rZb, cl_some', lt_eq, rm_eq, dv_eq, iv_01, iv_10, the, lastA, lpA, st_eq, st_ne, cV_tw, gR_0, gR_3, gR_4, gR_27, gR_28, gI_29, aI_now, aI_mn, aI_mi, aI_fa, sI_now, sI_mn, sI_mi, sI_fa, pI_29, x1]
              rw [if_neg c0, if_neg c1, if_neg c2, if_neg c3, if_pos c4, if_pos c4]
            · rw [if_neg c4]
              obtain ⟨m1, F1, S1, x1⟩ := m_hearsOfSnapshot (g := g1) (mi := mi) (mn := mn) (F := F) (S := S) hT hΛ I1 hM1 rfl (by omega)
              refine ⟨m1, F1, S1, ?_⟩
              simp (disch := first | assumption | omega) only [sX8_isHanded_74, z10, z00, if_true, if_false, iv_add, iv_sub, iv_mul, iv_le, iv_lt, iv_eq, iv_mx, iv_mn, bI_z, bI_o, rZ0, rZ1, rZb, cl_some', lt_eq, rm_eq, dv_eq, iv_01, iv_10, the, lastA, lpA, st_eq, st_ne, cV_tw, gR_0, gR_3, gR_4, gR_27, gR_28, gI_29, aI_now, aI_mn, aI_mi, aI_fa, sI_now, sI_mn, sI_mi, sI_fa, pI_29, x1]
              rw [if_neg c0, if_neg c1, if_neg c2, if_neg c3, if_neg c4]
  unfold handG
  simp only [the]
  by_cases c1 : g (244 * mi 1 + 0) = 1
  · by_cases c2 : hasI (g (11124 + mi 1)) (mi 0)
    · rw [if_pos (Or.inr c2)]
      refine ⟨mn, F, S, ?_⟩
      simp (disch := first | assumption | omega) only [sX8_isHanded, sX8_isHanded_29, z10, z00, if_true, if_false, iv_add, iv_sub, iv_mul, iv_le, iv_lt, iv_eq, iv_mx, iv_mn, bI_z, bI_o, rZ0, rZ1, rZb, cl_some', lt_eq, rm_eq, dv_eq, iv_01, iv_10, the, lastA, lpA, st_eq, st_ne, cV_tw, gR_0, gR_3, gR_4, gR_27, gR_28, gI_29, aI_now, aI_mn, aI_mi, aI_fa, sI_now, sI_mn, sI_mi, sI_fa, pI_29, y1, y2, y3]
      rw [if_neg (fun hc => hc ⟨⟨n0, n1⟩, c1⟩), if_pos (fun hc => hc c2)]
    · rw [if_neg (fun hc => by rcases hc with hc | hc; exact hc c1; exact c2 hc)]
      have hu : riseG g mi (mi 1) = if g (244 * mi 1 + 1) < mi 3 then followG (st (st g (244 * mi 1 + 1) (mi 3)) (244 * mi 1 + 2) (-1)) (mi 1) (-1) else g := rfl
      by_cases c3 : mi 3 ≤ g (244 * mi 1 + 1)
      · obtain ⟨m1, F1, S1, x1⟩ := dis _ rfl c1
        have hu2 := hu.trans (if_neg (show ¬ g (244 * mi 1 + 1) < mi 3 by omega))
        rw [hu2] at x1
        refine ⟨m1, F1, S1, ?_⟩
        rw [hu2]
        simp (disch := first | assumption | omega) only [sX8_isHanded, m_the, z10, z00, if_true, if_false, iv_add, iv_sub, iv_mul, iv_le, iv_lt, iv_eq, iv_mx, iv_mn, bI_z, bI_o, rZ0, rZ1, rZb, cl_some', lt_eq, rm_eq, dv_eq, iv_01, iv_10, the, lastA, lpA, st_eq, st_ne, cV_tw, gR_0, gR_3, gR_4, gR_27, gR_28, gI_29, aI_now, aI_mn, aI_mi, aI_fa, sI_now, sI_mn, sI_mi, sI_fa, pI_29, y1, y2]
        rw [if_neg (fun hc => hc ⟨⟨n0, n1⟩, c1⟩), if_neg (fun hc => hc c2), if_pos c3]
        exact x1
      · obtain ⟨m1, F1, S1, x1⟩ := dis _ rfl c1
        have hu2 := hu.trans (if_pos (show g (244 * mi 1 + 1) < mi 3 by omega))
        rw [hu2] at x1
        refine ⟨m1, F1, S1, ?_⟩
        rw [hu2]
        have hA := I.ar
        have o : ∀ x, ¬ x = 244 * mi 1 + 1 → ¬ x = 244 * mi 1 + 2 → st (st g (244 * mi 1 + 1) (mi 3)) (244 * mi 1 + 2) (-1) x = g x := fun x a b => by rw [st_ne b, st_ne a]
        have y4 := m_follows (g := st (st g (244 * mi 1 + 1) (mi 3)) (244 * mi 1 + 2) (-1)) (mi := mi) (mn := mn) (F := F) (S := S) (n := mi 1) (w := -1) hT n0 n1 (by rw [o _ (by omega) (by omega)]; exact hA) (RdA_ext (o _ (by omega) (by omega)) hA.2 (fun x _ _ => o x (by omega) (by omega)) I.rd) (by rw [o _ (by omega) (by omega)]; omega) (by rw [o _ (by omega) (by omega)]; omega)
        simp (disch := first | assumption | omega) only [sX8_isHanded, m_the, m_sets, z10, z00, if_true, if_false, iv_add, iv_sub, iv_mul, iv_le, iv_lt, iv_eq, iv_mx, iv_mn, bI_z, bI_o, rZ0, rZ1, rZb, cl_some', lt_eq, rm_eq, dv_eq, iv_01, iv_10, the, lastA, lpA, st_eq, st_ne, cV_tw, gR_0, gR_3, gR_4, gR_27, gR_28, gI_29, aI_now, aI_mn, aI_mi, aI_fa, sI_now, sI_mn, sI_mi, sI_fa, pI_29, y1, y2, y4]
        rw [if_neg (fun hc => hc ⟨⟨n0, n1⟩, c1⟩), if_neg (fun hc => hc c2), if_neg c3]
        exact x1
  · rw [if_pos (Or.inl c1)]
    refine ⟨mn, F, S, ?_⟩
    simp (disch := first | assumption | omega) only [sX8_isHanded, sX8_isHanded_29, z10, z00, if_true, if_false, iv_add, iv_sub, iv_mul, iv_le, iv_lt, iv_eq, iv_mx, iv_mn, bI_z, bI_o, rZ0, rZ1, rZb, cl_some', lt_eq, rm_eq, dv_eq, iv_01, iv_10, the, lastA, lpA, st_eq, st_ne, cV_tw, gR_0, gR_3, gR_4, gR_27, gR_28, gI_29, aI_now, aI_mn, aI_mi, aI_fa, sI_now, sI_mn, sI_mi, sI_fa, pI_29, y1, y3]
    rw [if_pos (fun hc => c1 hc.2)]
end
