/-! DEPS: uf -/
/-! UG: a client's acts on the twin, the rest -/
section
variable {g mi mn F : Row} {S : Nat → Int32} {M : Mem} {Λ : Law} {h : His} {FL : Int → ELog} {R : Int} {D : DK}
theorem m_cut (hT : LT M) (I : InvS g h FL R D) {a b : Int} {z : Int32} (a0 : -2147483648 ≤ a) (a1 : a ≤ 2147483647) (b0 : -2147483648 ≤ b) (b1 : b ≤ 2147483647) :
    sX8_cut (some 3772) (iI a) (iI b) z (tw g mi mn F S M) = some (iI (cutS g a b (¬ z = iI 0)).1, tw (cutS g a b (¬ z = iI 0)).2 mi mn F S M) := by
  unfold cutS
  by_cases d : 0 ≤ a ∧ a < 7
  · by_cases e : 0 ≤ b ∧ b < 7
    · by_cases f : a = b
      · rw [if_neg (fun hc => hc.2.2 f)]
        simp (disch := first | assumption | omega) only [sX8_cut, m_isNode, z10, z00, if_true, if_false, iv_add, iv_sub, iv_mul, iv_le, iv_lt, iv_eq, iv_mx, iv_mn, bI_z, bI_o, rZ0, rZ1, rZb, cl_some', lt_eq, rm_eq, dv_eq, iv_01, iv_10, the, lastA, lpA, st_eq, st_ne, cV_tw, gR_0, gR_3, gR_4, gR_27, gR_28, gI_29, aI_now, aI_mn, aI_mi, aI_fa, sI_now, sI_mn, sI_mi, sI_fa, pI_29]
        rw [if_neg (fun hc => hc d), if_neg (fun hc => hc e), if_pos f]
      · rw [if_pos ⟨d, e, f⟩]
        have ca := I.ct a d.1 d.2
        have cb := I.ct b e.1 e.2
        have ba := bitR d.1 d.2
        have bb := bitR e.1 e.2
        have key : ∀ v, sX8_cut_67 (some 3772) (iI a) (iI b) z (some 3773) (iI (11124 + a)) (iI v) (tw g mi mn F S M) = some (iI 1, tw (st (st g (11124 + a) v) (11124 + b) (cutsV (g (11124 + b)) a (¬ z = iI 0))) mi mn F S M) := by
          intro v
          have o : st g (11124 + a) v (11124 + b) = g (11124 + b) := st_ne (by omega)
          unfold cutsV
          by_cases c : z = iI 0
          · simp (disch := first | assumption | omega) only [sX8_cut_67, iv_shl, iv_off, z10, z00, if_true, if_false, iv_add, iv_sub, iv_mul, iv_le, iv_lt, iv_eq, iv_mx, iv_mn, bI_z, bI_o, rZ0, rZ1, rZb, cl_some', lt_eq, rm_eq, dv_eq, iv_01, iv_10, the, lastA, lpA, st_eq, st_ne, cV_tw, gR_0, gR_3, gR_4, gR_27, gR_28, gI_29, aI_now, aI_mn, aI_mi, aI_fa, sI_now, sI_mn, sI_mi, sI_fa, pI_29, o]
            rw [if_pos c, if_neg (fun hc => hc c)]
          · simp (disch := first | assumption | omega) only [sX8_cut_67, iv_shl, iv_or, z10, z00, if_true, if_false, iv_add, iv_sub, iv_mul, iv_le, iv_lt, iv_eq, iv_mx, iv_mn, bI_z, bI_o, rZ0, rZ1, rZb, cl_some', lt_eq, rm_eq, dv_eq, iv_01, iv_10, the, lastA, lpA, st_eq, st_ne, cV_tw, gR_0, gR_3, gR_4, gR_27, gR_28, gI_29, aI_now, aI_mn, aI_mi, aI_fa, sI_now, sI_mn, sI_mi, sI_fa, pI_29, o]
            rw [if_neg c, if_pos c]
        unfold cutsG
        by_cases c : z = iI 0
        · have k := key (cutsV (g (11124 + a)) b (¬ z = iI 0))
          have cv : cutsV (g (11124 + a)) b (¬ z = iI 0) = offI (g (11124 + a)) b := if_neg (fun hc => hc c)
          rw [cv] at k ⊢
          simp (disch := first | assumption | omega) only [sX8_cut, m_isNode, iv_shl, iv_off, z10, z00, if_true, if_false, iv_add, iv_sub, iv_mul, iv_le, iv_lt, iv_eq, iv_mx, iv_mn, bI_z, bI_o, rZ0, rZ1, rZb, cl_some', lt_eq, rm_eq, dv_eq, iv_01, iv_10, the, lastA, lpA, st_eq, st_ne, cV_tw, gR_0, gR_3, gR_4, gR_27, gR_28, gI_29, aI_now, aI_mn, aI_mi, aI_fa, sI_now, sI_mn, sI_mi, sI_fa, pI_29]
          rw [if_neg (fun hc => hc d), if_neg (fun hc => hc e), if_neg f, if_pos c]
          exact k
        · have k := key (cutsV (g (11124 + a)) b (¬ z = iI 0))
          have cv : cutsV (g (11124 + a)) b (¬ z = iI 0) = orI (g (11124 + a)) (bitI b) := if_pos c
          rw [cv] at k ⊢
          simp (disch := first | assumption | omega) only [sX8_cut, m_isNode, iv_shl, iv_or, z10, z00, if_true, if_false, iv_add, iv_sub, iv_mul, iv_le, iv_lt, iv_eq, iv_mx, iv_mn, bI_z, bI_o, rZ0, rZ1, rZb, cl_some', lt_eq, rm_eq, dv_eq, iv_01, iv_10, the, lastA, lpA, st_eq, st_ne, cV_tw, gR_0, gR_3, gR_4, gR_27, gR_28, gI_29, aI_now, aI_mn, aI_mi, aI_fa, sI_now, sI_mn, sI_mi, sI_fa, pI_29]
          rw [if_neg (fun hc => hc d), if_neg (fun hc => hc e), if_neg f, if_neg c]
          exact k
    · rw [if_neg (fun hc => e hc.2.1)]
      simp (disch := first | assumption | omega) only [sX8_cut, m_isNode, z10, z00, if_true, if_false, iv_add, iv_sub, iv_mul, iv_le, iv_lt, iv_eq, iv_mx, iv_mn, bI_z, bI_o, rZ0, rZ1, rZb, cl_some', lt_eq, rm_eq, dv_eq, iv_01, iv_10, the, lastA, lpA, st_eq, st_ne, cV_tw, gR_0, gR_3, gR_4, gR_27, gR_28, gI_29, aI_now, aI_mn, aI_mi, aI_fa, sI_now, sI_mn, sI_mi, sI_fa, pI_29]
      rw [if_neg (fun hc => hc d), if_pos e]
  · rw [if_neg (fun hc => d hc.1)]
    simp (disch := first | assumption | omega) only [sX8_cut, m_isNode, z10, z00, if_true, if_false, iv_add, iv_sub, iv_mul, iv_le, iv_lt, iv_eq, iv_mx, iv_mn, bI_z, bI_o, rZ0, rZ1, rZb, cl_some', lt_eq, rm_eq, dv_eq, iv_01, iv_10, the, lastA, lpA, st_eq, st_ne, cV_tw, gR_0, gR_3, gR_4, gR_27, gR_28, gI_29, aI_now, aI_mn, aI_mi, aI_fa, sI_now, sI_mn, sI_mi, sI_fa, pI_29]
    rw [if_pos d]
theorem m_compact (hT : LT M) (I : InvS g h FL R D) {n : Int} (c0 : -2147483648 ≤ n) (c1 : n ≤ 2147483647) :
    sX8_compact (some 3772) (iI n) (tw g mi mn F S M) = some (iI (compactS g n).1, tw (compactS g n).2 mi mn F S M) := by
  have y1 := m_isUp (g := g) (mi := mi) (mn := mn) (F := F) (S := S) (n := n) hT c0 c1 (fun hn => by obtain ⟨⟨s1, s2⟩, _⟩ := I.na n hn.1 hn.2; exact ⟨s1.1, s1.2.1⟩)
  unfold compactS
  by_cases d : (0 ≤ n ∧ n < 7) ∧ g (244 * n + 0) = 1
  · obtain ⟨⟨s1, s2⟩, _⟩ := I.na n d.1.1 d.1.2
    have y2 := m_compacts (g := g) (mi := mi) (mn := mn) (F := F) (S := S) hT (I.lg d.1.1 d.1.2)
    have n0 := d.1.1
    have n1 := d.1.2
    by_cases e : g (244 * n + 9) = g (244 * n + 4)
    · rw [if_neg (fun hc => hc.2 e)]
      simp (disch := first | assumption | omega) only [sX8_compact, m_the, z10, z00, if_true, if_false, iv_add, iv_sub, iv_mul, iv_le, iv_lt, iv_eq, iv_mx, iv_mn, bI_z, bI_o, rZ0, rZ1, rZb, cl_some', lt_eq, rm_eq, dv_eq, iv_01, iv_10, the, lastA, lpA, st_eq, st_ne, cV_tw, gR_0, gR_3, gR_4, gR_27, gR_28, gI_29, aI_now, aI_mn, aI_mi, aI_fa, sI_now, sI_mn, sI_mi, sI_fa, pI_29, y1]
      rw [if_neg (fun hc => hc d), if_pos e]
    · rw [if_pos ⟨d, e⟩]
      simp (disch := first | assumption | omega) only [sX8_compact, m_the, z10, z00, if_true, if_false, iv_add, iv_sub, iv_mul, iv_le, iv_lt, iv_eq, iv_mx, iv_mn, bI_z, bI_o, rZ0, rZ1, rZb, cl_some', lt_eq, rm_eq, dv_eq, iv_01, iv_10, the, lastA, lpA, st_eq, st_ne, cV_tw, gR_0, gR_3, gR_4, gR_27, gR_28, gI_29, aI_now, aI_mn, aI_mi, aI_fa, sI_now, sI_mn, sI_mi, sI_fa, pI_29, y1, y2]
      rw [if_neg (fun hc => hc d), if_neg e]
  · rw [if_neg (fun hc => d hc.1)]
    simp (disch := first | assumption | omega) only [sX8_compact, z10, z00, if_true, if_false, iv_add, iv_sub, iv_mul, iv_le, iv_lt, iv_eq, iv_mx, iv_mn, bI_z, bI_o, rZ0, rZ1, rZb, cl_some', lt_eq, rm_eq, dv_eq, iv_01, iv_10, the, lastA, lpA, st_eq, st_ne, cV_tw, gR_0, gR_3, gR_4, gR_27, gR_28, gI_29, aI_now, aI_mn, aI_mi, aI_fa, sI_now, sI_mn, sI_mi, sI_fa, pI_29, y1]
    rw [if_pos d]
theorem m_isLeader (hT : LT M) (I : InvS g h FL R D) {n : Int} (c0 : -2147483648 ≤ n) (c1 : n ≤ 2147483647) :
    sX8_isLeader (some 3772) (iI n) (tw g mi mn F S M) = some (bI ((0 ≤ n ∧ n < 7) ∧ ldA g n), tw g mi mn F S M) := by
  have y1 := m_isUp (g := g) (mi := mi) (mn := mn) (F := F) (S := S) (n := n) hT c0 c1 (fun hn => by obtain ⟨⟨s1, s2⟩, _⟩ := I.na n hn.1 hn.2; exact ⟨s1.1, s1.2.1⟩)
  by_cases d : (0 ≤ n ∧ n < 7) ∧ g (244 * n + 0) = 1
  · obtain ⟨⟨s1, s2⟩, _⟩ := I.na n d.1.1 d.1.2
    have n0 := d.1.1
    have n1 := d.1.2
    simp (disch := first | assumption | omega) only [sX8_isLeader, m_the, z10, z00, if_true, if_false, iv_add, iv_sub, iv_mul, iv_le, iv_lt, iv_eq, iv_mx, iv_mn, bI_z, bI_o, rZ0, rZ1, rZb, cl_some', lt_eq, rm_eq, dv_eq, iv_01, iv_10, the, lastA, lpA, st_eq, st_ne, cV_tw, gR_0, gR_3, gR_4, gR_27, gR_28, gI_29, aI_now, aI_mn, aI_mi, aI_fa, sI_now, sI_mn, sI_mi, sI_fa, pI_29, y1]
    rw [if_neg (fun hc => hc d)]
    by_cases e : g (244 * n + 3) = 2
    · rw [if_pos e, bI_t ⟨d.1, d.2, e⟩]
    · rw [if_neg e, bI_f (fun hc => e hc.2.2)]
  · simp (disch := first | assumption | omega) only [sX8_isLeader, z10, z00, if_true, if_false, iv_add, iv_sub, iv_mul, iv_le, iv_lt, iv_eq, iv_mx, iv_mn, bI_z, bI_o, rZ0, rZ1, rZb, cl_some', lt_eq, rm_eq, dv_eq, iv_01, iv_10, the, lastA, lpA, st_eq, st_ne, cV_tw, gR_0, gR_3, gR_4, gR_27, gR_28, gI_29, aI_now, aI_mn, aI_mi, aI_fa, sI_now, sI_mn, sI_mi, sI_fa, pI_29, y1]
    rw [if_pos d, bI_f (fun hc => d ⟨hc.1, hc.2.1⟩)]
theorem m_isFull (hT : LT M) (I : InvS g h FL R D) {n : Int} (n0 : 0 ≤ n) (n1 : n < 7) :
    sX8_isFull (some 3772) (iI n) (tw g mi mn F S M) = some (bI (fullA g n), tw g mi mn F S M) := by
  obtain ⟨⟨s1, s2⟩, _⟩ := I.na n n0 n1
  unfold fullA
  simp (disch := first | assumption | omega) only [sX8_isFull, m_the, m_lastOf, z10, z00, if_true, if_false, iv_add, iv_sub, iv_mul, iv_le, iv_lt, iv_eq, iv_mx, iv_mn, bI_z, bI_o, rZ0, rZ1, rZb, cl_some', lt_eq, rm_eq, dv_eq, iv_01, iv_10, the, lastA, lpA, st_eq, st_ne, cV_tw, gR_0, gR_3, gR_4, gR_27, gR_28, gI_29, aI_now, aI_mn, aI_mi, aI_fa, sI_now, sI_mn, sI_mi, sI_fa, pI_29]
  by_cases e : 40 ≤ g (244 * n + 8)
  · rw [if_pos e, bI_t (Or.inl e)]
  · rw [if_neg e]
    by_cases f : g (244 * n + 4) + g (244 * n + 8) = 999
    · rw [if_pos f, bI_t (Or.inr f)]
    · rw [if_neg f, bI_f (by omega)]
/-- a leader lays an entry for a client -/
theorem m_putL (hT : LT M) (hΛ : LawT M Λ) (I : InvS g h FL R D) {n k a b : Int} (n0 : 0 ≤ n) (n1 : n < 7) (hr : g (244 * n + 3) = 2) (hk : 0 ≤ k ∧ k ≤ 2) (ha : 0 ≤ a ∧ a ≤ 127) (hb : 0 ≤ b ∧ b ≤ 127) (hk0 : k = 0 → a ≤ 7) :
    ∃ mn' F' S', sX8_lays (some 3772) (iI n) (iI (g (244 * n + 1))) (iI k) (iI a) (iI b) (tw g mi mn F S M) = some (bI (layOk g n), tw (layG g n (g (244 * n + 1)) k a b) mi mn F S M)
      ∧ sX8_lastOf (some 3772) (iI n) (tw (layG g n (g (244 * n + 1)) k a b) mi mn F S M) = some (iI (lastA (layG g n (g (244 * n + 1)) k a b) n), tw (layG g n (g (244 * n + 1)) k a b) mi mn F S M)
      ∧ sX8_laidByLeader (some 3772) (iI n) (tw (layG g n (g (244 * n + 1)) k a b) mi mn F S M) = some ((), tw (putG Λ g n k a b) mi mn' F' S' M) := by
  have hH := I.ho n0 n1 hr
  have hW := layG_Ho (k := k) (a := a) (b := b) hH hk ha hb hk0
  obtain ⟨m2, F2, S2, x2⟩ := m_laidByLeader (mi := mi) (mn := mn) (F := F) (S := S) hT hΛ hW
  exact ⟨m2, F2, S2, m_lays hT hH.1.1, m_lastOf hT n0 n1, x2⟩
theorem m_write (hT : LT M) (hΛ : LawT M Λ) (I : InvS g h FL R D) {n k v : Int} (c0 : -2147483648 ≤ n) (c1 : n ≤ 2147483647) (k0 : -2147483648 ≤ k) (k1 : k ≤ 2147483647) (v0 : -2147483648 ≤ v) (v1 : v ≤ 2147483647) :
    ∃ mn' F' S', sX8_write (some 3772) (iI n) (iI k) (iI v) (tw g mi mn F S M) = some (iI (writeS Λ g n k v).1, tw (writeS Λ g n k v).2 mi mn' F' S' M) := by
  have y1 : ∀ σ, sX8_in (iI k) (iI 0) (iI 7) σ = some (bI (0 ≤ k ∧ k ≤ 7), σ) := fun σ => m_in k0 k1 (by omega) (by omega) (by omega) (by omega)
  have y2 : ∀ σ, sX8_in (iI v) (iI 0) (iI 99) σ = some (bI (0 ≤ v ∧ v ≤ 99), σ) := fun σ => m_in v0 v1 (by omega) (by omega) (by omega) (by omega)
  have y3 := m_isLeader (mi := mi) (mn := mn) (F := F) (S := S) hT I c0 c1
  unfold writeS
  by_cases d1 : 0 ≤ n ∧ n < 7
  · by_cases d2 : 0 ≤ k ∧ k ≤ 7
    · by_cases d3 : 0 ≤ v ∧ v ≤ 99
      · rw [if_neg (fun hc => hc ⟨d1, d2, d3⟩)]
        by_cases d4 : ldA g n
        · rw [if_neg (fun hc => hc d4)]
          have y4 := m_isFull (mi := mi) (mn := mn) (F := F) (S := S) hT I d1.1 d1.2
          by_cases d5 : fullA g n
          · rw [if_pos d5]
            refine ⟨mn, F, S, ?_⟩
            simp (disch := first | assumption | omega) only [sX8_write, m_isNode, z10, z00, if_true, if_false, iv_add, iv_sub, iv_mul, iv_le, iv_lt, iv_eq, iv_mx, iv_mn, bI_z, bI_o, rZ0, rZ1, rZb, cl_some', lt_eq, rm_eq, dv_eq, iv_01, iv_10, the, lastA, lpA, st_eq, st_ne, cV_tw, gR_0, gR_3, gR_4, gR_27, gR_28, gI_29, aI_now, aI_mn, aI_mi, aI_fa, sI_now, sI_mn, sI_mi, sI_fa, pI_29, y1, y2, y3, y4]
            rw [if_neg (fun hc => hc d1), if_neg (fun hc => hc d2), if_neg (fun hc => hc d3), if_neg (fun hc => hc ⟨d1, d4⟩), if_neg (fun hc => hc d5)]
          · rw [if_neg d5]
            obtain ⟨m2, F2, S2, x1, x2, x3⟩ := m_putL (mi := mi) (mn := mn) (F := F) (S := S) (k := 0) (a := k) (b := v) hT hΛ I d1.1 d1.2 d4.2 (by omega) (by omega) (by omega) (by omega)
            refine ⟨m2, F2, S2, ?_⟩
            have n0 := d1.1
            have n1 := d1.2
            simp only [lastA, the] at x2 ⊢
            simp (disch := first | assumption | omega) only [sX8_write, m_isNode, m_the, z10, z00, if_true, if_false, iv_add, iv_sub, iv_mul, iv_le, iv_lt, iv_eq, iv_mx, iv_mn, bI_z, bI_o, rZ0, rZ1, rZb, cl_some', lt_eq, rm_eq, dv_eq, iv_01, iv_10, the, lastA, lpA, st_eq, st_ne, cV_tw, gR_0, gR_3, gR_4, gR_27, gR_28, gI_29, aI_now, aI_mn, aI_mi, aI_fa, sI_now, sI_mn, sI_mi, sI_fa, pI_29, y1, y2, y3, y4, x1, x2, x3]
            rw [if_neg (fun hc => hc d1), if_neg (fun hc => hc d2), if_neg (fun hc => hc d3), if_neg (fun hc => hc ⟨d1, d4⟩), if_pos d5]
        · rw [if_pos d4]
          refine ⟨mn, F, S, ?_⟩
          simp (disch := first | assumption | omega) only [sX8_write, m_isNode, z10, z00, if_true, if_false, iv_add, iv_sub, iv_mul, iv_le, iv_lt, iv_eq, iv_mx, iv_mn, bI_z, bI_o, rZ0, rZ1, rZb, cl_some', lt_eq, rm_eq, dv_eq, iv_01, iv_10, the, lastA, lpA, st_eq, st_ne, cV_tw, gR_0, gR_3, gR_4, gR_27, gR_28, gI_29, aI_now, aI_mn, aI_mi, aI_fa, sI_now, sI_mn, sI_mi, sI_fa, pI_29, y1, y2, y3]
          rw [if_neg (fun hc => hc d1), if_neg (fun hc => hc d2), if_neg (fun hc => hc d3), if_pos (fun hc => d4 hc.2)]
      · rw [if_pos (fun hc => d3 hc.2.2)]
        refine ⟨mn, F, S, ?_⟩
        simp (disch := first | assumption | omega) only [sX8_write, m_isNode, z10, z00, if_true, if_false, iv_add, iv_sub, iv_mul, iv_le, iv_lt, iv_eq, iv_mx, iv_mn, bI_z, bI_o, rZ0, rZ1, rZb, cl_some', lt_eq, rm_eq, dv_eq, iv_01, iv_10, the, lastA, lpA, st_eq, st_ne, cV_tw, gR_0, gR_3, gR_4, gR_27, gR_28, gI_29, aI_now, aI_mn, aI_mi, aI_fa, sI_now, sI_mn, sI_mi, sI_fa, pI_29, y1, y2]
        rw [if_neg (fun hc => hc d1), if_neg (fun hc => hc d2), if_pos d3]
    · rw [if_pos (fun hc => d2 hc.2.1)]
      refine ⟨mn, F, S, ?_⟩
      simp (disch := first | assumption | omega) only [sX8_write, m_isNode, z10, z00, if_true, if_false, iv_add, iv_sub, iv_mul, iv_le, iv_lt, iv_eq, iv_mx, iv_mn, bI_z, bI_o, rZ0, rZ1, rZb, cl_some', lt_eq, rm_eq, dv_eq, iv_01, iv_10, the, lastA, lpA, st_eq, st_ne, cV_tw, gR_0, gR_3, gR_4, gR_27, gR_28, gI_29, aI_now, aI_mn, aI_mi, aI_fa, sI_now, sI_mn, sI_mi, sI_fa, pI_29, y1]
      rw [if_neg (fun hc => hc d1), if_pos d2]
  · rw [if_pos (fun hc => d1 hc.1)]
    refine ⟨mn, F, S, ?_⟩
    simp (disch := first | assumption | omega) only [sX8_write, m_isNode, z10, z00, if_true, if_false, iv_add, iv_sub, iv_mul, iv_le, iv_lt, iv_eq, iv_mx, iv_mn, bI_z, bI_o, rZ0, rZ1, rZb, cl_some', lt_eq, rm_eq, dv_eq, iv_01, iv_10, the, lastA, lpA, st_eq, st_ne, cV_tw, gR_0, gR_3, gR_4, gR_27, gR_28, gI_29, aI_now, aI_mn, aI_mi, aI_fa, sI_now, sI_mn, sI_mi, sI_fa, pI_29]
    rw [if_pos d1]
theorem m_change (hT : LT M) (hΛ : LawT M Λ) (I : InvS g h FL R D) {n c : Int} (c0 : -2147483648 ≤ n) (c1 : n ≤ 2147483647) (k0 : -2147483648 ≤ c) (k1 : c ≤ 2147483647) :
    ∃ mn' F' S', sX8_change (some 3772) (iI n) (iI c) (tw g mi mn F S M) = some (iI (changeS Λ g n c).1, tw (changeS Λ g n c).2 mi mn' F' S' M) := by
  have y1 : ∀ σ, sX8_in (iI c) (iI 1) (iI 127) σ = some (bI (1 ≤ c ∧ c ≤ 127), σ) := fun σ => m_in k0 k1 (by omega) (by omega) (by omega) (by omega)
  have y3 := m_isLeader (mi := mi) (mn := mn) (F := F) (S := S) hT I c0 c1
  unfold changeS
  by_cases d1 : 0 ≤ n ∧ n < 7
  · by_cases d2 : 1 ≤ c ∧ c ≤ 127
    · rw [if_neg (fun hc => hc ⟨d1, d2⟩)]
      by_cases d4 : ldA g n
      · rw [if_neg (fun hc => hc d4)]
        have y4 := m_isFull (mi := mi) (mn := mn) (F := F) (S := S) hT I d1.1 d1.2
        by_cases d5 : fullA g n
        · rw [if_pos d5]
          refine ⟨mn, F, S, ?_⟩
          simp (disch := first | assumption | omega) only [sX8_change, m_isNode, z10, z00, if_true, if_false, iv_add, iv_sub, iv_mul, iv_le, iv_lt, iv_eq, iv_mx, iv_mn, bI_z, bI_o, rZ0, rZ1, rZb, cl_some', lt_eq, rm_eq, dv_eq, iv_01, iv_10, the, lastA, lpA, st_eq, st_ne, cV_tw, gR_0, gR_3, gR_4, gR_27, gR_28, gI_29, aI_now, aI_mn, aI_mi, aI_fa, sI_now, sI_mn, sI_mi, sI_fa, pI_29, y1, y3, y4]
          rw [if_neg (fun hc => hc d1), if_neg (fun hc => hc d2), if_neg (fun hc => hc ⟨d1, d4⟩), if_neg (fun hc => hc d5)]
        · rw [if_neg d5]
          have hL := I.lg d1.1 d1.2
          have y5 := m_newOf (mi := mi) (mn := mn) (F := F) (S := S) hT hL
          have y6 := m_oldOf (mi := mi) (mn := mn) (F := F) (S := S) hT hL
          have y7 := m_isHeldConfig (mi := mi) (mn := mn) (F := F) (S := S) hT hL
          have or := oldR hL
          have nr := newR hL
          by_cases d6 : newA g n = 0
          · by_cases d7 : cfgHeld g n
            · by_cases d8 : oldA g n = c
              · rw [if_pos (Or.inr (Or.inr d8))]
                refine ⟨mn, F, S, ?_⟩
                simp (disch := first | assumption | omega) only [sX8_change, m_isNode, z10, z00, if_true, if_false, iv_add, iv_sub, iv_mul, iv_le, iv_lt, iv_eq, iv_mx, iv_mn, bI_z, bI_o, rZ0, rZ1, rZb, cl_some', lt_eq, rm_eq, dv_eq, iv_01, iv_10, the, lastA, lpA, st_eq, st_ne, cV_tw, gR_0, gR_3, gR_4, gR_27, gR_28, gI_29, aI_now, aI_mn, aI_mi, aI_fa, sI_now, sI_mn, sI_mi, sI_fa, pI_29, y1, y3, y4, y5, y6, y7]
                rw [if_neg (fun hc => hc d1), if_neg (fun hc => hc d2), if_neg (fun hc => hc ⟨d1, d4⟩), if_pos d5, if_pos d6, if_neg (fun hc => hc d7), if_pos d8]
              · rw [if_neg (fun hc => by rcases hc with hc | hc | hc <;> contradiction)]
                obtain ⟨m2, F2, S2, x1, x2, x3⟩ := m_putL (mi := mi) (mn := mn) (F := F) (S := S) (k := 1) (a := oldA g n) (b := c) hT hΛ I d1.1 d1.2 d4.2 (by omega) (by omega) (by omega) (by omega)
                refine ⟨m2, F2, S2, ?_⟩
                have n0 := d1.1
                have n1 := d1.2
                simp only [lastA, the] at x2 ⊢
                simp (disch := first | assumption | omega) only [sX8_change, m_isNode, m_the, z10, z00, if_true, if_false, iv_add, iv_sub, iv_mul, iv_le, iv_lt, iv_eq, iv_mx, iv_mn, bI_z, bI_o, rZ0, rZ1, rZb, cl_some', lt_eq, rm_eq, dv_eq, iv_01, iv_10, the, lastA, lpA, st_eq, st_ne, cV_tw, gR_0, gR_3, gR_4, gR_27, gR_28, gI_29, aI_now, aI_mn, aI_mi, aI_fa, sI_now, sI_mn, sI_mi, sI_fa, pI_29, y1, y3, y4, y5, y6, y7, x1, x2, x3]
                rw [if_neg (fun hc => hc d1), if_neg (fun hc => hc d2), if_neg (fun hc => hc ⟨d1, d4⟩), if_pos d5, if_pos d6, if_neg (fun hc => hc d7), if_neg d8]
            · rw [if_pos (Or.inr (Or.inl d7))]
              refine ⟨mn, F, S, ?_⟩
              simp (disch := first | assumption | omega) only [sX8_change, m_isNode, z10, z00, if_true, if_false, iv_add, iv_sub, iv_mul, iv_le, iv_lt, iv_eq, iv_mx, iv_mn, bI_z, bI_o, rZ0, rZ1, rZb, cl_some', lt_eq, rm_eq, dv_eq, iv_01, iv_10, the, lastA, lpA, st_eq, st_ne, cV_tw, gR_0, gR_3, gR_4, gR_27, gR_28, gI_29, aI_now, aI_mn, aI_mi, aI_fa, sI_now, sI_mn, sI_mi, sI_fa, pI_29, y1, y3, y4, y5, y6, y7]
              rw [if_neg (fun hc => hc d1), if_neg (fun hc => hc d2), if_neg (fun hc => hc ⟨d1, d4⟩), if_pos d5, if_pos d6, if_pos d7]
          · rw [if_pos (Or.inl d6)]
            refine ⟨mn, F, S, ?_⟩
            simp (disch := first | assumption | omega) only [sX8_change, m_isNode, z10, z00, if_true, if_false, iv_add, iv_sub, iv_mul, iv_le, iv_lt, iv_eq, iv_mx, iv_mn, bI_z, bI_o, rZ0, rZ1, rZb, cl_some', lt_eq, rm_eq, dv_eq, iv_01, iv_10, the, lastA, lpA, st_eq, st_ne, cV_tw, gR_0, gR_3, gR_4, gR_27, gR_28, gI_29, aI_now, aI_mn, aI_mi, aI_fa, sI_now, sI_mn, sI_mi, sI_fa, pI_29, y1, y3, y4, y5, y6, y7]
            rw [if_neg (fun hc => hc d1), if_neg (fun hc => hc d2), if_neg (fun hc => hc ⟨d1, d4⟩), if_pos d5, if_neg d6]
      · rw [if_pos d4]
        refine ⟨mn, F, S, ?_⟩
        simp (disch := first | assumption | omega) only [sX8_change, m_isNode, z10, z00, if_true, if_false, iv_add, iv_sub, iv_mul, iv_le, iv_lt, iv_eq, iv_mx, iv_mn, bI_z, bI_o, rZ0, rZ1, rZb, cl_some', lt_eq, rm_eq, dv_eq, iv_01, iv_10, the, lastA, lpA, st_eq, st_ne, cV_tw, gR_0, gR_3, gR_4, gR_27, gR_28, gI_29, aI_now, aI_mn, aI_mi, aI_fa, sI_now, sI_mn, sI_mi, sI_fa, pI_29, y1, y3]
        rw [if_neg (fun hc => hc d1), if_neg (fun hc => hc d2), if_pos (fun hc => d4 hc.2)]
    · rw [if_pos (fun hc => d2 hc.2)]
      refine ⟨mn, F, S, ?_⟩
      simp (disch := first | assumption | omega) only [sX8_change, m_isNode, z10, z00, if_true, if_false, iv_add, iv_sub, iv_mul, iv_le, iv_lt, iv_eq, iv_mx, iv_mn, bI_z, bI_o, rZ0, rZ1, rZb, cl_some', lt_eq, rm_eq, dv_eq, iv_01, iv_10, the, lastA, lpA, st_eq, st_ne, cV_tw, gR_0, gR_3, gR_4, gR_27, gR_28, gI_29, aI_now, aI_mn, aI_mi, aI_fa, sI_now, sI_mn, sI_mi, sI_fa, pI_29, y1]
      rw [if_neg (fun hc => hc d1), if_pos d2]
  · rw [if_pos (fun hc => d1 hc.1)]
    refine ⟨mn, F, S, ?_⟩
    simp (disch := first | assumption | omega) only [sX8_change, m_isNode, z10, z00, if_true, if_false, iv_add, iv_sub, iv_mul, iv_le, iv_lt, iv_eq, iv_mx, iv_mn, bI_z, bI_o, rZ0, rZ1, rZb, cl_some', lt_eq, rm_eq, dv_eq, iv_01, iv_10, the, lastA, lpA, st_eq, st_ne, cV_tw, gR_0, gR_3, gR_4, gR_27, gR_28, gI_29, aI_now, aI_mn, aI_mi, aI_fa, sI_now, sI_mn, sI_mi, sI_fa, pI_29]
    rw [if_pos d1]
theorem newR1_eq {n k : Int} (h0 : 0 ≤ g 11135) (h16 : g 11135 < 16) (n0 : 0 ≤ n) (n1 : n < 7) : st (st (st (st (st (st (st g (11028 + 6 * g 11135) n) (11028 + 6 * g 11135 + 1) k) (11028 + 6 * g 11135 + 2) (g (244 * n + 13))) (11028 + 6 * g 11135 + 3) (g 11134)) (11028 + 6 * g 11135 + 4) 0) (11028 + 6 * g 11135 + 5) 0) 11135 (g 11135 + 1) = newR1 g n k := by
  funext x
  unfold newR1 st
  by_cases c0 : x = 11135
  · rw [if_pos c0, if_pos c0]
  · rw [if_neg c0, if_neg c0]
    by_cases c1 : x = 11028 + 6 * g 11135
    · rw [if_pos c1, if_neg (by omega), if_neg (by omega), if_neg (by omega), if_neg (by omega), if_neg (by omega), if_pos c1]
    · rw [if_neg c1, if_neg c1]
      by_cases c2 : x = 11028 + 6 * g 11135 + 1
      · rw [if_pos c2, if_neg (by omega), if_neg (by omega), if_neg (by omega), if_neg (by omega), if_pos c2]
      · rw [if_neg c2, if_neg c2]
        by_cases c3 : x = 11028 + 6 * g 11135 + 2
        · rw [if_pos c3, if_neg (by omega), if_neg (by omega), if_neg (by omega), if_pos c3]
        · rw [if_neg c3, if_neg c3]
          by_cases c4 : x = 11028 + 6 * g 11135 + 3
          · rw [if_pos c4, if_neg (by omega), if_neg (by omega), if_pos c4]
          · rw [if_neg c4, if_neg c4]
            by_cases c5 : x = 11028 + 6 * g 11135 + 4
            · rw [if_pos c5, if_neg (by omega), if_pos c5]
            · rw [if_neg c5, if_neg c5]
theorem m_ask (hT : LT M) (hΛ : LawT M Λ) (I : InvS g h FL R D) {n k : Int} (c0 : -2147483648 ≤ n) (c1 : n ≤ 2147483647) (k0 : -2147483648 ≤ k) (k1 : k ≤ 2147483647) (hR : R + 1 ≤ 1000000) :
    ∃ mn' F' S', sX8_ask (some 3772) (iI n) (iI k) (tw g mi mn F S M) = some (iI (askS Λ g n k).1, tw (askS Λ g n k).2 mi mn' F' S' M) := by
  have y1 : ∀ σ, sX8_in (iI k) (iI 0) (iI 7) σ = some (bI (0 ≤ k ∧ k ≤ 7), σ) := fun σ => m_in k0 k1 (by omega) (by omega) (by omega) (by omega)
  have y3 := m_isLeader (mi := mi) (mn := mn) (F := F) (S := S) hT I c0 c1
  have hA := I.ar
  unfold askS
  by_cases d1 : 0 ≤ n ∧ n < 7
  · by_cases d2 : 0 ≤ k ∧ k ≤ 7
    · rw [if_neg (fun hc => hc ⟨d1, d2⟩)]
      have n0 := d1.1
      have n1 := d1.2
      obtain ⟨⟨s1, s2⟩, _⟩ := I.na n n0 n1
      by_cases d4 : ldA g n
      · rw [if_neg (fun hc => hc d4)]
        by_cases d5 : g 11135 = 16
        · rw [if_pos d5]
          refine ⟨mn, F, S, ?_⟩
          simp (disch := first | assumption | omega) only [sX8_ask, m_isNode, z10, z00, if_true, if_false, iv_add, iv_sub, iv_mul, iv_le, iv_lt, iv_eq, iv_mx, iv_mn, bI_z, bI_o, rZ0, rZ1, rZb, cl_some', lt_eq, rm_eq, dv_eq, iv_01, iv_10, the, lastA, lpA, st_eq, st_ne, cV_tw, gR_0, gR_3, gR_4, gR_27, gR_28, gI_29, aI_now, aI_mn, aI_mi, aI_fa, sI_now, sI_mn, sI_mi, sI_fa, pI_29, y1, y3]
          rw [if_neg (fun hc => hc d1), if_neg (fun hc => hc d2), if_neg (fun hc => hc ⟨d1, d4⟩), if_pos d5]
        · rw [if_neg d5]
          have hL := I.lg n0 n1
          have y5 := m_termAt (mi := mi) (mn := mn) (F := F) (S := S) hT hL (i := g (244 * n + 9)) (by omega) (by omega)
          have tr := termR hL (i := g (244 * n + 9)) (by omega) (by omega)
          by_cases d6 : termA g n (g (244 * n + 9)) = g (244 * n + 1)
          · rw [if_neg (fun hc => hc d6)]
            obtain ⟨m1, F1, S1, x1⟩ := m_asksAll (mi := mi) (mn := mn) (F := F) (S := S) hT hΛ I n0 n1 d4.2 hR
            have I1 := I.round n0 n1 hR
            have e3 : roundG g n (244 * n + 3) = 2 := by
              unfold roundG
              rw [st_ne (by omega), st_ne (by omega)]; exact d4.2
            have e35 : roundG g n 11135 = g 11135 := by
              unfold roundG
              rw [st_ne (by omega), st_ne (by omega)]
            have I2 := I1.sendAll (Λ := Λ) n0 n1 e3
            have f3 : sendAllG Λ (roundG g n) n (244 * n + 3) = 2 := by rw [sendAllG_lo I1.gl (by omega)]; exact e3
            have f35 : sendAllG Λ (roundG g n) n 11135 = g 11135 := by rw [sendAllG_lo I1.gl (by omega)]; exact e35
            have I3 := I2.newr n0 n1 f3 d2.1 (show k < 8 by omega) (by omega)
            unfold askG
            generalize sendAllG Λ (roundG g n) n = g2 at *
            obtain ⟨⟨u1, u2⟩, _⟩ := I2.na n n0 n1
            have hG2 := I2.gl
            have g34 : g2 11134 ≤ 999 ∧ 0 ≤ g2 11134 := ⟨hG2.2.2.2.2.2.2.2.1, hG2.2.2.2.2.2.2.1⟩
            have x2 := m_answersReads (mi := mi) (mn := m1) (F := F1) (S := S1) hT I3 n0 n1
            have en := newR1_eq (g := g2) (n := n) (k := k) (by omega) (by omega) n0 n1
            refine ⟨m1, F1, S1, ?_⟩
            rw [f35] at en
            simp (disch := first | assumption | omega) only [sX8_ask, m_isNode, m_the, z10, z00, if_true, if_false, iv_add, iv_sub, iv_mul, iv_le, iv_lt, iv_eq, iv_mx, iv_mn, bI_z, bI_o, rZ0, rZ1, rZb, cl_some', lt_eq, rm_eq, dv_eq, iv_01, iv_10, the, lastA, lpA, st_eq, st_ne, cV_tw, gR_0, gR_3, gR_4, gR_27, gR_28, gI_29, aI_now, aI_mn, aI_mi, aI_fa, sI_now, sI_mn, sI_mi, sI_fa, pI_29, y1, y3, y5, x1, f35, en, x2]
            rw [if_neg (fun hc => hc d1), if_neg (fun hc => hc d2), if_neg (fun hc => hc ⟨d1, d4⟩), if_neg d5, if_pos d6]
          · rw [if_pos d6]
            refine ⟨mn, F, S, ?_⟩
            simp (disch := first | assumption | omega) only [sX8_ask, m_isNode, m_the, z10, z00, if_true, if_false, iv_add, iv_sub, iv_mul, iv_le, iv_lt, iv_eq, iv_mx, iv_mn, bI_z, bI_o, rZ0, rZ1, rZb, cl_some', lt_eq, rm_eq, dv_eq, iv_01, iv_10, the, lastA, lpA, st_eq, st_ne, cV_tw, gR_0, gR_3, gR_4, gR_27, gR_28, gI_29, aI_now, aI_mn, aI_mi, aI_fa, sI_now, sI_mn, sI_mi, sI_fa, pI_29, y1, y3, y5]
            rw [if_neg (fun hc => hc d1), if_neg (fun hc => hc d2), if_neg (fun hc => hc ⟨d1, d4⟩), if_neg d5, if_neg d6]
      · rw [if_pos d4]
        refine ⟨mn, F, S, ?_⟩
        simp (disch := first | assumption | omega) only [sX8_ask, m_isNode, z10, z00, if_true, if_false, iv_add, iv_sub, iv_mul, iv_le, iv_lt, iv_eq, iv_mx, iv_mn, bI_z, bI_o, rZ0, rZ1, rZb, cl_some', lt_eq, rm_eq, dv_eq, iv_01, iv_10, the, lastA, lpA, st_eq, st_ne, cV_tw, gR_0, gR_3, gR_4, gR_27, gR_28, gI_29, aI_now, aI_mn, aI_mi, aI_fa, sI_now, sI_mn, sI_mi, sI_fa, pI_29, y1, y3]
        rw [if_neg (fun hc => hc d1), if_neg (fun hc => hc d2), if_pos (fun hc => d4 hc.2)]
    · rw [if_pos (fun hc => d2 hc.2)]
      refine ⟨mn, F, S, ?_⟩
      simp (disch := first | assumption | omega) only [sX8_ask, m_isNode, z10, z00, if_true, if_false, iv_add, iv_sub, iv_mul, iv_le, iv_lt, iv_eq, iv_mx, iv_mn, bI_z, bI_o, rZ0, rZ1, rZb, cl_some', lt_eq, rm_eq, dv_eq, iv_01, iv_10, the, lastA, lpA, st_eq, st_ne, cV_tw, gR_0, gR_3, gR_4, gR_27, gR_28, gI_29, aI_now, aI_mn, aI_mi, aI_fa, sI_now, sI_mn, sI_mi, sI_fa, pI_29, y1]
      rw [if_neg (fun hc => hc d1), if_pos d2]
  · rw [if_pos (fun hc => d1 hc.1)]
    refine ⟨mn, F, S, ?_⟩
    simp (disch := first | assumption | omega) only [sX8_ask, m_isNode, z10, z00, if_true, if_false, iv_add, iv_sub, iv_mul, iv_le, iv_lt, iv_eq, iv_mx, iv_mn, bI_z, bI_o, rZ0, rZ1, rZb, cl_some', lt_eq, rm_eq, dv_eq, iv_01, iv_10, the, lastA, lpA, st_eq, st_ne, cV_tw, gR_0, gR_3, gR_4, gR_27, gR_28, gI_29, aI_now, aI_mn, aI_mi, aI_fa, sI_now, sI_mn, sI_mi, sI_fa, pI_29]
    rw [if_pos d1]
end
