/-! DEPS: wh -/
/-! WI: the twin waits -/
section
variable {g mi mn F : Row} {S : Nat → Int32} {M : Mem} {Λ : Law} {h : His} {FL : Int → ELog} {R : Int} {D : DK}
theorem m_have_2 (hT : LT M) (I : InvS g h FL R D) : ∀ (j : Nat) (n : Int) (fu : Nat), 7 - n = j → 0 ≤ n → j < fu →
    sX8_allHave_2 fu (some 3772) (iI n) (tw g mi mn F S M) = some (bI (haveF g j n = true), tw g mi mn F S M)
  | 0, n, fu + 1, e1, e2, e3 => by
    simp (disch := first | assumption | omega) only [sX8_allHave_2, sX8_allHave_2b, z10, z00, if_true, if_false, iv_add, iv_sub, iv_mul, iv_le, iv_lt, iv_eq, iv_mx, iv_mn, bI_z, bI_o, rZ0, rZ1, rZb, cl_some', lt_eq, rm_eq, dv_eq, iv_01, iv_10, the, lastA, lpA, st_eq, st_ne, cV_tw, gR_0, gR_3, gR_4, gR_27, gR_28, gI_29, aI_now, aI_mn, aI_mi, aI_fa, sI_now, sI_mn, sI_mi, sI_fa, pI_29]
    rw [if_pos (by omega)]
    rfl
  | j + 1, n, fu + 1, e1, e2, e3 => by
    have n1 : n < 7 := by omega
    obtain ⟨⟨s1, s2⟩, _⟩ := I.na n e2 n1
    have hG := I.gl
    obtain ⟨_, _, _, _, _, _, _, _, _, _, _, _⟩ := hG
    have ih := m_have_2 hT I j (n + 1) fu (by omega) (by omega) (by omega)
    have y1 := m_isUp (g := g) (mi := mi) (mn := mn) (F := F) (S := S) (n := n) hT (by omega) (by omega) (fun _ => by omega)
    unfold haveF
    show sX8_allHave_2b (sX8_allHave_2 fu) _ _ _ = _
    generalize sX8_allHave_2 fu = K at ih ⊢
    unfold sX8_allHave_2b
    rw [if_neg (by rw [iv_le (by omega) (by omega) (by omega) (by omega)]; omega), cV_tw hT, y1, cl_some']
    by_cases c : g (244 * n + 0) = 1
    · rw [if_neg (by rw [bI_z]; exact fun q => q ⟨⟨e2, n1⟩, c⟩), cV_tw hT, m_the hT (by omega) (by omega), cl_some', gR_0 hT, aI_now hT (by omega) (by omega)]
      by_cases c2 : g 11134 ≤ g (244 * n + 9)
      · rw [if_pos (by rw [iv_le (by omega) (by omega) (by omega) (by omega)]; exact c2), if_neg (fun q => by omega)]
        unfold sX8_allHave_36
        rw [iv_add]
        exact ih
      · rw [if_neg (by rw [iv_le (by omega) (by omega) (by omega) (by omega)]; exact c2), if_pos ⟨c, by omega⟩, rZ0, bI_f (by decide)]
    · rw [if_pos (by rw [bI_z]; exact fun q => c q.2), if_neg (fun q => c q.1)]
      unfold sX8_allHave_36
      rw [iv_add]
      exact ih
theorem m_isSo (hT : LT M) (I : InvS g h FL R D) (dp : 0 ≤ D.1) {w : Int} (w0 : 0 ≤ w) (w1 : w < 3) : sX8_isSo (some 3772) (iI w) (iI 0) (tw g mi mn F S M) = some (bI (soB g w = true), tw g mi mn F S M) := by
  have hGl := I.gl
  obtain ⟨_, _, _, _, _, _, _, _, _, _, _, _⟩ := hGl
  have dd := I.dd
  have le : sX8_leading (some 3772) (tw g mi mn F S M) = some (iI (leadNowS g), tw g mi mn F S M) := m_lead_5 hT I 7 (-2) 0 FU (by omega) (by omega) (Or.inl rfl) (by unfold FU; omega)
  have hv : sX8_allHave (some 3772) (tw g mi mn F S M) = some (bI (haveF g 7 0 = true), tw g mi mn F S M) := m_have_2 hT I 7 0 FU (by omega) (by omega) (by unfold FU; omega)
  unfold sX8_isSo soB
  by_cases c0 : w = 0
  · subst c0
    rw [if_pos rfl, cV_tw hT, le, cl_some']
    have lr := leadNow_r (g := g)
    by_cases c : leadNowS g = -2
    · rw [c, if_pos rfl, rZ0, bI_f (by simp)]
    · rw [if_neg (by rw [iv_eq (by omega) (by omega) (by omega) (by omega)]; exact c), rZ1, bI_t (by simp [c])]
  · rw [if_neg (show ¬ iI w = iI 0 by rw [iv_eq (by omega) (by omega) (by omega) (by omega)]; exact c0)]
    by_cases c1 : w = 1
    · subst c1
      rw [if_pos rfl, gI_29 hT]
      by_cases c : g 11138 ≤ 0
      · rw [if_pos (by rw [iv_le (by omega) (by omega) (by omega) (by omega)]; exact c), rZ0, bI_f (by simp; omega)]
      · rw [if_neg (by rw [iv_le (by omega) (by omega) (by omega) (by omega)]; exact c), rZ1, bI_t (by simp; omega)]
    · rw [if_neg (show ¬ iI w = iI 1 by rw [iv_eq (by omega) (by omega) (by omega) (by omega)]; exact c1), cV_tw hT, hv, cl_some', rZb]
      have : (haveF g 7 0 = true) = ((if w = 0 then decide (leadNowS g ≠ -2) else if w = 1 then decide (0 < g 11138) else haveF g 7 0) = true) := by
        rw [if_neg c0, if_neg c1]
      exact congrArg (fun z => some (z, tw g mi mn F S M)) (bI_c (Iff.of_eq this))
theorem m_till_68 (hT : LT M) (h2 : LT2 M) (I : InvS g h FL R D) (dp : 0 ≤ D.1) {g0 : Row} (hg : ∀ j : Nat, j < 11138 → mI M 3774 j = iI (g0 j)) {w t : Int} (w0 : 0 ≤ w) (w1 : w < 3) :
    sX8_till_68 (some 3772) (iI w) (iI t) (tw g mi mn F S M) = some (iI (if soB g w = true then t else -2), tw (st g0 11138 (g 11138)) mi mn F S M) := by
  have x1 := m_isSo (mi := mi) (mn := mn) (F := F) (S := S) hT I dp w0 w1
  have x2 := m_copyIn (g := g) (mi := mi) (mn := mn) (F := F) (S := S) hT (Or.inl rfl) h2.2.2.1 hg
  unfold sX8_till_68
  rw [cV_tw hT, x1, cl_some', gR_m1 hT h2, gR_0 hT, x2, cl_some']
  by_cases c : soB g w = true
  · rw [if_neg (by rw [bI_z]; exact fun q => q c), if_pos c]
  · rw [if_pos (by rw [bI_z]; exact c), if_neg c]
theorem m_till_40 (hT : LT M) (h2 : LT2 M) (hΛ : LawT M Λ) {g0 : Row} (hg : ∀ j : Nat, j < 11138 → mI M 3774 j = iI (g0 j)) {v w : Int} (v1 : v ≤ 200) (w0 : 0 ≤ w) (w1 : w < 3) :
    ∀ (j : Nat) (g : Row) (hs : His) (FL : Int → ELog) (R : Int) (D : DK) (mi mn F : Row) (S : Nat → Int32) (t : Int) (fu : Nat), InvS g hs FL R D → 0 ≤ D.1 → clip mi = mi → v - t = j → 0 ≤ t → g 11131 ≤ 9999 → R + 7 * j ≤ 1000000 → j < fu →
    ∃ mi' mn' F' S' y, 0 ≤ y ∧ clip mi' = mi' ∧ sX8_till_40 fu (some 3772) (iI v) (iI w) (iI t) (tw g mi mn F S M) = some (iI (tillF Λ w j g t), tw (st g0 11138 y) mi' mn' F' S' M)
  | 0, g, hs, FL, R, D, mi, mn, F, S, t, fu + 1, I, dp, hmi, e1, e2, e9, e4, e5 => by
    have x1 := m_isSo (mi := mi) (mn := mn) (F := F) (S := S) hT I dp w0 w1
    have x2 := m_till_68 (mi := mi) (mn := mn) (F := F) (S := S) (t := t) hT h2 I dp hg w0 w1
    refine ⟨mi, mn, F, S, g 11138, I.dd.2.1, hmi, ?_⟩
    unfold tillF
    rw [← x2]
    show sX8_till_40b (sX8_till_40 fu) _ _ _ _ _ = _
    generalize sX8_till_40 fu = K
    unfold sX8_till_40b
    rw [cV_tw hT, x1, cl_some']
    by_cases c : soB g w = true
    · rw [if_neg (by rw [bI_z]; exact fun q => q c)]
    · rw [if_pos (by rw [bI_z]; exact c), if_pos (by rw [iv_le (by omega) (by omega) (by omega) (by omega)]; omega)]
  | j + 1, g, hs, FL, R, D, mi, mn, F, S, t, fu + 1, I, dp, hmi, e1, e2, e9, e4, e5 => by
    have x1 := m_isSo (mi := mi) (mn := mn) (F := F) (S := S) hT I dp w0 w1
    unfold tillF
    show ∃ mi' mn' F' S' y, 0 ≤ y ∧ clip mi' = mi' ∧ sX8_till_40b (sX8_till_40 fu) _ _ _ _ _ = _
    by_cases c : soB g w = true
    · have x2 := m_till_68 (mi := mi) (mn := mn) (F := F) (S := S) (t := t) hT h2 I dp hg w0 w1
      rw [if_pos c] at x2
      refine ⟨mi, mn, F, S, g 11138, I.dd.2.1, hmi, ?_⟩
      rw [if_pos c, ← x2]
      generalize sX8_till_40 fu = K
      unfold sX8_till_40b
      rw [cV_tw hT, x1, cl_some', if_neg (by rw [bI_z]; exact fun q => q c)]
    · rw [if_neg c]
      obtain ⟨m1, m2, F2, S2, q0, x3⟩ := m_oneTick (mn := mn) (F := F) (S := S) hT hΛ I hmi (by omega)
      by_cases c9 : g 11131 = 9999
      · rw [if_pos c9]
        have cn : ¬ g 11131 < 9999 := by omega
        rw [if_neg cn] at x3
        have x2 := m_till_68 (mi := m1) (mn := m2) (F := F2) (S := S2) (t := t) hT h2 I dp hg w0 w1
        rw [if_neg c] at x2
        refine ⟨m1, m2, F2, S2, g 11138, I.dd.2.1, q0, ?_⟩
        rw [← x2]
        generalize sX8_till_40 fu = K
        unfold sX8_till_40b
        rw [cV_tw hT, x1, cl_some', if_pos (by rw [bI_z]; exact c), if_neg (by rw [iv_le (by omega) (by omega) (by omega) (by omega)]; omega), cV_tw hT, x3, cl_some', if_pos (by rw [bI_z]; exact cn)]
      · rw [if_neg c9]
        have cy : g 11131 < 9999 := by omega
        rw [if_pos cy] at x3
        obtain ⟨K0, hs3, FL3, G3, I3⟩ := I.tick1 (Λ := Λ) cy (by omega)
        have d31 : tickG Λ g 11131 = g 11131 + 1 := I3.dd.2.2
        obtain ⟨m3, m4, F3, S3, y, r0, r1, x4⟩ := m_till_40 hT h2 hΛ hg v1 w0 w1 j _ hs3 FL3 _ _ m1 m2 F2 S2 (t + 1) fu I3 dp q0 (by omega) (by omega) (by omega) (by omega) (by omega)
        refine ⟨m3, m4, F3, S3, y, r0, r1, ?_⟩
        generalize sX8_till_40 fu = K at x4 ⊢
        unfold sX8_till_40b
        rw [cV_tw hT, x1, cl_some', if_pos (by rw [bI_z]; exact c), if_neg (by rw [iv_le (by omega) (by omega) (by omega) (by omega)]; omega), cV_tw hT, x3, cl_some', if_neg (by rw [bI_z]; exact fun q => q cy), iv_add]
        exact x4
theorem m_till (hT : LT M) (h2 : LT2 M) (hΛ : LawT (bkM M 3774 g) Λ) (I : InvS g h FL R D) (hmi : clip mi = mi) (h9 : g 11131 ≤ 9999) {v w : Int} (v0 : -2147483648 ≤ v) (v1 : v ≤ 2147483647) (w0 : -2147483648 ≤ w) (w1 : w ≤ 2147483647) (hR : R + 1400 ≤ 1000000) :
    ∃ mi' mn' F' S' y M', 0 ≤ y ∧ clip mi' = mi' ∧ (M' = M ∨ M' = bkM M 3774 g) ∧ sX8_till (some 3772) (iI v) (iI w) (tw g mi mn F S M) = some (iI (tillS Λ g v w), tw (st g 11138 y) mi' mn' F' S' M') := by
  have same : tw g mi mn F S M = tw (st g 11138 (g 11138)) mi mn F S M := tw_ext (fun x _ _ => by
    by_cases c : x = 11138
    · rw [c, st_eq]
    · rw [st_ne c])
  have d0 := I.dd.2.1
  unfold tillS
  have y1 : ∀ σ, sX8_in (iI v) (iI 1) (iI 200) σ = some (bI (1 ≤ v ∧ v ≤ 200), σ) := fun σ => m_in v0 v1 (by omega) (by omega) (by omega) (by omega)
  have y2 : ∀ σ, sX8_in (iI w) (iI 0) (iI 2) σ = some (bI (0 ≤ w ∧ w ≤ 2), σ) := fun σ => m_in w0 w1 (by omega) (by omega) (by omega) (by omega)
  by_cases c : 1 ≤ v ∧ v ≤ 200
  · rw [if_neg (fun q => q c)]
    by_cases e : 0 ≤ w ∧ w < 3
    · rw [if_neg (fun q => q e)]
      have hTb : LT (bkM M 3774 g) := hT
      have h2b : LT2 (bkM M 3774 g) := h2
      have hG := I.gl
      have x0 := m_copyOut (g := g) (mi := mi) (mn := mn) (F := F) (S := S) hT (Or.inl rfl) h2.2.2.1
      obtain ⟨m1, m2, F2, S2, y, r0, r1, x1⟩ := m_till_40 hTb h2b hΛ (bk_at (g := g)) (v := v) (w := w) (by omega) e.1 e.2 v.toNat _ h FL R _ mi mn F S 0 FU I.anew (by obtain ⟨_, _, _, _, _, _, _, _, _, _, _, _⟩ := hG; show 0 ≤ g 11134; omega) hmi (by omega) (by omega) (by rw [st_ne (by omega)]; exact h9) (by omega) (by unfold FU; omega)
      refine ⟨m1, m2, F2, S2, y, _, r0, r1, Or.inr rfl, ?_⟩
      rw [← x1]
      unfold sX8_till
      rw [y1, cl_some', if_neg (by rw [bI_z]; exact fun q => q c), y2, cl_some', if_neg (by rw [bI_z]; omega), gR_0 hT, gR_m1 hT h2, x0, cl_some', pI_29 hTb]
    · rw [if_pos e]
      refine ⟨mi, mn, F, S, g 11138, M, d0, hmi, Or.inl rfl, ?_⟩
      unfold sX8_till
      rw [y1, cl_some', if_neg (by rw [bI_z]; exact fun q => q c), y2, cl_some', if_pos (by rw [bI_z]; omega), ← same]
  · rw [if_pos c]
    refine ⟨mi, mn, F, S, g 11138, M, d0, hmi, Or.inl rfl, ?_⟩
    unfold sX8_till
    rw [y1, cl_some', if_pos (by rw [bI_z]; exact c), ← same]
end
