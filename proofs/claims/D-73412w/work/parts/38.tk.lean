/-! DEPS: tc -/
/-! TK: the twin's commits grow -/
section
variable {g mi mn F : Row} {S : Nat → Int32} {M : Mem} {Λ : Law}
theorem LgA_ext2 {g' : Row} {n : Int} (he : ∀ x, 244 * n + 4 ≤ x → x < 244 * n + 244 → (x < 244 * n + 10 ∨ 244 * n + 52 ≤ x) → g' x = g x) (hL : LgA g n) : LgA g' n := by
  obtain ⟨⟨_, _, _, _, _, _, _, _, _, _, _, _, _, _⟩, hE⟩ := hL
  unfold LgA
  rw [he (244 * n + 4) (by omega) (by omega) (by omega), he (244 * n + 5) (by omega) (by omega) (by omega), he (244 * n + 6) (by omega) (by omega) (by omega), he (244 * n + 7) (by omega) (by omega) (by omega), he (244 * n + 8) (by omega) (by omega) (by omega), he (244 * n + 9) (by omega) (by omega) (by omega)]
  refine ⟨by omega, fun i hi1 hi2 => ?_⟩
  have := hE i hi1 hi2
  unfold EntA at this ⊢
  rw [he _ (by omega) (by omega) (by omega), he _ (by omega) (by omega) (by omega), he _ (by omega) (by omega) (by omega), he _ (by omega) (by omega) (by omega)]
  exact this
def CmA (g : Row) (n : Int) : Prop := LgA g n ∧ HdA g ∧ GlA g
theorem GlA_ext {g' : Row} (hG : GlA g) (h1 : g' 11131 = g 11131) (h2 : g' 11132 = g 11132) (h3 : g' 11133 = g 11133) (h4 : 0 ≤ g' 11134 ∧ g' 11134 ≤ 999) (h5 : g' 11135 = g 11135) (h7 : g' 11137 = g 11137) : GlA g' := by
  obtain ⟨_, _, _, _, _, _, _, _, _, _, _, _⟩ := hG
  unfold GlA
  rw [h1, h2, h3, h5, h7]
  omega
theorem seen0_34 {a i : Int} : seen0 g a i 11134 = g 11134 ∨ seen0 g a i 11134 = max (g 11134) i ∨ (6028 + 4 * i ≤ 11134 ∧ 11134 < 6032 + 4 * i) := by
  unfold seen0
  split
  · unfold seen1
    by_cases c : 6028 + 4 * i ≤ 11134 ∧ 11134 < 6032 + 4 * i
    · exact Or.inr (Or.inr c)
    · rw [if_neg c, if_pos rfl]
      exact Or.inr (Or.inl rfl)
  · split
    · exact Or.inl rfl
    · exact Or.inl (st_ne (by omega))
theorem seenG_Cm {n i : Int} (hC : CmA g n) (hi0 : g (244 * n + 4) < i) (hi : i ≤ g (244 * n + 4) + g (244 * n + 8)) : CmA (seenG g n i) n := by
  obtain ⟨hL, hH, hG⟩ := hC
  have hL' := hL
  have hG' := hG
  obtain ⟨⟨_, _, _, _, _, _, _, _, _, _, _, _, _, _⟩, hE⟩ := hL
  obtain ⟨_, _, _, _, _, _, _, _, _, _, _, _⟩ := hG
  have hE1 := hE i hi0 hi
  have o := fun x => seenG_ne (g := g) (n := n) (i := i) (x := x) hE1
  have hEq : ∀ x, 6028 ≤ x → keyG g n i x = g x := fun x hx => keyG_ne hE1 (by omega)
  refine ⟨LgA_ext2 (fun x _ _ _ => o x (by omega) (by omega) (by omega) (by omega) (by omega)) hL', ?_, ?_⟩
  · intro x h0 h1
    by_cases c : 6028 + 4 * i ≤ x ∧ x < 6032 + 4 * i
    · have hx := hH x h0 h1
      rw [seenG_eq]
      unfold seen0
      split
      · unfold seen1
        rw [if_pos c]
        unfold EntA at hE1
        simp only [lpA, the]
        rw [keyG_ne (by unfold EntA; exact hE1) (by omega)]
        rcases (show x = 6028 + 4 * i ∨ x = 6028 + 4 * i + 1 ∨ x = 6028 + 4 * i + 2 ∨ x = 6028 + 4 * i + 3 by omega) with e | e | e | e <;> rw [e]
        · rw [show 244 * n + 52 + 4 * (i - g (244 * n + 4) - 1) + (6028 + 4 * i - (6028 + 4 * i)) = 244 * n + 52 + 4 * (i - g (244 * n + 4) - 1) by omega]; omega
        · rw [show 244 * n + 52 + 4 * (i - g (244 * n + 4) - 1) + (6028 + 4 * i + 1 - (6028 + 4 * i)) = 244 * n + 52 + 4 * (i - g (244 * n + 4) - 1) + 1 by omega]; omega
        · rw [show 244 * n + 52 + 4 * (i - g (244 * n + 4) - 1) + (6028 + 4 * i + 2 - (6028 + 4 * i)) = 244 * n + 52 + 4 * (i - g (244 * n + 4) - 1) + 2 by omega]; omega
        · rw [show 244 * n + 52 + 4 * (i - g (244 * n + 4) - 1) + (6028 + 4 * i + 3 - (6028 + 4 * i)) = 244 * n + 52 + 4 * (i - g (244 * n + 4) - 1) + 3 by omega]; omega
      · split
        · rw [hEq x h0]; exact hx
        · unfold breakG
          rw [st_ne (by omega), hEq x h0]
          exact hx
    · rw [o x (by omega) (by omega) (by omega) (by omega) (by omega)]
      exact hH x h0 h1
  · refine GlA_ext hG' (o _ (by omega) (by omega) (by omega) (by omega) (by omega)) (o _ (by omega) (by omega) (by omega) (by omega) (by omega)) (o _ (by omega) (by omega) (by omega) (by omega) (by omega)) ?_ (o _ (by omega) (by omega) (by omega) (by omega) (by omega)) (o _ (by omega) (by omega) (by omega) (by omega) (by omega))
    rw [seenG_eq]
    have e := hEq 11134 (by omega)
    rcases seen0_34 (g := keyG g n i) (a := lpA g n i) (i := i) with h | h | h
    · rw [h, e]; omega
    · rw [h, e]; omega
    · omega
theorem m_grows_10 (h : LT M) {n t : Int} : ∀ (j : Nat) (g : Row) (i : Int) (fu : Nat), CmA g n → g (244 * n + 9) < i → i ≤ t + 1 → t ≤ g (244 * n + 4) + g (244 * n + 8) → t + 1 - i = j → j < fu →
    sX8_growsCommit_10 fu (some 3772) (iI n) (iI t) (iI i) (tw g mi mn F S M) = some ((), tw (st (growF n j g i) (244 * n + 9) (max (g (244 * n + 9)) t)) mi mn F S M)
  | 0, g, i, fu + 1, hC, h1, h2, h3, e1, e2 => by
    obtain ⟨hL, hH, hG⟩ := hC
    obtain ⟨⟨_, _, _, _, _, _, _, _, _, _, _, _, _, _⟩, hE⟩ := hL
    simp (disch := first | assumption | omega) only [sX8_growsCommit_10, sX8_growsCommit_10b, m_the, m_max, m_sets, z10, z00, if_true, if_false, iv_add, iv_sub, iv_mul, iv_le, iv_lt, iv_eq, iv_mx, iv_mn, bI_z, bI_o, rZ0, rZ1, rZb, cl_some', lt_eq, rm_eq, dv_eq, iv_01, iv_10, the, lastA, lpA, st_eq, st_ne, cV_tw, gR_0, gR_3, gR_4, gR_27, gR_28, gI_29, aI_now, aI_mn, aI_mi, aI_fa, sI_now, sI_mn, sI_mi, sI_fa, pI_29]
    rw [if_pos (by omega)]
    rfl
  | j + 1, g, i, fu + 1, hC, h1, h2, h3, e1, e2 => by
    have hC' := hC
    obtain ⟨hL, hH, hG⟩ := hC
    have hL' := hL
    obtain ⟨⟨_, _, _, _, _, _, _, _, _, _, _, _, _, _⟩, hE⟩ := hL
    have hE1 := hE i (by omega) (by omega)
    have o := fun x => seenG_ne (g := g) (n := n) (i := i) (x := x) hE1
    have o4 : seenG g n i (244 * n + 4) = g (244 * n + 4) := o _ (by omega) (by omega) (by omega) (by omega) (by omega)
    have o8 : seenG g n i (244 * n + 8) = g (244 * n + 8) := o _ (by omega) (by omega) (by omega) (by omega) (by omega)
    have o9 : seenG g n i (244 * n + 9) = g (244 * n + 9) := o _ (by omega) (by omega) (by omega) (by omega) (by omega)
    have hGH : 0 ≤ g 11134 ∧ g 11134 ≤ 999 := by
      obtain ⟨_, _, _, _, _, _, _, _, _, _, _, _⟩ := hG
      omega
    have ih := m_grows_10 (n := n) (t := t) h j (seenG g n i) (i + 1) fu (seenG_Cm hC' (by omega) (by omega)) (by rw [o9]; omega) (by omega) (by rw [o4, o8]; omega) (by omega) (by omega)
    rw [o9] at ih
    have e := m_seesHeld (mi := mi) (mn := mn) (F := F) (S := S) h hL' (i := i) (by omega) (by omega) hH hGH
    have eh := m_hasEntry (mi := mi) (mn := mn) (F := F) (S := S) h hL' (i := i) (by omega) (by omega)
    have he : hasEnt g n i := by
      unfold hasEnt
      simp only [the, lastA]
      omega
    simp (disch := first | assumption | omega) only [sX8_growsCommit_10, sX8_growsCommit_10b, sX8_growsCommit_30, z10, z00, if_true, if_false, iv_add, iv_sub, iv_mul, iv_le, iv_lt, iv_eq, iv_mx, iv_mn, bI_z, bI_o, rZ0, rZ1, rZb, cl_some', lt_eq, rm_eq, dv_eq, iv_01, iv_10, the, lastA, lpA, st_eq, st_ne, cV_tw, gR_0, gR_3, gR_4, gR_27, gR_28, gI_29, aI_now, aI_mn, aI_mi, aI_fa, sI_now, sI_mn, sI_mi, sI_fa, pI_29, e, eh]
    rw [if_neg (by omega), if_neg (fun hc => hc he)]
    exact ih
theorem m_growsCommit (h : LT M) {n t : Int} (hC : CmA g n) (h3 : t ≤ g (244 * n + 4) + g (244 * n + 8)) (h4 : -2147483648 ≤ t) :
    sX8_growsCommit (some 3772) (iI n) (iI t) (tw g mi mn F S M) = some ((), tw (growG g n t) mi mn F S M) := by
  have hC' := hC
  obtain ⟨hL, hH, hG⟩ := hC
  obtain ⟨⟨_, _, _, _, _, _, _, _, _, _, _, _, _, _⟩, hE⟩ := hL
  unfold growG
  simp only [the]
  simp (disch := first | assumption | omega) only [sX8_growsCommit, m_the, z10, z00, if_true, if_false, iv_add, iv_sub, iv_mul, iv_le, iv_lt, iv_eq, iv_mx, iv_mn, bI_z, bI_o, rZ0, rZ1, rZb, cl_some', lt_eq, rm_eq, dv_eq, iv_01, iv_10, the, lastA, lpA, st_eq, st_ne, cV_tw, gR_0, gR_3, gR_4, gR_27, gR_28, gI_29, aI_now, aI_mn, aI_mi, aI_fa, sI_now, sI_mn, sI_mi, sI_fa, pI_29]
  by_cases c : g (244 * n + 9) ≤ t
  · exact m_grows_10 h _ g _ FU hC' (by omega) (by omega) h3 (by omega) (by unfold FU; omega)
  · rw [show (t - g (244 * n + 9)).toNat = 0 by omega]
    show sX8_growsCommit_10 (999999 + 1) _ _ _ _ _ = _
    generalize 999999 = fu
    simp (disch := first | assumption | omega) only [sX8_growsCommit_10, sX8_growsCommit_10b, m_the, m_max, m_sets, z10, z00, if_true, if_false, iv_add, iv_sub, iv_mul, iv_le, iv_lt, iv_eq, iv_mx, iv_mn, bI_z, bI_o, rZ0, rZ1, rZb, cl_some', lt_eq, rm_eq, dv_eq, iv_01, iv_10, the, lastA, lpA, st_eq, st_ne, cV_tw, gR_0, gR_3, gR_4, gR_27, gR_28, gI_29, aI_now, aI_mn, aI_mi, aI_fa, sI_now, sI_mn, sI_mi, sI_fa, pI_29]
    rw [if_pos (by omega)]
    rfl
/-! who has matched, who was heard -/
theorem m_whoMatch_7 (h : LT M) {n i : Int} (h0 : 0 ≤ n) (h1 : n < 7) (hi : -2147483648 ≤ i ∧ i ≤ 2147483647) (hM : ∀ k, 0 ≤ k → k < 7 → 0 ≤ g (244 * n + (38 + k)) ∧ g (244 * n + (38 + k)) ≤ 999) : ∀ (j : Nat) (s k : Int) (fu : Nat), 7 - k = j → 0 ≤ k → j < fu → 0 ≤ s → s < 128 →
    sX8_whoMatch_7 fu (some 3772) (iI n) (iI i) (iI s) (iI k) (tw g mi mn F S M) = some (iI (whoF g n 38 i j s k), tw g mi mn F S M) ∧ 0 ≤ whoF g n 38 i j s k ∧ whoF g n 38 i j s k < 128
  | 0, s, k, fu + 1, e1, e2, e3, h2, h3 => by
    refine ⟨?_, h2, h3⟩
    simp (disch := first | assumption | omega) only [sX8_whoMatch_7, sX8_whoMatch_7b, z10, z00, if_true, if_false, iv_add, iv_sub, iv_mul, iv_le, iv_lt, iv_eq, iv_mx, iv_mn, bI_z, bI_o, rZ0, rZ1, rZb, cl_some', lt_eq, rm_eq, dv_eq, iv_01, iv_10, the, lastA, lpA, st_eq, st_ne, cV_tw, gR_0, gR_3, gR_4, gR_27, gR_28, gI_29, aI_now, aI_mn, aI_mi, aI_fa, sI_now, sI_mn, sI_mi, sI_fa, pI_29]
    rw [if_pos (by omega)]
    rfl
  | j + 1, s, k, fu + 1, e1, e2, e3, h2, h3 => by
    obtain ⟨_, _⟩ := hM k e2 (by omega)
    obtain ⟨_, _⟩ := bitR e2 (show k < 7 by omega)
    obtain ⟨_, _⟩ := orR h2 h3 (show 0 ≤ bitI k by omega) (by omega)
    unfold whoF
    simp only [the]
    by_cases c : i ≤ g (244 * n + (38 + k))
    · rw [if_pos c]
      have ih := m_whoMatch_7 h h0 h1 hi hM j (orI s (bitI k)) (k + 1) fu (by omega) (by omega) (by omega) (by omega) (by omega)
      refine ⟨?_, ih.2⟩
      simp (disch := first | assumption | omega) only [sX8_whoMatch_7, sX8_whoMatch_7b, sX8_whoMatch_35, m_the, z10, z00, if_true, if_false, iv_add, iv_sub, iv_mul, iv_le, iv_lt, iv_eq, iv_mx, iv_mn, bI_z, bI_o, rZ0, rZ1, rZb, cl_some', lt_eq, rm_eq, dv_eq, iv_01, iv_10, the, lastA, lpA, st_eq, st_ne, cV_tw, gR_0, gR_3, gR_4, gR_27, gR_28, gI_29, aI_now, aI_mn, aI_mi, aI_fa, sI_now, sI_mn, sI_mi, sI_fa, pI_29, iv_shl, iv_or]
      rw [if_neg (by omega), if_neg (by omega)]
      exact ih.1
    · rw [if_neg c]
      have ih := m_whoMatch_7 h h0 h1 hi hM j s (k + 1) fu (by omega) (by omega) (by omega) (by omega) (by omega)
      refine ⟨?_, ih.2⟩
      simp (disch := first | assumption | omega) only [sX8_whoMatch_7, sX8_whoMatch_7b, sX8_whoMatch_35, m_the, z10, z00, if_true, if_false, iv_add, iv_sub, iv_mul, iv_le, iv_lt, iv_eq, iv_mx, iv_mn, bI_z, bI_o, rZ0, rZ1, rZb, cl_some', lt_eq, rm_eq, dv_eq, iv_01, iv_10, the, lastA, lpA, st_eq, st_ne, cV_tw, gR_0, gR_3, gR_4, gR_27, gR_28, gI_29, aI_now, aI_mn, aI_mi, aI_fa, sI_now, sI_mn, sI_mi, sI_fa, pI_29, iv_shl, iv_or]
      rw [if_neg (by omega), if_pos (by omega)]
      exact ih.1
theorem m_whoMatch (h : LT M) {n i : Int} (h0 : 0 ≤ n) (h1 : n < 7) (hi : -2147483648 ≤ i ∧ i ≤ 2147483647) (hM : ∀ k, 0 ≤ k → k < 7 → 0 ≤ g (244 * n + (38 + k)) ∧ g (244 * n + (38 + k)) ≤ 999) :
    sX8_whoMatch (some 3772) (iI n) (iI i) (tw g mi mn F S M) = some (iI (whoMatchA g n i), tw g mi mn F S M) ∧ 0 ≤ whoMatchA g n i ∧ whoMatchA g n i < 128 := by
  obtain ⟨_, _⟩ := bitR h0 h1
  have := m_whoMatch_7 (mi := mi) (mn := mn) (F := F) (S := S) h h0 h1 hi hM 7 (bitI n) 0 FU (by omega) (by omega) (by unfold FU; omega) (by omega) (by omega)
  refine ⟨?_, this.2⟩
  simp (disch := first | assumption | omega) only [sX8_whoMatch, iv_shl]
  exact this.1
theorem m_whoHeard_7 (h : LT M) {n i : Int} (h0 : 0 ≤ n) (h1 : n < 7) (hi : -2147483648 ≤ i ∧ i ≤ 2147483647) (hM : ∀ k, 0 ≤ k → k < 7 → 0 ≤ g (244 * n + (45 + k)) ∧ g (244 * n + (45 + k)) ≤ 1000000) : ∀ (j : Nat) (s k : Int) (fu : Nat), 7 - k = j → 0 ≤ k → j < fu → 0 ≤ s → s < 128 →
    sX8_whoHeard_7 fu (some 3772) (iI n) (iI i) (iI s) (iI k) (tw g mi mn F S M) = some (iI (whoF g n 45 i j s k), tw g mi mn F S M) ∧ 0 ≤ whoF g n 45 i j s k ∧ whoF g n 45 i j s k < 128
  | 0, s, k, fu + 1, e1, e2, e3, h2, h3 => by
    refine ⟨?_, h2, h3⟩
    simp (disch := first | assumption | omega) only [sX8_whoHeard_7, sX8_whoHeard_7b, z10, z00, if_true, if_false, iv_add, iv_sub, iv_mul, iv_le, iv_lt, iv_eq, iv_mx, iv_mn, bI_z, bI_o, rZ0, rZ1, rZb, cl_some', lt_eq, rm_eq, dv_eq, iv_01, iv_10, the, lastA, lpA, st_eq, st_ne, cV_tw, gR_0, gR_3, gR_4, gR_27, gR_28, gI_29, aI_now, aI_mn, aI_mi, aI_fa, sI_now, sI_mn, sI_mi, sI_fa, pI_29]
    rw [if_pos (by omega)]
    rfl
  | j + 1, s, k, fu + 1, e1, e2, e3, h2, h3 => by
    obtain ⟨_, _⟩ := hM k e2 (by omega)
    obtain ⟨_, _⟩ := bitR e2 (show k < 7 by omega)
    obtain ⟨_, _⟩ := orR h2 h3 (show 0 ≤ bitI k by omega) (by omega)
    unfold whoF
    simp only [the]
    by_cases c : i ≤ g (244 * n + (45 + k))
    · rw [if_pos c]
      have ih := m_whoHeard_7 h h0 h1 hi hM j (orI s (bitI k)) (k + 1) fu (by omega) (by omega) (by omega) (by omega) (by omega)
      refine ⟨?_, ih.2⟩
      simp (disch := first | assumption | omega) only [sX8_whoHeard_7, sX8_whoHeard_7b, sX8_whoHeard_35, m_the, z10, z00, if_true, if_false, iv_add, iv_sub, iv_mul, iv_le, iv_lt, iv_eq, iv_mx, iv_mn, bI_z, bI_o, rZ0, rZ1, rZb, cl_some', lt_eq, rm_eq, dv_eq, iv_01, iv_10, the, lastA, lpA, st_eq, st_ne, cV_tw, gR_0, gR_3, gR_4, gR_27, gR_28, gI_29, aI_now, aI_mn, aI_mi, aI_fa, sI_now, sI_mn, sI_mi, sI_fa, pI_29, iv_shl, iv_or]
      rw [if_neg (by omega), if_neg (by omega)]
      exact ih.1
    · rw [if_neg c]
      have ih := m_whoHeard_7 h h0 h1 hi hM j s (k + 1) fu (by omega) (by omega) (by omega) (by omega) (by omega)
      refine ⟨?_, ih.2⟩
      simp (disch := first | assumption | omega) only [sX8_whoHeard_7, sX8_whoHeard_7b, sX8_whoHeard_35, m_the, z10, z00, if_true, if_false, iv_add, iv_sub, iv_mul, iv_le, iv_lt, iv_eq, iv_mx, iv_mn, bI_z, bI_o, rZ0, rZ1, rZb, cl_some', lt_eq, rm_eq, dv_eq, iv_01, iv_10, the, lastA, lpA, st_eq, st_ne, cV_tw, gR_0, gR_3, gR_4, gR_27, gR_28, gI_29, aI_now, aI_mn, aI_mi, aI_fa, sI_now, sI_mn, sI_mi, sI_fa, pI_29, iv_shl, iv_or]
      rw [if_neg (by omega), if_pos (by omega)]
      exact ih.1
theorem m_whoHeard (h : LT M) {n i : Int} (h0 : 0 ≤ n) (h1 : n < 7) (hi : -2147483648 ≤ i ∧ i ≤ 2147483647) (hM : ∀ k, 0 ≤ k → k < 7 → 0 ≤ g (244 * n + (45 + k)) ∧ g (244 * n + (45 + k)) ≤ 1000000) :
    sX8_whoHeard (some 3772) (iI n) (iI i) (tw g mi mn F S M) = some (iI (whoHeardA g n i), tw g mi mn F S M) ∧ 0 ≤ whoHeardA g n i ∧ whoHeardA g n i < 128 := by
  obtain ⟨_, _⟩ := bitR h0 h1
  have := m_whoHeard_7 (mi := mi) (mn := mn) (F := F) (S := S) h h0 h1 hi hM 7 (bitI n) 0 FU (by omega) (by omega) (by unfold FU; omega) (by omega) (by omega)
  refine ⟨?_, this.2⟩
  simp (disch := first | assumption | omega) only [sX8_whoHeard, iv_shl]
  exact this.1
end
