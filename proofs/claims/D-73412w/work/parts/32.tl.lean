/-! DEPS: tw -/
/-! TL: the twin's logs -/
section
variable {g mi mn F : Row} {S : Nat → Int32} {M : Mem}
theorem m_min {σ : Mem} {a b : Int} (h0 : -2147483648 ≤ a) (h1 : a ≤ 2147483647) (h2 : -2147483648 ≤ b) (h3 : b ≤ 2147483647) : sX8_min (iI a) (iI b) σ = some (iI (min a b), σ) := by
  simp (disch := first | assumption | omega) only [sX8_min, z10, z00, if_true, if_false, iv_add, iv_sub, iv_mul, iv_le, iv_lt, iv_eq, iv_mx, iv_mn, bI_z, bI_o, rZ0, rZ1, rZb, cl_some', lt_eq, rm_eq, dv_eq, iv_01, iv_10, the, lastA, lpA, st_eq, st_ne, cV_tw, gR_0, gR_3, gR_4, gR_27, gR_28, gI_29, aI_now, aI_mn, aI_mi, aI_fa, sI_now, sI_mn, sI_mi, sI_fa, pI_29]
  split <;> congr 3 <;> omega
theorem m_max {σ : Mem} {a b : Int} (h0 : -2147483648 ≤ a) (h1 : a ≤ 2147483647) (h2 : -2147483648 ≤ b) (h3 : b ≤ 2147483647) : sX8_max (iI a) (iI b) σ = some (iI (max a b), σ) := by
  simp (disch := first | assumption | omega) only [sX8_max, z10, z00, if_true, if_false, iv_add, iv_sub, iv_mul, iv_le, iv_lt, iv_eq, iv_mx, iv_mn, bI_z, bI_o, rZ0, rZ1, rZb, cl_some', lt_eq, rm_eq, dv_eq, iv_01, iv_10, the, lastA, lpA, st_eq, st_ne, cV_tw, gR_0, gR_3, gR_4, gR_27, gR_28, gI_29, aI_now, aI_mn, aI_mi, aI_fa, sI_now, sI_mn, sI_mi, sI_fa, pI_29]
  split <;> congr 3 <;> omega
theorem m_has {σ : Mem} {s k : Int} (h0 : 0 ≤ s) (h1 : s < 128) (h2 : 0 ≤ k) (h3 : k < 7) : sX8_has (iI s) (iI k) σ = some (bI (hasI s k), σ) := by
  simp (disch := first | assumption | omega) only [sX8_has, z10, z00, if_true, if_false, iv_add, iv_sub, iv_mul, iv_le, iv_lt, iv_eq, iv_mx, iv_mn, bI_z, bI_o, rZ0, rZ1, rZb, cl_some', lt_eq, rm_eq, dv_eq, iv_01, iv_10, the, lastA, lpA, st_eq, st_ne, cV_tw, gR_0, gR_3, gR_4, gR_27, gR_28, gI_29, aI_now, aI_mn, aI_mi, aI_fa, sI_now, sI_mn, sI_mi, sI_fa, pI_29, iv_has, ifb]
theorem m_bits {σ : Mem} {s : Int} (h0 : 0 ≤ s) (h1 : s < 128) : sX8_bits (iI s) σ = some (iI (bitsI s), σ) := by
  have hs : ∀ (f : Nat) (v k : Int), 0 ≤ k → k < 7 → sX8_bits_4 (f + 1) (iI s) (iI v) (iI k) σ = sX8_bits_4 f (iI s) (iI (v + ((s.toNat / 2 ^ k.toNat % 2 : Nat) : Int))) (iI (k + 1)) σ := by
    intro f v k h2 h3
    simp (disch := first | assumption | omega) only [sX8_bits_4, sX8_bits_4b, z10, z00, if_true, if_false, iv_add, iv_sub, iv_mul, iv_le, iv_lt, iv_eq, iv_mx, iv_mn, bI_z, bI_o, rZ0, rZ1, rZb, cl_some', lt_eq, rm_eq, dv_eq, iv_01, iv_10, the, lastA, lpA, st_eq, st_ne, cV_tw, gR_0, gR_3, gR_4, gR_27, gR_28, gI_29, aI_now, aI_mn, aI_mi, aI_fa, sI_now, sI_mn, sI_mi, sI_fa, pI_29, iv_bit]
    rw [if_neg (by omega)]
  have he : ∀ (f : Nat) (v : Int), sX8_bits_4 (f + 1) (iI s) (iI v) (iI 7) σ = some (iI v, σ) := by
    intro f v
    simp only [sX8_bits_4, sX8_bits_4b]
    exact if_pos (by decide)
  show sX8_bits_4 (999992 + 7 + 1) (iI s) (iI 0) (iI 0) σ = _
  rw [hs _ _ _ (by omega) (by omega), hs _ _ _ (by omega) (by omega), hs _ _ _ (by omega) (by omega), hs _ _ _ (by omega) (by omega), hs _ _ _ (by omega) (by omega), hs _ _ _ (by omega) (by omega), hs _ _ _ (by omega) (by omega)]
  show sX8_bits_4 (999992 + 1) (iI s) _ (iI 7) σ = _
  rw [he]
  congr 3
  unfold bitsI
  have e0 : Int.toNat 0 = 0 := rfl
  have e1 : Int.toNat (0 + 1) = 1 := rfl
  have e2 : Int.toNat (0 + 1 + 1) = 2 := rfl
  have e3 : Int.toNat (0 + 1 + 1 + 1) = 3 := rfl
  have e4 : Int.toNat (0 + 1 + 1 + 1 + 1) = 4 := rfl
  have e5 : Int.toNat (0 + 1 + 1 + 1 + 1 + 1) = 5 := rfl
  have e6 : Int.toNat (0 + 1 + 1 + 1 + 1 + 1 + 1) = 6 := rfl
  simp only [e0, e1, e2, e3, e4, e5, e6]
  omega
/-! the last configuration -/
theorem cfgF_le (g : Row) (n : Int) : ∀ (k : Nat) (i : Int), g (244 * n + 4) ≤ i → g (244 * n + 4) ≤ cfgF g n k i ∧ cfgF g n k i ≤ i
  | 0, i, h => ⟨h, Int.le_refl _⟩
  | k + 1, i, h => by
    unfold cfgF
    simp only [the, lpA]
    split
    · exact ⟨Int.le_refl _, h⟩
    · split
      · exact ⟨h, Int.le_refl _⟩
      · have := cfgF_le g n k (i - 1) (by omega)
        omega
theorem cfgA_le (g : Row) (n up : Int) (h : g (244 * n + 4) ≤ up) : g (244 * n + 4) ≤ cfgA g n up ∧ cfgA g n up ≤ up := cfgF_le g n _ up h
theorem cfgF_is (g : Row) (n : Int) : ∀ (k : Nat) (i : Int), i - g (244 * n + 4) = k → cfgF g n k i = g (244 * n + 4) ∨ (g (244 * n + 4) < cfgF g n k i ∧ g (lpA g n (cfgF g n k i) + 1) = 1)
  | 0, i, h => Or.inl (by show i = _; omega)
  | k + 1, i, h => by
    unfold cfgF
    simp only [the]
    split
    · exact Or.inl rfl
    · rename_i h1
      split
      · exact Or.inr ⟨by omega, by assumption⟩
      · exact cfgF_is g n k (i - 1) (by omega)
theorem cfgA_is (g : Row) (n up : Int) (h : g (244 * n + 4) ≤ up) : cfgA g n up = g (244 * n + 4) ∨ (g (244 * n + 4) < cfgA g n up ∧ g (lpA g n (cfgA g n up) + 1) = 1) :=
  cfgF_is g n _ up (by simp only [the]; omega)
theorem m_configAt_10 (h : LT M) {n : Int} (hL : LgA g n) : ∀ (k : Nat) (i : Int) (f : Nat), i - g (244 * n + 4) = k → i ≤ g (244 * n + 4) + g (244 * n + 8) → k < f →
    sX8_configAt_10 f (some 3772) (iI n) (iI i) (tw g mi mn F S M) = some (iI (if cfgF g n k i = g (244 * n + 4) then -1 else cfgF g n k i), tw g mi mn F S M)
  | 0, i, f + 1, h1, h2, h3 => by
    obtain ⟨⟨_, _, _, _, _, _, _, _, _, _, _, _, _, _⟩, hE⟩ := hL
    simp (disch := first | assumption | omega) only [sX8_configAt_10, sX8_configAt_10b, m_the, m_logPlace, z10, z00, if_true, if_false, iv_add, iv_sub, iv_mul, iv_le, iv_lt, iv_eq, iv_mx, iv_mn, bI_z, bI_o, rZ0, rZ1, rZb, cl_some', lt_eq, rm_eq, dv_eq, iv_01, iv_10, the, lastA, lpA, st_eq, st_ne, cV_tw, gR_0, gR_3, gR_4, gR_27, gR_28, gI_29, aI_now, aI_mn, aI_mi, aI_fa, sI_now, sI_mn, sI_mi, sI_fa, pI_29]
    rw [if_pos (by omega), if_pos (by show i = _; omega)]
  | k + 1, i, f + 1, h1, h2, h3 => by
    have ih := m_configAt_10 h hL k (i - 1) f (by omega) (by omega) (by omega)
    obtain ⟨⟨_, _, _, _, _, _, _, _, _, _, _, _, _, _⟩, hE⟩ := hL
    have hE1 := hE i (by omega) (by omega)
    unfold EntA at hE1
    simp (disch := first | assumption | omega) only [sX8_configAt_10, sX8_configAt_10b, m_the, m_logPlace, z10, z00, if_true, if_false, iv_add, iv_sub, iv_mul, iv_le, iv_lt, iv_eq, iv_mx, iv_mn, bI_z, bI_o, rZ0, rZ1, rZb, cl_some', lt_eq, rm_eq, dv_eq, iv_01, iv_10, the, lastA, lpA, st_eq, st_ne, cV_tw, gR_0, gR_3, gR_4, gR_27, gR_28, gI_29, aI_now, aI_mn, aI_mi, aI_fa, sI_now, sI_mn, sI_mi, sI_fa, pI_29]
    rw [if_neg (by omega)]
    unfold cfgF
    simp only [the, lpA]
    by_cases c : g (244 * n + 52 + 4 * (i - g (244 * n + 4) - 1) + 1) = 1
    · rw [if_pos c, if_neg (show ¬ i ≤ g (244 * n + 4) by omega), if_pos c, if_neg (by omega)]
    · rw [if_neg c, if_neg (show ¬ i ≤ g (244 * n + 4) by omega), if_neg c]
      exact ih
theorem m_configAt (h : LT M) {n up : Int} (hL : LgA g n) (h0 : g (244 * n + 4) ≤ up) (h1 : up ≤ 2147483647) : sX8_configAt (some 3772) (iI n) (iI up) (tw g mi mn F S M) = some (iI (if cfgA g n (min up (g (244 * n + 4) + g (244 * n + 8))) = g (244 * n + 4) then -1 else cfgA g n (min up (g (244 * n + 4) + g (244 * n + 8)))), tw g mi mn F S M) := by
  have hL' := hL
  obtain ⟨⟨_, _, _, _, _, _, _, _, _, _, _, _, _, _⟩, hE⟩ := hL
  simp (disch := first | assumption | omega) only [sX8_configAt, m_the, m_lastOf, m_min, z10, z00, if_true, if_false, iv_add, iv_sub, iv_mul, iv_le, iv_lt, iv_eq, iv_mx, iv_mn, bI_z, bI_o, rZ0, rZ1, rZb, cl_some', lt_eq, rm_eq, dv_eq, iv_01, iv_10, the, lastA, lpA, st_eq, st_ne, cV_tw, gR_0, gR_3, gR_4, gR_27, gR_28, gI_29, aI_now, aI_mn, aI_mi, aI_fa, sI_now, sI_mn, sI_mi, sI_fa, pI_29]
  refine m_configAt_10 h hL' _ _ _ ?_ ?_ ?_
  · simp only [the]; omega
  · omega
  · unfold FU
    simp only [the]
    omega
theorem m_configTop (h : LT M) {n : Int} (hL : LgA g n) : sX8_configAt (some 3772) (iI n) (iI 999) (tw g mi mn F S M) = some (iI (if cfgA g n (g (244 * n + 4) + g (244 * n + 8)) = g (244 * n + 4) then -1 else cfgA g n (g (244 * n + 4) + g (244 * n + 8))), tw g mi mn F S M) := by
  have hL' := hL
  obtain ⟨⟨_, _, _, _, _, _, _, _, _, _, _, _, _, _⟩, hE⟩ := hL
  rw [m_configAt h hL' (by omega) (by omega), show min 999 (g (244 * n + 4) + g (244 * n + 8)) = g (244 * n + 4) + g (244 * n + 8) by omega]
theorem m_oldOf (h : LT M) {n : Int} (hL : LgA g n) : sX8_oldOf (some 3772) (iI n) (tw g mi mn F S M) = some (iI (oldA g n), tw g mi mn F S M) := by
  have hL' := hL
  obtain ⟨⟨_, _, _, _, _, _, _, _, _, _, _, _, _, _⟩, hE⟩ := hL
  have h1 := cfgA_le g n (g (244 * n + 4) + g (244 * n + 8)) (by omega)
  unfold oldA
  generalize hc : cfgA g n (g (244 * n + 4) + g (244 * n + 8)) = c at h1
  simp (disch := first | assumption | omega) only [sX8_oldOf, m_the, m_configTop, m_logPlace, z10, z00, if_true, if_false, iv_add, iv_sub, iv_mul, iv_le, iv_lt, iv_eq, iv_mx, iv_mn, bI_z, bI_o, rZ0, rZ1, rZb, cl_some', lt_eq, rm_eq, dv_eq, iv_01, iv_10, the, lastA, lpA, st_eq, st_ne, cV_tw, gR_0, gR_3, gR_4, gR_27, gR_28, gI_29, aI_now, aI_mn, aI_mi, aI_fa, sI_now, sI_mn, sI_mi, sI_fa, pI_29, hc]
  by_cases e : c = g (244 * n + 4)
  · simp (disch := first | assumption | omega) only [e, if_true, z10, z00, if_true, if_false, iv_add, iv_sub, iv_mul, iv_le, iv_lt, iv_eq, iv_mx, iv_mn, bI_z, bI_o, rZ0, rZ1, rZb, cl_some', lt_eq, rm_eq, dv_eq, iv_01, iv_10, the, lastA, lpA, st_eq, st_ne, cV_tw, gR_0, gR_3, gR_4, gR_27, gR_28, gI_29, aI_now, aI_mn, aI_mi, aI_fa, sI_now, sI_mn, sI_mi, sI_fa, pI_29]
  · simp (disch := first | assumption | omega) only [e, if_false, z10, z00, if_true, if_false, iv_add, iv_sub, iv_mul, iv_le, iv_lt, iv_eq, iv_mx, iv_mn, bI_z, bI_o, rZ0, rZ1, rZb, cl_some', lt_eq, rm_eq, dv_eq, iv_01, iv_10, the, lastA, lpA, st_eq, st_ne, cV_tw, gR_0, gR_3, gR_4, gR_27, gR_28, gI_29, aI_now, aI_mn, aI_mi, aI_fa, sI_now, sI_mn, sI_mi, sI_fa, pI_29, m_logPlace]
    rw [if_neg (by omega)]
theorem m_newOf (h : LT M) {n : Int} (hL : LgA g n) : sX8_newOf (some 3772) (iI n) (tw g mi mn F S M) = some (iI (newA g n), tw g mi mn F S M) := by
  have hL' := hL
  obtain ⟨⟨_, _, _, _, _, _, _, _, _, _, _, _, _, _⟩, hE⟩ := hL
  have h1 := cfgA_le g n (g (244 * n + 4) + g (244 * n + 8)) (by omega)
  unfold newA
  generalize hc : cfgA g n (g (244 * n + 4) + g (244 * n + 8)) = c at h1
  simp (disch := first | assumption | omega) only [sX8_newOf, m_the, m_configTop, m_logPlace, z10, z00, if_true, if_false, iv_add, iv_sub, iv_mul, iv_le, iv_lt, iv_eq, iv_mx, iv_mn, bI_z, bI_o, rZ0, rZ1, rZb, cl_some', lt_eq, rm_eq, dv_eq, iv_01, iv_10, the, lastA, lpA, st_eq, st_ne, cV_tw, gR_0, gR_3, gR_4, gR_27, gR_28, gI_29, aI_now, aI_mn, aI_mi, aI_fa, sI_now, sI_mn, sI_mi, sI_fa, pI_29, hc]
  by_cases e : c = g (244 * n + 4)
  · simp (disch := first | assumption | omega) only [e, if_true, z10, z00, if_true, if_false, iv_add, iv_sub, iv_mul, iv_le, iv_lt, iv_eq, iv_mx, iv_mn, bI_z, bI_o, rZ0, rZ1, rZb, cl_some', lt_eq, rm_eq, dv_eq, iv_01, iv_10, the, lastA, lpA, st_eq, st_ne, cV_tw, gR_0, gR_3, gR_4, gR_27, gR_28, gI_29, aI_now, aI_mn, aI_mi, aI_fa, sI_now, sI_mn, sI_mi, sI_fa, pI_29]
  · simp (disch := first | assumption | omega) only [e, if_false, z10, z00, if_true, if_false, iv_add, iv_sub, iv_mul, iv_le, iv_lt, iv_eq, iv_mx, iv_mn, bI_z, bI_o, rZ0, rZ1, rZb, cl_some', lt_eq, rm_eq, dv_eq, iv_01, iv_10, the, lastA, lpA, st_eq, st_ne, cV_tw, gR_0, gR_3, gR_4, gR_27, gR_28, gI_29, aI_now, aI_mn, aI_mi, aI_fa, sI_now, sI_mn, sI_mi, sI_fa, pI_29, m_logPlace]
    rw [if_neg (by omega)]
theorem oldR {n : Int} (hL : LgA g n) : 0 ≤ oldA g n ∧ oldA g n < 128 := by
  obtain ⟨⟨_, _, _, _, _, _, _, _, _, _, _, _, _, _⟩, hE⟩ := hL
  have h1 := cfgA_le g n (g (244 * n + 4) + g (244 * n + 8)) (by omega)
  unfold oldA
  simp only [the, lastA, lpA]
  split
  · omega
  · have := hE _ (by omega) h1.2
    unfold EntA at this
    omega
theorem newR {n : Int} (hL : LgA g n) : 0 ≤ newA g n ∧ newA g n < 128 := by
  obtain ⟨⟨_, _, _, _, _, _, _, _, _, _, _, _, _, _⟩, hE⟩ := hL
  have h1 := cfgA_le g n (g (244 * n + 4) + g (244 * n + 8)) (by omega)
  unfold newA
  simp only [the, lastA, lpA]
  split
  · omega
  · have := hE _ (by omega) h1.2
    unfold EntA at this
    omega
theorem membR {n : Int} (hL : LgA g n) : 0 ≤ membA g n ∧ membA g n < 128 :=
  orR (oldR hL).1 (oldR hL).2 (newR hL).1 (newR hL).2
theorem m_membersOf (h : LT M) {n : Int} (hL : LgA g n) : sX8_membersOf (some 3772) (iI n) (tw g mi mn F S M) = some (iI (membA g n), tw g mi mn F S M) := by
  have h1 := oldR hL
  have h2 := newR hL
  simp (disch := first | assumption | omega) only [sX8_membersOf, m_oldOf, m_newOf, z10, z00, if_true, if_false, iv_add, iv_sub, iv_mul, iv_le, iv_lt, iv_eq, iv_mx, iv_mn, bI_z, bI_o, rZ0, rZ1, rZb, cl_some', lt_eq, rm_eq, dv_eq, iv_01, iv_10, the, lastA, lpA, st_eq, st_ne, cV_tw, gR_0, gR_3, gR_4, gR_27, gR_28, gI_29, aI_now, aI_mn, aI_mi, aI_fa, sI_now, sI_mn, sI_mi, sI_fa, pI_29, iv_or, membA]
theorem m_isMost (h : LT M) {n s : Int} (hL : LgA g n) (h0 : 0 ≤ s) (h9 : s < 128) : sX8_isMost (some 3772) (iI n) (iI s) (tw g mi mn F S M) = some (bI (mostA g n s), tw g mi mn F S M) := by
  obtain ⟨_, _⟩ := oldR hL
  obtain ⟨_, _⟩ := newR hL
  obtain ⟨_, _⟩ := andR h0 h9 (oldR hL).1 (oldR hL).2
  obtain ⟨_, _⟩ := andR h0 h9 (newR hL).1 (newR hL).2
  obtain ⟨_, _⟩ := bitsR (oldR hL).1 (oldR hL).2
  obtain ⟨_, _⟩ := bitsR (newR hL).1 (newR hL).2
  obtain ⟨_, _⟩ := bitsR (andR h0 h9 (oldR hL).1 (oldR hL).2).1 (andR h0 h9 (oldR hL).1 (oldR hL).2).2
  obtain ⟨_, _⟩ := bitsR (andR h0 h9 (newR hL).1 (newR hL).2).1 (andR h0 h9 (newR hL).1 (newR hL).2).2
  unfold mostA
  simp (disch := first | assumption | omega) only [sX8_isMost, m_oldOf, m_newOf, m_bits, z10, z00, if_true, if_false, iv_add, iv_sub, iv_mul, iv_le, iv_lt, iv_eq, iv_mx, iv_mn, bI_z, bI_o, rZ0, rZ1, rZb, cl_some', lt_eq, rm_eq, dv_eq, iv_01, iv_10, the, lastA, lpA, st_eq, st_ne, cV_tw, gR_0, gR_3, gR_4, gR_27, gR_28, gI_29, aI_now, aI_mn, aI_mi, aI_fa, sI_now, sI_mn, sI_mi, sI_fa, pI_29, iv_and]
  by_cases c1 : 2 * bitsI (andI s (oldA g n)) ≤ bitsI (oldA g n)
  · rw [if_pos c1, bI_f (by omega)]
  · rw [if_neg c1]
    by_cases c2 : newA g n = 0
    · rw [if_pos c2, bI_t ⟨by omega, Or.inl c2⟩]
    · rw [if_neg c2]
      by_cases c3 : 2 * bitsI (andI s (newA g n)) ≤ bitsI (newA g n)
      · rw [if_pos c3, bI_f (by omega)]
      · rw [if_neg c3, bI_t ⟨by omega, Or.inr (by omega)⟩]
theorem m_isHeldConfig (h : LT M) {n : Int} (hL : LgA g n) : sX8_isHeldConfig (some 3772) (iI n) (tw g mi mn F S M) = some (bI (cfgHeld g n), tw g mi mn F S M) := by
  have hL' := hL
  obtain ⟨⟨_, _, _, _, _, _, _, _, _, _, _, _, _, _⟩, hE⟩ := hL
  have h1 := cfgA_le g n (g (244 * n + 4) + g (244 * n + 8)) (by omega)
  unfold cfgHeld
  simp only [lastA, the]
  generalize hc : cfgA g n (g (244 * n + 4) + g (244 * n + 8)) = c at h1
  simp (disch := first | assumption | omega) only [sX8_isHeldConfig, m_the, m_configTop, z10, z00, if_true, if_false, iv_add, iv_sub, iv_mul, iv_le, iv_lt, iv_eq, iv_mx, iv_mn, bI_z, bI_o, rZ0, rZ1, rZb, cl_some', lt_eq, rm_eq, dv_eq, iv_01, iv_10, the, lastA, lpA, st_eq, st_ne, cV_tw, gR_0, gR_3, gR_4, gR_27, gR_28, gI_29, aI_now, aI_mn, aI_mi, aI_fa, sI_now, sI_mn, sI_mi, sI_fa, pI_29, hc]
  by_cases e : c = g (244 * n + 4)
  · simp (disch := first | assumption | omega) only [e, if_true, z10, z00, if_true, if_false, iv_add, iv_sub, iv_mul, iv_le, iv_lt, iv_eq, iv_mx, iv_mn, bI_z, bI_o, rZ0, rZ1, rZb, cl_some', lt_eq, rm_eq, dv_eq, iv_01, iv_10, the, lastA, lpA, st_eq, st_ne, cV_tw, gR_0, gR_3, gR_4, gR_27, gR_28, gI_29, aI_now, aI_mn, aI_mi, aI_fa, sI_now, sI_mn, sI_mi, sI_fa, pI_29]
    rw [if_neg (by omega), bI_t (by omega)]
  · simp (disch := first | assumption | omega) only [e, if_false, z10, z00, if_true, if_false, iv_add, iv_sub, iv_mul, iv_le, iv_lt, iv_eq, iv_mx, iv_mn, bI_z, bI_o, rZ0, rZ1, rZb, cl_some', lt_eq, rm_eq, dv_eq, iv_01, iv_10, the, lastA, lpA, st_eq, st_ne, cV_tw, gR_0, gR_3, gR_4, gR_27, gR_28, gI_29, aI_now, aI_mn, aI_mi, aI_fa, sI_now, sI_mn, sI_mi, sI_fa, pI_29]
    by_cases c1 : g (244 * n + 9) < c
    · rw [if_pos c1, bI_f (by omega)]
    · rw [if_neg c1, bI_t (by omega)]
end
