/-! DEPS: tl -/
/-! TG: the twin's logs, what changes them -/
section
variable {g mi mn F : Row} {S : Nat → Int32} {M : Mem}
/-- k places are copied down by b, from place p on -/
def cpG (g : Row) (p b k : Int) : Row := fun x => if p ≤ x ∧ x < p + k then g (x + b) else g x
theorem cp0 (g : Row) (p b : Int) : cpG g p b 0 = g := by
  funext x
  unfold cpG
  rw [if_neg (by omega)]
theorem cpS {g : Row} {p b k : Int} (hb : 0 ≤ b) (hk : 0 ≤ k) : st (cpG g p b k) (p + k) (cpG g p b k (p + k + b)) = cpG g p b (k + 1) := by
  funext x
  unfold st cpG
  by_cases h1 : x = p + k
  · rw [if_pos h1, if_neg (by omega), if_pos (by omega), h1]
  · rw [if_neg h1]
    by_cases h2 : p ≤ x ∧ x < p + k
    · rw [if_pos h2, if_pos (by omega)]
    · rw [if_neg h2, if_neg (by omega)]
/-- k places are written, each from b below -/
def kpG (g : Row) (p b k : Int) : Row := fun x => if p ≤ x ∧ x < p + k then g (x - b) else g x
theorem kp0 (g : Row) (p b : Int) : kpG g p b 0 = g := by
  funext x
  unfold kpG
  rw [if_neg (by omega)]
theorem kpS {g : Row} {p b k : Int} (hb : k < b) (hk : 0 ≤ k) : st (kpG g p b k) (p + k) (kpG g p b k (p - b + k)) = kpG g p b (k + 1) := by
  funext x
  unfold st kpG
  by_cases h1 : x = p + k
  · rw [if_pos h1, if_neg (by omega), if_pos (by omega), h1]
    congr 1
    omega
  · rw [if_neg h1]
    by_cases h2 : p ≤ x ∧ x < p + k
    · rw [if_pos h2, if_pos (by omega)]
    · rw [if_neg h2, if_neg (by omega)]
theorem goesG_cp {g : Row} {n i : Int} (h0 : 0 ≤ n) (h1 : n < 7) : st (st (cpG g (244 * n + 52) (4 * (i - g (244 * n + 4))) (4 * max 0 (g (244 * n + 8) - (i - g (244 * n + 4))))) (244 * n + 8) (max 0 (g (244 * n + 8) - (i - g (244 * n + 4))))) (244 * n + 4) i = goesG g n i := by
  funext x
  unfold st cpG goesG
  simp only [the]
theorem m_goes_27 (h : LT M) {n i b m : Int} (h0 : 0 ≤ n) (h1 : n < 7) (hb : 0 ≤ b) (hb9 : 0 < m → b + m ≤ 48) (hm : 0 ≤ m) (hm9 : m ≤ 48) (hi : -2147483648 ≤ i) : ∀ (j : Nat) (k : Int) (f : Nat), 4 * m - k = j → 0 ≤ k → j < f →
    sX8_goesUpTo_27 f (some 3772) (iI n) (iI i) (iI b) (iI m) (iI k) (tw (cpG g (244 * n + 52) (4 * b) k) mi mn F S M) = some ((), tw (st (st (cpG g (244 * n + 52) (4 * b) (4 * m)) (244 * n + 8) m) (244 * n + 4) i) mi mn F S M)
  | 0, k, f + 1, e1, e2, e3 => by
    have e : k = 4 * m := by omega
    subst e
    simp (disch := first | assumption | omega) only [sX8_goesUpTo_27, sX8_goesUpTo_27b, m_sets, z10, z00, if_true, if_false, iv_add, iv_sub, iv_mul, iv_le, iv_lt, iv_eq, iv_mx, iv_mn, bI_z, bI_o, rZ0, rZ1, rZb, cl_some', lt_eq, rm_eq, dv_eq, iv_01, iv_10, the, lastA, lpA, st_eq, st_ne, cV_tw, gR_0, gR_3, gR_4, gR_27, gR_28, gI_29, aI_now, aI_mn, aI_mi, aI_fa, sI_now, sI_mn, sI_mi, sI_fa, pI_29]
    rw [if_pos (by omega)]
  | j + 1, k, f + 1, e1, e2, e3 => by
    have ih := m_goes_27 h h0 h1 hb hb9 hm hm9 hi j (k + 1) f (by omega) (by omega) (by omega)
    simp (disch := first | assumption | omega) only [sX8_goesUpTo_27, sX8_goesUpTo_27b, m_sets, m_the, z10, z00, if_true, if_false, iv_add, iv_sub, iv_mul, iv_le, iv_lt, iv_eq, iv_mx, iv_mn, bI_z, bI_o, rZ0, rZ1, rZb, cl_some', lt_eq, rm_eq, dv_eq, iv_01, iv_10, the, lastA, lpA, st_eq, st_ne, cV_tw, gR_0, gR_3, gR_4, gR_27, gR_28, gI_29, aI_now, aI_mn, aI_mi, aI_fa, sI_now, sI_mn, sI_mi, sI_fa, pI_29]
    rw [if_neg (by omega), ← ih, ← cpS (by omega) e2, Int.add_assoc (244 * n) 52 k, show 244 * n + (52 + k) + 4 * b = 244 * n + (52 + k + 4 * b) by omega]
theorem m_goesUpTo (h : LT M) {n i : Int} (h0 : 0 ≤ n) (h1 : n < 7) (h2 : 0 ≤ g (244 * n + 4)) (h3 : g (244 * n + 4) ≤ i) (h4 : i ≤ 999) (h5 : 0 ≤ g (244 * n + 8)) (h6 : g (244 * n + 8) ≤ 48) :
    sX8_goesUpTo (some 3772) (iI n) (iI i) (tw g mi mn F S M) = some ((), tw (goesG g n i) mi mn F S M) := by
  simp (disch := first | assumption | omega) only [sX8_goesUpTo, m_the, m_max, z10, z00, if_true, if_false, iv_add, iv_sub, iv_mul, iv_le, iv_lt, iv_eq, iv_mx, iv_mn, bI_z, bI_o, rZ0, rZ1, rZb, cl_some', lt_eq, rm_eq, dv_eq, iv_01, iv_10, the, lastA, lpA, st_eq, st_ne, cV_tw, gR_0, gR_3, gR_4, gR_27, gR_28, gI_29, aI_now, aI_mn, aI_mi, aI_fa, sI_now, sI_mn, sI_mi, sI_fa, pI_29]
  rw [← goesG_cp h0 h1]
  have := m_goes_27 (g := g) (mi := mi) (mn := mn) (F := F) (S := S) h h0 h1 (b := i - g (244 * n + 4)) (m := max 0 (g (244 * n + 8) - (i - g (244 * n + 4)))) (by omega) (by omega) (by omega) (by omega) (i := i) (by omega) (4 * max 0 (g (244 * n + 8) - (i - g (244 * n + 4)))).toNat 0 FU (by omega) (by omega) (by unfold FU; omega)
  rw [cp0] at this
  exact this
/-- the keys are copied -/
theorem m_keys_85 (h : LT M) {n : Int} (h0 : 0 ≤ n) (h1 : n < 7) : ∀ (j : Nat) (k : Int) (f : Nat), 8 - k = j → 0 ≤ k → j < f →
    sX8_compacts_85 f (some 3772) (iI n) (iI k) (tw (kpG g (244 * n + 23) 8 k) mi mn F S M) = some ((), tw (kpG g (244 * n + 23) 8 8) mi mn F S M)
  | 0, k, f + 1, e1, e2, e3 => by
    have e : k = 8 := by omega
    subst e
    simp (disch := first | assumption | omega) only [sX8_compacts_85, sX8_compacts_85b, z10, z00, if_true, if_false, iv_add, iv_sub, iv_mul, iv_le, iv_lt, iv_eq, iv_mx, iv_mn, bI_z, bI_o, rZ0, rZ1, rZb, cl_some', lt_eq, rm_eq, dv_eq, iv_01, iv_10, the, lastA, lpA, st_eq, st_ne, cV_tw, gR_0, gR_3, gR_4, gR_27, gR_28, gI_29, aI_now, aI_mn, aI_mi, aI_fa, sI_now, sI_mn, sI_mi, sI_fa, pI_29]
    rw [if_pos (by omega)]
  | j + 1, k, f + 1, e1, e2, e3 => by
    have ih := m_keys_85 h h0 h1 j (k + 1) f (by omega) (by omega) (by omega)
    simp (disch := first | assumption | omega) only [sX8_compacts_85, sX8_compacts_85b, m_sets, m_the, z10, z00, if_true, if_false, iv_add, iv_sub, iv_mul, iv_le, iv_lt, iv_eq, iv_mx, iv_mn, bI_z, bI_o, rZ0, rZ1, rZb, cl_some', lt_eq, rm_eq, dv_eq, iv_01, iv_10, the, lastA, lpA, st_eq, st_ne, cV_tw, gR_0, gR_3, gR_4, gR_27, gR_28, gI_29, aI_now, aI_mn, aI_mi, aI_fa, sI_now, sI_mn, sI_mi, sI_fa, pI_29]
    rw [if_neg (by omega), ← ih, ← kpS (by omega) e2, show 244 * n + (23 + k) = 244 * n + 23 + k by omega, show 244 * n + (15 + k) = 244 * n + 23 - 8 + k by omega]
theorem m_compacts_68 (h : LT M) {n i t : Int} (h0 : 0 ≤ n) (h1 : n < 7) (h2 : 0 ≤ g (244 * n + 4)) (h3 : g (244 * n + 4) ≤ i) (h4 : i ≤ 999) (h5 : 0 ≤ g (244 * n + 8)) (h6 : g (244 * n + 8) ≤ 48) :
    sX8_compacts_68 (some 3772) (iI n) (iI i) (iI t) (tw g mi mn F S M) = some ((), tw (kpG (st (goesG g n i) (244 * n + 5) t) (244 * n + 23) 8 8) mi mn F S M) := by
  simp (disch := first | assumption | omega) only [sX8_compacts_68, m_goesUpTo, m_sets, z10, z00, if_true, if_false, iv_add, iv_sub, iv_mul, iv_le, iv_lt, iv_eq, iv_mx, iv_mn, bI_z, bI_o, rZ0, rZ1, rZb, cl_some', lt_eq, rm_eq, dv_eq, iv_01, iv_10, the, lastA, lpA, st_eq, st_ne, cV_tw, gR_0, gR_3, gR_4, gR_27, gR_28, gI_29, aI_now, aI_mn, aI_mi, aI_fa, sI_now, sI_mn, sI_mi, sI_fa, pI_29]
  have := m_keys_85 (g := st (goesG g n i) (244 * n + 5) t) (mi := mi) (mn := mn) (F := F) (S := S) h h0 h1 8 0 FU (by omega) (by omega) (by unfold FU; omega)
  rwa [kp0] at this
theorem m_compacts (h : LT M) {n : Int} (hL : LgA g n) : sX8_compacts (some 3772) (iI n) (tw g mi mn F S M) = some ((), tw (compG g n) mi mn F S M) := by
  have hL' := hL
  obtain ⟨⟨_, _, _, _, _, _, _, _, _, _, _, _, _, _⟩, hE⟩ := hL
  have h1 := cfgA_le g n (g (244 * n + 9)) (by omega)
  have fin : ∀ (g0 : Row), g0 (244 * n + 4) = g (244 * n + 4) → g0 (244 * n + 8) = g (244 * n + 8) → g0 = compC g n → (∀ x, 244 * n + 15 ≤ x → x < 244 * n + 23 → g0 x = g x) →
      sX8_compacts_68 (some 3772) (iI n) (iI (g (244 * n + 9))) (iI (termA g n (g (244 * n + 9)))) (tw g0 mi mn F S M) = some ((), tw (compG g n) mi mn F S M) := by
    intro g0 a1 a2 a3 a4
    rw [m_compacts_68 h (by omega) (by omega) (by omega) (by omega) (by omega) (by omega) (by omega)]
    congr 3
    funext x
    unfold compG kpG
    simp only [the]
    rw [← a3, show 244 * n + 23 + 8 = 244 * n + 31 by omega]
    split
    · unfold st goesG
      rw [if_neg (by omega), if_neg (by omega), if_neg (by omega), if_neg (by omega), a4 _ (by omega) (by omega)]
    · rfl
  unfold compC at fin
  simp only [the, lpA] at fin
  generalize hc : cfgA g n (g (244 * n + 9)) = c at h1 fin
  simp (disch := first | assumption | omega) only [sX8_compacts, m_the, m_configAt, m_termAt, m_logPlace, z10, z00, if_true, if_false, iv_add, iv_sub, iv_mul, iv_le, iv_lt, iv_eq, iv_mx, iv_mn, bI_z, bI_o, rZ0, rZ1, rZb, cl_some', lt_eq, rm_eq, dv_eq, iv_01, iv_10, the, lastA, lpA, st_eq, st_ne, cV_tw, gR_0, gR_3, gR_4, gR_27, gR_28, gI_29, aI_now, aI_mn, aI_mi, aI_fa, sI_now, sI_mn, sI_mi, sI_fa, pI_29]
  rw [show min (g (244 * n + 9)) (g (244 * n + 4) + g (244 * n + 8)) = g (244 * n + 9) by omega, hc]
  by_cases e : c = g (244 * n + 4)
  · rw [if_pos e, if_pos rfl]
    exact fin g rfl rfl (if_pos e).symm (fun _ _ _ => rfl)
  · rw [if_neg e]
    simp (disch := first | assumption | omega) only [m_logPlace, m_sets, z10, z00, if_true, if_false, iv_add, iv_sub, iv_mul, iv_le, iv_lt, iv_eq, iv_mx, iv_mn, bI_z, bI_o, rZ0, rZ1, rZb, cl_some', lt_eq, rm_eq, dv_eq, iv_01, iv_10, the, lastA, lpA, st_eq, st_ne, cV_tw, gR_0, gR_3, gR_4, gR_27, gR_28, gI_29, aI_now, aI_mn, aI_mi, aI_fa, sI_now, sI_mn, sI_mi, sI_fa, pI_29]
    rw [if_neg (by omega)]
    refine fin _ ?_ ?_ (if_neg e).symm (fun x _ _ => ?_)
    · rw [st_ne (by omega), st_ne (by omega)]
    · rw [st_ne (by omega), st_ne (by omega)]
    · rw [st_ne (by omega), st_ne (by omega)]
/-! what compacting leaves -/
theorem goesG_ne {n i x : Int} (h1 : ¬ x = 244 * n + 4) (h2 : ¬ x = 244 * n + 8) (h3 : x < 244 * n + 52 ∨ 244 * n + 52 + 4 * max 0 (g (244 * n + 8) - (i - g (244 * n + 4))) ≤ x) : goesG g n i x = g x := by
  unfold goesG
  simp only [the]
  rw [if_neg h1, if_neg h2, if_neg (by omega)]
theorem goesG_4 {n i : Int} : goesG g n i (244 * n + 4) = i := if_pos rfl
theorem goesG_8 {n i : Int} : goesG g n i (244 * n + 8) = max 0 (g (244 * n + 8) - (i - g (244 * n + 4))) := by
  unfold goesG
  rw [if_neg (by omega), if_pos rfl]
theorem goesG_log {n i x : Int} (h3 : 244 * n + 52 ≤ x) (h4 : x < 244 * n + 52 + 4 * max 0 (g (244 * n + 8) - (i - g (244 * n + 4)))) : goesG g n i x = g (x + 4 * (i - g (244 * n + 4))) := by
  unfold goesG
  simp only [the]
  rw [if_neg (by omega), if_neg (by omega), if_pos ⟨h3, h4⟩]
theorem compC_ne {n x : Int} (h1 : ¬ x = 244 * n + 6) (h2 : ¬ x = 244 * n + 7) : compC g n x = g x := by
  unfold compC
  split
  · rfl
  · rw [st_ne h2, st_ne h1]
theorem compG_ne {n x : Int} (h0 : x < 244 * n + 4 ∨ 244 * n + 9 ≤ x) (h2 : x < 244 * n + 23 ∨ 244 * n + 31 ≤ x) (h3 : x < 244 * n + 52 ∨ 244 * n + 52 + 4 * max 0 (g (244 * n + 8) - (g (244 * n + 9) - g (244 * n + 4))) ≤ x) : compG g n x = g x := by
  unfold compG
  simp only [the]
  rw [if_neg (by omega), st_ne (by omega), goesG_ne (by omega) (by omega) (by rw [compC_ne (by omega) (by omega), compC_ne (by omega) (by omega)]; exact h3), compC_ne (by omega) (by omega)]
theorem compG_4 {n : Int} : compG g n (244 * n + 4) = g (244 * n + 9) := by
  unfold compG
  simp only [the]
  rw [if_neg (by omega), st_ne (by omega), goesG_4]
theorem compG_5 {n : Int} : compG g n (244 * n + 5) = termA g n (g (244 * n + 9)) := by
  unfold compG
  simp only [the]
  rw [if_neg (by omega), st_eq]
theorem compG_8 {n : Int} : compG g n (244 * n + 8) = max 0 (g (244 * n + 8) - (g (244 * n + 9) - g (244 * n + 4))) := by
  unfold compG
  simp only [the]
  rw [if_neg (by omega), st_ne (by omega), goesG_8, compC_ne (by omega) (by omega), compC_ne (by omega) (by omega)]
theorem compG_snap {n x : Int} (h0 : 244 * n + 23 ≤ x) (h1 : x < 244 * n + 31) : compG g n x = g (x - 8) := by
  unfold compG
  rw [if_pos ⟨h0, h1⟩]
theorem compG_log {n x : Int} (h0 : g (244 * n + 4) ≤ g (244 * n + 9)) (h3 : 244 * n + 52 ≤ x) (h4 : x < 244 * n + 52 + 4 * max 0 (g (244 * n + 8) - (g (244 * n + 9) - g (244 * n + 4)))) : compG g n x = g (x + 4 * (g (244 * n + 9) - g (244 * n + 4))) := by
  unfold compG
  simp only [the]
  rw [if_neg (by omega), st_ne (by omega), goesG_log h3 (by rw [compC_ne (by omega) (by omega), compC_ne (by omega) (by omega)]; exact h4), compC_ne (x := 244 * n + 4) (by omega) (by omega), compC_ne (by omega) (by omega)]
theorem compG_6 {n : Int} : compG g n (244 * n + 6) = if cfgA g n (g (244 * n + 9)) = g (244 * n + 4) then g (244 * n + 6) else g (244 * n + 52 + 4 * (cfgA g n (g (244 * n + 9)) - g (244 * n + 4) - 1) + 2) := by
  unfold compG
  simp only [the]
  rw [if_neg (by omega), st_ne (by omega), goesG_ne (by omega) (by omega) (by omega)]
  unfold compC
  simp only [the, lpA]
  split
  · rfl
  · rw [st_ne (by omega), st_eq]
theorem compG_7 {n : Int} : compG g n (244 * n + 7) = if cfgA g n (g (244 * n + 9)) = g (244 * n + 4) then g (244 * n + 7) else g (244 * n + 52 + 4 * (cfgA g n (g (244 * n + 9)) - g (244 * n + 4) - 1) + 3) := by
  unfold compG
  simp only [the]
  rw [if_neg (by omega), st_ne (by omega), goesG_ne (by omega) (by omega) (by omega)]
  unfold compC
  simp only [the, lpA]
  split
  · rfl
  · rw [st_eq]
theorem termR {n i : Int} (hL : LgA g n) (h0 : g (244 * n + 4) ≤ i) (h1 : i ≤ g (244 * n + 4) + g (244 * n + 8)) : 0 ≤ termA g n i ∧ termA g n i ≤ 999 := by
  obtain ⟨⟨_, _, _, _, _, _, _, _, _, _, _, _, _, _⟩, hE⟩ := hL
  unfold termA
  simp only [the, lpA]
  split
  · omega
  · have := hE i (by omega) h1
    unfold EntA at this
    omega
theorem compG_Lg {n : Int} (hL : LgA g n) : LgA (compG g n) n := by
  have hL' := hL
  obtain ⟨⟨_, _, _, _, _, _, _, _, _, _, _, _, _, _⟩, hE⟩ := hL
  have h1 := cfgA_le g n (g (244 * n + 9)) (by omega)
  have h2 := termR hL' (i := g (244 * n + 9)) (by omega) (by omega)
  unfold LgA
  have e9 : compG g n (244 * n + 9) = g (244 * n + 9) := compG_ne (by omega) (by omega) (by omega)
  have b6 : 0 ≤ compG g n (244 * n + 6) ∧ compG g n (244 * n + 6) < 128 := by
    rw [compG_6]
    split
    · omega
    · have := hE (cfgA g n (g (244 * n + 9))) (by omega) (by omega)
      unfold EntA at this
      omega
  have b7 : 0 ≤ compG g n (244 * n + 7) ∧ compG g n (244 * n + 7) < 128 := by
    rw [compG_7]
    split
    · omega
    · have := hE (cfgA g n (g (244 * n + 9))) (by omega) (by omega)
      unfold EntA at this
      omega
  rw [compG_4, compG_5, compG_8, e9]
  refine ⟨by omega, fun i hi1 hi2 => ?_⟩
  have := hE i (by omega) (by omega)
  unfold EntA at this ⊢
  rw [compG_log (by omega) (by omega) (by omega), compG_log (by omega) (by omega) (by omega), compG_log (by omega) (by omega) (by omega), compG_log (by omega) (by omega) (by omega)]
  have e : 244 * n + 52 + 4 * (i - g (244 * n + 9) - 1) + 4 * (g (244 * n + 9) - g (244 * n + 4)) = 244 * n + 52 + 4 * (i - g (244 * n + 4) - 1) := by omega
  have e1 : 244 * n + 52 + 4 * (i - g (244 * n + 9) - 1) + 1 + 4 * (g (244 * n + 9) - g (244 * n + 4)) = 244 * n + 52 + 4 * (i - g (244 * n + 4) - 1) + 1 := by omega
  have e2 : 244 * n + 52 + 4 * (i - g (244 * n + 9) - 1) + 2 + 4 * (g (244 * n + 9) - g (244 * n + 4)) = 244 * n + 52 + 4 * (i - g (244 * n + 4) - 1) + 2 := by omega
  have e3 : 244 * n + 52 + 4 * (i - g (244 * n + 9) - 1) + 3 + 4 * (g (244 * n + 9) - g (244 * n + 4)) = 244 * n + 52 + 4 * (i - g (244 * n + 4) - 1) + 3 := by omega
  rw [e, e1, e2, e3]
  exact this
theorem lay1_Lg {n : Int} (hL : LgA g n) : LgA (lay1 g n) n := by
  unfold lay1
  split
  · exact compG_Lg hL
  · exact hL
theorem m_lays_17 (h : LT M) {n t k a b : Int} (hL : LgA g n) : sX8_lays_17 (some 3772) (iI n) (iI t) (iI k) (iI a) (iI b) (tw g mi mn F S M) = some (bI (¬ the g n 8 = 48 ∧ ¬ lastA g n = 999), tw (if ¬ the g n 8 = 48 ∧ ¬ lastA g n = 999 then lay0 g n t k a b else g) mi mn F S M) := by
  obtain ⟨⟨_, _, _, _, _, _, _, _, _, _, _, _, _, _⟩, hE⟩ := hL
  simp (disch := first | assumption | omega) only [sX8_lays_17, m_the, m_lastOf, z10, z00, if_true, if_false, iv_add, iv_sub, iv_mul, iv_le, iv_lt, iv_eq, iv_mx, iv_mn, bI_z, bI_o, rZ0, rZ1, rZb, cl_some', lt_eq, rm_eq, dv_eq, iv_01, iv_10, the, lastA, lpA, st_eq, st_ne, cV_tw, gR_0, gR_3, gR_4, gR_27, gR_28, gI_29, aI_now, aI_mn, aI_mi, aI_fa, sI_now, sI_mn, sI_mi, sI_fa, pI_29]
  by_cases c1 : g (244 * n + 8) = 48
  · rw [if_pos c1, if_neg (by omega), bI_f (by omega)]
  · rw [if_neg c1]
    by_cases c2 : g (244 * n + 4) + g (244 * n + 8) = 999
    · rw [if_pos c2, if_neg (by omega), bI_f (by omega)]
    · rw [if_neg c2, if_pos ⟨c1, c2⟩, bI_t ⟨c1, c2⟩]
      simp (disch := first | assumption | omega) only [m_the, m_lastOf, m_sets, m_logPlace, z10, z00, if_true, if_false, iv_add, iv_sub, iv_mul, iv_le, iv_lt, iv_eq, iv_mx, iv_mn, bI_z, bI_o, rZ0, rZ1, rZb, cl_some', lt_eq, rm_eq, dv_eq, iv_01, iv_10, the, lastA, lpA, st_eq, st_ne, cV_tw, gR_0, gR_3, gR_4, gR_27, gR_28, gI_29, aI_now, aI_mn, aI_mi, aI_fa, sI_now, sI_mn, sI_mi, sI_fa, pI_29]
      congr 3
      funext x
      unfold st lay0
      simp only [the]
      rw [show 244 * n + 52 + 4 * (g (244 * n + 4) + (g (244 * n + 8) + 1) - g (244 * n + 4) - 1) = 244 * n + 52 + 4 * g (244 * n + 8) by omega]
      by_cases d0 : x = 244 * n + 8
      · rw [if_pos d0, if_neg (by omega), if_neg (by omega), if_neg (by omega), if_neg (by omega), if_pos d0]
      · rw [if_neg d0, if_neg d0]
        by_cases d1 : x = 244 * n + 52 + 4 * g (244 * n + 8)
        · rw [if_pos d1, if_neg (by omega), if_neg (by omega), if_neg (by omega), if_pos d1]
        · rw [if_neg d1, if_neg d1]
          by_cases d2 : x = 244 * n + 53 + 4 * g (244 * n + 8)
          · rw [if_pos d2, if_neg (by omega), if_neg (by omega), if_pos (by omega)]
          · rw [if_neg d2]
            by_cases d3 : x = 244 * n + 54 + 4 * g (244 * n + 8)
            · rw [if_pos d3, if_neg (by omega), if_pos (by omega)]
            · rw [if_neg d3]
              by_cases d4 : x = 244 * n + 55 + 4 * g (244 * n + 8)
              · rw [if_pos d4, if_pos (by omega)]
              · rw [if_neg d4, if_neg (by omega), if_neg (by omega), if_neg (by omega)]
theorem m_lays (h : LT M) {n t k a b : Int} (hL : LgA g n) : sX8_lays (some 3772) (iI n) (iI t) (iI k) (iI a) (iI b) (tw g mi mn F S M) = some (bI (layOk g n), tw (layG g n t k a b) mi mn F S M) := by
  have hL' := hL
  obtain ⟨⟨_, _, _, _, _, _, _, _, _, _, _, _, _, _⟩, hE⟩ := hL
  unfold layG layOk
  simp (disch := first | assumption | omega) only [sX8_lays, m_the, m_compacts, z10, z00, if_true, if_false, iv_add, iv_sub, iv_mul, iv_le, iv_lt, iv_eq, iv_mx, iv_mn, bI_z, bI_o, rZ0, rZ1, rZb, cl_some', lt_eq, rm_eq, dv_eq, iv_01, iv_10, the, lastA, lpA, st_eq, st_ne, cV_tw, gR_0, gR_3, gR_4, gR_27, gR_28, gI_29, aI_now, aI_mn, aI_mi, aI_fa, sI_now, sI_mn, sI_mi, sI_fa, pI_29]
  by_cases c1 : g (244 * n + 8) = 48
  · rw [if_pos c1]
    have e : lay1 g n = compG g n := if_pos c1
    rw [e]
    exact m_lays_17 h (compG_Lg hL')
  · rw [if_neg c1]
    have e : lay1 g n = g := if_neg c1
    rw [e]
    exact m_lays_17 h hL'
theorem lay0_Lg {n t k a b : Int} (hL : LgA g n) (h1 : ¬ the g n 8 = 48) (h2 : ¬ lastA g n = 999) (ht : 1 ≤ t ∧ t ≤ 999) (hk : 0 ≤ k ∧ k ≤ 2) (ha : 0 ≤ a ∧ a ≤ 127) (hb : 0 ≤ b ∧ b ≤ 127) (hk0 : k = 0 → a ≤ 7) : LgA (lay0 g n t k a b) n := by
  obtain ⟨⟨_, _, _, _, _, _, _, _, _, _, _, _, _, _⟩, hE⟩ := hL
  have o : ∀ x, x < 244 * n + 8 ∨ (244 * n + 8 < x ∧ x < 244 * n + 52 + 4 * g (244 * n + 8)) → lay0 g n t k a b x = g x := by
    intro x hx
    unfold lay0
    simp only [the]
    rw [if_neg (by omega), if_neg (by omega), if_neg (by omega), if_neg (by omega), if_neg (by omega)]
  have e8 : lay0 g n t k a b (244 * n + 8) = g (244 * n + 8) + 1 := if_pos rfl
  unfold LgA
  rw [o (244 * n + 4) (by omega), o (244 * n + 5) (by omega), o (244 * n + 6) (by omega), o (244 * n + 7) (by omega), o (244 * n + 9) (by omega), e8]
  simp only [the, lastA] at h1 h2
  refine ⟨by omega, fun i hi1 hi2 => ?_⟩
  by_cases c : i ≤ g (244 * n + 4) + g (244 * n + 8)
  · have := hE i hi1 c
    unfold EntA at this ⊢
    rw [o _ (by omega), o _ (by omega), o _ (by omega), o _ (by omega)]
    exact this
  · have e : 244 * n + 52 + 4 * (i - g (244 * n + 4) - 1) = 244 * n + 52 + 4 * g (244 * n + 8) := by omega
    unfold EntA
    rw [e]
    have p0 : lay0 g n t k a b (244 * n + 52 + 4 * g (244 * n + 8)) = t := by
      unfold lay0
      simp only [the]
      rw [if_neg (by omega), if_pos trivial]
    have p1 : lay0 g n t k a b (244 * n + 52 + 4 * g (244 * n + 8) + 1) = k := by
      unfold lay0
      simp only [the]
      rw [if_neg (by omega), if_neg (by omega), if_pos (by omega)]
    have p2 : lay0 g n t k a b (244 * n + 52 + 4 * g (244 * n + 8) + 2) = a := by
      unfold lay0
      simp only [the]
      rw [if_neg (by omega), if_neg (by omega), if_neg (by omega), if_pos (by omega)]
    have p3 : lay0 g n t k a b (244 * n + 52 + 4 * g (244 * n + 8) + 3) = b := by
      unfold lay0
      simp only [the]
      rw [if_neg (by omega), if_neg (by omega), if_neg (by omega), if_neg (by omega), if_pos (by omega)]
    rw [p0, p1, p2, p3]
    omega
theorem layG_Lg {n t k a b : Int} (hL : LgA g n) (ht : 1 ≤ t ∧ t ≤ 999) (hk : 0 ≤ k ∧ k ≤ 2) (ha : 0 ≤ a ∧ a ≤ 127) (hb : 0 ≤ b ∧ b ≤ 127) (hk0 : k = 0 → a ≤ 7) : LgA (layG g n t k a b) n := by
  unfold layG
  split
  · rename_i c
    exact lay0_Lg (lay1_Lg hL) c.1 c.2 ht hk ha hb hk0
  · exact lay1_Lg hL
end
