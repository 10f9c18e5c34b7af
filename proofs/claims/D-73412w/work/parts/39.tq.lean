/-! DEPS: tk -/
/-! TQ: the twin holds -/
section
variable {g mi mn F : Row} {S : Nat → Int32} {M : Mem} {Λ : Law}
/-- what a leader's row of others says -/
def MtA (g : Row) (n : Int) : Prop := ∀ k, 0 ≤ k → k < 7 → 0 ≤ g (244 * n + (38 + k)) ∧ g (244 * n + (38 + k)) ≤ 999 ∧ 0 ≤ g (244 * n + (45 + k)) ∧ g (244 * n + (45 + k)) ≤ 1000000
theorem MtA_ext {g' : Row} {n : Int} (he : ∀ x, 244 * n + 38 ≤ x → x < 244 * n + 52 → g' x = g x) (h : MtA g n) : MtA g' n := by
  intro k h0 h1
  rw [he (244 * n + (38 + k)) (by omega) (by omega), he (244 * n + (45 + k)) (by omega) (by omega)]
  exact h k h0 h1
theorem topF_le {n : Int} : ∀ (k : Nat) (i : Int), i - g (244 * n + 9) = k → g (244 * n + 9) ≤ topF g n k i ∧ topF g n k i ≤ i
  | 0, i, e => by
    unfold topF
    simp only [the]
    omega
  | k + 1, i, e => by
    have ih := topF_le (n := n) k (i - 1) (by omega)
    unfold topF
    simp only [the] at *
    split
    · omega
    · split
      · omega
      · omega
theorem m_most_6 (h : LT M) {n : Int} (hL : LgA g n) (hM : MtA g n) (h2 : 0 ≤ g (244 * n + 1)) (h3 : g (244 * n + 1) ≤ 999) : ∀ (k : Nat) (i : Int) (f : Nat), i - g (244 * n + 9) = k → i ≤ g (244 * n + 4) + g (244 * n + 8) → k < f →
    sX8_mostHeld_6 f (some 3772) (iI n) (iI i) (tw g mi mn F S M) = some (iI (topF g n k i), tw g mi mn F S M)
  | 0, i, f + 1, e1, e2, e3 => by
    obtain ⟨⟨_, _, _, _, _, _, _, _, _, _, _, _, _, _⟩, hE⟩ := hL
    simp (disch := first | assumption | omega) only [sX8_mostHeld_6, sX8_mostHeld_6b, m_the, z10, z00, if_true, if_false, iv_add, iv_sub, iv_mul, iv_le, iv_lt, iv_eq, iv_mx, iv_mn, bI_z, bI_o, rZ0, rZ1, rZb, cl_some', lt_eq, rm_eq, dv_eq, iv_01, iv_10, the, lastA, lpA, st_eq, st_ne, cV_tw, gR_0, gR_3, gR_4, gR_27, gR_28, gI_29, aI_now, aI_mn, aI_mi, aI_fa, sI_now, sI_mn, sI_mi, sI_fa, pI_29]
    rw [if_pos (by omega)]
    rfl
  | k + 1, i, f + 1, e1, e2, e3 => by
    have hL' := hL
    obtain ⟨⟨_, _, _, _, _, _, _, _, _, _, _, _, _, _⟩, hE⟩ := hL
    have ih := m_most_6 h hL' hM h2 h3 k (i - 1) f (by omega) (by omega) (by omega)
    have hw := m_whoMatch (mi := mi) (mn := mn) (F := F) (S := S) h (n := n) (i := i) (by omega) (by omega) (by omega) (fun k a b => ⟨(hM k a b).1, (hM k a b).2.1⟩)
    have hm := m_isMost (mi := mi) (mn := mn) (F := F) (S := S) h hL' hw.2.1 hw.2.2
    have htr := termR hL' (i := i) (by omega) (by omega)
    have ht := m_termAt (mi := mi) (mn := mn) (F := F) (S := S) h hL' (i := i) (by omega) (by omega)
    simp (disch := first | assumption | omega) only [sX8_mostHeld_6, sX8_mostHeld_6b, sX8_mostHeld_48, m_the, z10, z00, if_true, if_false, iv_add, iv_sub, iv_mul, iv_le, iv_lt, iv_eq, iv_mx, iv_mn, bI_z, bI_o, rZ0, rZ1, rZb, cl_some', lt_eq, rm_eq, dv_eq, iv_01, iv_10, the, lastA, lpA, st_eq, st_ne, cV_tw, gR_0, gR_3, gR_4, gR_27, gR_28, gI_29, aI_now, aI_mn, aI_mi, aI_fa, sI_now, sI_mn, sI_mi, sI_fa, pI_29, ht, hw.1, hm]
    rw [if_neg (by omega)]
    unfold topF
    simp only [the]
    rw [if_neg (show ¬ i ≤ g (244 * n + 9) by omega)]
    by_cases c1 : termA g n i = g (244 * n + 1)
    · rw [if_pos c1]
      by_cases c2 : mostA g n (whoMatchA g n i)
      · rw [if_neg (fun hc => hc c2), if_pos ⟨c1, c2⟩]
      · rw [if_pos c2, if_neg (fun hc => c2 hc.2)]
        exact ih
    · rw [if_neg c1, if_neg (fun hc => c1 hc.1)]
      exact ih
theorem m_mostHeld (h : LT M) {n : Int} (hL : LgA g n) (hM : MtA g n) (h2 : 0 ≤ g (244 * n + 1)) (h3 : g (244 * n + 1) ≤ 999) :
    sX8_mostHeld (some 3772) (iI n) (tw g mi mn F S M) = some (iI (topA g n), tw g mi mn F S M) := by
  have hL' := hL
  obtain ⟨⟨_, _, _, _, _, _, _, _, _, _, _, _, _, _⟩, hE⟩ := hL
  simp (disch := first | assumption | omega) only [sX8_mostHeld, m_lastOf, z10, z00, if_true, if_false, iv_add, iv_sub, iv_mul, iv_le, iv_lt, iv_eq, iv_mx, iv_mn, bI_z, bI_o, rZ0, rZ1, rZb, cl_some', lt_eq, rm_eq, dv_eq, iv_01, iv_10, the, lastA, lpA, st_eq, st_ne, cV_tw, gR_0, gR_3, gR_4, gR_27, gR_28, gI_29, aI_now, aI_mn, aI_mi, aI_fa, sI_now, sI_mn, sI_mi, sI_fa, pI_29]
  exact m_most_6 h hL' hM h2 h3 _ _ FU (by simp only [lastA, the]; omega) (by omega) (by unfold FU; simp only [lastA, the]; omega)
theorem topA_le {n : Int} (hL : LgA g n) : g (244 * n + 9) ≤ topA g n ∧ topA g n ≤ g (244 * n + 4) + g (244 * n + 8) := by
  obtain ⟨⟨_, _, _, _, _, _, _, _, _, _, _, _, _, _⟩, hE⟩ := hL
  exact topF_le _ _ (by simp only [lastA, the]; omega)
/-! what growing leaves -/
theorem growF_ne {n x : Int} (h : x < 244 * n + 15 ∨ 244 * n + 23 ≤ x) (h1 : x < 6028 ∨ 10028 ≤ x) (h2 : ¬ x = 11134) (h3 : ¬ x = 11136) (h4 : ¬ x = 11138) : ∀ (j : Nat) (g : Row) (i : Int), CmA g n → g (244 * n + 9) < i → i + j ≤ g (244 * n + 4) + g (244 * n + 8) + 1 → growF n j g i x = g x ∧ CmA (growF n j g i) n
  | 0, g, i, hC, a1, a2 => ⟨rfl, hC⟩
  | j + 1, g, i, hC, a1, a2 => by
    have hC' := hC
    obtain ⟨hL, hH, hG⟩ := hC
    obtain ⟨⟨_, _, _, _, _, _, _, _, _, _, _, _, _, _⟩, hE⟩ := hL
    have hE1 := hE i (by omega) (by omega)
    have o := fun x => seenG_ne (g := g) (n := n) (i := i) (x := x) hE1
    have o4 : seenG g n i (244 * n + 4) = g (244 * n + 4) := o _ (by omega) (by omega) (by omega) (by omega) (by omega)
    have o8 : seenG g n i (244 * n + 8) = g (244 * n + 8) := o _ (by omega) (by omega) (by omega) (by omega) (by omega)
    have o9 : seenG g n i (244 * n + 9) = g (244 * n + 9) := o _ (by omega) (by omega) (by omega) (by omega) (by omega)
    have ih := growF_ne h h1 h2 h3 h4 j (seenG g n i) (i + 1) (seenG_Cm hC' (by omega) (by omega)) (by omega) (by omega)
    exact ⟨ih.1.trans (o x h (by omega) h2 h3 h4), ih.2⟩
theorem growG_ne {n t x : Int} (hC : CmA g n) (ht : t ≤ g (244 * n + 4) + g (244 * n + 8)) (h : x < 244 * n + 15 ∨ 244 * n + 23 ≤ x) (h9 : ¬ x = 244 * n + 9) (h1 : x < 6028 ∨ 10028 ≤ x) (h2 : ¬ x = 11134) (h3 : ¬ x = 11136) (h4 : ¬ x = 11138) : growG g n t x = g x := by
  unfold growG
  simp only [the]
  rw [st_ne h9]
  have hL := hC.1
  obtain ⟨⟨_, _, _, _, _, _, _, _, _, _, _, _, _, _⟩, hE⟩ := hL
  by_cases c : g (244 * n + 9) ≤ t
  · exact (growF_ne h h1 h2 h3 h4 _ g _ hC (by omega) (by omega)).1
  · rw [show (t - g (244 * n + 9)).toNat = 0 by omega]
    rfl
theorem growG_9 {n t : Int} : growG g n t (244 * n + 9) = max (g (244 * n + 9)) t := by
  unfold growG
  rw [st_eq]
theorem growG_Cm {n t : Int} (hC : CmA g n) (ht : t ≤ g (244 * n + 4) + g (244 * n + 8)) : CmA (growG g n t) n := by
  have hL := hC.1
  have hq : CmA (growF n (t - g (244 * n + 9)).toNat g (g (244 * n + 9) + 1)) n := by
    obtain ⟨⟨_, _, _, _, _, _, _, _, _, _, _, _, _, _⟩, hE⟩ := hL
    by_cases c : g (244 * n + 9) ≤ t
    · exact (growF_ne (x := 0) (by omega) (by omega) (by omega) (by omega) (by omega) _ g _ hC (by omega) (by omega)).2
    · rw [show (t - g (244 * n + 9)).toNat = 0 by omega]
      exact hC
  have o4 := growG_ne (x := 244 * n + 4) hC ht (by omega) (by omega) (by have := hL.1; omega) (by have := hL.1; omega) (by have := hL.1; omega) (by have := hL.1; omega)
  have o8 := growG_ne (x := 244 * n + 8) hC ht (by omega) (by omega) (by have := hL.1; omega) (by have := hL.1; omega) (by have := hL.1; omega) (by have := hL.1; omega)
  have o9 := growG_9 (g := g) (n := n) (t := t)
  unfold growG at o4 o8 o9 ⊢
  simp only [the] at o4 o8 o9 ⊢
  rw [st_ne (by omega)] at o4 o8
  obtain ⟨⟨q1, q2⟩, hH, hG⟩ := hq
  obtain ⟨⟨_, _, _, _, _, _, _, _, _, _, _, _, _, _⟩, hE⟩ := hL
  refine ⟨⟨?_, ?_⟩, ?_, ?_⟩
  · rw [st_ne (by omega), st_ne (by omega), st_eq, st_ne (by omega), st_ne (by omega), st_ne (by omega)]
    rw [o4, o8] at q1 ⊢
    omega
  · rw [st_ne (by omega), st_ne (by omega)]
    intro i a1 a2
    have := q2 i a1 a2
    unfold EntA at this ⊢
    rw [o4] at a1 this ⊢
    rw [st_ne (by omega), st_ne (by omega), st_ne (by omega), st_ne (by omega)]
    exact this
  · intro x a1 a2
    rw [st_ne (by omega)]
    exact hH x a1 a2
  · exact GlA_ext hG (st_ne (by omega)) (st_ne (by omega)) (st_ne (by omega)) (by rw [st_ne (by omega)]; exact ⟨hG.2.2.2.2.2.2.1, hG.2.2.2.2.2.2.2.1⟩) (st_ne (by omega)) (st_ne (by omega))
/-! what laying leaves -/
theorem lay1_ne {n x : Int} (hL : LgA g n) (h0 : x < 244 * n + 4 ∨ 244 * n + 9 ≤ x) (h2 : x < 244 * n + 23 ∨ 244 * n + 31 ≤ x) (h3 : x < 244 * n + 52 ∨ 244 * n + 244 ≤ x) : lay1 g n x = g x := by
  obtain ⟨⟨_, _, _, _, _, _, _, _, _, _, _, _, _, _⟩, hE⟩ := hL
  unfold lay1
  split
  · exact compG_ne h0 h2 (by omega)
  · rfl
theorem lay0_ne {n t k a b x : Int} (h0 : ¬ x = 244 * n + 8) (h1 : x < 244 * n + 52 + 4 * g (244 * n + 8) ∨ 244 * n + 56 + 4 * g (244 * n + 8) ≤ x) : lay0 g n t k a b x = g x := by
  unfold lay0
  simp only [the]
  rw [if_neg (by omega), if_neg (by omega), if_neg (by omega), if_neg (by omega), if_neg (by omega)]
theorem lay0_8 {n t k a b : Int} : lay0 g n t k a b (244 * n + 8) = g (244 * n + 8) + 1 := if_pos rfl
theorem layG_ne {n t k a b x : Int} (hL : LgA g n) (h0 : x < 244 * n + 4 ∨ 244 * n + 9 ≤ x) (h2 : x < 244 * n + 23 ∨ 244 * n + 31 ≤ x) (h3 : x < 244 * n + 52 ∨ 244 * n + 244 ≤ x) : layG g n t k a b x = g x := by
  have h1 := lay1_Lg hL
  obtain ⟨⟨_, _, _, _, _, _, _, _, _, _, _, _, _, _⟩, _⟩ := h1
  unfold layG
  split
  · rename_i c
    unfold layOk at c
    simp only [the] at c
    rw [lay0_ne (by omega) (by omega), lay1_ne hL h0 h2 h3]
  · exact lay1_ne hL h0 h2 h3
theorem lay1_last {n : Int} (hL : LgA g n) : lay1 g n (244 * n + 4) + lay1 g n (244 * n + 8) = g (244 * n + 4) + g (244 * n + 8) := by
  obtain ⟨⟨_, _, _, _, _, _, _, _, _, _, _, _, _, _⟩, hE⟩ := hL
  unfold lay1
  split
  · rw [compG_4, compG_8]
    omega
  · rfl
theorem layG_last {n t k a b : Int} (hL : LgA g n) : layG g n t k a b (244 * n + 4) + layG g n t k a b (244 * n + 8) = g (244 * n + 4) + g (244 * n + 8) + (if layOk g n then 1 else 0) := by
  have h1 := lay1_Lg hL
  have h2 := lay1_last hL
  obtain ⟨⟨_, _, _, _, _, _, _, _, _, _, _, _, _, _⟩, _⟩ := h1
  unfold layG
  split
  · rename_i c
    rw [lay0_8, lay0_ne (by omega) (by omega)]
    omega
  · omega
end
