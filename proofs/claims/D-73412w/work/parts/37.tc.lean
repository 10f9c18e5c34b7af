/-! DEPS: th -/
/-! TC: the twin's commits -/
def HdA (g : Row) : Prop := ∀ x, 6028 ≤ x → x < 10028 → 0 ≤ g x ∧ g x ≤ 999
def KyA (g : Row) (n : Int) : Prop := ∀ x, 244 * n + 15 ≤ x → x < 244 * n + 31 → 0 ≤ g x ∧ g x ≤ 127
section
variable {g mi mn F : Row} {S : Nat → Int32} {M : Mem} {Λ : Law}
theorem m_breaks (h : LT M) : sX8_breaks (some 3772) (tw g mi mn F S M) = some ((), tw (breakG g) mi mn F S M) := by
  simp (disch := first | assumption | omega) only [sX8_breaks, z10, z00, if_true, if_false, iv_add, iv_sub, iv_mul, iv_le, iv_lt, iv_eq, iv_mx, iv_mn, bI_z, bI_o, rZ0, rZ1, rZb, cl_some', lt_eq, rm_eq, dv_eq, iv_01, iv_10, the, lastA, lpA, st_eq, st_ne, cV_tw, gR_0, gR_3, gR_4, gR_27, gR_28, gI_29, aI_now, aI_mn, aI_mi, aI_fa, sI_now, sI_mn, sI_mi, sI_fa, pI_29, breakG]
def seen1 (g : Row) (a i : Int) : Row := fun x => if 6028 + 4 * i ≤ x ∧ x < 6032 + 4 * i then g (a + (x - (6028 + 4 * i))) else if x = 11134 then max (g 11134) i else if x = 11138 then g 11138 + 1 else g x
def seen0 (g : Row) (a i : Int) : Row := if g (6028 + 4 * i) = 0 then seen1 g a i else if sameA g (6028 + 4 * i) a then g else breakG g
theorem seenG_eq {n i : Int} : seenG g n i = seen0 (keyG g n i) (lpA g n i) i := by
  unfold seenG seen0 seen1
  rfl
theorem m_seen_126 (h : LT M) {i a : Int} (h0 : 1 ≤ i) (h1 : i ≤ 999) (ha : 0 ≤ a) (ha9 : a + 4 ≤ 1708) (hG : 0 ≤ g 11134 ∧ g 11134 ≤ 999) : ∀ (j : Nat) (k : Int) (fu : Nat), 4 - k = j → 0 ≤ k → j < fu →
    sX8_seesHeld_126 fu (some 3772) (iI i) (iI a) (iI (6028 + 4 * i)) (iI k) (tw (mpG g (fun z => g (a + z)) (6028 + 4 * i) k) mi mn F S M) = some ((), tw (seen1 g a i) mi mn F S M)
  | 0, k, fu + 1, e1, e2, e3 => by
    have e : k = 4 := by omega
    subst e
    have o : ∀ x, ¬ (6028 + 4 * i ≤ x ∧ x < 6028 + 4 * i + 4) → mpG g (fun z => g (a + z)) (6028 + 4 * i) 4 x = g x := fun x hx => if_neg hx
    have o1 := o 11134 (by omega)
    have o2 := o 11138 (by omega)
    simp (disch := first | assumption | omega) only [sX8_seesHeld_126, sX8_seesHeld_126b, m_max, z10, z00, if_true, if_false, iv_add, iv_sub, iv_mul, iv_le, iv_lt, iv_eq, iv_mx, iv_mn, bI_z, bI_o, rZ0, rZ1, rZb, cl_some', lt_eq, rm_eq, dv_eq, iv_01, iv_10, the, lastA, lpA, st_eq, st_ne, cV_tw, gR_0, gR_3, gR_4, gR_27, gR_28, gI_29, aI_now, aI_mn, aI_mi, aI_fa, sI_now, sI_mn, sI_mi, sI_fa, pI_29, o1, o2]
    rw [if_pos (by omega)]
    congr 3
    funext x
    unfold seen1 st
    by_cases c2 : x = 11138
    · rw [if_pos c2, if_neg (by omega), if_neg (by omega), if_pos c2]
    · rw [if_neg c2]
      by_cases c3 : x = 11134
      · rw [if_pos c3, if_neg (by omega), if_pos c3]
      · rw [if_neg c3]
        unfold mpG
        by_cases c4 : 6028 + 4 * i ≤ x ∧ x < 6032 + 4 * i
        · rw [if_pos c4, if_pos (by omega)]
        · rw [if_neg c4, if_neg c3, if_neg c2, if_neg (by omega)]
  | j + 1, k, fu + 1, e1, e2, e3 => by
    have ih := m_seen_126 h h0 h1 ha ha9 hG j (k + 1) fu (by omega) (by omega) (by omega)
    have o1 : mpG g (fun z => g (a + z)) (6028 + 4 * i) k (a + k) = g (a + k) := if_neg (by omega)
    have e : st (mpG g (fun z => g (a + z)) (6028 + 4 * i) k) (6028 + 4 * i + k) (g (a + k)) = mpG g (fun z => g (a + z)) (6028 + 4 * i) (k + 1) := mpS e2
    simp (disch := first | assumption | omega) only [sX8_seesHeld_126, sX8_seesHeld_126b, z10, z00, if_true, if_false, iv_add, iv_sub, iv_mul, iv_le, iv_lt, iv_eq, iv_mx, iv_mn, bI_z, bI_o, rZ0, rZ1, rZb, cl_some', lt_eq, rm_eq, dv_eq, iv_01, iv_10, the, lastA, lpA, st_eq, st_ne, cV_tw, gR_0, gR_3, gR_4, gR_27, gR_28, gI_29, aI_now, aI_mn, aI_mi, aI_fa, sI_now, sI_mn, sI_mi, sI_fa, pI_29, o1]
    rw [if_neg (by omega), e]
    exact ih
theorem m_seen_57s (h : LT M) {i a : Int} (h0 : 1 ≤ i) (h1 : i ≤ 999) (ha : 0 ≤ a) (ha9 : a + 4 ≤ 1708) (hH : HdA g) {k : Int} (hk0 : 0 ≤ k) (hk : k < 4) (hr : -2147483648 ≤ g (a + k) ∧ g (a + k) ≤ 2147483647) {p : Prop} [Decidable p] (fu : Nat) :
    sX8_seesHeld_57 (fu + 1) (some 3772) (iI i) (iI a) (iI (6028 + 4 * i)) (bI p) (iI k) (tw g mi mn F S M) = sX8_seesHeld_57 fu (some 3772) (iI i) (iI a) (iI (6028 + 4 * i)) (bI (p ∧ g (6028 + 4 * i + k) = g (a + k))) (iI (k + 1)) (tw g mi mn F S M) := by
  obtain ⟨_, _⟩ := hH (6028 + 4 * i + k) (by omega) (by omega)
  simp (disch := first | assumption | omega) only [sX8_seesHeld_57, sX8_seesHeld_57b, sX8_seesHeld_94, sX8_seesHeld_95, z10, z00, if_true, if_false, iv_add, iv_sub, iv_mul, iv_le, iv_lt, iv_eq, iv_mx, iv_mn, bI_z, bI_o, rZ0, rZ1, rZb, cl_some', lt_eq, rm_eq, dv_eq, iv_01, iv_10, the, lastA, lpA, st_eq, st_ne, cV_tw, gR_0, gR_3, gR_4, gR_27, gR_28, gI_29, aI_now, aI_mn, aI_mi, aI_fa, sI_now, sI_mn, sI_mi, sI_fa, pI_29]
  rw [if_neg (by omega)]
  by_cases hp : p
  · rw [if_neg (fun hc => hc hp)]
    by_cases c : g (6028 + 4 * i + k) = g (a + k)
    · rw [if_pos c, bI_t (p := p ∧ g (6028 + 4 * i + k) = g (a + k)) ⟨hp, c⟩]
    · rw [if_neg c, bI_f (p := p ∧ g (6028 + 4 * i + k) = g (a + k)) (fun hc => c hc.2)]
  · rw [if_pos hp, bI_f (p := p ∧ g (6028 + 4 * i + k) = g (a + k)) (fun hc => hp hc.1)]
theorem m_seen_57e (h : LT M) {i a : Int} (h0 : 1 ≤ i) (h1 : i ≤ 999) (hH : HdA g) {p : Prop} [Decidable p] (fu : Nat) :
    sX8_seesHeld_57 (fu + 1) (some 3772) (iI i) (iI a) (iI (6028 + 4 * i)) (bI p) (iI 4) (tw g mi mn F S M) = if g (6028 + 4 * i) = 0 then sX8_seesHeld_126 FU (some 3772) (iI i) (iI a) (iI (6028 + 4 * i)) (iI 0) (tw g mi mn F S M) else some ((), tw (if p then g else breakG g) mi mn F S M) := by
  obtain ⟨_, _⟩ := hH (6028 + 4 * i) (by omega) (by omega)
  simp (disch := first | assumption | omega) only [sX8_seesHeld_57, sX8_seesHeld_57b, m_breaks, z10, z00, if_true, if_false, iv_add, iv_sub, iv_mul, iv_le, iv_lt, iv_eq, iv_mx, iv_mn, bI_z, bI_o, rZ0, rZ1, rZb, cl_some', lt_eq, rm_eq, dv_eq, iv_01, iv_10, the, lastA, lpA, st_eq, st_ne, cV_tw, gR_0, gR_3, gR_4, gR_27, gR_28, gI_29, aI_now, aI_mn, aI_mi, aI_fa, sI_now, sI_mn, sI_mi, sI_fa, pI_29]
  rw [if_pos (by omega)]
  congr 1
  by_cases c2 : p
  · rw [if_neg (fun hc => hc c2), if_pos c2]
  · rw [if_pos c2, if_neg c2]
theorem m_seen_51 (h : LT M) {i a : Int} (h0 : 1 ≤ i) (h1 : i ≤ 999) (ha : 0 ≤ a) (ha9 : a + 4 ≤ 1708) (hH : HdA g) (hG : 0 ≤ g 11134 ∧ g 11134 ≤ 999) (hE : EntA g a) :
    sX8_seesHeld_51 (some 3772) (iI i) (iI a) (iI (6028 + 4 * i)) (tw g mi mn F S M) = some ((), tw (seen0 g a i) mi mn F S M) := by
  unfold EntA at hE
  obtain ⟨_, _⟩ := hH (6028 + 4 * i) (by omega) (by omega)
  show sX8_seesHeld_57 (999995 + 4 + 1) (some 3772) (iI i) (iI a) (iI (6028 + 4 * i)) (bI True) (iI 0) (tw g mi mn F S M) = _
  rw [m_seen_57s h h0 h1 ha ha9 hH (by omega) (by omega) (by rw [Int.add_zero]; omega), m_seen_57s h h0 h1 ha ha9 hH (by omega) (by omega) (by show _ ≤ g (a + 1) ∧ g (a + 1) ≤ _; omega), m_seen_57s h h0 h1 ha ha9 hH (by omega) (by omega) (by show _ ≤ g (a + 2) ∧ g (a + 2) ≤ _; omega), m_seen_57s h h0 h1 ha ha9 hH (by omega) (by omega) (by show _ ≤ g (a + 3) ∧ g (a + 3) ≤ _; omega)]
  rw [bI_c (q := sameA g (6028 + 4 * i) a) (by unfold sameA; simp only [true_and, and_assoc, Int.add_zero]; rfl)]
  unfold seen0
  have m126 := m_seen_126 (g := g) (mi := mi) (mn := mn) (F := F) (S := S) h h0 h1 ha ha9 hG 4 0 FU (by omega) (by omega) (by unfold FU; omega)
  rw [mp0] at m126
  refine (m_seen_57e h h0 h1 hH 999995).trans ?_
  by_cases c1 : g (6028 + 4 * i) = 0
  · rw [if_pos c1, if_pos c1]
    exact m126
  · rw [if_neg c1, if_neg c1]
theorem keyG_ne {n i x : Int} (hE : EntA g (244 * n + 52 + 4 * (i - g (244 * n + 4) - 1))) (h : x < 244 * n + 15 ∨ 244 * n + 23 ≤ x) : keyG g n i x = g x := by
  unfold EntA at hE
  unfold keyG
  simp only [the, lpA]
  split
  · rename_i c
    rw [st_ne]
    omega
  · rfl
theorem m_seesHeld (h : LT M) {n i : Int} (hL : LgA g n) (hi0 : g (244 * n + 4) < i) (hi : i ≤ g (244 * n + 4) + g (244 * n + 8)) (hH : HdA g) (hG : 0 ≤ g 11134 ∧ g 11134 ≤ 999) :
    sX8_seesHeld (some 3772) (iI n) (iI i) (tw g mi mn F S M) = some ((), tw (seenG g n i) mi mn F S M) := by
  obtain ⟨⟨_, _, _, _, _, _, _, _, _, _, _, _, _, _⟩, hE⟩ := hL
  have hE1 := hE i hi0 hi
  rw [seenG_eq]
  have o := fun x => keyG_ne (g := g) (n := n) (i := i) (x := x) hE1
  have hEk : EntA (keyG g n i) (lpA g n i) := by
    unfold EntA at hE1 ⊢
    simp only [lpA, the]
    rw [o _ (by omega), o _ (by omega), o _ (by omega), o _ (by omega)]
    exact hE1
  have hHk : HdA (keyG g n i) := by
    intro x h0 h1
    rw [o x (by omega)]
    exact hH x h0 h1
  have hGk : 0 ≤ keyG g n i 11134 ∧ keyG g n i 11134 ≤ 999 := by
    rw [o 11134 (by omega)]
    exact hG
  have hlp : lpA g n i = 244 * n + 52 + 4 * (i - g (244 * n + 4) - 1) := rfl
  have fin := m_seen_51 (g := keyG g n i) (mi := mi) (mn := mn) (F := F) (S := S) h (i := i) (a := lpA g n i) (by omega) (by omega) (by omega) (by omega) hHk hGk hEk
  rw [hlp] at fin ⊢
  unfold EntA at hE1
  simp (disch := first | assumption | omega) only [sX8_seesHeld, m_logPlace, m_sets, z10, z00, if_true, if_false, iv_add, iv_sub, iv_mul, iv_le, iv_lt, iv_eq, iv_mx, iv_mn, bI_z, bI_o, rZ0, rZ1, rZb, cl_some', lt_eq, rm_eq, dv_eq, iv_01, iv_10, the, lastA, lpA, st_eq, st_ne, cV_tw, gR_0, gR_3, gR_4, gR_27, gR_28, gI_29, aI_now, aI_mn, aI_mi, aI_fa, sI_now, sI_mn, sI_mi, sI_fa, pI_29]
  have ek : keyG g n i = if g (244 * n + 52 + 4 * (i - g (244 * n + 4) - 1) + 1) = 0 then st g (244 * n + 15 + g (244 * n + 52 + 4 * (i - g (244 * n + 4) - 1) + 2)) (g (244 * n + 52 + 4 * (i - g (244 * n + 4) - 1) + 3)) else g := rfl
  by_cases c : g (244 * n + 52 + 4 * (i - g (244 * n + 4) - 1) + 1) = 0
  · rw [if_pos c] at ek ⊢
    rw [ek] at fin ⊢
    rw [show 244 * n + (15 + g (244 * n + 52 + 4 * (i - g (244 * n + 4) - 1) + 2)) = 244 * n + 15 + g (244 * n + 52 + 4 * (i - g (244 * n + 4) - 1) + 2) by omega]
    exact fin
  · rw [if_neg c] at ek ⊢
    rw [ek] at fin ⊢
    exact fin
/-! what seeing an entry held leaves -/
theorem seen0_ne {a i x : Int} (h1 : x < 6028 + 4 * i ∨ 6032 + 4 * i ≤ x) (h2 : ¬ x = 11134) (h3 : ¬ x = 11136) (h4 : ¬ x = 11138) : seen0 g a i x = g x := by
  unfold seen0
  split
  · unfold seen1
    rw [if_neg (by omega), if_neg h2, if_neg h4]
  · split
    · rfl
    · exact st_ne h3
theorem seenG_ne {n i x : Int} (hE : EntA g (244 * n + 52 + 4 * (i - g (244 * n + 4) - 1))) (h : x < 244 * n + 15 ∨ 244 * n + 23 ≤ x) (h1 : x < 6028 + 4 * i ∨ 6032 + 4 * i ≤ x) (h2 : ¬ x = 11134) (h3 : ¬ x = 11136) (h4 : ¬ x = 11138) : seenG g n i x = g x := by
  rw [seenG_eq, seen0_ne h1 h2 h3 h4, keyG_ne hE h]
end
