/-! DEPS: s -/
/-! TW: the memory of the twin, made of the row g, the message in hand mi, and scratch (the message being written mn, the facts F, the stack S); M: all else -/
def twI (g mi mn F : Row) (S : Nat → Int32) (I : Nat → Nat → Int32) : Nat → Nat → Int32 := fun a j =>
  if a = 3773 ∧ j < 11138 then iI (g j) else if a = 3776 then iI (mn j) else if a = 3777 then iI (mi j) else if a = 3791 then iI (F j) else if a = 3790 then S j else if a = 3772 ∧ j = 29 then iI (g 11138) else I a j
def tw (g mi mn F : Row) (S : Nat → Int32) (M : Mem) : Mem := (twI g mi mn F S (mI M), M.2)
/-- where the twin's things lie -/
def LT (M : Mem) : Prop := ((mK M 3772).1 = 6 ∧ mP M 3772 0 = some 3773 ∧ mP M 3772 3 = some 3776 ∧ mP M 3772 4 = some 3777 ∧ mP M 3772 27 = some 3790 ∧ mP M 3772 28 = some 3791)
  ∧ mK M 3773 = (20, 11138) ∧ mK M 3776 = (20, 27) ∧ mK M 3777 = (20, 27) ∧ mK M 3790 = (20, 260) ∧ mK M 3791 = (20, 7)
section
variable {β : Type} {g mi mn F : Row} {S : Nat → Int32} {M : Mem}
theorem cV_tw {f : Option β} (h : LT M) : cV (tw g mi mn F S M) (some 3772) 6 f = f := if_pos h.1.1
theorem gR_0 {f : Option Nat → Option β} (h : LT M) : gR (tw g mi mn F S M) (some 3772) 6 0 f = f (some 3773) := (if_pos h.1.1).trans (congrArg f h.1.2.1)
theorem gR_3 {f : Option Nat → Option β} (h : LT M) : gR (tw g mi mn F S M) (some 3772) 6 3 f = f (some 3776) := (if_pos h.1.1).trans (congrArg f h.1.2.2.1)
theorem gR_4 {f : Option Nat → Option β} (h : LT M) : gR (tw g mi mn F S M) (some 3772) 6 4 f = f (some 3777) := (if_pos h.1.1).trans (congrArg f h.1.2.2.2.1)
theorem gR_27 {f : Option Nat → Option β} (h : LT M) : gR (tw g mi mn F S M) (some 3772) 6 27 f = f (some 3790) := (if_pos h.1.1).trans (congrArg f h.1.2.2.2.2.1)
theorem gR_28 {f : Option Nat → Option β} (h : LT M) : gR (tw g mi mn F S M) (some 3772) 6 28 f = f (some 3791) := (if_pos h.1.1).trans (congrArg f h.1.2.2.2.2.2)
theorem gI_29 {f : Int32 → Option β} (h : LT M) : gI (tw g mi mn F S M) (some 3772) 6 29 f = f (iI (g 11138)) := (if_pos h.1.1).trans (congrArg f (by simp [tw, twI, mI]))
theorem aI_x {σ : Mem} {a : Nat} {e : Int} {n : Nat} {f : Int32 → Option β} (h : mK σ a = (20, n)) (h0 : 0 ≤ e) (h1 : e < n) (h2 : n ≤ 100000) : aI σ (some a) (iI e) f = f (mI σ a e.toNat) := by
  show (if (mK σ a).1 = 20 ∧ inR (iI e) (mK σ a).2 then f (mI σ a (ix (iI e))) else none) = _
  rw [h, if_pos ⟨rfl, by rw [iv_in (by omega) (by omega)]; exact ⟨h0, h1⟩⟩, iv_ix h0 (by omega)]
theorem sI_x {σ : Mem} {a : Nat} {e : Int} {n : Nat} {v : Int32} {f : Mem → Option β} (h : mK σ a = (20, n)) (h0 : 0 ≤ e) (h1 : e < n) (h2 : n ≤ 100000) : sI σ (some a) (iI e) v f = f (up2 (mI σ) a e.toNat v, σ.2) := by
  show (if (mK σ a).1 = 20 ∧ inR (iI e) (mK σ a).2 then f (up2 (mI σ) a (ix (iI e)) v, σ.2) else none) = _
  rw [h, if_pos ⟨rfl, by rw [iv_in (by omega) (by omega)]; exact ⟨h0, h1⟩⟩, iv_ix h0 (by omega)]
theorem aI_now {e : Int} {f : Int32 → Option β} (h : LT M) (h0 : 0 ≤ e) (h1 : e < 11138) : aI (tw g mi mn F S M) (some 3773) (iI e) f = f (iI (g e)) := by
  rw [aI_x (σ := tw g mi mn F S M) (n := 11138) h.2.1 h0 (by omega) (by decide)]
  exact congrArg f (by simp [tw, twI, mI, Int.toNat_of_nonneg h0, show e.toNat < 11138 by omega])
theorem aI_mn {e : Int} {f : Int32 → Option β} (h : LT M) (h0 : 0 ≤ e) (h1 : e < 27) : aI (tw g mi mn F S M) (some 3776) (iI e) f = f (iI (mn e)) := by
  rw [aI_x (σ := tw g mi mn F S M) (n := 27) h.2.2.1 h0 (by omega) (by decide)]
  exact congrArg f (by simp [tw, twI, mI, Int.toNat_of_nonneg h0])
theorem aI_mi {e : Int} {f : Int32 → Option β} (h : LT M) (h0 : 0 ≤ e) (h1 : e < 27) : aI (tw g mi mn F S M) (some 3777) (iI e) f = f (iI (mi e)) := by
  rw [aI_x (σ := tw g mi mn F S M) (n := 27) h.2.2.2.1 h0 (by omega) (by decide)]
  exact congrArg f (by simp [tw, twI, mI, Int.toNat_of_nonneg h0])
theorem aI_fa {e : Int} {f : Int32 → Option β} (h : LT M) (h0 : 0 ≤ e) (h1 : e < 7) : aI (tw g mi mn F S M) (some 3791) (iI e) f = f (iI (F e)) := by
  rw [aI_x (σ := tw g mi mn F S M) (n := 7) h.2.2.2.2.2 h0 (by omega) (by decide)]
  exact congrArg f (by simp [tw, twI, mI, Int.toNat_of_nonneg h0])
theorem st_tw {e v : Int} (h0 : 0 ≤ e) (h1 : e < 11138) : (up2 (mI (tw g mi mn F S M)) 3773 e.toNat (iI v), (tw g mi mn F S M).2) = tw (st g e v) mi mn F S M := by
  refine Prod.ext ?_ rfl
  funext a j
  simp only [up2, tw, twI, st, mI]
  by_cases ha : a = 3773
  · subst ha
    by_cases hj : j = e.toNat
    · subst hj; simp [Int.toNat_of_nonneg h0, show e.toNat < 11138 by omega]
    · rw [if_neg (by omega), if_neg (show ¬ (j : Int) = e by omega), if_neg (show ¬ (11138 : Int) = e by omega)]
  · rw [if_neg (by omega), if_neg (show ¬ (11138 : Int) = e by omega)]
    simp only [ha, false_and, if_false]
theorem sI_now {e v : Int} {f : Mem → Option β} (h : LT M) (h0 : 0 ≤ e) (h1 : e < 11138) : sI (tw g mi mn F S M) (some 3773) (iI e) (iI v) f = f (tw (st g e v) mi mn F S M) := by
  rw [sI_x (σ := tw g mi mn F S M) (n := 11138) h.2.1 h0 (by omega) (by decide), st_tw h0 h1]
theorem pI_29 {v : Int} {f : Mem → Option β} (h : LT M) : pI (tw g mi mn F S M) (some 3772) 6 29 (iI v) f = f (tw (st g 11138 v) mi mn F S M) := by
  refine (if_pos h.1.1).trans (congrArg f (Prod.ext ?_ rfl))
  funext a j
  simp only [up2, tw, twI, st, mI]
  by_cases ha : a = 3772
  · subst ha
    by_cases hj : j = 29
    · subst hj; simp
    · simp [hj]
  · rw [if_neg (by omega)]
    by_cases h1 : a = 3773 ∧ j < 11138
    · rw [if_pos h1, if_pos h1, if_neg (show ¬ (j : Int) = 11138 by omega)]
    · simp only [if_neg h1, ha, false_and, if_false]
theorem sI_mn {e v : Int} {f : Mem → Option β} (h : LT M) (h0 : 0 ≤ e) (h1 : e < 27) : sI (tw g mi mn F S M) (some 3776) (iI e) (iI v) f = f (tw g mi (st mn e v) F S M) := by
  rw [sI_x (σ := tw g mi mn F S M) (n := 27) h.2.2.1 h0 (by omega) (by decide)]
  refine congrArg f (Prod.ext ?_ rfl)
  funext a j
  simp only [up2, tw, twI, st, mI]
  by_cases ha : a = 3776
  · subst ha
    by_cases hj : j = e.toNat
    · subst hj; simp [Int.toNat_of_nonneg h0]
    · rw [if_neg (by omega), if_neg (show ¬ (j : Int) = e by omega)]
  · simp only [ha, false_and, if_false]
theorem sI_mi {e v : Int} {f : Mem → Option β} (h : LT M) (h0 : 0 ≤ e) (h1 : e < 27) : sI (tw g mi mn F S M) (some 3777) (iI e) (iI v) f = f (tw g (st mi e v) mn F S M) := by
  rw [sI_x (σ := tw g mi mn F S M) (n := 27) h.2.2.2.1 h0 (by omega) (by decide)]
  refine congrArg f (Prod.ext ?_ rfl)
  funext a j
  simp only [up2, tw, twI, st, mI]
  by_cases ha : a = 3777
  · subst ha
    by_cases hj : j = e.toNat
    · subst hj; simp [Int.toNat_of_nonneg h0]
    · rw [if_neg (by omega), if_neg (show ¬ (j : Int) = e by omega)]
  · simp only [ha, false_and, if_false]
theorem sI_fa {e v : Int} {f : Mem → Option β} (h : LT M) (h0 : 0 ≤ e) (h1 : e < 7) : sI (tw g mi mn F S M) (some 3791) (iI e) (iI v) f = f (tw g mi mn (st F e v) S M) := by
  rw [sI_x (σ := tw g mi mn F S M) (n := 7) h.2.2.2.2.2 h0 (by omega) (by decide)]
  refine congrArg f (Prod.ext ?_ rfl)
  funext a j
  simp only [up2, tw, twI, st, mI]
  by_cases ha : a = 3791
  · subst ha
    by_cases hj : j = e.toNat
    · subst hj; simp [Int.toNat_of_nonneg h0]
    · rw [if_neg (by omega), if_neg (show ¬ (j : Int) = e by omega)]
  · simp only [ha, false_and, if_false]
end
theorem z10 : ((1 : Int) = 0) = False := eq_false (by decide)
theorem z00 : ((0 : Int) = 0) = True := eq_self 0
theorem st_eq (g : Row) (e v : Int) : st g e v e = v := if_pos rfl
theorem st_ne {g : Row} {e v x : Int} (h : ¬ x = e) : st g e v x = g x := if_neg h
/-! a node's log: where it lies, what stands in it -/
abbrev nd (n : Int) : Prop := 0 ≤ n ∧ n < 7
def EntA (g : Row) (p : Int) : Prop := 1 ≤ g p ∧ g p ≤ 999 ∧ 0 ≤ g (p + 1) ∧ g (p + 1) ≤ 2 ∧ 0 ≤ g (p + 2) ∧ g (p + 2) ≤ 127 ∧ 0 ≤ g (p + 3) ∧ g (p + 3) ≤ 127 ∧ (g (p + 1) = 0 → g (p + 2) ≤ 7)
def LgA (g : Row) (n : Int) : Prop := (0 ≤ n ∧ n < 7 ∧ 0 ≤ g (244 * n + 4) ∧ 0 ≤ g (244 * n + 8) ∧ g (244 * n + 8) ≤ 48 ∧ g (244 * n + 4) + g (244 * n + 8) ≤ 999 ∧ g (244 * n + 4) ≤ g (244 * n + 9) ∧ g (244 * n + 9) ≤ g (244 * n + 4) + g (244 * n + 8)
  ∧ 0 ≤ g (244 * n + 5) ∧ g (244 * n + 5) ≤ 999 ∧ 0 ≤ g (244 * n + 6) ∧ g (244 * n + 6) < 128 ∧ 0 ≤ g (244 * n + 7) ∧ g (244 * n + 7) < 128) ∧ ∀ i, g (244 * n + 4) < i → i ≤ g (244 * n + 4) + g (244 * n + 8) → EntA g (244 * n + 52 + 4 * (i - g (244 * n + 4) - 1))
section
variable {g mi mn F : Row} {S : Nat → Int32} {M : Mem}
theorem m_the (h : LT M) {n w : Int} (h0 : 0 ≤ 244 * n + w) (h1 : 244 * n + w < 11138) : sX8_the (some 3772) (iI n) (iI w) (tw g mi mn F S M) = some (iI (g (244 * n + w)), tw g mi mn F S M) := by
  simp (disch := first | assumption | omega) only [sX8_the, z10, z00, if_true, if_false, iv_add, iv_sub, iv_mul, iv_le, iv_lt, iv_eq, iv_mx, iv_mn, bI_z, bI_o, rZ0, rZ1, rZb, cl_some', lt_eq, rm_eq, dv_eq, iv_01, iv_10, the, lastA, lpA, st_eq, st_ne, cV_tw, gR_0, gR_3, gR_4, gR_27, gR_28, gI_29, aI_now, aI_mn, aI_mi, aI_fa, sI_now, sI_mn, sI_mi, sI_fa, pI_29]
theorem m_sets (h : LT M) {n w v : Int} (h0 : 0 ≤ 244 * n + w) (h1 : 244 * n + w < 11138) : sX8_sets (some 3772) (iI n) (iI w) (iI v) (tw g mi mn F S M) = some ((), tw (st g (244 * n + w) v) mi mn F S M) := by
  simp (disch := first | assumption | omega) only [sX8_sets, z10, z00, if_true, if_false, iv_add, iv_sub, iv_mul, iv_le, iv_lt, iv_eq, iv_mx, iv_mn, bI_z, bI_o, rZ0, rZ1, rZb, cl_some', lt_eq, rm_eq, dv_eq, iv_01, iv_10, the, lastA, lpA, st_eq, st_ne, cV_tw, gR_0, gR_3, gR_4, gR_27, gR_28, gI_29, aI_now, aI_mn, aI_mi, aI_fa, sI_now, sI_mn, sI_mi, sI_fa, pI_29]
theorem m_in {σ : Mem} {v a b : Int} (h0 : -2147483648 ≤ v) (h1 : v ≤ 2147483647) (h2 : -2147483648 ≤ a) (h3 : a ≤ 2147483647) (h4 : -2147483648 ≤ b) (h5 : b ≤ 2147483647) : sX8_in (iI v) (iI a) (iI b) σ = some (bI (a ≤ v ∧ v ≤ b), σ) := by
  simp (disch := first | assumption | omega) only [sX8_in, z10, z00, if_true, if_false, iv_add, iv_sub, iv_mul, iv_le, iv_lt, iv_eq, iv_mx, iv_mn, bI_z, bI_o, rZ0, rZ1, rZb, cl_some', lt_eq, rm_eq, dv_eq, iv_01, iv_10, the, lastA, lpA, st_eq, st_ne, cV_tw, gR_0, gR_3, gR_4, gR_27, gR_28, gI_29, aI_now, aI_mn, aI_mi, aI_fa, sI_now, sI_mn, sI_mi, sI_fa, pI_29]
  by_cases c1 : v < a
  · rw [if_pos c1, bI_f (by omega)]
  · rw [if_neg c1]
    by_cases c2 : b < v
    · rw [if_pos c2, bI_f (by omega)]
    · rw [if_neg c2, bI_t (by omega)]
theorem bI_c {p q : Prop} [Decidable p] [Decidable q] (h : p ↔ q) : bI p = bI q := by
  unfold bI
  by_cases hp : p
  · rw [if_pos hp, if_pos (h.mp hp)]
  · rw [if_neg hp, if_neg (fun hq => hp (h.mpr hq))]
theorem m_isNode {σ : Mem} {n : Int} (h0 : -2147483648 ≤ n) (h1 : n ≤ 2147483647) : sX8_isNode (iI n) σ = some (bI (0 ≤ n ∧ n < 7), σ) := by
  simp (disch := first | assumption | omega) only [sX8_isNode, m_in, z10, z00, if_true, if_false, iv_add, iv_sub, iv_mul, iv_le, iv_lt, iv_eq, iv_mx, iv_mn, bI_z, bI_o, rZ0, rZ1, rZb, cl_some', lt_eq, rm_eq, dv_eq, iv_01, iv_10, the, lastA, lpA, st_eq, st_ne, cV_tw, gR_0, gR_3, gR_4, gR_27, gR_28, gI_29, aI_now, aI_mn, aI_mi, aI_fa, sI_now, sI_mn, sI_mi, sI_fa, pI_29]
  rw [bI_c (q := 0 ≤ n ∧ n < 7) (by omega)]
theorem m_isUp (h : LT M) {n : Int} (h0 : -2147483648 ≤ n) (h1 : n ≤ 2147483647) (h2 : (0 ≤ n ∧ n < 7) → 0 ≤ g (244 * n + 0) ∧ g (244 * n + 0) ≤ 1) : sX8_isUp (some 3772) (iI n) (tw g mi mn F S M) = some (bI ((0 ≤ n ∧ n < 7) ∧ g (244 * n + 0) = 1), tw g mi mn F S M) := by
  by_cases hn : 0 ≤ n ∧ n < 7
  · have := h2 hn
    simp (disch := first | assumption | omega) only [sX8_isUp, m_isNode, m_the, z10, z00, if_true, if_false, iv_add, iv_sub, iv_mul, iv_le, iv_lt, iv_eq, iv_mx, iv_mn, bI_z, bI_o, rZ0, rZ1, rZb, cl_some', lt_eq, rm_eq, dv_eq, iv_01, iv_10, the, lastA, lpA, st_eq, st_ne, cV_tw, gR_0, gR_3, gR_4, gR_27, gR_28, gI_29, aI_now, aI_mn, aI_mi, aI_fa, sI_now, sI_mn, sI_mi, sI_fa, pI_29]
    rw [if_neg (by omega), ifb]
    simp only [hn, true_and]
  · simp (disch := first | assumption | omega) only [sX8_isUp, m_isNode, z10, z00, if_true, if_false, iv_add, iv_sub, iv_mul, iv_le, iv_lt, iv_eq, iv_mx, iv_mn, bI_z, bI_o, rZ0, rZ1, rZb, cl_some', lt_eq, rm_eq, dv_eq, iv_01, iv_10, the, lastA, lpA, st_eq, st_ne, cV_tw, gR_0, gR_3, gR_4, gR_27, gR_28, gI_29, aI_now, aI_mn, aI_mi, aI_fa, sI_now, sI_mn, sI_mi, sI_fa, pI_29]
    rw [if_pos hn, bI_f (fun h => hn h.1)]
theorem m_lastOf (h : LT M) {n : Int} (h0 : 0 ≤ n) (h1 : n < 7) : sX8_lastOf (some 3772) (iI n) (tw g mi mn F S M) = some (iI (g (244 * n + 4) + g (244 * n + 8)), tw g mi mn F S M) := by
  simp (disch := first | assumption | omega) only [sX8_lastOf, m_the, z10, z00, if_true, if_false, iv_add, iv_sub, iv_mul, iv_le, iv_lt, iv_eq, iv_mx, iv_mn, bI_z, bI_o, rZ0, rZ1, rZb, cl_some', lt_eq, rm_eq, dv_eq, iv_01, iv_10, the, lastA, lpA, st_eq, st_ne, cV_tw, gR_0, gR_3, gR_4, gR_27, gR_28, gI_29, aI_now, aI_mn, aI_mi, aI_fa, sI_now, sI_mn, sI_mi, sI_fa, pI_29]
theorem m_logPlace (h : LT M) {n i : Int} (h0 : 0 ≤ n) (h1 : n < 7) : sX8_logPlace (some 3772) (iI n) (iI i) (tw g mi mn F S M) = some (iI (244 * n + 52 + 4 * (i - g (244 * n + 4) - 1)), tw g mi mn F S M) := by
  simp (disch := first | assumption | omega) only [sX8_logPlace, m_the, z10, z00, if_true, if_false, iv_add, iv_sub, iv_mul, iv_le, iv_lt, iv_eq, iv_mx, iv_mn, bI_z, bI_o, rZ0, rZ1, rZb, cl_some', lt_eq, rm_eq, dv_eq, iv_01, iv_10, the, lastA, lpA, st_eq, st_ne, cV_tw, gR_0, gR_3, gR_4, gR_27, gR_28, gI_29, aI_now, aI_mn, aI_mi, aI_fa, sI_now, sI_mn, sI_mi, sI_fa, pI_29]
theorem m_hasEntry (h : LT M) {n i : Int} (hL : LgA g n) (_ : -2147483648 ≤ i) (_ : i ≤ 2147483647) : sX8_hasEntry (some 3772) (iI n) (iI i) (tw g mi mn F S M) = some (bI (hasEnt g n i), tw g mi mn F S M) := by
  obtain ⟨⟨_, _, _, _, _, _, _, _, _, _, _, _, _, _⟩, hE⟩ := hL
  unfold hasEnt
  simp (disch := first | assumption | omega) only [sX8_hasEntry, m_the, m_lastOf, z10, z00, if_true, if_false, iv_add, iv_sub, iv_mul, iv_le, iv_lt, iv_eq, iv_mx, iv_mn, bI_z, bI_o, rZ0, rZ1, rZb, cl_some', lt_eq, rm_eq, dv_eq, iv_01, iv_10, the, lastA, lpA, st_eq, st_ne, cV_tw, gR_0, gR_3, gR_4, gR_27, gR_28, gI_29, aI_now, aI_mn, aI_mi, aI_fa, sI_now, sI_mn, sI_mi, sI_fa, pI_29]
  by_cases c1 : i ≤ g (244 * n + 4)
  · rw [if_pos c1, bI_f (by omega)]
  · rw [if_neg c1]
    by_cases c2 : g (244 * n + 4) + g (244 * n + 8) < i
    · rw [if_pos c2, bI_f (by omega)]
    · rw [if_neg c2, bI_t (by omega)]
theorem m_termAt (h : LT M) {n i : Int} (hL : LgA g n) (h0 : g (244 * n + 4) ≤ i) (hi : i ≤ g (244 * n + 4) + g (244 * n + 8)) : sX8_termAt (some 3772) (iI n) (iI i) (tw g mi mn F S M) = some (iI (termA g n i), tw g mi mn F S M) := by
  obtain ⟨⟨_, _, _, _, _, _, _, _, _, _, _, _, _, _⟩, hE⟩ := hL
  unfold termA
  simp (disch := first | assumption | omega) only [sX8_termAt, m_the, m_logPlace, z10, z00, if_true, if_false, iv_add, iv_sub, iv_mul, iv_le, iv_lt, iv_eq, iv_mx, iv_mn, bI_z, bI_o, rZ0, rZ1, rZb, cl_some', lt_eq, rm_eq, dv_eq, iv_01, iv_10, the, lastA, lpA, st_eq, st_ne, cV_tw, gR_0, gR_3, gR_4, gR_27, gR_28, gI_29, aI_now, aI_mn, aI_mi, aI_fa, sI_now, sI_mn, sI_mi, sI_fa, pI_29]
  split
  · rfl
  · simp (disch := first | assumption | omega) only [z10, z00, if_true, if_false, iv_add, iv_sub, iv_mul, iv_le, iv_lt, iv_eq, iv_mx, iv_mn, bI_z, bI_o, rZ0, rZ1, rZb, cl_some', lt_eq, rm_eq, dv_eq, iv_01, iv_10, the, lastA, lpA, st_eq, st_ne, cV_tw, gR_0, gR_3, gR_4, gR_27, gR_28, gI_29, aI_now, aI_mn, aI_mi, aI_fa, sI_now, sI_mn, sI_mi, sI_fa, pI_29]
end
