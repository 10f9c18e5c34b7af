/-! DEPS: wg -/
/-! WH: the twin tries, waits, keeps, puts back -/
/-- the rest M with a row laid at the address a -/
def bkM (M : Mem) (a : Nat) (g : Row) : Mem := (fun b j => if b = a ∧ j < 11138 then iI (g j) else mI M b j, M.2)
def bkP (M : Mem) (a : Nat) (g : Row) (k : Int) : Mem := (fun b j => if b = a ∧ (j : Int) < k then iI (g j) else mI M b j, M.2)
/-- the twin's own word in slot s is set -/
def wT (M : Mem) (s : Nat) (z : Int) : Mem := (up2 (mI M) 3772 s (iI z), M.2)
/-- where the twin's copies lie -/
def LT2 (M : Mem) : Prop := mP M 3772 1 = some 3774 ∧ mP M 3772 2 = some 3775 ∧ mK M 3774 = (20, 11138) ∧ mK M 3775 = (20, 11138)
theorem tw_ext {g g' mi mn F : Row} {S : Nat → Int32} {M : Mem} (e : ∀ x, 0 ≤ x → x ≤ 11138 → g x = g' x) : tw g mi mn F S M = tw g' mi mn F S M := by
  refine Prod.ext ?_ rfl
  funext a j
  show twI g mi mn F S (mI M) a j = twI g' mi mn F S (mI M) a j
  unfold twI
  by_cases c : a = 3773 ∧ j < 11138
  · rw [if_pos c, if_pos c, e _ (by omega) (by omega)]
  · rw [if_neg c, if_neg c, e 11138 (by omega) (by omega)]
theorem tw_out {g mi mn F : Row} {S : Nat → Int32} {I : Nat → Nat → Int32} {a j : Nat} (h : a ≠ 3772 ∧ a ≠ 3773 ∧ a ≠ 3776 ∧ a ≠ 3777 ∧ a ≠ 3790 ∧ a ≠ 3791) : twI g mi mn F S I a j = I a j := by
  unfold twI
  rw [if_neg (by omega), if_neg (by omega), if_neg (by omega), if_neg (by omega), if_neg (by omega), if_neg (by omega)]
theorem tw_o72 {g mi mn F : Row} {S : Nat → Int32} {I : Nat → Nat → Int32} {j : Nat} (h : j ≠ 29) : twI g mi mn F S I 3772 j = I 3772 j := by
  unfold twI
  rw [if_neg (by omega), if_neg (by omega), if_neg (by omega), if_neg (by omega), if_neg (by omega), if_neg (by omega)]
section
variable {β : Type} {g mi mn F : Row} {S : Nat → Int32} {M : Mem} {Λ : Law} {h : His} {FL : Int → ELog} {R : Int} {D : DK}
theorem gR_m1 (hT : LT M) (h2 : LT2 M) {f : Option Nat → Option β} : gR (tw g mi mn F S M) (some 3772) 6 1 f = f (some 3774) := (if_pos hT.1.1).trans (congrArg f h2.1)
theorem gR_m2 (hT : LT M) (h2 : LT2 M) {f : Option Nat → Option β} : gR (tw g mi mn F S M) (some 3772) 6 2 f = f (some 3775) := (if_pos hT.1.1).trans (congrArg f h2.2.1)
theorem gI_mw (hT : LT M) {s : Nat} (hs : s ≠ 29) {f : Int32 → Option β} : gI (tw g mi mn F S M) (some 3772) 6 s f = f (mI M 3772 s) := (if_pos hT.1.1).trans (congrArg f (show twI g mi mn F S (mI M) 3772 s = _ from tw_o72 hs))
theorem tw_wT {s : Nat} {z : Int} (hs : s ≠ 29) : tw g mi mn F S (wT M s z) = wT (tw g mi mn F S M) s z := by
  refine Prod.ext ?_ rfl
  funext a j
  show twI g mi mn F S (up2 (mI M) 3772 s (iI z)) a j = up2 (twI g mi mn F S (mI M)) 3772 s (iI z) a j
  have eu : ∀ I : Nat → Nat → Int32, up2 I 3772 s (iI z) a j = if a = 3772 ∧ j = s then iI z else I a j := fun _ => rfl
  by_cases c : a = 3772 ∧ j = s
  · rw [eu, if_pos c, c.1, tw_o72 (by omega)]
    exact if_pos ⟨rfl, c.2⟩
  · rw [eu, if_neg c]
    unfold twI
    rw [eu, if_neg c]
theorem pI_mw (hT : LT M) {s : Nat} (hs : s ≠ 29) {z : Int} {f : Mem → Option β} : pI (tw g mi mn F S M) (some 3772) 6 s (iI z) f = f (tw g mi mn F S (wT M s z)) := by
  rw [tw_wT hs]
  exact if_pos hT.1.1
theorem pZ_mw (hT : LT M) {s : Nat} (hs : s ≠ 29) {z : Int} (hz : z = 0 ∨ z = 1) {f : Mem → Option β} : pZ (tw g mi mn F S M) (some 3772) 6 s (iI z) f = f (tw g mi mn F S (wT M s z)) := by
  rw [tw_wT hs]
  refine if_pos ⟨hT.1.1, ?_⟩
  rcases hz with e | e <;> subst e
  · exact Or.inl rfl
  · exact Or.inr rfl
theorem m_copyOut_2 (hT : LT M) {a : Nat} (ha : a = 3774 ∨ a = 3775) (ka : mK M a = (20, 11138)) : ∀ (j : Nat) (i : Int) (fu : Nat), 11138 - i = j → 0 ≤ i → j < fu →
    sX8_copies_2 fu (some 3773) (some a) (iI i) (tw g mi mn F S (bkP M a g i)) = some ((), tw g mi mn F S (bkM M a g))
  | 0, i, fu + 1, e1, e2, e3 => by
    have hT2 : LT (bkP M a g i) := hT
    have e : bkP M a g i = bkM M a g := by
      refine Prod.ext ?_ rfl
      funext b k
      show (if b = a ∧ (k : Int) < i then iI (g k) else mI M b k) = (if b = a ∧ k < 11138 then iI (g k) else mI M b k)
      by_cases c : b = a ∧ k < 11138
      · rw [if_pos c, if_pos ⟨c.1, by omega⟩]
      · rw [if_neg c, if_neg (fun q => c ⟨q.1, by omega⟩)]
    simp (disch := first | assumption | omega) only [sX8_copies_2, sX8_copies_2b, z10, z00, if_true, if_false, iv_add, iv_sub, iv_mul, iv_le, iv_lt, iv_eq, iv_mx, iv_mn, bI_z, bI_o, rZ0, rZ1, rZb, cl_some', lt_eq, rm_eq, dv_eq, iv_01, iv_10, the, lastA, lpA, st_eq, st_ne, cV_tw, gR_0, gR_3, gR_4, gR_27, gR_28, gI_29, aI_now, aI_mn, aI_mi, aI_fa, sI_now, sI_mn, sI_mi, sI_fa, pI_29]
    rw [if_pos (by omega), e]
  | j + 1, i, fu + 1, e1, e2, e3 => by
    have hT2 : LT (bkP M a g i) := hT
    have ih := m_copyOut_2 hT ha ka j (i + 1) fu (by omega) (by omega) (by omega)
    have e : ∀ f : Mem → Option (Unit × Mem), sI (tw g mi mn F S (bkP M a g i)) (some a) (iI i) (iI (g i)) f = f (tw g mi mn F S (bkP M a g (i + 1))) := by
      intro f
      rw [sI_x (σ := tw g mi mn F S (bkP M a g i)) (n := 11138) (show mK M a = (20, 11138) from ka) e2 (by omega) (by omega)]
      refine congrArg f (Prod.ext ?_ rfl)
      funext b k
      show up2 (twI g mi mn F S (mI (bkP M a g i))) a i.toNat (iI (g i)) b k = twI g mi mn F S (mI (bkP M a g (i + 1))) b k
      unfold up2
      by_cases c : b = a ∧ k = i.toNat
      · rw [if_pos c, tw_out (by omega)]
        show iI (g i) = (if b = a ∧ (k : Int) < i + 1 then iI (g k) else mI M b k)
        rw [if_pos (by omega), show (k : Int) = i by omega]
      · rw [if_neg c]
        have : mI (bkP M a g i) b k = mI (bkP M a g (i + 1)) b k := by
          show (if b = a ∧ (k : Int) < i then iI (g k) else mI M b k) = (if b = a ∧ (k : Int) < i + 1 then iI (g k) else mI M b k)
          by_cases c2 : b = a ∧ (k : Int) < i
          · rw [if_pos c2, if_pos (by omega)]
          · rw [if_neg c2, if_neg (by omega)]
        unfold twI
        rw [this]
    show sX8_copies_2b (sX8_copies_2 fu) _ _ _ _ = _
    generalize sX8_copies_2 fu = K at ih ⊢
    simp (disch := first | assumption | omega) only [sX8_copies_2b, z10, z00, if_true, if_false, iv_add, iv_sub, iv_mul, iv_le, iv_lt, iv_eq, iv_mx, iv_mn, bI_z, bI_o, rZ0, rZ1, rZb, cl_some', lt_eq, rm_eq, dv_eq, iv_01, iv_10, the, lastA, lpA, st_eq, st_ne, cV_tw, gR_0, gR_3, gR_4, gR_27, gR_28, gI_29, aI_now, aI_mn, aI_mi, aI_fa, sI_now, sI_mn, sI_mi, sI_fa, pI_29, e]
    rw [if_neg (by omega)]
    exact ih
theorem m_copyOut (hT : LT M) {a : Nat} (ha : a = 3774 ∨ a = 3775) (ka : mK M a = (20, 11138)) : sX8_copies (some 3773) (some a) (tw g mi mn F S M) = some ((), tw g mi mn F S (bkM M a g)) := by
  have := m_copyOut_2 (g := g) (mi := mi) (mn := mn) (F := F) (S := S) hT ha ka 11138 0 FU (by omega) (by omega) (by unfold FU; omega)
  have e : bkP M a g 0 = M := by
    refine Prod.ext ?_ rfl
    funext b k
    exact if_neg (by omega)
  rw [e] at this
  exact this
/-- a row that is written over from the front -/
def ovG (g g0 : Row) (k : Int) : Row := fun x => if 0 ≤ x ∧ x < k then g0 x else g x
theorem m_copyIn_2 (hT : LT M) {a : Nat} {g0 : Row} (ha : a = 3774 ∨ a = 3775) (ka : mK M a = (20, 11138)) (hg : ∀ j : Nat, j < 11138 → mI M a j = iI (g0 j)) : ∀ (j : Nat) (i : Int) (fu : Nat), 11138 - i = j → 0 ≤ i → j < fu →
    sX8_copies_2 fu (some a) (some 3773) (iI i) (tw (ovG g g0 i) mi mn F S M) = some ((), tw (st g0 11138 (g 11138)) mi mn F S M)
  | 0, i, fu + 1, e1, e2, e3 => by
    have e : tw (ovG g g0 i) mi mn F S M = tw (st g0 11138 (g 11138)) mi mn F S M := by
      refine tw_ext (fun x x0 x1 => ?_)
      unfold ovG st
      by_cases c : x = 11138
      · rw [if_neg (by omega), if_pos c, c]
      · rw [if_pos (by omega), if_neg c]
    simp (disch := first | assumption | omega) only [sX8_copies_2, sX8_copies_2b, z10, z00, if_true, if_false, iv_add, iv_sub, iv_mul, iv_le, iv_lt, iv_eq, iv_mx, iv_mn, bI_z, bI_o, rZ0, rZ1, rZb, cl_some', lt_eq, rm_eq, dv_eq, iv_01, iv_10, the, lastA, lpA, st_eq, st_ne, cV_tw, gR_0, gR_3, gR_4, gR_27, gR_28, gI_29, aI_now, aI_mn, aI_mi, aI_fa, sI_now, sI_mn, sI_mi, sI_fa, pI_29]
    rw [if_pos (by omega), e]
  | j + 1, i, fu + 1, e1, e2, e3 => by
    have ih := m_copyIn_2 hT ha ka hg j (i + 1) fu (by omega) (by omega) (by omega)
    have e : ∀ f : Int32 → Option (Unit × Mem), aI (tw (ovG g g0 i) mi mn F S M) (some a) (iI i) f = f (iI (g0 i)) := by
      intro f
      rw [aI_x (σ := tw (ovG g g0 i) mi mn F S M) (n := 11138) (show mK M a = (20, 11138) from ka) e2 (by omega) (by omega)]
      refine congrArg f ?_
      show twI (ovG g g0 i) mi mn F S (mI M) a i.toNat = _
      rw [tw_out (by omega), hg _ (by omega), Int.toNat_of_nonneg e2]
    have s : st (ovG g g0 i) i (g0 i) = ovG g g0 (i + 1) := by
      funext x
      unfold st ovG
      by_cases c : x = i
      · rw [if_pos c, if_pos (by omega), c]
      · rw [if_neg c]
        by_cases c2 : 0 ≤ x ∧ x < i
        · rw [if_pos c2, if_pos (by omega)]
        · rw [if_neg c2, if_neg (by omega)]
    show sX8_copies_2b (sX8_copies_2 fu) _ _ _ _ = _
    generalize sX8_copies_2 fu = K at ih ⊢
    simp (disch := first | assumption | omega) only [sX8_copies_2b, z10, z00, if_true, if_false, iv_add, iv_sub, iv_mul, iv_le, iv_lt, iv_eq, iv_mx, iv_mn, bI_z, bI_o, rZ0, rZ1, rZb, cl_some', lt_eq, rm_eq, dv_eq, iv_01, iv_10, the, lastA, lpA, st_eq, st_ne, cV_tw, gR_0, gR_3, gR_4, gR_27, gR_28, gI_29, aI_now, aI_mn, aI_mi, aI_fa, sI_now, sI_mn, sI_mi, sI_fa, pI_29, e]
    rw [if_neg (by omega), s]
    exact ih
theorem m_copyIn (hT : LT M) {a : Nat} {g0 : Row} (ha : a = 3774 ∨ a = 3775) (ka : mK M a = (20, 11138)) (hg : ∀ j : Nat, j < 11138 → mI M a j = iI (g0 j)) : sX8_copies (some a) (some 3773) (tw g mi mn F S M) = some ((), tw (st g0 11138 (g 11138)) mi mn F S M) := by
  have := m_copyIn_2 (g := g) (mi := mi) (mn := mn) (F := F) (S := S) hT ha ka hg 11138 0 FU (by omega) (by omega) (by unfold FU; omega)
  have e : ovG g g0 0 = g := by
    funext x
    exact if_neg (by omega)
  rw [e] at this
  exact this
theorem bk_at {a : Nat} : ∀ j : Nat, j < 11138 → mI (bkM M a g) a j = iI (g j) := fun j hj => if_pos ⟨rfl, hj⟩
theorem m_keep (hT : LT M) (h2 : LT2 M) (b : 0 ≤ g 11131) : sX8_keep (some 3772) (tw g mi mn F S M) = some (iI (g 11131), tw g mi mn F S (bkM (wT M 44 1) 3775 g)) := by
  have hT2 : LT (wT M 44 1) := hT
  have h22 : LT2 (wT M 44 1) := h2
  have hT3 : LT (bkM (wT M 44 1) 3775 g) := hT
  have x1 := m_copyOut (g := g) (mi := mi) (mn := mn) (F := F) (S := S) hT2 (Or.inr rfl) h2.2.2.2
  unfold sX8_keep
  rw [pZ_mw hT (by omega) (Or.inr rfl), gR_0 hT2, gR_m2 hT2 h22, x1, cl_some', gR_0 hT3, aI_now hT3 (by omega) (by omega)]
theorem m_undo (hT : LT M) (h2 : LT2 M) {gk : Row} (h7 : mI M 3772 44 = iI 0 ∨ mI M 3772 44 = iI 1) (hg : mI M 3772 44 = iI 1 → ∀ j : Nat, j < 11138 → mI M 3775 j = iI (gk j)) :
    sX8_undo (some 3772) (tw g mi mn F S M) = some (mI M 3772 44, tw (if mI M 3772 44 = iI 1 then st gk 11138 (g 11138) else g) mi mn F S M) := by
  unfold sX8_undo
  rw [gI_mw hT (by omega)]
  rcases h7 with q | q
  · rw [if_pos q, if_neg (by rw [q]; decide), q, rZ0]
  · have x1 := m_copyIn (g := g) (mi := mi) (mn := mn) (F := F) (S := S) hT (Or.inr rfl) h2.2.2.2 (hg q)
    rw [if_neg (by rw [q]; decide), if_pos q, gR_m2 hT h2, gR_0 hT, x1, cl_some', rZ1, q]
theorem m_tried_52 (hT : LT M) (h2 : LT2 M) (hΛ : LawT (bkM M 3774 g) Λ) (I : InvS g h FL R D) (hmi : clip mi = mi) {v w : Int} (v0 : 1 ≤ v) (v1 : v ≤ 200) (ok : tryOk w) (hR : R + 1400 ≤ 1000000) :
    ∃ mi' mn' F' S' y, 0 ≤ y ∧ clip mi' = mi' ∧ sX8_tried_52 (some 3772) (iI v) (iI w) (tw g mi mn F S M) = some (iI (toldS (ticksG Λ g v.toNat) w), tw (st g 11138 y) mi' mn' F' S' (bkM M 3774 g)) := by
  have hTb : LT (bkM M 3774 g) := hT
  have h2b : LT2 (bkM M 3774 g) := h2
  have x0 := m_copyOut (g := g) (mi := mi) (mn := mn) (F := F) (S := S) hT (Or.inl rfl) h2.2.2.1
  obtain ⟨m1, m2, F2, S2, z0, x1⟩ := m_ticksGo (mn := mn) (F := F) (S := S) hTb hΛ I hmi (v := v) (by omega) (by omega) (by omega)
  obtain ⟨K, hs3, FL3, G3, I3⟩ := InvS.ticksK (Λ := Λ) v.toNat _ h FL R _ I.anew (by omega)
  have I3 : InvS (ticksG Λ g v.toNat) hs3 FL3 _ _ := I3
  have hG := I3.gl
  have d0 := I3.dd.2.1
  have le : sX8_leading (some 3772) (tw (ticksG Λ g v.toNat) m1 m2 F2 S2 (bkM M 3774 g)) = some (iI (leadNowS (ticksG Λ g v.toNat)), tw (ticksG Λ g v.toNat) m1 m2 F2 S2 (bkM M 3774 g)) := m_lead_5 hTb I3 7 (-2) 0 FU (by omega) (by omega) (Or.inl rfl) (by unfold FU; omega)
  generalize ticksG Λ g v.toNat = g2 at *
  have x2 := m_copyIn (g := g2) (mi := m1) (mn := m2) (F := F2) (S := S2) hTb (Or.inl rfl) h2b.2.2.1 (bk_at (g := g))
  have fin : ∀ z, sX8_tried_187 (some 3772) z (tw g2 m1 m2 F2 S2 (bkM M 3774 g)) = some (z, tw (st g 11138 (g2 11138)) m1 m2 F2 S2 (bkM M 3774 g)) := by
    intro z
    unfold sX8_tried_187
    rw [gR_m1 hTb h2b, gR_0 hTb, x2, cl_some']
  refine ⟨m1, m2, F2, S2, g2 11138, d0, z0, ?_⟩
  unfold sX8_tried_52 toldS
  unfold tryOk at ok
  rw [gR_0 hT, gR_m1 hT h2, x0, cl_some', cV_tw hTb, x1, cl_some']
  by_cases c0 : w = 0
  · subst c0
    rw [if_pos rfl, if_pos rfl, gI_29 hTb, fin]
  · rw [if_neg (show ¬ iI w = iI 0 by rw [iv_eq (by omega) (by omega) (by omega) (by omega)]; exact c0), if_neg c0]
    by_cases c1 : w = 1
    · subst c1
      rw [if_pos rfl, if_pos rfl, cV_tw hTb, le, cl_some', fin]
    · rw [if_neg (show ¬ iI w = iI 1 by rw [iv_eq (by omega) (by omega) (by omega) (by omega)]; exact c1), if_neg c1]
      by_cases c2 : w = 2
      · subst c2
        rw [if_pos rfl, if_pos rfl, gR_0 hTb, aI_now hTb (by omega) (by omega), fin]
      · rw [if_neg (show ¬ iI w = iI 2 by rw [iv_eq (by omega) (by omega) (by omega) (by omega)]; exact c2), if_neg c2]
        by_cases c3 : w = 3
        · subst c3
          rw [if_pos rfl, if_pos rfl, gR_0 hTb, aI_now hTb (by omega) (by omega), fin]
        · rw [if_neg (show ¬ iI w = iI 3 by rw [iv_eq (by omega) (by omega) (by omega) (by omega)]; exact c3), if_neg c3]
          by_cases c4 : 20 ≤ w
          · rw [if_pos (show iI 20 ≤ iI w by rw [iv_le (by omega) (by omega) (by omega) (by omega)]; exact c4), if_pos c4]
            by_cases c5 : 30 ≤ w
            · rw [if_pos (show iI 30 ≤ iI w by rw [iv_le (by omega) (by omega) (by omega) (by omega)]; exact c5), if_pos c5, cV_tw hTb, iv_sub, m_the hTb (by omega) (by omega), cl_some']
              exact fin _
            · rw [if_neg (show ¬ iI 30 ≤ iI w by rw [iv_le (by omega) (by omega) (by omega) (by omega)]; exact c5), if_neg c5, cV_tw hTb, iv_sub, m_the hTb (by omega) (by omega), cl_some']
              exact fin _
          · rw [if_neg (show ¬ iI 20 ≤ iI w by rw [iv_le (by omega) (by omega) (by omega) (by omega)]; exact c4), if_neg c4, cV_tw hTb, iv_sub, m_the hTb (by omega) (by omega), cl_some']
            exact fin _
theorem m_tried (hT : LT M) (h2 : LT2 M) (hΛ : LawT (bkM M 3774 g) Λ) (I : InvS g h FL R D) (hmi : clip mi = mi) {v w : Int} (v0 : -2147483648 ≤ v) (v1 : v ≤ 2147483647) (w0 : -2147483648 ≤ w) (w1 : w ≤ 2147483647) (hR : R + 1400 ≤ 1000000) :
    ∃ mi' mn' F' S' y M', 0 ≤ y ∧ clip mi' = mi' ∧ (M' = M ∨ M' = bkM M 3774 g) ∧ sX8_tried (some 3772) (iI v) (iI w) (tw g mi mn F S M) = some (iI (triedS Λ g v w), tw (st g 11138 y) mi' mn' F' S' M') := by
  have same : tw g mi mn F S M = tw (st g 11138 (g 11138)) mi mn F S M := tw_ext (fun x _ _ => by
    by_cases c : x = 11138
    · rw [c, st_eq]
    · rw [st_ne c])
  have d0 := I.dd.2.1
  unfold triedS
  have y1 : ∀ σ, sX8_in (iI v) (iI 1) (iI 200) σ = some (bI (1 ≤ v ∧ v ≤ 200), σ) := fun σ => m_in v0 v1 (by omega) (by omega) (by omega) (by omega)
  have y2 : ∀ σ, sX8_in (iI w) (iI 0) (iI 3) σ = some (bI (0 ≤ w ∧ w ≤ 3), σ) := fun σ => m_in w0 w1 (by omega) (by omega) (by omega) (by omega)
  by_cases c : 1 ≤ v ∧ v ≤ 200
  · rw [if_neg (fun q => q c)]
    obtain ⟨a10, e10, r10, s10, t10⟩ := iv_less (c := 10) w0 w1 (by omega) (by omega)
    obtain ⟨a20, e20, r20, s20, t20⟩ := iv_less (c := 20) w0 w1 (by omega) (by omega)
    obtain ⟨a30, e30, r30, s30, t30⟩ := iv_less (c := 30) w0 w1 (by omega) (by omega)
    have t10 := t10 7 (by omega)
    have t20 := t20 7 (by omega)
    have t30 := t30 7 (by omega)
    by_cases ok : tryOk w
    · rw [if_neg (fun q => q ok)]
      obtain ⟨m1, m2, F2, S2, y, q0, q1, x1⟩ := m_tried_52 (mn := mn) (F := F) (S := S) hT h2 hΛ I hmi c.1 c.2 ok hR
      refine ⟨m1, m2, F2, S2, y, _, q0, q1, Or.inr rfl, ?_⟩
      rw [← x1]
      unfold tryOk at ok
      unfold sX8_tried
      simp only [y1, y2, cl_some', bI_z, e10, e20, e30, m_isNode r10 s10, m_isNode r20 s20, m_isNode r30 s30, t10, t20, t30]
      rw [if_neg (fun q => q c)]
      by_cases p1 : 0 ≤ w ∧ w ≤ 3
      · rw [if_neg (fun q => q p1)]
      · rw [if_pos p1]
        by_cases p2 : 0 ≤ w - 10 ∧ w - 10 < 7
        · rw [if_neg (fun q => q p2)]
        · rw [if_pos p2]
          by_cases p3 : 0 ≤ w - 20 ∧ w - 20 < 7
          · rw [if_neg (fun q => q p3)]
          · rw [if_pos p3, if_neg (fun q => by omega)]
    · rw [if_pos ok]
      refine ⟨mi, mn, F, S, g 11138, M, d0, hmi, Or.inl rfl, ?_⟩
      unfold tryOk at ok
      unfold sX8_tried
      simp only [y1, y2, cl_some', bI_z, e10, e20, e30, m_isNode r10 s10, m_isNode r20 s20, m_isNode r30 s30, t10, t20, t30]
      rw [if_neg (fun q => q c), if_pos (fun q => ok (Or.inl (by omega))), if_pos (fun q => ok (Or.inr (Or.inl q))), if_pos (fun q => ok (Or.inr (Or.inr (Or.inl q)))), if_pos (fun q => ok (Or.inr (Or.inr (Or.inr q)))), ← same]
  · rw [if_pos c]
    refine ⟨mi, mn, F, S, g 11138, M, d0, hmi, Or.inl rfl, ?_⟩
    unfold sX8_tried
    simp only [y1, cl_some', bI_z]
    rw [if_pos c, ← same]
end
