/-! DEPS: ud -/
/-! UE: the twin's tick -/
section
variable {g mi mn F : Row} {S : Nat → Int32} {M : Mem} {Λ : Law} {h : His} {FL : Int → ELog} {R : Int} {D : DK}
def shG (g : Row) (a k : Int) : Row := fun x => if a ≤ x ∧ x < k - 27 then g (x + 27) else g x
theorem m_due_95 (hT : LT M) {a e : Int} (a0 : 1708 ≤ a) (e9 : e ≤ 6028) (ha : a + 27 ≤ e) : ∀ (j : Nat) (k : Int) (f : Nat), e - k = j → a + 27 ≤ k → j < f →
    sX8_takesDue_95 f (some 3772) (iI e) (iI k) (tw (shG g a k) mi mn F S M) = some (iI 1, tw (st (shG g a e) 11133 (g 11133 - 1)) mi mn F S M)
  | 0, k, f + 1, e1, e2, e3 => by
    have q : k = e := by omega
    subst q
    have o : shG g a k 11133 = g 11133 := if_neg (by omega)
    simp (disch := first | assumption | omega) only [sX8_takesDue_95, sX8_takesDue_95b, z10, z00, if_true, if_false, iv_add, iv_sub, iv_mul, iv_le, iv_lt, iv_eq, iv_mx, iv_mn, bI_z, bI_o, rZ0, rZ1, rZb, cl_some', lt_eq, rm_eq, dv_eq, iv_01, iv_10, the, lastA, lpA, st_eq, st_ne, cV_tw, gR_0, gR_3, gR_4, gR_27, gR_28, gI_29, aI_now, aI_mn, aI_mi, aI_fa, sI_now, sI_mn, sI_mi, sI_fa, pI_29, o]
    rw [if_pos (by omega)]
  | j + 1, k, f + 1, e1, e2, e3 => by
    have ih := m_due_95 hT a0 e9 ha j (k + 1) f (by omega) (by omega) (by omega)
    have o : shG g a k k = g k := if_neg (by omega)
    have s : st (shG g a k) (k - 27) (g k) = shG g a (k + 1) := by
      funext x
      unfold st shG
      by_cases c : x = k - 27
      · rw [if_pos c, if_pos (by omega), c, show k - 27 + 27 = k by omega]
      · rw [if_neg c]
        by_cases d : a ≤ x ∧ x < k - 27
        · rw [if_pos d, if_pos (by omega)]
        · rw [if_neg d, if_neg (by omega)]
    rw [← ih, ← s]
    show sX8_takesDue_95b (sX8_takesDue_95 f) _ _ _ _ = _
    generalize sX8_takesDue_95 f = K
    simp (disch := first | assumption | omega) only [sX8_takesDue_95b, z10, z00, if_true, if_false, iv_add, iv_sub, iv_mul, iv_le, iv_lt, iv_eq, iv_mx, iv_mn, bI_z, bI_o, rZ0, rZ1, rZb, cl_some', lt_eq, rm_eq, dv_eq, iv_01, iv_10, the, lastA, lpA, st_eq, st_ne, cV_tw, gR_0, gR_3, gR_4, gR_27, gR_28, gI_29, aI_now, aI_mn, aI_mi, aI_fa, sI_now, sI_mn, sI_mi, sI_fa, pI_29, o]
    rw [if_neg (by omega)]
theorem m_due_47 (hT : LT M) (hmi : clip mi = mi) {m : Int} (m0 : 0 ≤ m) (m1 : m < g 11133) (h160 : g 11133 ≤ 160) : ∀ (j : Nat) (k : Int) (f : Nat), 27 - k = j → 0 ≤ k → j < f →
    sX8_takesDue_47 f (some 3772) (iI (1708 + 27 * m)) (iI k) (tw g (mpG mi (fun w => g (1708 + 27 * m + w)) 0 k) mn F S M) = some (iI 1, tw (outG g m) (clip (fun w => g (1708 + 27 * m + w))) mn F S M)
  | 0, k, f + 1, e1, e2, e3 => by
    have q : k = 27 := by omega
    subst q
    have hm : mpG mi (fun w => g (1708 + 27 * m + w)) 0 27 = clip (fun w => g (1708 + 27 * m + w)) := by
      funext w
      unfold mpG clip
      by_cases c : 0 ≤ w ∧ w < 27
      · rw [if_pos (by omega), if_pos c, show w - 0 = w by omega]
      · rw [if_neg (by omega), if_neg c]
        have := congrFun hmi w
        unfold clip at this
        rw [if_neg c] at this
        exact this.symm
    rw [hm]
    have x1 := m_due_95 (g := g) (mi := clip (fun w => g (1708 + 27 * m + w))) (mn := mn) (F := F) (S := S) hT (a := 1708 + 27 * m) (e := 1708 + 27 * g 11133) (by omega) (by omega) (by omega) (1708 + 27 * g 11133 - (1708 + 27 * m + 27)).toNat (1708 + 27 * m + 27) FU (by omega) (by omega) (by unfold FU; omega)
    have s0 : shG g (1708 + 27 * m) (1708 + 27 * m + 27) = g := by
      funext x
      unfold shG
      rw [if_neg (by omega)]
    have s1 : st (shG g (1708 + 27 * m) (1708 + 27 * g 11133)) 11133 (g 11133 - 1) = outG g m := by
      funext x
      unfold st shG outG
      by_cases c : x = 11133
      · rw [if_pos c, if_pos c]
      · rw [if_neg c, if_neg c]
        by_cases d : 1708 + 27 * m ≤ x ∧ x < 1708 + 27 * (g 11133 - 1)
        · rw [if_pos (by omega), if_pos d]
        · rw [if_neg (by omega), if_neg d]
    rw [s0, s1] at x1
    simp (disch := first | assumption | omega) only [sX8_takesDue_47, sX8_takesDue_47b, z10, z00, if_true, if_false, iv_add, iv_sub, iv_mul, iv_le, iv_lt, iv_eq, iv_mx, iv_mn, bI_z, bI_o, rZ0, rZ1, rZb, cl_some', lt_eq, rm_eq, dv_eq, iv_01, iv_10, the, lastA, lpA, st_eq, st_ne, cV_tw, gR_0, gR_3, gR_4, gR_27, gR_28, gI_29, aI_now, aI_mn, aI_mi, aI_fa, sI_now, sI_mn, sI_mi, sI_fa, pI_29]
    rw [if_pos (by omega)]
    exact x1
  | j + 1, k, f + 1, e1, e2, e3 => by
    have ih := m_due_47 hT hmi m0 m1 h160 j (k + 1) f (by omega) (by omega) (by omega)
    have s : st (mpG mi (fun w => g (1708 + 27 * m + w)) 0 k) k (g (1708 + 27 * m + k)) = mpG mi (fun w => g (1708 + 27 * m + w)) 0 (k + 1) := by
      have := mpS (g := mi) (m := fun w => g (1708 + 27 * m + w)) (p := 0) (k := k) e2
      rw [show (0 : Int) + k = k by omega] at this
      exact this
    rw [← ih, ← s]
    show sX8_takesDue_47b (sX8_takesDue_47 f) _ _ _ _ = _
    generalize sX8_takesDue_47 f = K
    simp (disch := first | assumption | omega) only [sX8_takesDue_47b, z10, z00, if_true, if_false, iv_add, iv_sub, iv_mul, iv_le, iv_lt, iv_eq, iv_mx, iv_mn, bI_z, bI_o, rZ0, rZ1, rZb, cl_some', lt_eq, rm_eq, dv_eq, iv_01, iv_10, the, lastA, lpA, st_eq, st_ne, cV_tw, gR_0, gR_3, gR_4, gR_27, gR_28, gI_29, aI_now, aI_mn, aI_mi, aI_fa, sI_now, sI_mn, sI_mi, sI_fa, pI_29]
    rw [if_neg (by omega)]
theorem m_due_2 (hT : LT M) (hmi : clip mi = mi) (hG : GlA g) (hd : ∀ i, 0 ≤ i → i < g 11133 → 0 ≤ msg g i 4 ∧ msg g i 4 ≤ 20000) : ∀ (j : Nat) (m : Int) (f : Nat), g 11133 - m = j → 0 ≤ m → j < f →
    sX8_takesDue_2 f (some 3772) (iI m) (tw g mi mn F S M) = match dueF g j m with
      | none => some (iI 0, tw g mi mn F S M)
      | some k => some (iI 1, tw (outG g k) (clip (fun w => g (1708 + 27 * k + w))) mn F S M)
  | 0, m, f + 1, e1, e2, e3 => by
    obtain ⟨_, _, _, _, _, _, _, _, _, _, _, _⟩ := hG
    simp (disch := first | assumption | omega) only [sX8_takesDue_2, sX8_takesDue_2b, z10, z00, if_true, if_false, iv_add, iv_sub, iv_mul, iv_le, iv_lt, iv_eq, iv_mx, iv_mn, bI_z, bI_o, rZ0, rZ1, rZb, cl_some', lt_eq, rm_eq, dv_eq, iv_01, iv_10, the, lastA, lpA, st_eq, st_ne, cV_tw, gR_0, gR_3, gR_4, gR_27, gR_28, gI_29, aI_now, aI_mn, aI_mi, aI_fa, sI_now, sI_mn, sI_mi, sI_fa, pI_29]
    rw [if_pos (by omega)]
    rfl
  | j + 1, m, f + 1, e1, e2, e3 => by
    have hG' := hG
    obtain ⟨_, _, _, _, _, _, _, _, _, _, _, _⟩ := hG
    have ih := m_due_2 hT hmi hG' hd j (m + 1) f (by omega) (by omega) (by omega)
    have dd : 0 ≤ g (1708 + 27 * m + 4) ∧ g (1708 + 27 * m + 4) ≤ 20000 := hd m e2 (by omega)
    unfold dueF
    show sX8_takesDue_2b (sX8_takesDue_2 f) _ _ _ = _
    generalize sX8_takesDue_2 f = K at ih ⊢
    have x1 := m_due_47 (g := g) (mn := mn) (F := F) (S := S) hT hmi (m := m) e2 (by omega) (by omega) 27 0 FU (by omega) (by omega) (by unfold FU; omega)
    rw [mp0] at x1
    simp (disch := first | assumption | omega) only [sX8_takesDue_2b, z10, z00, if_true, if_false, iv_add, iv_sub, iv_mul, iv_le, iv_lt, iv_eq, iv_mx, iv_mn, bI_z, bI_o, rZ0, rZ1, rZb, cl_some', lt_eq, rm_eq, dv_eq, iv_01, iv_10, the, lastA, lpA, st_eq, st_ne, cV_tw, gR_0, gR_3, gR_4, gR_27, gR_28, gI_29, aI_now, aI_mn, aI_mi, aI_fa, sI_now, sI_mn, sI_mi, sI_fa, pI_29]
    rw [if_neg (by omega)]
    by_cases c : g (1708 + 27 * m + 4) ≤ g 11131
    · rw [if_pos c, if_pos c]
      exact x1
    · rw [if_neg c, if_neg c]
      exact ih
theorem m_takesDue (hT : LT M) (hmi : clip mi = mi) (I : InvS g h FL R D) :
    sX8_takesDue (some 3772) (tw g mi mn F S M) = match dueA g with
      | none => some (iI 0, tw g mi mn F S M)
      | some k => some (iI 1, tw (outG g k) (clip (fun w => g (1708 + 27 * k + w))) mn F S M) := by
  have hG := I.gl
  obtain ⟨_, _, _, _, _, _, _, _, _, _, _, _⟩ := hG
  exact m_due_2 hT hmi I.gl (fun i a b => ⟨(I.ml i a b).2.1, (I.ml i a b).2.2.1⟩) _ 0 FU (by omega) (by omega) (by unfold FU; omega)
theorem clip_clip {m : Row} : clip (clip m) = clip m := by
  funext w
  unfold clip
  split <;> rfl
theorem m_asksAll (hT : LT M) (hΛ : LawT M Λ) (I : InvS g h FL R D) {n : Int} (n0 : 0 ≤ n) (n1 : n < 7) (hr : g (244 * n + 3) = 2) (hR : R + 1 ≤ 1000000) :
    ∃ mn' F' S', sX8_asksAll (some 3772) (iI n) (tw g mi mn F S M) = some ((), tw (sendAllG Λ (roundG g n) n) mi mn' F' S' M) := by
  obtain ⟨⟨s1, s2⟩, _⟩ := I.na n n0 n1
  have I1 := I.round n0 n1 hR
  have e3 : roundG g n (244 * n + 3) = 2 := by
    unfold roundG
    rw [st_ne (by omega), st_ne (by omega)]; exact hr
  have hH := I1.ho n0 n1 e3
  obtain ⟨m1, F1, S1, x1⟩ := m_sendsToAll (g := roundG g n) (mi := mi) (mn := mn) (F := F) (S := S) hT hΛ hH.1 I1.gl
  refine ⟨m1, F1, S1, ?_⟩
  have e : st (st g (244 * n + 14) 0) (244 * n + 13) (g (244 * n + 13) + 1) = roundG g n := rfl
  simp (disch := first | assumption | omega) only [sX8_asksAll, m_the, m_sets, z10, z00, if_true, if_false, iv_add, iv_sub, iv_mul, iv_le, iv_lt, iv_eq, iv_mx, iv_mn, bI_z, bI_o, rZ0, rZ1, rZb, cl_some', lt_eq, rm_eq, dv_eq, iv_01, iv_10, the, lastA, lpA, st_eq, st_ne, cV_tw, gR_0, gR_3, gR_4, gR_27, gR_28, gI_29, aI_now, aI_mn, aI_mi, aI_fa, sI_now, sI_mn, sI_mi, sI_fa, pI_29, e, x1]
theorem m_nodeGoes (hT : LT M) (hΛ : LawT M Λ) (I : InvS g h FL R D) {n : Int} (n0 : 0 ≤ n) (n1 : n < 7) (hR : R + 1 ≤ 1000000) :
    ∃ mn' F' S', sX8_nodeGoes (some 3772) (iI n) (tw g mi mn F S M) = some ((), tw (beatG Λ g n) mi mn' F' S' M) := by
  obtain ⟨⟨s1, s2⟩, _⟩ := I.na n n0 n1
  have rr := I.rr
  unfold beatG
  simp only [the]
  by_cases c : g (244 * n + 3) = 2
  · rw [if_neg (fun hc => hc c), st_eq]
    by_cases c2 : g (244 * n + 14) + 1 < 3
    · rw [if_pos c2]
      refine ⟨mn, F, S, ?_⟩
      simp (disch := first | assumption | omega) only [sX8_nodeGoes, m_the, m_sets, z10, z00, if_true, if_false, iv_add, iv_sub, iv_mul, iv_le, iv_lt, iv_eq, iv_mx, iv_mn, bI_z, bI_o, rZ0, rZ1, rZb, cl_some', lt_eq, rm_eq, dv_eq, iv_01, iv_10, the, lastA, lpA, st_eq, st_ne, cV_tw, gR_0, gR_3, gR_4, gR_27, gR_28, gI_29, aI_now, aI_mn, aI_mi, aI_fa, sI_now, sI_mn, sI_mi, sI_fa, pI_29]
      rw [if_pos c, if_neg (by omega)]
    · rw [if_neg c2]
      have I1 : InvS (st g (244 * n + 14) 2) h FL R D := by
        refine I.scal1 (w := 14) n0 n1 (Or.inr (Or.inr rfl)) ?_
        simp (disch := omega) only [NSg, the, st_ne, st_eq]
        unfold NS
        omega
      obtain ⟨m1, F1, S1, x1⟩ : ∃ mn' F' S', sX8_asksAll (some 3772) (iI n) (tw (st g (244 * n + 14) (g (244 * n + 14) + 1)) mi mn F S M) = some ((), tw (sendAllG Λ (st (st (st g (244 * n + 14) (g (244 * n + 14) + 1)) (244 * n + 14) 0) (244 * n + 13) (g (244 * n + 13) + 1)) n) mi mn' F' S' M) := by
        have I2 := I.round n0 n1 hR
        have e3 : roundG g n (244 * n + 3) = 2 := by
          unfold roundG
          rw [st_ne (by omega), st_ne (by omega)]; exact c
        have hH := I2.ho n0 n1 e3
        obtain ⟨m1, F1, S1, x1⟩ := m_sendsToAll (g := roundG g n) (mi := mi) (mn := mn) (F := F) (S := S) hT hΛ hH.1 I2.gl
        refine ⟨m1, F1, S1, ?_⟩
        have e : st (st (st g (244 * n + 14) (g (244 * n + 14) + 1)) (244 * n + 14) 0) (244 * n + 13) (g (244 * n + 13) + 1) = roundG g n := by
          unfold roundG
          rw [st_st]
        rw [e]
        simp (disch := first | assumption | omega) only [sX8_asksAll, m_the, m_sets, z10, z00, if_true, if_false, iv_add, iv_sub, iv_mul, iv_le, iv_lt, iv_eq, iv_mx, iv_mn, bI_z, bI_o, rZ0, rZ1, rZb, cl_some', lt_eq, rm_eq, dv_eq, iv_01, iv_10, the, lastA, lpA, st_eq, st_ne, cV_tw, gR_0, gR_3, gR_4, gR_27, gR_28, gI_29, aI_now, aI_mn, aI_mi, aI_fa, sI_now, sI_mn, sI_mi, sI_fa, pI_29]
        rw [e, x1]
        rfl
      refine ⟨m1, F1, S1, ?_⟩
      simp (disch := first | assumption | omega) only [sX8_nodeGoes, m_the, m_sets, z10, z00, if_true, if_false, iv_add, iv_sub, iv_mul, iv_le, iv_lt, iv_eq, iv_mx, iv_mn, bI_z, bI_o, rZ0, rZ1, rZb, cl_some', lt_eq, rm_eq, dv_eq, iv_01, iv_10, the, lastA, lpA, st_eq, st_ne, cV_tw, gR_0, gR_3, gR_4, gR_27, gR_28, gI_29, aI_now, aI_mn, aI_mi, aI_fa, sI_now, sI_mn, sI_mi, sI_fa, pI_29, x1]
      rw [if_pos c, if_pos (by omega)]
  · rw [if_pos c, st_eq]
    by_cases c2 : g (244 * n + 10) - 1 = 0
    · rw [if_pos c2]
      have hS : StA (st g (244 * n + 10) (g (244 * n + 10) - 1)) n := StA_ext (I.sta n0 n1) (fun x _ _ _ => st_ne (by omega)) (fun x _ _ => st_ne (by omega)) (st_ne (by omega)) (GlA_blk (fun x _ => st_ne (by omega)) I.gl) (by rw [st_ne (by omega)]; omega) (by rw [st_ne (by omega)]; omega)
      obtain ⟨m1, F1, S1, x1⟩ := m_stands (mi := mi) (mn := mn) (F := F) (S := S) hT hΛ hS
      refine ⟨m1, F1, S1, ?_⟩
      simp (disch := first | assumption | omega) only [sX8_nodeGoes, m_the, m_sets, z10, z00, if_true, if_false, iv_add, iv_sub, iv_mul, iv_le, iv_lt, iv_eq, iv_mx, iv_mn, bI_z, bI_o, rZ0, rZ1, rZb, cl_some', lt_eq, rm_eq, dv_eq, iv_01, iv_10, the, lastA, lpA, st_eq, st_ne, cV_tw, gR_0, gR_3, gR_4, gR_27, gR_28, gI_29, aI_now, aI_mn, aI_mi, aI_fa, sI_now, sI_mn, sI_mi, sI_fa, pI_29, x1]
      rw [if_neg c, if_pos c2]
    · rw [if_neg c2]
      refine ⟨mn, F, S, ?_⟩
      simp (disch := first | assumption | omega) only [sX8_nodeGoes, m_the, m_sets, z10, z00, if_true, if_false, iv_add, iv_sub, iv_mul, iv_le, iv_lt, iv_eq, iv_mx, iv_mn, bI_z, bI_o, rZ0, rZ1, rZb, cl_some', lt_eq, rm_eq, dv_eq, iv_01, iv_10, the, lastA, lpA, st_eq, st_ne, cV_tw, gR_0, gR_3, gR_4, gR_27, gR_28, gI_29, aI_now, aI_mn, aI_mi, aI_fa, sI_now, sI_mn, sI_mi, sI_fa, pI_29]
      rw [if_neg c, if_neg c2]
theorem m_tick_34 (hT : LT M) (hΛ : LawT M Λ) : ∀ (j : Nat) (g : Row) (h : His) (FL : Int → ELog) (R n : Int) (mn F : Row) (S : Nat → Int32) (fu : Nat), InvS g h FL R D → 7 - n = j → 0 ≤ n → R + j ≤ 1000000 → j < fu →
    ∃ mn' F' S', sX8_tickGoes_34 fu (some 3772) (iI n) (tw g mi mn F S M) = some ((), tw (beatF Λ j g n) mi mn' F' S' M)
  | 0, g, h, FL, R, n, mn, F, S, fu + 1, I, e1, e2, e3, e4 => by
    refine ⟨mn, F, S, ?_⟩
    simp (disch := first | assumption | omega) only [sX8_tickGoes_34, sX8_tickGoes_34b, z10, z00, if_true, if_false, iv_add, iv_sub, iv_mul, iv_le, iv_lt, iv_eq, iv_mx, iv_mn, bI_z, bI_o, rZ0, rZ1, rZb, cl_some', lt_eq, rm_eq, dv_eq, iv_01, iv_10, the, lastA, lpA, st_eq, st_ne, cV_tw, gR_0, gR_3, gR_4, gR_27, gR_28, gI_29, aI_now, aI_mn, aI_mi, aI_fa, sI_now, sI_mn, sI_mi, sI_fa, pI_29]
    rw [if_pos (by omega)]
    rfl
  | j + 1, g, h, FL, R, n, mn, F, S, fu + 1, I, e1, e2, e3, e4 => by
    obtain ⟨⟨s1, s2⟩, _⟩ := I.na n e2 (by omega)
    have y1 := m_isUp (g := g) (mi := mi) (mn := mn) (F := F) (S := S) (n := n) hT (by omega) (by omega) (fun _ => ⟨by omega, by omega⟩)
    unfold beatF
    simp only [the]
    show ∃ mn' F' S', sX8_tickGoes_34b (sX8_tickGoes_34 fu) _ _ _ = _
    by_cases c : g (244 * n + 0) = 1
    · rw [if_pos c]
      obtain ⟨m1, F1, S1, x1⟩ := m_nodeGoes (mi := mi) (mn := mn) (F := F) (S := S) hT hΛ I e2 (by omega) (by omega)
      obtain ⟨h2, FL2, G2, I2⟩ := I.beat (Λ := Λ) e2 (by omega) c (by omega)
      obtain ⟨m2, F2, S2, x2⟩ := m_tick_34 hT hΛ j _ h2 FL2 (R + 1) (n + 1) m1 F1 S1 fu I2 (by omega) (by omega) (by omega) (by omega)
      refine ⟨m2, F2, S2, ?_⟩
      generalize sX8_tickGoes_34 fu = K at x2 ⊢
      simp (disch := first | assumption | omega) only [sX8_tickGoes_34b, sX8_tickGoes_53, z10, z00, if_true, if_false, iv_add, iv_sub, iv_mul, iv_le, iv_lt, iv_eq, iv_mx, iv_mn, bI_z, bI_o, rZ0, rZ1, rZb, cl_some', lt_eq, rm_eq, dv_eq, iv_01, iv_10, the, lastA, lpA, st_eq, st_ne, cV_tw, gR_0, gR_3, gR_4, gR_27, gR_28, gI_29, aI_now, aI_mn, aI_mi, aI_fa, sI_now, sI_mn, sI_mi, sI_fa, pI_29, y1, x1]
      rw [if_neg (by omega), if_neg (fun hc => hc ⟨⟨e2, by omega⟩, c⟩)]
      exact x2
    · rw [if_neg c]
      obtain ⟨m2, F2, S2, x2⟩ := m_tick_34 hT hΛ j g h FL R (n + 1) mn F S fu I (by omega) (by omega) (by omega) (by omega)
      refine ⟨m2, F2, S2, ?_⟩
      generalize sX8_tickGoes_34 fu = K at x2 ⊢
      simp (disch := first | assumption | omega) only [sX8_tickGoes_34b, sX8_tickGoes_53, z10, z00, if_true, if_false, iv_add, iv_sub, iv_mul, iv_le, iv_lt, iv_eq, iv_mx, iv_mn, bI_z, bI_o, rZ0, rZ1, rZb, cl_some', lt_eq, rm_eq, dv_eq, iv_01, iv_10, the, lastA, lpA, st_eq, st_ne, cV_tw, gR_0, gR_3, gR_4, gR_27, gR_28, gI_29, aI_now, aI_mn, aI_mi, aI_fa, sI_now, sI_mn, sI_mi, sI_fa, pI_29, y1]
      rw [if_neg (by omega), if_pos (fun hc => c hc.2)]
      exact x2
theorem m_tick_18 (hT : LT M) (hΛ : LawT M Λ) : ∀ (j : Nat) (g : Row) (h : His) (FL : Int → ELog) (D : DK) (mi mn F : Row) (S : Nat → Int32) (f fu : Nat), InvS g h FL R D → clip mi = mi → D.2.1 ≤ j → R + 7 ≤ 1000000 → j < fu → j < f →
    ∃ mi' mn' F' S', clip mi' = mi' ∧ sX8_tickGoes_18 fu (some 3772) (tw g mi mn F S M) = some ((), tw (beatF Λ 7 (handF Λ f g) 0) mi' mn' F' S' M) := by
  intro j
  have fin : ∀ (g : Row) (h : His) (FL : Int → ELog) (D : DK) (mi mn F : Row) (S : Nat → Int32) (K : Option Nat → Mem → Option (Unit × Mem)) , InvS g h FL R D → clip mi = mi → R + 7 ≤ 1000000 → dueA g = none →
      ∃ mi' mn' F' S', clip mi' = mi' ∧ sX8_tickGoes_18b K (some 3772) (tw g mi mn F S M) = some ((), tw (beatF Λ 7 g 0) mi' mn' F' S' M) := by
    intro g h FL D mi mn F S K I hmi hR hd
    have x1 := m_takesDue (mn := mn) (F := F) (S := S) hT hmi I
    rw [hd] at x1
    simp only [] at x1
    obtain ⟨m2, F2, S2, x2⟩ := m_tick_34 (mi := mi) hT hΛ 7 g h FL R 0 mn F S FU I (by omega) (by omega) (by omega) (by unfold FU; omega)
    refine ⟨mi, m2, F2, S2, hmi, ?_⟩
    simp (disch := first | assumption | omega) only [sX8_tickGoes_18b, z10, z00, if_true, if_false, iv_add, iv_sub, iv_mul, iv_le, iv_lt, iv_eq, iv_mx, iv_mn, bI_z, bI_o, rZ0, rZ1, rZb, cl_some', lt_eq, rm_eq, dv_eq, iv_01, iv_10, the, lastA, lpA, st_eq, st_ne, cV_tw, gR_0, gR_3, gR_4, gR_27, gR_28, gI_29, aI_now, aI_mn, aI_mi, aI_fa, sI_now, sI_mn, sI_mi, sI_fa, pI_29, x1]
    exact x2
  induction j with
  | zero =>
    intro g h FL D mi mn F S f fu I hmi hK hR hfu hf
    obtain ⟨fu, rfl⟩ : ∃ k, fu = k + 1 := ⟨fu - 1, by omega⟩
    obtain ⟨f, rfl⟩ : ∃ k, f = k + 1 := ⟨f - 1, by omega⟩
    have hd : dueA g = none := by
      cases hdd : dueA g with
      | none => rfl
      | some m =>
        exfalso
        have := I.due hdd
        omega
    have e : handF Λ (f + 1) g = g := by
      unfold handF
      rw [hd]
    rw [e]
    exact fin g h FL D mi mn F S _ I hmi hR hd
  | succ j ih =>
    intro g h FL D mi mn F S f fu I hmi hK hR hfu hf
    obtain ⟨fu, rfl⟩ : ∃ k, fu = k + 1 := ⟨fu - 1, by omega⟩
    obtain ⟨f, rfl⟩ : ∃ k, f = k + 1 := ⟨f - 1, by omega⟩
    cases hd : dueA g with
    | none =>
      have e : handF Λ (f + 1) g = g := by
        unfold handF
        rw [hd]
      rw [e]
      exact fin g h FL D mi mn F S _ I hmi hR hd
    | some m =>
      obtain ⟨q0, q1, q2⟩ := I.due hd
      have e : handF Λ (f + 1) g = handF Λ f (handG Λ (outG g m) (clip (fun w => g (1708 + 27 * m + w)))) := by
        show (match dueA g with
          | none => g
          | some m => handF Λ f (handG Λ (outG g m) (clip (fun w => g (1708 + 27 * m + w))))) = _
        rw [hd]
      rw [e]
      have x1 := m_takesDue (mn := mn) (F := F) (S := S) hT hmi I
      rw [hd] at x1
      simp only [] at x1
      have I1 := I.out (m := m) q0 q1 q2
      have hM := clip_MI (I.ml m q0 q1).1
      have e34 : outG g m 11134 = g 11134 := by
        have hG := I.gl
        obtain ⟨_, _, _, _, _, _, _, _, _, _, _, _⟩ := hG
        unfold outG
        rw [if_neg (by omega), if_neg (by omega)]
      rw [← e34] at hM
      obtain ⟨m1, F1, S1, x2⟩ := m_isHanded (mn := mn) (F := F) (S := S) hT hΛ I1 hM
      obtain ⟨h2, FL2, G2, I2⟩ := I1.hand (Λ := Λ) hM
      obtain ⟨mi3, m3, F3, S3, hmi3, x3⟩ := ih _ h2 FL2 _ (clip (msg g m)) m1 F1 S1 f fu I2 clip_clip (by show D.2.1 - 1 ≤ _; omega) hR (by omega) (by omega)
      refine ⟨mi3, m3, F3, S3, hmi3, ?_⟩
      show sX8_tickGoes_18b (sX8_tickGoes_18 fu) _ _ = _
      generalize sX8_tickGoes_18 fu = K at x3 ⊢
      simp (disch := first | assumption | omega) only [sX8_tickGoes_18b, z10, z00, if_true, if_false, iv_add, iv_sub, iv_mul, iv_le, iv_lt, iv_eq, iv_mx, iv_mn, bI_z, bI_o, rZ0, rZ1, rZb, cl_some', lt_eq, rm_eq, dv_eq, iv_01, iv_10, the, lastA, lpA, st_eq, st_ne, cV_tw, gR_0, gR_3, gR_4, gR_27, gR_28, gI_29, aI_now, aI_mn, aI_mi, aI_fa, sI_now, sI_mn, sI_mi, sI_fa, pI_29, x1, x2]
      exact x3
theorem m_tickGoes (hT : LT M) (hΛ : LawT M Λ) (I : InvS g h FL R D) (hmi : clip mi = mi) (h9 : g 11131 < 9999) (hR : R + 7 ≤ 1000000) :
    ∃ mi' mn' F' S', clip mi' = mi' ∧ sX8_tickGoes (some 3772) (tw g mi mn F S M) = some ((), tw (tickG Λ g) mi' mn' F' S' M) := by
  have hG := I.gl
  obtain ⟨_, _, _, _, _, _, _, _, _, _, _, _⟩ := hG
  obtain ⟨m1, m2, F2, S2, x0, x1⟩ := m_tick_18 hT hΛ (g 11133).toNat _ h FL _ mi mn F S ((st g 11131 (g 11131 + 1) 11133).toNat + 1) FU (I.clock h9) hmi (by show g 11133 ≤ _; omega) hR (by unfold FU; omega) (by rw [st_ne (by omega)]; omega)
  refine ⟨m1, m2, F2, S2, x0, ?_⟩
  simp (disch := first | assumption | omega) only [sX8_tickGoes, z10, z00, if_true, if_false, iv_add, iv_sub, iv_mul, iv_le, iv_lt, iv_eq, iv_mx, iv_mn, bI_z, bI_o, rZ0, rZ1, rZb, cl_some', lt_eq, rm_eq, dv_eq, iv_01, iv_10, the, lastA, lpA, st_eq, st_ne, cV_tw, gR_0, gR_3, gR_4, gR_27, gR_28, gI_29, aI_now, aI_mn, aI_mi, aI_fa, sI_now, sI_mn, sI_mi, sI_fa, pI_29]
  exact x1
theorem m_oneTick (hT : LT M) (hΛ : LawT M Λ) (I : InvS g h FL R D) (hmi : clip mi = mi) (hR : R + 7 ≤ 1000000) :
    ∃ mi' mn' F' S', clip mi' = mi' ∧ sX8_oneTick (some 3772) (tw g mi mn F S M) = some (bI (g 11131 < 9999), tw (if g 11131 < 9999 then tickG Λ g else g) mi' mn' F' S' M) := by
  have hG := I.gl
  obtain ⟨_, _, _, _, _, _, _, _, _, _, _, _⟩ := hG
  by_cases c : g 11131 < 9999
  · obtain ⟨m1, m2, F2, S2, x0, x1⟩ := m_tickGoes (mn := mn) (F := F) (S := S) hT hΛ I hmi c hR
    refine ⟨m1, m2, F2, S2, x0, ?_⟩
    simp (disch := first | assumption | omega) only [sX8_oneTick, z10, z00, if_true, if_false, iv_add, iv_sub, iv_mul, iv_le, iv_lt, iv_eq, iv_mx, iv_mn, bI_z, bI_o, rZ0, rZ1, rZb, cl_some', lt_eq, rm_eq, dv_eq, iv_01, iv_10, the, lastA, lpA, st_eq, st_ne, cV_tw, gR_0, gR_3, gR_4, gR_27, gR_28, gI_29, aI_now, aI_mn, aI_mi, aI_fa, sI_now, sI_mn, sI_mi, sI_fa, pI_29, x1]
    rw [if_pos c, if_pos c, bI_t c]
  · refine ⟨mi, mn, F, S, hmi, ?_⟩
    simp (disch := first | assumption | omega) only [sX8_oneTick, z10, z00, if_true, if_false, iv_add, iv_sub, iv_mul, iv_le, iv_lt, iv_eq, iv_mx, iv_mn, bI_z, bI_o, rZ0, rZ1, rZb, cl_some', lt_eq, rm_eq, dv_eq, iv_01, iv_10, the, lastA, lpA, st_eq, st_ne, cV_tw, gR_0, gR_3, gR_4, gR_27, gR_28, gI_29, aI_now, aI_mn, aI_mi, aI_fa, sI_now, sI_mn, sI_mi, sI_fa, pI_29]
    rw [if_neg c, if_neg c, bI_f c]
theorem m_ticks_7 (hT : LT M) (hΛ : LawT M Λ) {v : Int} (hv : v ≤ 1000) : ∀ (j : Nat) (g : Row) (h : His) (FL : Int → ELog) (R : Int) (D : DK) (k : Int) (mi mn F : Row) (S : Nat → Int32) (fu : Nat), InvS g h FL R D → clip mi = mi → v - k = j → 0 ≤ k → R + 7 * j ≤ 1000000 → j < fu →
    ∃ mi' mn' F' S', clip mi' = mi' ∧ sX8_ticksGo_7 fu (some 3772) (iI v) (iI k) (tw g mi mn F S M) = some ((), tw (ticksF Λ j g) mi' mn' F' S' M)
  | 0, g, h, FL, R, D, k, mi, mn, F, S, fu + 1, I, hmi, e1, e2, e3, e4 => by
    refine ⟨mi, mn, F, S, hmi, ?_⟩
    simp (disch := first | assumption | omega) only [sX8_ticksGo_7, sX8_ticksGo_7b, z10, z00, if_true, if_false, iv_add, iv_sub, iv_mul, iv_le, iv_lt, iv_eq, iv_mx, iv_mn, bI_z, bI_o, rZ0, rZ1, rZb, cl_some', lt_eq, rm_eq, dv_eq, iv_01, iv_10, the, lastA, lpA, st_eq, st_ne, cV_tw, gR_0, gR_3, gR_4, gR_27, gR_28, gI_29, aI_now, aI_mn, aI_mi, aI_fa, sI_now, sI_mn, sI_mi, sI_fa, pI_29]
    rw [if_pos (by omega)]
    rfl
  | j + 1, g, h, FL, R, D, k, mi, mn, F, S, fu + 1, I, hmi, e1, e2, e3, e4 => by
    obtain ⟨m1, m2, F2, S2, x0, x1⟩ := m_oneTick (mn := mn) (F := F) (S := S) hT hΛ I hmi (by omega)
    obtain ⟨K, h2, FL2, G2, I2⟩ : ∃ K, Ex (if g 11131 < 9999 then tickG Λ g else g) h (R + 7) (D.1, K) := by
      split
      · rename_i c
        exact I.tick c (by omega)
      · exact ⟨D.2, (I.mono (by omega) (by omega)).ex⟩
    obtain ⟨m3, m4, F4, S4, x2, x3⟩ := m_ticks_7 hT hΛ hv j _ h2 FL2 (R + 7) _ (k + 1) m1 m2 F2 S2 fu I2 x0 (by omega) (by omega) (by omega) (by omega)
    refine ⟨m3, m4, F4, S4, x2, ?_⟩
    unfold ticksF
    show sX8_ticksGo_7b (sX8_ticksGo_7 fu) _ _ _ _ = _
    generalize sX8_ticksGo_7 fu = K at x3 ⊢
    simp (disch := first | assumption | omega) only [sX8_ticksGo_7b, z10, z00, if_true, if_false, iv_add, iv_sub, iv_mul, iv_le, iv_lt, iv_eq, iv_mx, iv_mn, bI_z, bI_o, rZ0, rZ1, rZb, cl_some', lt_eq, rm_eq, dv_eq, iv_01, iv_10, the, lastA, lpA, st_eq, st_ne, cV_tw, gR_0, gR_3, gR_4, gR_27, gR_28, gI_29, aI_now, aI_mn, aI_mi, aI_fa, sI_now, sI_mn, sI_mi, sI_fa, pI_29, x1]
    rw [if_neg (by omega)]
    exact x3
theorem m_ticksGo (hT : LT M) (hΛ : LawT M Λ) (I : InvS g h FL R D) (hmi : clip mi = mi) {v : Int} (v0 : 0 ≤ v) (hv : v ≤ 1000) (hR : R + 7 * v ≤ 1000000) :
    ∃ mi' mn' F' S', clip mi' = mi' ∧ sX8_ticksGo (some 3772) (iI v) (tw g mi mn F S M) = some ((), tw (ticksG Λ g v.toNat) mi' mn' F' S' M) := by
  obtain ⟨m1, m2, F2, S2, x0, x1⟩ := m_ticks_7 hT hΛ hv v.toNat _ h FL R _ 0 mi mn F S FU I.anew hmi (by omega) (by omega) (by omega) (by unfold FU; omega)
  refine ⟨m1, m2, F2, S2, x0, ?_⟩
  simp (disch := first | assumption | omega) only [sX8_ticksGo, z10, z00, if_true, if_false, iv_add, iv_sub, iv_mul, iv_le, iv_lt, iv_eq, iv_mx, iv_mn, bI_z, bI_o, rZ0, rZ1, rZb, cl_some', lt_eq, rm_eq, dv_eq, iv_01, iv_10, the, lastA, lpA, st_eq, st_ne, cV_tw, gR_0, gR_3, gR_4, gR_27, gR_28, gI_29, aI_now, aI_mn, aI_mi, aI_fa, sI_now, sI_mn, sI_mi, sI_fa, pI_29]
  exact x1
end
