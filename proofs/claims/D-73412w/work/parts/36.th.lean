/-! DEPS: ts -/
/-! TH: the twin follows, sends to all -/
section
variable {g mi mn F : Row} {S : Nat → Int32} {M : Mem} {Λ : Law}
def lrG (g : Row) (n k : Int) : Row := fun x => if 11032 ≤ x ∧ (x - 11032) % 6 = 0 ∧ (x - 11032) / 6 < k ∧ g (x - 4) = n ∧ g x = 0 then 2 else g x
theorem lr0 (g : Row) (n : Int) : lrG g n 0 = g := by
  funext x
  unfold lrG
  rw [if_neg (by omega)]
theorem lrG_ne {n k x : Int} (h : ¬ (11032 ≤ x ∧ (x - 11032) % 6 = 0 ∧ (x - 11032) / 6 < k)) : lrG g n k x = g x := by
  unfold lrG
  rw [if_neg (fun hc => h ⟨hc.1, hc.2.1, hc.2.2.1⟩)]
theorem lrS {n k : Int} (hk : 0 ≤ k) (h1 : g (11028 + 6 * k) = n) (h2 : g (11028 + 6 * k + 4) = 0) : st (lrG g n k) (11028 + 6 * k + 4) 2 = lrG g n (k + 1) := by
  funext x
  unfold st lrG
  by_cases c : x = 11028 + 6 * k + 4
  · rw [if_pos c, if_pos]
    refine ⟨by omega, by omega, by omega, ?_, ?_⟩
    · rw [c, show 11028 + 6 * k + 4 - 4 = 11028 + 6 * k by omega]; exact h1
    · rw [c]; exact h2
  · rw [if_neg c]
    by_cases c2 : 11032 ≤ x ∧ (x - 11032) % 6 = 0 ∧ (x - 11032) / 6 < k ∧ g (x - 4) = n ∧ g x = 0
    · rw [if_pos c2, if_pos ⟨c2.1, c2.2.1, by omega, c2.2.2.2.1, c2.2.2.2.2⟩]
    · rw [if_neg c2, if_neg (fun hc => c2 ⟨hc.1, hc.2.1, by omega, hc.2.2.2.1, hc.2.2.2.2⟩)]
theorem lrN {n k : Int} (hk : 0 ≤ k) (h1 : ¬ (g (11028 + 6 * k) = n ∧ g (11028 + 6 * k + 4) = 0)) : lrG g n k = lrG g n (k + 1) := by
  funext x
  unfold lrG
  by_cases c2 : 11032 ≤ x ∧ (x - 11032) % 6 = 0 ∧ (x - 11032) / 6 < k ∧ g (x - 4) = n ∧ g x = 0
  · rw [if_pos c2, if_pos ⟨c2.1, c2.2.1, by omega, c2.2.2.2.1, c2.2.2.2.2⟩]
  · rw [if_neg c2, if_neg]
    intro hc
    apply c2
    refine ⟨hc.1, hc.2.1, ?_, hc.2.2.2.1, hc.2.2.2.2⟩
    by_cases e : x = 11028 + 6 * k + 4
    · exfalso
      apply h1
      rw [← e]
      refine ⟨?_, hc.2.2.2.2⟩
      have := hc.2.2.2.1
      rwa [e, show 11028 + 6 * k + 4 - 4 = 11028 + 6 * k by omega] at this
    · omega
theorem m_loses_2 (h : LT M) {n : Int} (h0 : 0 ≤ n) (h1 : n < 7) (hA : 0 ≤ g 11135 ∧ g 11135 ≤ 16) (hR : RdA g) : ∀ (j : Nat) (k : Int) (fu : Nat), g 11135 - k = j → 0 ≤ k → j < fu →
    sX8_losesReads_2 fu (some 3772) (iI n) (iI k) (tw (lrG g n k) mi mn F S M) = some ((), tw (lrG g n (g 11135)) mi mn F S M)
  | 0, k, fu + 1, e1, e2, e3 => by
    have e : g 11135 = k := by omega
    have ea : lrG g n k 11135 = g 11135 := lrG_ne (by omega)
    simp (disch := first | assumption | omega) only [sX8_losesReads_2, sX8_losesReads_2b, z10, z00, if_true, if_false, iv_add, iv_sub, iv_mul, iv_le, iv_lt, iv_eq, iv_mx, iv_mn, bI_z, bI_o, rZ0, rZ1, rZb, cl_some', lt_eq, rm_eq, dv_eq, iv_01, iv_10, the, lastA, lpA, st_eq, st_ne, cV_tw, gR_0, gR_3, gR_4, gR_27, gR_28, gI_29, aI_now, aI_mn, aI_mi, aI_fa, sI_now, sI_mn, sI_mi, sI_fa, pI_29, ea]
    rw [if_pos (by omega), e]
  | j + 1, k, fu + 1, e1, e2, e3 => by
    have ih := m_loses_2 h h0 h1 hA hR j (k + 1) fu (by omega) (by omega) (by omega)
    obtain ⟨_, _, _, _, _, _, _, _, _, _⟩ := hR k e2 (by omega)
    have ea : lrG g n k 11135 = g 11135 := lrG_ne (by omega)
    have eb : lrG g n k (11028 + 6 * k) = g (11028 + 6 * k) := lrG_ne (by omega)
    have ec : lrG g n k (11028 + 6 * k + 4) = g (11028 + 6 * k + 4) := lrG_ne (by omega)
    simp (disch := first | assumption | omega) only [sX8_losesReads_2, sX8_losesReads_2b, sX8_losesReads_65, z10, z00, if_true, if_false, iv_add, iv_sub, iv_mul, iv_le, iv_lt, iv_eq, iv_mx, iv_mn, bI_z, bI_o, rZ0, rZ1, rZb, cl_some', lt_eq, rm_eq, dv_eq, iv_01, iv_10, the, lastA, lpA, st_eq, st_ne, cV_tw, gR_0, gR_3, gR_4, gR_27, gR_28, gI_29, aI_now, aI_mn, aI_mi, aI_fa, sI_now, sI_mn, sI_mi, sI_fa, pI_29, ea, eb, ec]
    rw [if_neg (by omega)]
    by_cases c1 : g (11028 + 6 * k) = n
    · rw [if_pos c1]
      by_cases c2 : g (11028 + 6 * k + 4) = 0
      · rw [if_pos c2, lrS e2 c1 c2]
        exact ih
      · rw [if_neg c2, lrN e2 (fun hc => c2 hc.2)]
        exact ih
    · rw [if_neg c1, lrN e2 (fun hc => c1 hc.1)]
      exact ih
theorem m_losesReads (h : LT M) {n : Int} (h0 : 0 ≤ n) (h1 : n < 7) (hA : 0 ≤ g 11135 ∧ g 11135 ≤ 16) (hR : RdA g) :
    sX8_losesReads (some 3772) (iI n) (tw g mi mn F S M) = some ((), tw (readsG g n) mi mn F S M) := by
  have := m_loses_2 (mi := mi) (mn := mn) (F := F) (S := S) h h0 h1 hA hR (g 11135).toNat 0 FU (by omega) (by omega) (by unfold FU; omega)
  rw [lr0] at this
  exact this
theorem readsG_ne {n x : Int} (h : x < 11032 ∨ 11128 ≤ x) (hA : 0 ≤ g 11135 ∧ g 11135 ≤ 16) : readsG g n x = g x := lrG_ne (k := g 11135) (by omega)
theorem m_follows (h : LT M) {n w : Int} (h0 : 0 ≤ n) (h1 : n < 7) (hA : 0 ≤ g 11135 ∧ g 11135 ≤ 16) (hR : RdA g) (h2 : 0 ≤ g (244 * n + 3)) (h3 : g (244 * n + 3) ≤ 2) :
    sX8_follows (some 3772) (iI n) (iI w) (tw g mi mn F S M) = some ((), tw (followG g n w) mi mn F S M) := by
  unfold followG
  simp (disch := first | assumption | omega) only [sX8_follows, sX8_follows_15, m_the, m_losesReads, m_sets, z10, z00, if_true, if_false, iv_add, iv_sub, iv_mul, iv_le, iv_lt, iv_eq, iv_mx, iv_mn, bI_z, bI_o, rZ0, rZ1, rZb, cl_some', lt_eq, rm_eq, dv_eq, iv_01, iv_10, the, lastA, lpA, st_eq, st_ne, cV_tw, gR_0, gR_3, gR_4, gR_27, gR_28, gI_29, aI_now, aI_mn, aI_mi, aI_fa, sI_now, sI_mn, sI_mi, sI_fa, pI_29]
  split <;> rfl
theorem followG_ne {n w x : Int} (h : x < 11032 ∨ 11128 ≤ x) (hA : 0 ≤ g 11135 ∧ g 11135 ≤ 16) (h1 : ¬ x = 244 * n + 3) (h2 : ¬ x = 244 * n + 11) : followG g n w x = g x := by
  unfold followG
  rw [st_ne h2, st_ne h1]
  split
  · exact readsG_ne h hA
  · rfl
theorem followG_3 {n w : Int} : followG g n w (244 * n + 3) = 0 := by
  unfold followG
  rw [st_ne (by omega), st_eq]
theorem followG_11 {n w : Int} : followG g n w (244 * n + 11) = w := by
  unfold followG
  rw [st_eq]
theorem readsG_Rd {n : Int} (hA : 0 ≤ g 11135 ∧ g 11135 ≤ 16) (hR : RdA g) : RdA (readsG g n) := by
  intro r h0 h1
  rw [readsG_ne (by omega) hA] at h1
  have o : ∀ k, 0 ≤ k → k < 4 → readsG g n (11028 + 6 * r + k) = g (11028 + 6 * r + k) := fun k _ _ => lrG_ne (k := g 11135) (by omega)
  have e : readsG g n (11028 + 6 * r + 4) = 2 ∨ readsG g n (11028 + 6 * r + 4) = g (11028 + 6 * r + 4) := by
    unfold readsG
    split
    · exact Or.inl rfl
    · exact Or.inr rfl
  have o0 := o 0 (by omega) (by omega)
  rw [Int.add_zero] at o0
  rw [o0, o 1 (by omega) (by omega), o 2 (by omega) (by omega), o 3 (by omega) (by omega)]
  have := hR r h0 h1
  rcases e with e | e <;> rw [e] <;> omega
theorem RdA_ext {g' : Row} (h5 : g' 11135 = g 11135) (h16 : g 11135 ≤ 16) (he : ∀ x, 11028 ≤ x → x < 11124 → g' x = g x) (hR : RdA g) : RdA g' := by
  intro r h0 h1
  rw [h5] at h1
  rw [he (11028 + 6 * r) (by omega) (by omega), he (11028 + 6 * r + 1) (by omega) (by omega), he (11028 + 6 * r + 2) (by omega) (by omega), he (11028 + 6 * r + 3) (by omega) (by omega), he (11028 + 6 * r + 4) (by omega) (by omega)]
  exact hR r h0 h1
theorem followG_Rd {n w : Int} (h0 : 0 ≤ n) (h1 : n < 7) (hA : 0 ≤ g 11135 ∧ g 11135 ≤ 16) (hR : RdA g) : RdA (followG g n w) := by
  have hq : RdA (if the g n 3 = 2 then readsG g n else g) ∧ (if the g n 3 = 2 then readsG g n else g) 11135 = g 11135 := by
    split
    · exact ⟨readsG_Rd hA hR, readsG_ne (by omega) hA⟩
    · exact ⟨hR, rfl⟩
  unfold followG
  refine RdA_ext ?_ ?_ ?_ hq.1
  · rw [st_ne (by omega), st_ne (by omega)]
  · rw [hq.2]; exact hA.2
  · intro x _ _
    rw [st_ne (by omega), st_ne (by omega)]
/-- what the sending of entries needs of a leader n -/
def LdA (g : Row) (n : Int) : Prop := LgA g n ∧ 0 ≤ g (244 * n + 1) ∧ g (244 * n + 1) ≤ 999 ∧ ∀ t, 0 ≤ t → t < 7 → 1 ≤ g (244 * n + (31 + t)) ∧ g (244 * n + (31 + t)) ≤ g (244 * n + 4) + g (244 * n + 8) + 1
theorem LdA_ext {g' : Row} {n : Int} (he : ∀ x, 244 * n ≤ x → x < 244 * n + 244 → g' x = g x) (hL : LdA g n) : LdA g' n := by
  refine ⟨LgA_ext he hL.1, ?_⟩
  rw [he (244 * n + 1) (by omega) (by omega), he (244 * n + 4) (by omega) (by omega), he (244 * n + 8) (by omega) (by omega)]
  refine ⟨hL.2.1, hL.2.2.1, fun t h0 h1 => ?_⟩
  rw [he (244 * n + (31 + t)) (by omega) (by omega)]
  exact hL.2.2.2 t h0 h1
theorem m_sends_2 (h : LT M) (hΛ : LawT M Λ) {n : Int} : ∀ (j : Nat) (g : Row) (mn F : Row) (S : Nat → Int32) (t : Int) (fu : Nat), LdA g n → GlA g → 7 - t = j → 0 ≤ t → j < fu →
    ∃ mn' F' S', sX8_sendsToAll_2 fu (some 3772) (iI n) (iI t) (tw g mi mn F S M) = some ((), tw (sendF Λ n j g t) mi mn' F' S' M)
  | 0, g, mn, F, S, t, fu + 1, hL, hG, e1, e2, e3 => by
    refine ⟨mn, F, S, ?_⟩
    simp (disch := first | assumption | omega) only [sX8_sendsToAll_2, sX8_sendsToAll_2b, z10, z00, if_true, if_false, iv_add, iv_sub, iv_mul, iv_le, iv_lt, iv_eq, iv_mx, iv_mn, bI_z, bI_o, rZ0, rZ1, rZb, cl_some', lt_eq, rm_eq, dv_eq, iv_01, iv_10, the, lastA, lpA, st_eq, st_ne, cV_tw, gR_0, gR_3, gR_4, gR_27, gR_28, gI_29, aI_now, aI_mn, aI_mi, aI_fa, sI_now, sI_mn, sI_mi, sI_fa, pI_29]
    rw [if_pos (by omega)]
    rfl
  | j + 1, g, mn, F, S, t, fu + 1, hL, hG, e1, e2, e3 => by
    have h0 : 0 ≤ n := hL.1.1.1
    have h1 : n < 7 := hL.1.1.2.1
    have hm := membR hL.1
    unfold sendF
    by_cases c1 : t = n
    · rw [if_neg (fun hc => hc.1 c1)]
      obtain ⟨m1, F1, S1, a1⟩ := m_sends_2 h hΛ j g mn F S (t + 1) fu hL hG (by omega) (by omega) (by omega)
      refine ⟨m1, F1, S1, ?_⟩
      simp (disch := first | assumption | omega) only [sX8_sendsToAll_2, sX8_sendsToAll_2b, sX8_sendsToAll_31, z10, z00, if_true, if_false, iv_add, iv_sub, iv_mul, iv_le, iv_lt, iv_eq, iv_mx, iv_mn, bI_z, bI_o, rZ0, rZ1, rZb, cl_some', lt_eq, rm_eq, dv_eq, iv_01, iv_10, the, lastA, lpA, st_eq, st_ne, cV_tw, gR_0, gR_3, gR_4, gR_27, gR_28, gI_29, aI_now, aI_mn, aI_mi, aI_fa, sI_now, sI_mn, sI_mi, sI_fa, pI_29]
      rw [if_neg (by omega), if_pos c1]
      exact a1
    · by_cases c2 : hasI (membA g n) t
      · rw [if_pos ⟨c1, c2⟩]
        obtain ⟨_, _⟩ := hL.2.2.2 t e2 (by omega)
        obtain ⟨m1, F1, S1, a1⟩ := m_sendsOn (mi := mi) (mn := mn) (F := F) (S := S) h hΛ (t := t) hL.1 hG hL.2.1 hL.2.2.1 e2 (by omega) (by omega) (by omega)
        have he : ∀ x, 244 * n ≤ x → x < 244 * n + 244 → sendG Λ g n t x = g x := fun x _ _ => sendG_lo hG (by omega)
        obtain ⟨m2, F2, S2, a2⟩ := m_sends_2 h hΛ j (sendG Λ g n t) m1 F1 S1 (t + 1) fu (LdA_ext he hL) (sendG_Gl hG) (by omega) (by omega) (by omega)
        refine ⟨m2, F2, S2, ?_⟩
        have hL1 := hL.1
        simp (disch := first | assumption | omega) only [sX8_sendsToAll_2, sX8_sendsToAll_2b, sX8_sendsToAll_31, m_membersOf, m_has, z10, z00, if_true, if_false, iv_add, iv_sub, iv_mul, iv_le, iv_lt, iv_eq, iv_mx, iv_mn, bI_z, bI_o, rZ0, rZ1, rZb, cl_some', lt_eq, rm_eq, dv_eq, iv_01, iv_10, the, lastA, lpA, st_eq, st_ne, cV_tw, gR_0, gR_3, gR_4, gR_27, gR_28, gI_29, aI_now, aI_mn, aI_mi, aI_fa, sI_now, sI_mn, sI_mi, sI_fa, pI_29, a1]
        rw [if_neg (by omega), if_neg c1, if_neg (fun hc => hc c2)]
        exact a2
      · rw [if_neg (fun hc => c2 hc.2)]
        obtain ⟨m1, F1, S1, a1⟩ := m_sends_2 h hΛ j g mn F S (t + 1) fu hL hG (by omega) (by omega) (by omega)
        refine ⟨m1, F1, S1, ?_⟩
        have hL1 := hL.1
        simp (disch := first | assumption | omega) only [sX8_sendsToAll_2, sX8_sendsToAll_2b, sX8_sendsToAll_31, m_membersOf, m_has, z10, z00, if_true, if_false, iv_add, iv_sub, iv_mul, iv_le, iv_lt, iv_eq, iv_mx, iv_mn, bI_z, bI_o, rZ0, rZ1, rZb, cl_some', lt_eq, rm_eq, dv_eq, iv_01, iv_10, the, lastA, lpA, st_eq, st_ne, cV_tw, gR_0, gR_3, gR_4, gR_27, gR_28, gI_29, aI_now, aI_mn, aI_mi, aI_fa, sI_now, sI_mn, sI_mi, sI_fa, pI_29]
        rw [if_neg (by omega), if_neg c1, if_pos c2]
        exact a1
theorem m_sendsToAll (h : LT M) (hΛ : LawT M Λ) {n : Int} (hL : LdA g n) (hG : GlA g) :
    ∃ mn' F' S', sX8_sendsToAll (some 3772) (iI n) (tw g mi mn F S M) = some ((), tw (sendAllG Λ g n) mi mn' F' S' M) :=
  m_sends_2 h hΛ 7 g mn F S 0 FU hL hG (by omega) (by omega) (by unfold FU; omega)
theorem sendF_lo {n x : Int} (hx : x < 1708 ∨ (6028 ≤ x ∧ x < 11132) ∨ (11134 ≤ x ∧ ¬ x = 11137)) : ∀ (j : Nat) (g : Row) (t : Int), GlA g → sendF Λ n j g t x = g x ∧ GlA (sendF Λ n j g t)
  | 0, g, t, hG => ⟨rfl, hG⟩
  | j + 1, g, t, hG => by
    unfold sendF
    split
    · have := sendF_lo (n := n) hx j (sendG Λ g n t) (t + 1) (sendG_Gl hG)
      exact ⟨this.1.trans (sendG_lo hG hx), this.2⟩
    · exact sendF_lo hx j g (t + 1) hG
theorem sendAllG_lo {n x : Int} (hG : GlA g) (hx : x < 1708 ∨ (6028 ≤ x ∧ x < 11132) ∨ (11134 ≤ x ∧ ¬ x = 11137)) : sendAllG Λ g n x = g x := (sendF_lo hx 7 g 0 hG).1
theorem sendAllG_Gl {n : Int} (hG : GlA g) : GlA (sendAllG Λ g n) := (sendF_lo (x := 0) (Or.inl (by omega)) 7 g 0 hG).2
end
