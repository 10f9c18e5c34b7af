/-! DEPS: tn -/
/-! TS2: the twin leads, stands, is voted for -/
section
variable {g mi mn F : Row} {S : Nat → Int32} {M : Mem} {Λ : Law}
theorem m_leads_66 (h : LT M) (hΛ : LawT M Λ) {n : Int} (hS : StA g n) (h1 : 1 ≤ g (244 * n + 1)) :
    ∃ mn' F' S', sX8_leads_66 (some 3772) (iI n) (iI (g (244 * n + 1))) (tw g mi mn F S M) = some ((), tw (laidG Λ (layG (crownG g n) n (the g n 1) 2 0 0) n) mi mn' F' S' M) := by
  have hC := crown_Ho hS h1
  have hn := hC.n0
  have o1 : crownG g n (244 * n + 1) = g (244 * n + 1) := crownG_ne (by omega)
  have hW := layG_Ho (k := 2) (a := 0) (b := 0) hC (by omega) (by omega) (by omega) (by omega)
  rw [o1] at hW
  obtain ⟨m2, F2, S2, e2⟩ := m_laidByLeader (mi := mi) (mn := mn) (F := F) (S := S) h hΛ hW
  have e1 := m_lays (g := crownG g n) (mi := mi) (mn := mn) (F := F) (S := S) (n := n) (t := g (244 * n + 1)) (k := 2) (a := 0) (b := 0) h hC.1.1
  refine ⟨m2, F2, S2, ?_⟩
  have hl := m_leads_83 (g := st (st g (244 * n + 3) 2) (244 * n + 11) n) (mi := mi) (mn := mn) (F := F) (S := S) (n := n) (t := g (244 * n + 1)) h hn.1 hn.2 7 0 999993 (by omega) (by omega)
  rw [cw0] at hl
  have o4 : st (st g (244 * n + 3) 2) (244 * n + 11) n (244 * n + 4) = g (244 * n + 4) := by rw [st_ne (by omega), st_ne (by omega)]
  have o8 : st (st g (244 * n + 3) 2) (244 * n + 11) n (244 * n + 8) = g (244 * n + 8) := by rw [st_ne (by omega), st_ne (by omega)]
  rw [o4, o8] at hl
  simp only [the]
  simp (disch := first | assumption | omega) only [sX8_leads_66, m_sets, z10, z00, if_true, if_false, iv_add, iv_sub, iv_mul, iv_le, iv_lt, iv_eq, iv_mx, iv_mn, bI_z, bI_o, rZ0, rZ1, rZb, cl_some', lt_eq, rm_eq, dv_eq, iv_01, iv_10, the, lastA, lpA, st_eq, st_ne, cV_tw, gR_0, gR_3, gR_4, gR_27, gR_28, gI_29, aI_now, aI_mn, aI_mi, aI_fa, sI_now, sI_mn, sI_mi, sI_fa, pI_29]
  refine hl.trans ?_
  show sX8_leads_83b (sX8_leads_83 999992) _ _ _ _ _ = _
  generalize sX8_leads_83 999992 = K
  have hc := crown_eq (g := g) (n := n)
  simp (disch := first | assumption | omega) only [sX8_leads_83b, m_sets, z10, z00, if_true, if_false, iv_add, iv_sub, iv_mul, iv_le, iv_lt, iv_eq, iv_mx, iv_mn, bI_z, bI_o, rZ0, rZ1, rZb, cl_some', lt_eq, rm_eq, dv_eq, iv_01, iv_10, the, lastA, lpA, st_eq, st_ne, cV_tw, gR_0, gR_3, gR_4, gR_27, gR_28, gI_29, aI_now, aI_mn, aI_mi, aI_fa, sI_now, sI_mn, sI_mi, sI_fa, pI_29, hc, e1, e2]
  rw [if_pos (by omega)]
theorem ledG_ne {n x : Int} (h : x < 10028 ∨ (11028 ≤ x ∧ ¬ x = 11136)) (h1 : 0 ≤ g (244 * n + 1)) (h2 : g (244 * n + 1) ≤ 999) : ledG g n x = g x := by
  unfold ledG
  simp only [the]
  split
  · exact st_ne (by omega)
  · split
    · rfl
    · exact st_ne (by omega)
theorem led_St {n : Int} (h : StA g n) : StA (ledG g n) n := by
  obtain ⟨hL, hH, hG, hR, hl, h2, h3⟩ := h
  have hn := hL.1
  have hA : 0 ≤ g 11135 ∧ g 11135 ≤ 16 := by
    have hG' := hG
    obtain ⟨_, _, _, _, _, _, _, _, _, _, _, _⟩ := hG'
    omega
  have o := fun x hx => ledG_ne (g := g) (n := n) (x := x) hx h2 h3
  refine ⟨LgA_ext2 (fun x _ _ _ => o x (by omega)) hL, fun x a b => by rw [o x (by omega)]; exact hH x a b, GlA_ext hG (o _ (by omega)) (o _ (by omega)) (o _ (by omega)) (by rw [o _ (by omega)]; exact ⟨hG.2.2.2.2.2.2.1, hG.2.2.2.2.2.2.2.1⟩) (o _ (by omega)) (o _ (by omega)), RdA_ext (o _ (by omega)) hA.2 (fun x _ _ => o x (by omega)) hR, ?_, ?_, ?_⟩
  · intro t a b
    have := hl t a b
    unfold ledG
    simp only [the]
    split
    · unfold st
      split <;> omega
    · split
      · exact this
      · unfold breakG
        rw [st_ne (by omega)]
        exact this
  · rw [o _ (by omega)]; exact h2
  · rw [o _ (by omega)]; exact h3
theorem m_leads (h : LT M) (hΛ : LawT M Λ) {n : Int} (hS : StA g n) (h1 : 1 ≤ g (244 * n + 1)) :
    ∃ mn' F' S', sX8_leads (some 3772) (iI n) (tw g mi mn F S M) = some ((), tw (leadG Λ g n) mi mn' F' S' M) := by
  have hS' := led_St hS
  obtain ⟨hL, hH, hG, hR, hl, h2, h3⟩ := hS
  have hn := hL.1
  have o1 : ledG g n (244 * n + 1) = g (244 * n + 1) := ledG_ne (by omega) h2 h3
  obtain ⟨m2, F2, S2, e2⟩ := m_leads_66 (mi := mi) (mn := mn) (F := F) (S := S) h hΛ hS' (by rw [o1]; exact h1)
  have ev := hl (10028 + g (244 * n + 1)) (by omega) (by omega)
  have eb := m_breaks (g := g) (mi := mi) (mn := mn) (F := F) (S := S) h
  refine ⟨m2, F2, S2, ?_⟩
  have el : leadG Λ g n = laidG Λ (layG (crownG (ledG g n) n) n (the (ledG g n) n 1) 2 0 0) n := by
    simp only [the]
    rw [o1]
    rfl
  rw [el]
  simp only [the] at e2 ⊢
  rw [o1] at e2 ⊢
  unfold ledG at e2 ⊢
  simp only [the] at e2 ⊢
  by_cases c1 : g (10028 + g (244 * n + 1)) = 0
  · rw [if_pos c1] at e2 ⊢
    simp (disch := first | assumption | omega) only [sX8_leads, sX8_leads_40, m_the, z10, z00, if_true, if_false, iv_add, iv_sub, iv_mul, iv_le, iv_lt, iv_eq, iv_mx, iv_mn, bI_z, bI_o, rZ0, rZ1, rZb, cl_some', lt_eq, rm_eq, dv_eq, iv_01, iv_10, the, lastA, lpA, st_eq, st_ne, cV_tw, gR_0, gR_3, gR_4, gR_27, gR_28, gI_29, aI_now, aI_mn, aI_mi, aI_fa, sI_now, sI_mn, sI_mi, sI_fa, pI_29]
    rw [if_pos c1, if_pos c1]
    exact e2
  · rw [if_neg c1] at e2 ⊢
    by_cases c2 : g (10028 + g (244 * n + 1)) = n + 1
    · rw [if_pos c2] at e2 ⊢
      simp (disch := first | assumption | omega) only [sX8_leads, sX8_leads_40, m_the, z10, z00, if_true, if_false, iv_add, iv_sub, iv_mul, iv_le, iv_lt, iv_eq, iv_mx, iv_mn, bI_z, bI_o, rZ0, rZ1, rZb, cl_some', lt_eq, rm_eq, dv_eq, iv_01, iv_10, the, lastA, lpA, st_eq, st_ne, cV_tw, gR_0, gR_3, gR_4, gR_27, gR_28, gI_29, aI_now, aI_mn, aI_mi, aI_fa, sI_now, sI_mn, sI_mi, sI_fa, pI_29]
      rw [if_neg c1, if_pos c2, if_neg c1]
      exact e2
    · rw [if_neg c2] at e2 ⊢
      have ob : breakG g (10028 + g (244 * n + 1)) = g (10028 + g (244 * n + 1)) := st_ne (by omega)
      simp (disch := first | assumption | omega) only [sX8_leads, sX8_leads_40, m_the, z10, z00, if_true, if_false, iv_add, iv_sub, iv_mul, iv_le, iv_lt, iv_eq, iv_mx, iv_mn, bI_z, bI_o, rZ0, rZ1, rZb, cl_some', lt_eq, rm_eq, dv_eq, iv_01, iv_10, the, lastA, lpA, st_eq, st_ne, cV_tw, gR_0, gR_3, gR_4, gR_27, gR_28, gI_29, aI_now, aI_mn, aI_mi, aI_fa, sI_now, sI_mn, sI_mi, sI_fa, pI_29, eb, ob]
      rw [if_neg c1, if_neg c2, if_neg c1]
      exact e2
end
