/-! DEPS: tu -/
/-! TX: messages handed to the twin: votes -/
/-- the message in hand: its common words -/
def MsA (mi : Row) : Prop := 0 ≤ mi 0 ∧ mi 0 < 7 ∧ 0 ≤ mi 1 ∧ mi 1 < 7 ∧ 0 ≤ mi 3 ∧ mi 3 ≤ 999 ∧ -1000000 ≤ mi 6 ∧ mi 6 ≤ 1000000 ∧ -1000000 ≤ mi 7 ∧ mi 7 ≤ 1000000
section
variable {g mi mn F : Row} {S : Nat → Int32} {M : Mem} {Λ : Law}
theorem m_hasVote (h : LT M) (hΛ : LawT M Λ) {n : Int} (hS : StA g n) (hM : MsA mi) (h1 : 1 ≤ g (244 * n + 1)) (h3 : 0 ≤ g (244 * n + 3) ∧ g (244 * n + 3) ≤ 2) (hv : 0 ≤ g (244 * n + 12) ∧ g (244 * n + 12) < 128) :
    ∃ mn' F' S', sX8_hasVote (some 3772) (iI n) (tw g mi mn F S M) = some ((), tw (countG Λ g mi n) mi mn' F' S' M) := by
  have hL := hS.1
  have hn := hL.1
  obtain ⟨q0, q1, q2, q3, q4, q5, q6, q7, q8, q9⟩ := hM
  have hb := bitR q0 q1
  have ho := orR hv.1 hv.2 (Int.le_of_lt hb.1) hb.2
  have h9 := hS.2.2.2.2.2.2
  unfold countG
  simp only [the]
  by_cases c1 : g (244 * n + 3) = 1
  · by_cases c2 : mi 3 = g (244 * n + 1)
    · by_cases c3 : mi 6 = 1
      · rw [if_neg (show ¬ (g (244 * n + 3) ≠ 1 ∨ mi 3 ≠ g (244 * n + 1) ∨ mi 6 ≠ 1) from fun hc => by rcases hc with hc | hc | hc <;> contradiction)]
        obtain ⟨h', eh⟩ : ∃ h', st g (244 * n + 12) (orI (g (244 * n + 12)) (bitI (mi 0))) = h' := ⟨_, rfl⟩
        have e12 : h' (244 * n + 12) = orI (g (244 * n + 12)) (bitI (mi 0)) := by rw [← eh, st_eq]
        have o : ∀ x, ¬ x = 244 * n + 12 → h' x = g x := fun x hx => by rw [← eh]; exact st_ne hx
        have hS' : StA h' n := StA_ext hS (fun x _ _ _ => o x (by omega)) (fun x _ _ => o x (by omega)) (o _ (by omega)) (GlA_blk (fun x _ => o x (by omega)) hS.2.2.1) (by rw [o _ (by omega)]; omega) (by rw [o _ (by omega)]; omega)
        have e5 := m_isMost (g := h') (s := orI (g (244 * n + 12)) (bitI (mi 0))) (mi := mi) (mn := mn) (F := F) (S := S) h hS'.1 ho.1 ho.2
        have e6 := m_the (g := h') (mi := mi) (mn := mn) (F := F) (S := S) (n := n) (w := 12) h (by omega) (by omega)
        rw [e12] at e6
        rw [eh]
        by_cases c4 : mostA h' n (orI (g (244 * n + 12)) (bitI (mi 0)))
        · rw [if_pos (show mostA h' n (h' (244 * n + 12)) by rw [e12]; exact c4)]
          obtain ⟨m3, F3, S3, e7⟩ := m_leads (g := h') (mi := mi) (mn := mn) (F := F) (S := S) h hΛ hS' (by rw [o _ (by omega)]; exact h1)
          refine ⟨m3, F3, S3, ?_⟩
          simp (disch := first | assumption | omega) only [sX8_hasVote, m_the, z10, z00, if_true, if_false, iv_add, iv_sub, iv_mul, iv_le, iv_lt, iv_eq, iv_mx, iv_mn, bI_z, bI_o, rZ0, rZ1, rZb, cl_some', lt_eq, rm_eq, dv_eq, iv_01, iv_10, the, lastA, lpA, st_eq, st_ne, cV_tw, gR_0, gR_3, gR_4, gR_27, gR_28, gI_29, aI_now, aI_mn, aI_mi, aI_fa, sI_now, sI_mn, sI_mi, sI_fa, pI_29]
          rw [if_pos c1, if_pos c2, if_pos c3]
          simp (disch := first | assumption | omega) only [m_sets, iv_shl, iv_or, z10, z00, if_true, if_false, iv_add, iv_sub, iv_mul, iv_le, iv_lt, iv_eq, iv_mx, iv_mn, bI_z, bI_o, rZ0, rZ1, rZb, cl_some', lt_eq, rm_eq, dv_eq, iv_01, iv_10, the, lastA, lpA, st_eq, st_ne, cV_tw, gR_0, gR_3, gR_4, gR_27, gR_28, gI_29, aI_now, aI_mn, aI_mi, aI_fa, sI_now, sI_mn, sI_mi, sI_fa, pI_29, eh, e6, e5, e7]
          rw [if_neg (fun hc => hc c4)]
        · rw [if_neg (show ¬ mostA h' n (h' (244 * n + 12)) by rw [e12]; exact c4)]
          refine ⟨mn, F, S, ?_⟩
          simp (disch := first | assumption | omega) only [sX8_hasVote, m_the, z10, z00, if_true, if_false, iv_add, iv_sub, iv_mul, iv_le, iv_lt, iv_eq, iv_mx, iv_mn, bI_z, bI_o, rZ0, rZ1, rZb, cl_some', lt_eq, rm_eq, dv_eq, iv_01, iv_10, the, lastA, lpA, st_eq, st_ne, cV_tw, gR_0, gR_3, gR_4, gR_27, gR_28, gI_29, aI_now, aI_mn, aI_mi, aI_fa, sI_now, sI_mn, sI_mi, sI_fa, pI_29]
          rw [if_pos c1, if_pos c2, if_pos c3]
          simp (disch := first | assumption | omega) only [m_sets, iv_shl, iv_or, z10, z00, if_true, if_false, iv_add, iv_sub, iv_mul, iv_le, iv_lt, iv_eq, iv_mx, iv_mn, bI_z, bI_o, rZ0, rZ1, rZb, cl_some', lt_eq, rm_eq, dv_eq, iv_01, iv_10, the, lastA, lpA, st_eq, st_ne, cV_tw, gR_0, gR_3, gR_4, gR_27, gR_28, gI_29, aI_now, aI_mn, aI_mi, aI_fa, sI_now, sI_mn, sI_mi, sI_fa, pI_29, eh, e6, e5]
          rw [if_pos c4]
      · rw [if_pos (Or.inr (Or.inr c3))]
        refine ⟨mn, F, S, ?_⟩
        simp (disch := first | assumption | omega) only [sX8_hasVote, m_the, z10, z00, if_true, if_false, iv_add, iv_sub, iv_mul, iv_le, iv_lt, iv_eq, iv_mx, iv_mn, bI_z, bI_o, rZ0, rZ1, rZb, cl_some', lt_eq, rm_eq, dv_eq, iv_01, iv_10, the, lastA, lpA, st_eq, st_ne, cV_tw, gR_0, gR_3, gR_4, gR_27, gR_28, gI_29, aI_now, aI_mn, aI_mi, aI_fa, sI_now, sI_mn, sI_mi, sI_fa, pI_29]
        rw [if_pos c1, if_pos c2, if_neg c3]
    · rw [if_pos (Or.inr (Or.inl c2))]
      refine ⟨mn, F, S, ?_⟩
      simp (disch := first | assumption | omega) only [sX8_hasVote, m_the, z10, z00, if_true, if_false, iv_add, iv_sub, iv_mul, iv_le, iv_lt, iv_eq, iv_mx, iv_mn, bI_z, bI_o, rZ0, rZ1, rZb, cl_some', lt_eq, rm_eq, dv_eq, iv_01, iv_10, the, lastA, lpA, st_eq, st_ne, cV_tw, gR_0, gR_3, gR_4, gR_27, gR_28, gI_29, aI_now, aI_mn, aI_mi, aI_fa, sI_now, sI_mn, sI_mi, sI_fa, pI_29]
      rw [if_pos c1, if_neg c2]
  · rw [if_pos (Or.inl c1)]
    refine ⟨mn, F, S, ?_⟩
    simp (disch := first | assumption | omega) only [sX8_hasVote, m_the, z10, z00, if_true, if_false, iv_add, iv_sub, iv_mul, iv_le, iv_lt, iv_eq, iv_mx, iv_mn, bI_z, bI_o, rZ0, rZ1, rZb, cl_some', lt_eq, rm_eq, dv_eq, iv_01, iv_10, the, lastA, lpA, st_eq, st_ne, cV_tw, gR_0, gR_3, gR_4, gR_27, gR_28, gI_29, aI_now, aI_mn, aI_mi, aI_fa, sI_now, sI_mn, sI_mi, sI_fa, pI_29]
    rw [if_neg c1]
end
