/-! DEPS: tv -/
/-! TU: the twin stands -/
section
variable {g mi mn F : Row} {S : Nat → Int32} {M : Mem} {Λ : Law}
theorem standV_ne {n x : Int} (h : x < 244 * n + 1 ∨ (244 * n + 3 < x ∧ x < 244 * n + 11) ∨ 244 * n + 12 < x) : standV g n x = g x := by
  unfold standV
  rw [st_ne (by omega), st_ne (by omega), st_ne (by omega), st_ne (by omega), st_ne (by omega)]
theorem standV_1 {n : Int} : standV g n (244 * n + 1) = g (244 * n + 1) + 1 := by
  unfold standV
  rw [st_ne (by omega), st_ne (by omega), st_ne (by omega), st_ne (by omega), st_eq]
theorem standV_12 {n : Int} : standV g n (244 * n + 12) = bitI n := by
  unfold standV
  rw [st_ne (by omega), st_eq]
theorem standV_St {n : Int} (hS : StA g n) (h9 : ¬ g (244 * n + 1) = 999) : StA (standV g n) n := by
  have hn := hS.1.1
  have o := fun x a => standV_ne (g := g) (n := n) (x := x) a
  have h1 := hS.2.2.2.2.2.1
  have h2 := hS.2.2.2.2.2.2
  refine StA_ext hS (fun x _ _ _ => o x (by omega)) (fun x _ _ => o x (by omega)) (o _ (by omega)) (GlA_blk (fun x _ => o x (by omega)) hS.2.2.1) ?_ ?_
  · rw [standV_1]; omega
  · rw [standV_1]; omega
theorem m_stands (h : LT M) (hΛ : LawT M Λ) {n : Int} (hS : StA g n) :
    ∃ mn' F' S', sX8_stands (some 3772) (iI n) (tw g mi mn F S M) = some ((), tw (standG Λ g n) mi mn' F' S' M) := by
  have hL := hS.1
  have hn := hL.1
  have hm := membR hL
  have h1 := hS.2.2.2.2.2.1
  have h2 := hS.2.2.2.2.2.2
  have hbt := bitR hn.1 hn.2.1
  have e1 := m_membersOf (g := g) (mi := mi) (mn := mn) (F := F) (S := S) h hL
  obtain ⟨F1, S1, e2⟩ := m_setsTimer (g := g) (mi := mi) (mn := mn) (F := F) (S := S) h hΛ hS.2.2.1 hn.1 hn.2.1 h1 h2
  have e3 := m_the (g := g) (mi := mi) (mn := mn) (F := F) (S := S) (n := n) (w := 1) h (by omega) (by omega)
  unfold standG
  simp only [the]
  by_cases c1 : hasI (membA g n) n
  · by_cases c2 : g (244 * n + 1) = 999
    · refine ⟨mn, F1, S1, ?_⟩
      rw [if_pos (Or.inr c2)]
      simp (disch := first | assumption | omega) only [sX8_stands, sX8_stands_24, m_has, z10, z00, if_true, if_false, iv_add, iv_sub, iv_mul, iv_le, iv_lt, iv_eq, iv_mx, iv_mn, bI_z, bI_o, rZ0, rZ1, rZb, cl_some', lt_eq, rm_eq, dv_eq, iv_01, iv_10, the, lastA, lpA, st_eq, st_ne, cV_tw, gR_0, gR_3, gR_4, gR_27, gR_28, gI_29, aI_now, aI_mn, aI_mi, aI_fa, sI_now, sI_mn, sI_mi, sI_fa, pI_29, e1, e2, e3]
      rw [if_neg (fun hc => hc c1), if_pos c2]
    · have hV := standV_St hS c2
      have hT := timer_St (Λ := Λ) hV
      obtain ⟨F2, S2, e4⟩ := m_setsTimer (g := standV g n) (mi := mi) (mn := mn) (F := F) (S := S) h hΛ hV.2.2.1 hn.1 hn.2.1 hV.2.2.2.2.2.1 hV.2.2.2.2.2.2
      have o12 : timerG Λ (standV g n) n (244 * n + 12) = bitI n := by rw [timerG_ne (by omega) (by omega), standV_12]
      have o1 : timerG Λ (standV g n) n (244 * n + 1) = g (244 * n + 1) + 1 := by rw [timerG_ne (by omega) (by omega), standV_1]
      have e5 := m_isMost (g := timerG Λ (standV g n) n) (s := bitI n) (mi := mi) (mn := mn) (F := F2) (S := S2) h hT.1 (by omega) (by omega)
      have e6 := m_the (g := timerG Λ (standV g n) n) (mi := mi) (mn := mn) (F := F2) (S := S2) (n := n) (w := 12) h (by omega) (by omega)
      rw [o12] at e6
      rw [if_neg (show ¬ (¬ hasI (membA g n) n ∨ g (244 * n + 1) = 999) from fun hc => by rcases hc with hc | hc <;> contradiction)]
      have ev : st (st (st (st (st g (244 * n + 1) (g (244 * n + 1) + 1)) (244 * n + 3) 1) (244 * n + 2) n) (244 * n + 12) (bitI n)) (244 * n + 11) (-1) = standV g n := rfl
      by_cases c3 : mostA (timerG Λ (standV g n) n) n (bitI n)
      · rw [if_pos (show mostA (timerG Λ (standV g n) n) n (timerG Λ (standV g n) n (244 * n + 12)) by rw [o12]; exact c3)]
        obtain ⟨m3, F3, S3, e7⟩ := m_leads (g := timerG Λ (standV g n) n) (mi := mi) (mn := mn) (F := F2) (S := S2) h hΛ hT (by rw [o1]; omega)
        refine ⟨m3, F3, S3, ?_⟩
        simp (disch := first | assumption | omega) only [sX8_stands, m_has, z10, z00, if_true, if_false, iv_add, iv_sub, iv_mul, iv_le, iv_lt, iv_eq, iv_mx, iv_mn, bI_z, bI_o, rZ0, rZ1, rZb, cl_some', lt_eq, rm_eq, dv_eq, iv_01, iv_10, the, lastA, lpA, st_eq, st_ne, cV_tw, gR_0, gR_3, gR_4, gR_27, gR_28, gI_29, aI_now, aI_mn, aI_mi, aI_fa, sI_now, sI_mn, sI_mi, sI_fa, pI_29, e1, e3]
        rw [if_neg (fun hc => hc c1), if_neg c2]
        simp (disch := first | assumption | omega) only [m_sets, iv_shl, z10, z00, if_true, if_false, iv_add, iv_sub, iv_mul, iv_le, iv_lt, iv_eq, iv_mx, iv_mn, bI_z, bI_o, rZ0, rZ1, rZb, cl_some', lt_eq, rm_eq, dv_eq, iv_01, iv_10, the, lastA, lpA, st_eq, st_ne, cV_tw, gR_0, gR_3, gR_4, gR_27, gR_28, gI_29, aI_now, aI_mn, aI_mi, aI_fa, sI_now, sI_mn, sI_mi, sI_fa, pI_29, ev, e4, e6, e5, e7]
        rw [if_neg (fun hc => hc c3)]
      · rw [if_neg (show ¬ mostA (timerG Λ (standV g n) n) n (timerG Λ (standV g n) n (244 * n + 12)) by rw [o12]; exact c3)]
        obtain ⟨m3, F3, S3, e7⟩ := m_stands_104 h hΛ 7 (timerG Λ (standV g n) n) mn F2 S2 0 FU hT (by omega) (by omega) (by unfold FU; omega)
        refine ⟨m3, F3, S3, ?_⟩
        simp (disch := first | assumption | omega) only [sX8_stands, m_has, z10, z00, if_true, if_false, iv_add, iv_sub, iv_mul, iv_le, iv_lt, iv_eq, iv_mx, iv_mn, bI_z, bI_o, rZ0, rZ1, rZb, cl_some', lt_eq, rm_eq, dv_eq, iv_01, iv_10, the, lastA, lpA, st_eq, st_ne, cV_tw, gR_0, gR_3, gR_4, gR_27, gR_28, gI_29, aI_now, aI_mn, aI_mi, aI_fa, sI_now, sI_mn, sI_mi, sI_fa, pI_29, e1, e3]
        rw [if_neg (fun hc => hc c1), if_neg c2]
        simp (disch := first | assumption | omega) only [m_sets, iv_shl, z10, z00, if_true, if_false, iv_add, iv_sub, iv_mul, iv_le, iv_lt, iv_eq, iv_mx, iv_mn, bI_z, bI_o, rZ0, rZ1, rZb, cl_some', lt_eq, rm_eq, dv_eq, iv_01, iv_10, the, lastA, lpA, st_eq, st_ne, cV_tw, gR_0, gR_3, gR_4, gR_27, gR_28, gI_29, aI_now, aI_mn, aI_mi, aI_fa, sI_now, sI_mn, sI_mi, sI_fa, pI_29, ev, e4, e6, e5]
        rw [if_pos c3]
        exact e7
  · refine ⟨mn, F1, S1, ?_⟩
    rw [if_pos (Or.inl c1)]
    simp (disch := first | assumption | omega) only [sX8_stands, sX8_stands_24, m_has, z10, z00, if_true, if_false, iv_add, iv_sub, iv_mul, iv_le, iv_lt, iv_eq, iv_mx, iv_mn, bI_z, bI_o, rZ0, rZ1, rZb, cl_some', lt_eq, rm_eq, dv_eq, iv_01, iv_10, the, lastA, lpA, st_eq, st_ne, cV_tw, gR_0, gR_3, gR_4, gR_27, gR_28, gI_29, aI_now, aI_mn, aI_mi, aI_fa, sI_now, sI_mn, sI_mi, sI_fa, pI_29, e1, e2, e3]
    rw [if_pos c1]
end
