/-! DEPS: ts2 -/
/-! TV: the twin stands, is voted for -/
section
variable {g mi mn F : Row} {S : Nat → Int32} {M : Mem} {Λ : Law}
theorem timerG_ne {n x : Int} (h1 : ¬ x = 11132) (h2 : ¬ x = 244 * n + 10) : timerG Λ g n x = g x := by
  unfold timerG
  rw [st_ne h2]
  exact st_ne h1
theorem timerG_32 {n : Int} (h : n < 7) : timerG Λ g n 11132 = drawG g 11132 := by
  unfold timerG
  exact st_ne (by omega)
theorem timerG_Gl {n : Int} (h : n < 7) (hG : GlA g) : GlA (timerG Λ g n) := by
  have hd := drawGl hG
  have o : ∀ x, 11131 ≤ x → timerG Λ g n x = drawG g x := by
    intro x hx
    unfold timerG
    exact st_ne (by omega)
  exact GlA_blk o hd
/-- all but the node's own small words, kept -/
theorem StA_ext {g' : Row} {n : Int} (hS : StA g n) (he : ∀ x, 244 * n + 4 ≤ x → x < 244 * n + 244 → (x < 244 * n + 10 ∨ 244 * n + 52 ≤ x) → g' x = g x) (ho : ∀ x, 6028 ≤ x → x < 11131 → g' x = g x) (h5 : g' 11135 = g 11135) (hG : GlA g') (h1 : 0 ≤ g' (244 * n + 1)) (h9 : g' (244 * n + 1) ≤ 999) : StA g' n := by
  obtain ⟨a1, a2, a3, a4, a5, a6, a7⟩ := hS
  have hA : g 11135 ≤ 16 := by
    obtain ⟨_, _, _, _, _, _, _, _, _, _, _, _⟩ := a3
    omega
  exact ⟨LgA_ext2 he a1, fun x b c => by rw [ho x (by omega) (by omega)]; exact a2 x b c, hG, RdA_ext h5 hA (fun x _ _ => ho x (by omega) (by omega)) a4, fun t b c => by rw [ho t (by omega) (by omega)]; exact a5 t b c, h1, h9⟩
theorem timer_St {n : Int} (hS : StA g n) : StA (timerG Λ g n) n := by
  have hn := hS.1.1
  have o := fun x a b => timerG_ne (Λ := Λ) (g := g) (n := n) (x := x) a b
  exact StA_ext hS (fun x _ _ _ => o x (by omega) (by omega)) (fun x _ _ => o x (by omega) (by omega)) (o _ (by omega) (by omega)) (timerG_Gl hn.2.1 hS.2.2.1) (by rw [o _ (by omega) (by omega)]; exact hS.2.2.2.2.2.1) (by rw [o _ (by omega) (by omega)]; exact hS.2.2.2.2.2.2)
theorem post_St {n : Int} {m : Row} (hS : StA g n) : StA (postG Λ g m) n := by
  have hn := hS.1.1
  have hG := hS.2.2.1
  have o := fun x a b c d => postG_ne (Λ := Λ) (g := g) (m := m) (x := x) hG a b c d
  have h33 : 0 ≤ g 11133 := hG.2.2.2.2.1
  exact StA_ext hS (fun x _ _ _ => o x (by omega) (by omega) (by omega) (by omega)) (fun x _ _ => o x (by omega) (by omega) (by omega) (by omega)) (o _ (by omega) (by omega) (by omega) (by omega)) (postG_Gl hG) (by rw [o _ (by omega) (by omega) (by omega) (by omega)]; exact hS.2.2.2.2.2.1) (by rw [o _ (by omega) (by omega) (by omega) (by omega)]; exact hS.2.2.2.2.2.2)
theorem m_stands_104 (h : LT M) (hΛ : LawT M Λ) {n : Int} : ∀ (j : Nat) (g : Row) (mn F : Row) (S : Nat → Int32) (t : Int) (fu : Nat), StA g n → 7 - t = j → 0 ≤ t → j < fu →
    ∃ mn' F' S', sX8_stands_104 fu (some 3772) (iI n) (iI t) (tw g mi mn F S M) = some ((), tw (askF Λ n j g t) mi mn' F' S' M)
  | 0, g, mn, F, S, t, fu + 1, hS, e1, e2, e3 => by
    refine ⟨mn, F, S, ?_⟩
    simp (disch := first | assumption | omega) only [sX8_stands_104, sX8_stands_104b, z10, z00, if_true, if_false, iv_add, iv_sub, iv_mul, iv_le, iv_lt, iv_eq, iv_mx, iv_mn, bI_z, bI_o, rZ0, rZ1, rZb, cl_some', lt_eq, rm_eq, dv_eq, iv_01, iv_10, the, lastA, lpA, st_eq, st_ne, cV_tw, gR_0, gR_3, gR_4, gR_27, gR_28, gI_29, aI_now, aI_mn, aI_mi, aI_fa, sI_now, sI_mn, sI_mi, sI_fa, pI_29]
    rw [if_pos (by omega)]
    rfl
  | j + 1, g, mn, F, S, t, fu + 1, hS, e1, e2, e3 => by
    have hL := hS.1
    have hn := hL.1
    have hm := membR hL
    unfold askF
    show ∃ mn' F' S', sX8_stands_104b (sX8_stands_104 fu) (some 3772) (iI n) (iI t) (tw g mi mn F S M) = _
    by_cases c1 : t = n
    · rw [if_neg (fun hc => hc.1 c1)]
      obtain ⟨m1, F1, S1, a1⟩ := m_stands_104 h hΛ j g mn F S (t + 1) fu hS (by omega) (by omega) (by omega)
      refine ⟨m1, F1, S1, ?_⟩
      generalize sX8_stands_104 fu = K at a1 ⊢
      simp (disch := first | assumption | omega) only [sX8_stands_104b, sX8_stands_170, z10, z00, if_true, if_false, iv_add, iv_sub, iv_mul, iv_le, iv_lt, iv_eq, iv_mx, iv_mn, bI_z, bI_o, rZ0, rZ1, rZb, cl_some', lt_eq, rm_eq, dv_eq, iv_01, iv_10, the, lastA, lpA, st_eq, st_ne, cV_tw, gR_0, gR_3, gR_4, gR_27, gR_28, gI_29, aI_now, aI_mn, aI_mi, aI_fa, sI_now, sI_mn, sI_mi, sI_fa, pI_29]
      rw [if_neg (by omega), if_pos c1]
      exact a1
    · have em := m_membersOf (g := g) (mi := mi) (mn := mn) (F := F) (S := S) h hL
      by_cases c2 : hasI (membA g n) t
      · rw [if_pos ⟨c1, c2⟩]
        obtain ⟨b1, b2, b3⟩ := m_beginsMail (g := g) (mi := mi) (mn := mn) (F := F) (S := S) (f := n) (t := t) (k := 0) h (by omega) (by omega)
        have hb : ag27 (st (st b1 6 (g (244 * n + 4) + g (244 * n + 8))) 7 (termA g n (g (244 * n + 4) + g (244 * n + 8)))) (askM g n t) := by
          intro w hw hw7
          unfold askM st
          simp only [the, lastA]
          by_cases k7 : w = 7
          · rw [if_pos k7, if_neg (by omega), if_pos k7]
          · rw [if_neg k7]
            by_cases k6 : w = 6
            · rw [if_pos k6, if_pos k6]
            · rw [if_neg k6, if_neg k6, if_neg k7, b2 w hw hw7]
        have b0 : st (st b1 6 (g (244 * n + 4) + g (244 * n + 8))) 7 (termA g n (g (244 * n + 4) + g (244 * n + 8))) 0 = n := by
          rw [st_ne (by omega), st_ne (by omega), b2 0 (by omega) (by omega)]
          rfl
        obtain ⟨m1, F1, S1, a1⟩ := m_posts (g := g) (mi := mi) (mn := st (st b1 6 (g (244 * n + 4) + g (244 * n + 8))) 7 (termA g n (g (244 * n + 4) + g (244 * n + 8)))) (F := F) (S := S) h hΛ hS.2.2.1 (by rw [b0]; omega) (by rw [b0]; omega) (by rw [b0]; exact hS.2.2.2.2.2.1) (by rw [b0]; exact hS.2.2.2.2.2.2)
        rw [postG_ext hb] at a1
        obtain ⟨m2, F2, S2, a2⟩ := m_stands_104 h hΛ j (postG Λ g (askM g n t)) m1 F1 S1 (t + 1) fu (post_St hS) (by omega) (by omega) (by omega)
        refine ⟨m2, F2, S2, ?_⟩
        generalize sX8_stands_104 fu = K at a2 ⊢
        simp (disch := first | assumption | omega) only [sX8_stands_104b, sX8_stands_170, m_has, m_lastOf, m_termAt, z10, z00, if_true, if_false, iv_add, iv_sub, iv_mul, iv_le, iv_lt, iv_eq, iv_mx, iv_mn, bI_z, bI_o, rZ0, rZ1, rZb, cl_some', lt_eq, rm_eq, dv_eq, iv_01, iv_10, the, lastA, lpA, st_eq, st_ne, cV_tw, gR_0, gR_3, gR_4, gR_27, gR_28, gI_29, aI_now, aI_mn, aI_mi, aI_fa, sI_now, sI_mn, sI_mi, sI_fa, pI_29, em, b3, a1]
        rw [if_neg (by omega), if_neg c1, if_neg (fun hc => hc c2)]
        exact a2
      · rw [if_neg (fun hc => c2 hc.2)]
        obtain ⟨m1, F1, S1, a1⟩ := m_stands_104 h hΛ j g mn F S (t + 1) fu hS (by omega) (by omega) (by omega)
        refine ⟨m1, F1, S1, ?_⟩
        generalize sX8_stands_104 fu = K at a1 ⊢
        simp (disch := first | assumption | omega) only [sX8_stands_104b, sX8_stands_170, m_has, z10, z00, if_true, if_false, iv_add, iv_sub, iv_mul, iv_le, iv_lt, iv_eq, iv_mx, iv_mn, bI_z, bI_o, rZ0, rZ1, rZb, cl_some', lt_eq, rm_eq, dv_eq, iv_01, iv_10, the, lastA, lpA, st_eq, st_ne, cV_tw, gR_0, gR_3, gR_4, gR_27, gR_28, gI_29, aI_now, aI_mn, aI_mi, aI_fa, sI_now, sI_mn, sI_mi, sI_fa, pI_29, em]
        rw [if_neg (by omega), if_neg c1, if_pos c2]
        exact a1
end
