/-! DEPS: wl -/
/-! WM: the law's loop (printed by src/genwm.py) -/
section
variable {σ σ' : Mem} {h k g gk : Row} {l : List Cls} {t b : Int} {T : Nat → Int32} {R R' : Int} {f0 f8 : Mem → Option (Int32 × Mem)}
theorem Step.up (A : Step σ R f0 f8) (hR : R ≤ R') (h9 : R' ≤ 1000000) : Step σ R' f0 f8 := by
  obtain ⟨v, σ1, σ2, h, k, g, gk, l, t, b, T, a1, a2, a3, a4⟩ := A
  exact ⟨v, σ1, σ2, h, k, g, gk, l, t, b, T, a1, a2, a3.up hR h9, a4⟩
theorem cV_cl0 {β γ : Type} {s : Mem} {a ci : Nat} {z : Option (γ × Mem)} {K : γ → Mem → Option β} : cV s (some a) ci (cl z K) = cl (cV s (some a) ci z) K := by
  show (if (mK s a).1 = ci then cl z K else none) = cl (if (mK s a).1 = ci then z else none) K
  by_cases c : (mK s a).1 = ci
  · rw [if_pos c, if_pos c]
  · rw [if_neg c, if_neg c]
    rfl
theorem law_body {sn : Nat} {xs : Nat → Int32} {i : Int} {K : Option Nat → Option Nat → Int32 → Mem → Option (Int32 × Mem)} (H : Wld σ h k g gk l t b T R) (hR : R + 2800 ≤ 1000000) (hz : mZ σ + 800 ≤ 1200000) (hy : mY σ + 2500 ≤ 5502250) (i0 : 0 ≤ i) (i1 : i + 6 ≤ sn) (i2 : sn ≤ 384)
    (ih : ∀ (σ2 : Mem) (h k g gk : Row) (l : List Cls) (t b : Int) (T : Nat → Int32), Wld σ2 h k g gk l t b T (R + 1400) → mZ σ2 ≤ mZ σ + 800 → mY σ2 ≤ mY σ + 2500 → ∃ σ', K (some 0) (some 3772) (iI (i + 6)) σ2 = some (iI 1, σ')) :
    ∃ σ', sL_law_18b sn xs K (some 0) (some 3772) (iI i) σ = some (iI 1, σ') := by
  have h9 : R + 1400 ≤ 1000000 := by omega
  have sc : ∀ (d : Int) (f : Int32 → Option (Int32 × Mem)), 0 ≤ d → d ≤ 5 → scI sn xs (iI i + iI d) f = f (xs (i + d).toNat) := by
    intro d f d0 d1
    unfold scI
    rw [iv_add, if_pos (by rw [iv_in (by omega) (by omega)]; exact ⟨by omega, by omega⟩), iv_ix (by omega) (by omega)]
  have sc0 : ∀ f : Int32 → Option (Int32 × Mem), scI sn xs (iI i) f = f (xs i.toNat) := fun f => by
    have q := sc 0 f (by omega) (by omega)
    rw [iv_add, show i + 0 = i by omega] at q
    exact q
  have sc1 := fun f => sc 1 f (by omega) (by omega)
  have sc2 := fun f => sc 2 f (by omega) (by omega)
  have sc3 := fun f => sc 3 f (by omega) (by omega)
  have sc4 := fun f => sc 4 f (by omega) (by omega)
  have sc5 := fun f => sc 5 f (by omega) (by omega)
  obtain ⟨n1, e1, n10, n11⟩ := i32 (xs (i + 1).toNat)
  obtain ⟨n2, e2, n20, n21⟩ := i32 (xs (i + 2).toNat)
  obtain ⟨n3, e3, n30, n31⟩ := i32 (xs (i + 3).toNat)
  have next : ∀ σ2, sL_law_1074 sn xs K (some 0) (some 3772) (iI i) σ2 = K (some 0) (some 3772) (iI (i + 6)) σ2 := fun σ2 => by
    unfold sL_law_1074
    rw [iv_add]
  have kL : (mK σ 0).1 = 0 := H.s.ly.1.k0.1
  have go : ∀ (f0 f8 : Mem → Option (Int32 × Mem)), Step σ (R + 1400) f0 f8 → ∃ σ', cV σ (some 0) 0 (cl (f0 σ) fun x s => cV s (some 3772) 6 (cl (f8 s) fun y s2 => if x = y then sL_law_1074 sn xs K (some 0) (some 3772) (iI i) s2 else rZ (iI 0) s2)) = some (iI 1, σ') := by
    intro f0 f8 A
    obtain ⟨v, σ1, σ2, h, k, g, gk, l, t, b, T, a1, a2, a3, a4, a5⟩ := A
    obtain ⟨σ', q⟩ := ih σ2 h k g gk l t b T a3 a4 a5
    refine ⟨σ', ?_⟩
    rw [cV_y kL, a1, clw, cV_cl0, a2, clw, if_pos rfl, next]
    exact q
  have e6 : Int32.ofNat sn - iI 6 = iI ((sn : Int) - 6) := iv_sub (sn : Int) 6
  unfold sL_law_18b
  rw [e6, if_neg (by rw [iv_lt (by omega) (by omega) (by omega) (by omega)]; omega), sc0]
  obtain ⟨x, hx⟩ : ∃ x, x = xs i.toNat &&& iI 31 := ⟨_, rfl⟩
  rw [← hx]
  by_cases c0 : x = iI 0
  · rw [if_pos c0]
    simp only [sc1, e1]
    exact go _ _ ((w_found H n10 n11).step (by omega) h9)
  rw [if_neg c0]
  by_cases c1 : x = iI 1
  · rw [if_pos c1]
    simp only [sc1, e1]
    exact go _ _ ((w_crash H n10 n11).step (by omega) h9)
  rw [if_neg c1]
  by_cases c2 : x = iI 2
  · rw [if_pos c2]
    simp only [sc1, e1]
    exact go _ _ ((w_come H n10 n11).step (by omega) h9)
  rw [if_neg c2]
  by_cases c3 : x = iI 3
  · rw [if_pos c3]
    unfold sL_law_261 sL_law_288
    simp only [sc1, sc2, sc3, e1, e2]
    by_cases z : xs (i + 3).toNat = iI 0
    · simp only [if_pos z]
      exact go _ _ ((w_cut (z := iI 0) H n10 n11 n20 n21).step (by omega) h9)
    · simp only [if_neg z]
      exact go _ _ ((w_cut (z := iI 1) H n10 n11 n20 n21).step (by omega) h9)
  rw [if_neg c3]
  by_cases c4 : x = iI 4
  · rw [if_pos c4]
    simp only [sc1, e1]
    exact go _ _ ((w_compact H n10 n11).step (by omega) h9)
  rw [if_neg c4]
  by_cases c5 : x = iI 5
  · rw [if_pos c5]
    simp only [sc1, sc2, sc3, e1, e2, e3]
    exact go _ _ ((w_write H n10 n11 n20 n21 n30 n31).step (by omega) h9)
  rw [if_neg c5]
  by_cases c6 : x = iI 6
  · rw [if_pos c6]
    simp only [sc1, sc2, e1, e2]
    exact go _ _ ((w_change H n10 n11 n20 n21).step (by omega) h9)
  rw [if_neg c6]
  by_cases c7 : x = iI 7
  · rw [if_pos c7]
    simp only [sc1, sc2, e1, e2]
    exact go _ _ ((w_ask H (by omega) n10 n11 n20 n21).step (by omega) h9)
  rw [if_neg c7]
  by_cases c8 : x = iI 8
  · rw [if_pos c8]
    simp only [sc1, sc2, sc3, sc4, sc5]
    exact go _ _ ((w_feed H).up (by omega) h9)
  rw [if_neg c8]
  by_cases c9 : x = iI 9
  · rw [if_pos c9]
    simp only [sc1, e1]
    exact go _ _ ((w_law H hz hy n10 n11).up (by omega) h9)
  rw [if_neg c9]
  by_cases c10 : x = iI 10
  · rw [if_pos c10]
    simp only [sc1, e1]
    exact go _ _ (w_plan H (by omega) hz hy n10 n11)
  rw [if_neg c10]
  by_cases c11 : x = iI 11
  · rw [if_pos c11]
    simp only [sc1, e1]
    exact go _ _ (w_ticks H h9 n10 n11)
  rw [if_neg c11]
  by_cases c12 : x = iI 12
  · rw [if_pos c12]
    simp only [sc1, sc2, e1, e2]
    exact go _ _ ((w_tried H h9 n10 n11 n20 n21).up (by omega) h9)
  rw [if_neg c12]
  by_cases c13 : x = iI 13
  · rw [if_pos c13]
    simp only [sc1, sc2, e1, e2]
    exact go _ _ ((w_nodeIs H n10 n11 n20 n21).up (by omega) h9)
  rw [if_neg c13]
  by_cases c14 : x = iI 14
  · rw [if_pos c14]
    simp only [sc1, sc2, sc3, e1, e2, e3]
    exact go _ _ ((w_entryAt H n10 n11 n20 n21 n30 n31).up (by omega) h9)
  rw [if_neg c14]
  by_cases c15 : x = iI 15
  · rw [if_pos c15]
    simp only [sc1, sc2, e1, e2]
    exact go _ _ ((w_keyOf H n10 n11 n20 n21).up (by omega) h9)
  rw [if_neg c15]
  by_cases c16 : x = iI 16
  · rw [if_pos c16]
    simp only [sc1, sc2, sc3, e1, e2, e3]
    exact go _ _ ((w_about H n10 n11 n20 n21 n30 n31).up (by omega) h9)
  rw [if_neg c16]
  by_cases c17 : x = iI 17
  · rw [if_pos c17]
    simp only [sc1, sc2, e1, e2]
    exact go _ _ ((w_message H n10 n11 n20 n21).up (by omega) h9)
  rw [if_neg c17]
  by_cases c18 : x = iI 18
  · rw [if_pos c18]
    exact go _ _ ((w_leaderNow H ).up (by omega) h9)
  rw [if_neg c18]
  by_cases c19 : x = iI 19
  · rw [if_pos c19]
    simp only [sc1, sc2, e1, e2]
    exact go _ _ ((w_heldAt H n10 n11 n20 n21).up (by omega) h9)
  rw [if_neg c19]
  by_cases c20 : x = iI 20
  · rw [if_pos c20]
    simp only [sc1, sc2, e1, e2]
    exact go _ _ ((w_readIs H n10 n11 n20 n21).up (by omega) h9)
  rw [if_neg c20]
  by_cases c21 : x = iI 21
  · rw [if_pos c21]
    simp only [sc1, e1]
    exact go _ _ ((w_broken H n10 n11).up (by omega) h9)
  rw [if_neg c21]
  by_cases c22 : x = iI 22
  · rw [if_pos c22]
    simp only [sc1, sc2, e1, e2]
    exact go _ _ ((w_couldWin H n10 n11 n20 n21).up (by omega) h9)
  rw [if_neg c22]
  by_cases c23 : x = iI 23
  · rw [if_pos c23]
    simp only [sc1, sc2, e1, e2]
    exact go _ _ ((w_majority H n10 n11 n20 n21).up (by omega) h9)
  rw [if_neg c23]
  by_cases c24 : x = iI 24
  · rw [if_pos c24]
    simp only [sc1, sc2, e1, e2]
    exact go _ _ ((w_till H h9 n10 n11 n20 n21).up (by omega) h9)
  rw [if_neg c24]
  by_cases c25 : x = iI 25
  · rw [if_pos c25]
    simp only [sc1, e1]
    exact go _ _ ((w_seed H n10 n11).step (by omega) h9)
  rw [if_neg c25]
  by_cases c26 : x = iI 26
  · rw [if_pos c26]
    exact go _ _ ((w_keep H).up (by omega) h9)
  rw [if_neg c26]
  by_cases c27 : x = iI 27
  · rw [if_pos c27]
    exact go _ _ ((w_undo H).up (by omega) h9)
  rw [if_neg c27]
  by_cases c28 : x = iI 28
  · rw [if_pos c28]
    simp only [sc1, e1]
    exact go _ _ ((w_check H n10 n11).up (by omega) h9)
  rw [if_neg c28]
  by_cases c29 : x = iI 29
  · rw [if_pos c29]
    simp only [sc1, e1]
    exact go _ _ ((w_count H n10 n11).up (by omega) h9)
  rw [if_neg c29]
  obtain ⟨σ', q⟩ := ih σ h k g gk l t b T (H.up (by omega) h9) (by omega) (by omega)
  exact ⟨σ', by rw [next]; exact q⟩
theorem law_loop {sn : Nat} {xs : Nat → Int32} (hs : sn ≤ 384) : ∀ (fu j : Nat) (σ : Mem) (h k g gk : Row) (l : List Cls) (t b : Int) (T : Nat → Int32), Wld σ h k g gk l t b T (1 + 1400 * j) → mZ σ ≤ 3799 + 800 * j → mY σ ≤ 1000000 + 2500 * j → j ≤ 64 → 65 ≤ fu + j →
    ∃ σ', sL_law_18 sn xs fu (some 0) (some 3772) (iI (6 * (j : Int))) σ = some (iI 1, σ')
  | 0, j, σ, h, k, g, gk, l, t, b, T, H, hz, hy, hj, hf => by omega
  | fu + 1, j, σ, h, k, g, gk, l, t, b, T, H, hz, hy, hj, hf => by
    have ih := fun σ2 h k g gk l t b T => law_loop (xs := xs) hs fu (j + 1) σ2 h k g gk l t b T
    show ∃ σ', sL_law_18b sn xs (sL_law_18 sn xs fu) _ _ _ _ = _
    generalize sL_law_18 sn xs fu = K at ih ⊢
    by_cases c : 6 * (j : Int) + 6 ≤ sn
    · have z1 : mZ σ + 800 ≤ 1200000 := by omega
      have z2 : mY σ + 2500 ≤ 5502250 := by omega
      refine law_body H (by omega) z1 z2 (by omega) c hs (fun σ2 h k g gk l t b T H2 z2 y2 => ?_)
      have eR : (1 : Int) + 1400 * ((j + 1 : Nat) : Int) = 1 + 1400 * (j : Int) + 1400 := by omega
      have w1 : mZ σ2 ≤ 3799 + (800 * j + 800) := Nat.le_trans z2 (Nat.le_trans (Nat.add_le_add_right hz 800) (Nat.le_of_eq (Nat.add_assoc 3799 (800 * j) 800)))
      have w2 : mY σ2 ≤ 1000000 + (2500 * j + 2500) := Nat.le_trans y2 (Nat.le_trans (Nat.add_le_add_right hy 2500) (Nat.le_of_eq (Nat.add_assoc 1000000 (2500 * j) 2500)))
      have w3 : 800 * (j + 1) = 800 * j + 800 := Nat.mul_succ 800 j
      have w4 : 2500 * (j + 1) = 2500 * j + 2500 := Nat.mul_succ 2500 j
      have q := ih σ2 h k g gk l t b T (by rw [eR]; exact H2) (by rw [w3]; exact w1) (by rw [w4]; exact w2) (by omega) (by omega)
      rw [show 6 * ((j + 1 : Nat) : Int) = 6 * (j : Int) + 6 by omega] at q
      exact q
    · refine ⟨σ, ?_⟩
      have e6 : Int32.ofNat sn - iI 6 = iI ((sn : Int) - 6) := iv_sub (sn : Int) 6
      unfold sL_law_18b
      rw [e6, if_pos (by rw [iv_lt (by omega) (by omega) (by omega) (by omega)]; omega), rZ1]
end
