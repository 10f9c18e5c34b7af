/-! DEPS: zc -/
/-! ZD: the twin reads plans: the small ones -/
section
variable {q r : Row} {M : Mem}
theorem st_me {x : Int} : st q x (q x) = q := by
  funext y
  by_cases c : y = x
  · rw [c, st_eq]
  · rw [st_ne c]
theorem z_here (hL : LPt M) (h7 : 0 ≤ q 7) (h8 : q 8 ≤ 240) (h9 : q 7 ≤ 100000) (h0 : 0 ≤ q 8) : sX8_here (some 3772) (pw q (qw r M)) = some (iI (hrA (tpA M) (q 8) (q 7)), pw q (qw r M)) :=
  p_here (M := qw r M) hL h7 (by omega) (by omega) h0
theorem z_in {σ : Mem} {v a b : Int} (h0 : -1000 ≤ v) (h1 : v ≤ 1000) (h2 : -1000 ≤ a) (h3 : a ≤ 1000) (h4 : -1000 ≤ b) (h5 : b ≤ 1000) : sX8_in (iI v) (iI a) (iI b) σ = some (bI (a ≤ v ∧ v ≤ b), σ) := m_in (by omega) (by omega) (by omega) (by omega) (by omega) (by omega)
theorem z_wrong (hL : LPt M) {w p : Int} : sX8_wrongAt (some 3772) (iI w) (iI p) (pw q (qw r M)) = some (iI 0, pw (st q 9 (-1000 * w - p)) (qw r M)) := p_wrong (M := qw r M) hL
theorem z_times (hL : LPt M) (h7 : 0 ≤ q 7) (h8 : q 8 ≤ 240) (h9 : q 7 ≤ 100000) (h0 : 0 ≤ q 8) : sX8_readsTimes (some 3772) (pw q (qw r M)) = some ((), pw (st q 7 (pSt (tpA M) (q 8) (q 7))) (qw (st (st r 39 (q 7)) 40 (pTm (tpA M) (q 8) (q 7))) M)) := by
  have hr := hrA_r (M := M) (n := q 8) (p := q 7)
  unfold sX8_readsTimes pSt pTm
  rw [gI_p7 (M := qw r M) hL, pI_z39 hL, pI_z40 hL, cV_p (M := qw _ M) hL, z_here hL h7 h8 h9 h0, clq, z_in (by omega) (by omega) (by omega) (by omega) (by omega) (by omega), clq]
  by_cases c : 50 ≤ hrA (tpA M) (q 8) (q 7) ∧ hrA (tpA M) (q 8) (q 7) ≤ 57
  · have nb : ¬ bI (50 ≤ hrA (tpA M) (q 8) (q 7) ∧ hrA (tpA M) (q 8) (q 7) ≤ 57) = iI 0 := by rw [bI_z]; exact fun z => z c
    rw [if_neg nb, if_pos c, if_pos c, cV_p (M := qw _ M) hL, z_here hL h7 h8 h9 h0, clq, iv_sub, pI_z40 hL, gI_p7 (M := qw _ M) hL, iv_add, pI_p7 (M := qw _ M) hL]
    have e : st (st (st r 39 (q 7)) 40 1) 40 (hrA (tpA M) (q 8) (q 7) - 48) = st (st r 39 (q 7)) 40 (hrA (tpA M) (q 8) (q 7) - 48) := by
      funext y
      by_cases d : y = 40
      · rw [d, st_eq, st_eq]
      · rw [st_ne d, st_ne d, st_ne d]
    rw [e]
  · rw [if_pos (by rw [bI_z]; exact c), if_neg c, if_neg c, st_me]
theorem z_digit (hL : LPt M) (h7 : 0 ≤ q 7) (h8 : q 8 ≤ 240) (h9 : q 7 ≤ 100000) (h0 : 0 ≤ q 8) {hi : Int} (i0 : 0 ≤ hi) (i1 : hi ≤ 9) : sX8_readsDigit (some 3772) (iI hi) (pw q (qw r M)) = if pDg (tpA M) (q 8) hi (q 7) then some (iI 1, pw (st (st q 10 (hrA (tpA M) (q 8) (q 7) - 48)) 7 (q 7 + 1)) (qw r M)) else some (iI 0, pw (st q 9 (-1000 * 1 - q 7)) (qw r M)) := by
  have hr := hrA_r (M := M) (n := q 8) (p := q 7)
  unfold sX8_readsDigit pDg
  rw [cV_p (M := qw r M) hL, z_here hL h7 h8 h9 h0, clq, iv_add, z_in (by omega) (by omega) (by omega) (by omega) (by omega) (by omega), clq]
  by_cases c : 48 ≤ hrA (tpA M) (q 8) (q 7) ∧ hrA (tpA M) (q 8) (q 7) ≤ 48 + hi
  · have nb : ¬ bI (48 ≤ hrA (tpA M) (q 8) (q 7) ∧ hrA (tpA M) (q 8) (q 7) ≤ 48 + hi) = iI 0 := by rw [bI_z]; exact fun z => z c
    rw [if_neg nb, if_pos c, cV_p (M := qw r M) hL, z_here hL h7 h8 h9 h0, clq, iv_sub, pI_p10 (M := qw r M) hL, gI_p7 (M := qw r M) hL, st_ne (by omega), iv_add, pI_p7 (M := qw r M) hL, rZ1]
  · rw [if_pos (by rw [bI_z]; exact c), if_neg c, gI_p7 (M := qw r M) hL, cV_p (M := qw r M) hL, z_wrong hL, clq, rZ0]
theorem z_isAct {c : Int} {σ : Mem} (c0 : -1 ≤ c) (c1 : c ≤ 255) : sX8_isAct (iI c) σ = some (bI (isActA c), σ) := by
  have E : ∀ k : Int, 0 ≤ k → k ≤ 255 → (iI c = iI k) = (c = k) := fun k k0 k1 => iv_eq (by omega) (by omega) (by omega) (by omega)
  have pos : ∀ k : Int, 0 ≤ k → k ≤ 255 → c = k → isActA k → rZ (iI 1) σ = some (bI (isActA c), σ) := fun k k0 k1 e h => by rw [rZ1, bI_t (by rw [e]; exact h)]
  unfold sX8_isAct
  by_cases a1 : c = 46
  · rw [if_pos (by rw [E 46 (by omega) (by omega)]; exact a1)]; exact pos 46 (by omega) (by omega) a1 (by decide)
  rw [if_neg (by rw [E 46 (by omega) (by omega)]; exact a1)]
  by_cases a2 : c = 107
  · rw [if_pos (by rw [E 107 (by omega) (by omega)]; exact a2)]; exact pos 107 (by omega) (by omega) a2 (by decide)
  rw [if_neg (by rw [E 107 (by omega) (by omega)]; exact a2)]
  by_cases a3 : c = 117
  · rw [if_pos (by rw [E 117 (by omega) (by omega)]; exact a3)]; exact pos 117 (by omega) (by omega) a3 (by decide)
  rw [if_neg (by rw [E 117 (by omega) (by omega)]; exact a3)]
  by_cases a4 : c = 99
  · rw [if_pos (by rw [E 99 (by omega) (by omega)]; exact a4)]; exact pos 99 (by omega) (by omega) a4 (by decide)
  rw [if_neg (by rw [E 99 (by omega) (by omega)]; exact a4)]
  by_cases a5 : c = 119
  · rw [if_pos (by rw [E 119 (by omega) (by omega)]; exact a5)]; exact pos 119 (by omega) (by omega) a5 (by decide)
  rw [if_neg (by rw [E 119 (by omega) (by omega)]; exact a5)]
  by_cases a6 : c = 114
  · rw [if_pos (by rw [E 114 (by omega) (by omega)]; exact a6)]; exact pos 114 (by omega) (by omega) a6 (by decide)
  rw [if_neg (by rw [E 114 (by omega) (by omega)]; exact a6)]
  by_cases a7 : c = 120
  · rw [if_pos (by rw [E 120 (by omega) (by omega)]; exact a7)]; exact pos 120 (by omega) (by omega) a7 (by decide)
  rw [if_neg (by rw [E 120 (by omega) (by omega)]; exact a7)]
  by_cases a8 : c = 106
  · rw [if_pos (by rw [E 106 (by omega) (by omega)]; exact a8)]; exact pos 106 (by omega) (by omega) a8 (by decide)
  rw [if_neg (by rw [E 106 (by omega) (by omega)]; exact a8), rZ0, bI_f (by unfold isActA; omega)]
end
