/-! DEPS: to -/
/-! TN: the twin leads, stands -/
section
variable {g mi mn F : Row} {S : Nat → Int32} {M : Mem} {Λ : Law}
theorem m_laidByLeader (h : LT M) (hΛ : LawT M Λ) {n : Int} (hH : HoA g n) :
    ∃ mn' F' S', sX8_laidByLeader (some 3772) (iI n) (tw g mi mn F S M) = some ((), tw (laidG Λ g n) mi mn' F' S' M) := by
  have hn := hH.n0
  have hw2 := matchO_Ho hH
  have hw3 := sendAll_Ho (Λ := Λ) hw2
  obtain ⟨m2, F2, S2, e2⟩ := m_sendsToAll (mi := mi) (mn := mn) (F := F) (S := S) h hΛ hw2.1 hw2.2.2.2.1
  obtain ⟨m3, F3, S3, e3⟩ := m_holds (mi := mi) (mn := m2) (F := F2) (S := S2) h hΛ hw3
  refine ⟨m3, F3, S3, ?_⟩
  have e1 := m_sets (g := g) (mi := mi) (mn := mn) (F := F) (S := S) (n := n) (w := 38 + n) (v := lastA g n) h (by omega) (by omega)
  rw [show 244 * n + (38 + n) = 244 * n + 38 + n by omega] at e1
  unfold laidG
  simp only [lastA, the] at e1 e2 e3 ⊢
  simp (disch := first | assumption | omega) only [sX8_laidByLeader, m_lastOf, z10, z00, if_true, if_false, iv_add, iv_sub, iv_mul, iv_le, iv_lt, iv_eq, iv_mx, iv_mn, bI_z, bI_o, rZ0, rZ1, rZb, cl_some', lt_eq, rm_eq, dv_eq, iv_01, iv_10, the, lastA, lpA, st_eq, st_ne, cV_tw, gR_0, gR_3, gR_4, gR_27, gR_28, gI_29, aI_now, aI_mn, aI_mi, aI_fa, sI_now, sI_mn, sI_mi, sI_fa, pI_29, e1, e2, e3]
def LdrA (g : Row) : Prop := ∀ t, 10028 ≤ t → t < 11028 → 0 ≤ g t ∧ g t ≤ 7
/-- what standing and leading need of a node -/
def StA (g : Row) (n : Int) : Prop := LgA g n ∧ HdA g ∧ GlA g ∧ RdA g ∧ LdrA g ∧ 0 ≤ g (244 * n + 1) ∧ g (244 * n + 1) ≤ 999
def cwG (g : Row) (n v k : Int) : Row := fun x => if 244 * n + 31 ≤ x ∧ x < 244 * n + 31 + k then v else if 244 * n + 38 ≤ x ∧ x < 244 * n + 38 + k then 0 else if 244 * n + 45 ≤ x ∧ x < 244 * n + 45 + k then 0 else g x
theorem cw0 {n v : Int} : cwG g n v 0 = g := by
  funext x
  unfold cwG
  rw [if_neg (by omega), if_neg (by omega), if_neg (by omega)]
theorem cwSt {n v k : Int} (h0 : 0 ≤ k) (h1 : k < 7) : st (st (st (cwG g n v k) (244 * n + (31 + k)) v) (244 * n + (38 + k)) 0) (244 * n + (45 + k)) 0 = cwG g n v (k + 1) := by
  funext x
  unfold st cwG
  by_cases c1 : x = 244 * n + (45 + k)
  · rw [if_pos c1, if_neg (by omega), if_neg (by omega), if_pos (by omega)]
  · rw [if_neg c1]
    by_cases c2 : x = 244 * n + (38 + k)
    · rw [if_pos c2, if_neg (by omega), if_pos (by omega)]
    · rw [if_neg c2]
      by_cases c3 : x = 244 * n + (31 + k)
      · rw [if_pos c3, if_pos (by omega)]
      · rw [if_neg c3]
        by_cases d1 : 244 * n + 31 ≤ x ∧ x < 244 * n + 31 + k
        · rw [if_pos d1, if_pos (by omega)]
        · rw [if_neg d1, if_neg (show ¬ (244 * n + 31 ≤ x ∧ x < 244 * n + 31 + (k + 1)) by omega)]
          by_cases d2 : 244 * n + 38 ≤ x ∧ x < 244 * n + 38 + k
          · rw [if_pos d2, if_pos (by omega)]
          · rw [if_neg d2, if_neg (show ¬ (244 * n + 38 ≤ x ∧ x < 244 * n + 38 + (k + 1)) by omega)]
            by_cases d3 : 244 * n + 45 ≤ x ∧ x < 244 * n + 45 + k
            · rw [if_pos d3, if_pos (by omega)]
            · rw [if_neg d3, if_neg (by omega)]
theorem crown_eq {n : Int} : st (st (cwG (st (st g (244 * n + 3) 2) (244 * n + 11) n) n (g (244 * n + 4) + g (244 * n + 8) + 1) 7) (244 * n + 14) 0) (244 * n + 13) 1 = crownG g n := by
  funext x
  unfold st cwG crownG
  simp only [the, lastA]
  by_cases c1 : x = 244 * n + 13
  · rw [if_pos c1, if_neg (by omega), if_neg (by omega), if_neg (by omega), if_pos c1]
  · rw [if_neg c1]
    by_cases c2 : x = 244 * n + 14
    · rw [if_pos c2, if_neg (by omega), if_neg (by omega), if_pos c2]
    · rw [if_neg c2]
      by_cases c3 : x = 244 * n + 11
      · rw [if_neg (by omega), if_neg (by omega), if_neg (by omega), if_pos c3, if_neg (by omega), if_pos c3]
      · by_cases c4 : x = 244 * n + 3
        · rw [if_neg (by omega), if_neg (by omega), if_neg (by omega), if_neg c3, if_pos c4, if_pos c4]
        · rw [if_neg c4, if_neg c3, if_neg c4, if_neg c3, if_neg c2, if_neg c1]
          by_cases d1 : 244 * n + 31 ≤ x ∧ x < 244 * n + 38
          · rw [if_pos d1, if_pos (by omega)]
          · rw [if_neg d1, if_neg (by omega)]
            by_cases d2 : 244 * n + 38 ≤ x ∧ x < 244 * n + 52
            · rw [if_pos d2]
              by_cases d3 : x < 244 * n + 45
              · rw [if_pos (by omega)]
              · rw [if_neg (by omega), if_pos (by omega)]
            · rw [if_neg d2, if_neg (by omega), if_neg (by omega)]
theorem crownG_ne {n x : Int} (h : x < 244 * n + 3 ∨ (244 * n + 3 < x ∧ x < 244 * n + 11) ∨ x = 244 * n + 12 ∨ (244 * n + 14 < x ∧ x < 244 * n + 31) ∨ 244 * n + 52 ≤ x) : crownG g n x = g x := by
  unfold crownG
  rw [if_neg (by omega), if_neg (by omega), if_neg (by omega), if_neg (by omega), if_neg (by omega), if_neg (by omega)]
theorem crown_Ho {n : Int} (h : StA g n) (h1 : 1 ≤ g (244 * n + 1)) : HoA (crownG g n) n := by
  obtain ⟨hL, hH, hG, hR, hl, h2, h3⟩ := h
  have hL' := hL
  have hA : 0 ≤ g 11135 ∧ g 11135 ≤ 16 := by
    have hG' := hG
    obtain ⟨_, _, _, _, _, _, _, _, _, _, _, _⟩ := hG'
    omega
  obtain ⟨⟨_, _, _, _, _, _, _, _, _, _, _, _, _, _⟩, hE⟩ := hL
  have o := fun x hx => crownG_ne (g := g) (n := n) (x := x) hx
  have o31 : ∀ x, 244 * n + 31 ≤ x → x < 244 * n + 38 → crownG g n x = g (244 * n + 4) + g (244 * n + 8) + 1 := by
    intro x a b
    unfold crownG
    rw [if_neg (by omega), if_neg (by omega), if_neg (by omega), if_neg (by omega), if_pos ⟨a, b⟩]
  have o38 : ∀ x, 244 * n + 38 ≤ x → x < 244 * n + 52 → crownG g n x = 0 := by
    intro x a b
    unfold crownG
    rw [if_neg (by omega), if_neg (by omega), if_neg (by omega), if_neg (by omega), if_neg (by omega), if_pos ⟨a, b⟩]
  have o3 : crownG g n (244 * n + 3) = 2 := if_pos rfl
  refine ⟨⟨LgA_ext2 (fun x _ _ _ => o x (by omega)) hL', by rw [o _ (by omega)]; exact h2, by rw [o _ (by omega)]; exact h3, fun t a b => ?_⟩, fun k a b => ?_, fun x a b => by rw [o x (by omega)]; exact hH x a b, GlA_blk (fun x _ => o x (by omega)) hG, RdA_ext (o _ (by omega)) hA.2 (fun x _ _ => o x (by omega)) hR, ?_, ?_, ?_⟩
  · rw [o31 (244 * n + (31 + t)) (by omega) (by omega), o (244 * n + 4) (by omega), o (244 * n + 8) (by omega)]
    omega
  · rw [o38 (244 * n + (38 + k)) (by omega) (by omega), o38 (244 * n + (45 + k)) (by omega) (by omega)]
    omega
  · rw [o _ (by omega)]; exact h1
  · rw [o3]; omega
  · rw [o3]; omega
theorem m_leads_83 (h : LT M) {n t : Int} (h0 : 0 ≤ n) (h1 : n < 7) : ∀ (j : Nat) (k : Int) (fu : Nat), 7 - k = j → 0 ≤ k →
    sX8_leads_83 (fu + j) (some 3772) (iI n) (iI t) (iI k) (tw (cwG g n (g (244 * n + 4) + g (244 * n + 8) + 1) k) mi mn F S M) = sX8_leads_83 fu (some 3772) (iI n) (iI t) (iI 7) (tw (cwG g n (g (244 * n + 4) + g (244 * n + 8) + 1) 7) mi mn F S M)
  | 0, k, fu, e1, e2 => by
    have e : k = 7 := by omega
    subst e
    rfl
  | j + 1, k, fu, e1, e2 => by
    have ih := m_leads_83 h h0 h1 (t := t) j (k + 1) fu (by omega) (by omega)
    rw [← ih, ← cwSt e2 (by omega)]
    show sX8_leads_83b (sX8_leads_83 (fu + j)) _ _ _ _ _ = _
    generalize sX8_leads_83 (fu + j) = K
    have o4 : cwG g n (g (244 * n + 4) + g (244 * n + 8) + 1) k (244 * n + 4) = g (244 * n + 4) := by
      unfold cwG
      rw [if_neg (by omega), if_neg (by omega), if_neg (by omega)]
    have o8 : cwG g n (g (244 * n + 4) + g (244 * n + 8) + 1) k (244 * n + 8) = g (244 * n + 8) := by
      unfold cwG
      rw [if_neg (by omega), if_neg (by omega), if_neg (by omega)]
    simp (disch := first | assumption | omega) only [sX8_leads_83b, m_lastOf, m_sets, z10, z00, if_true, if_false, iv_add, iv_sub, iv_mul, iv_le, iv_lt, iv_eq, iv_mx, iv_mn, bI_z, bI_o, rZ0, rZ1, rZb, cl_some', lt_eq, rm_eq, dv_eq, iv_01, iv_10, the, lastA, lpA, st_eq, st_ne, cV_tw, gR_0, gR_3, gR_4, gR_27, gR_28, gI_29, aI_now, aI_mn, aI_mi, aI_fa, sI_now, sI_mn, sI_mi, sI_fa, pI_29, o4, o8]
    rw [if_neg (by omega)]
end
