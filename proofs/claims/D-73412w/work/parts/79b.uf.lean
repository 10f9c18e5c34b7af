/-! DEPS: ue -/
/-! UF: a client's acts on the twin: what is answered, and the new row -/
abbrev ldA (g : Row) (n : Int) : Prop := g (244 * n + 0) = 1 ∧ g (244 * n + 3) = 2
abbrev fullA (g : Row) (n : Int) : Prop := 40 ≤ g (244 * n + 8) ∨ g (244 * n + 4) + g (244 * n + 8) = 999
noncomputable def foundS (Λ : Law) (g : Row) (c : Int) : Int × Row := if 1 ≤ c ∧ c ≤ 127 then (1, foundG Λ g c) else (0, g)
def crashS (g : Row) (n : Int) : Int × Row := if (0 ≤ n ∧ n < 7) ∧ g (244 * n + 0) = 1 then (1, crashG g n) else (0, g)
noncomputable def comeS (Λ : Law) (g : Row) (n : Int) : Int × Row := if (0 ≤ n ∧ n < 7) ∧ ¬ g (244 * n + 0) = 1 then (1, comeG Λ g n) else (0, g)
def cutS (g : Row) (a b : Int) (z : Prop) [Decidable z] : Int × Row := if (0 ≤ a ∧ a < 7) ∧ (0 ≤ b ∧ b < 7) ∧ ¬ a = b then (1, cutsG g a b z) else (0, g)
def compactS (g : Row) (n : Int) : Int × Row := if ((0 ≤ n ∧ n < 7) ∧ g (244 * n + 0) = 1) ∧ ¬ g (244 * n + 9) = g (244 * n + 4) then (1, compG g n) else (0, g)
noncomputable def writeS (Λ : Law) (g : Row) (n k v : Int) : Int × Row :=
  if ¬ ((0 ≤ n ∧ n < 7) ∧ (0 ≤ k ∧ k ≤ 7) ∧ (0 ≤ v ∧ v ≤ 99)) then (-1, g) else if ¬ ldA g n then (-2, g) else if fullA g n then (-3, g)
  else (lastA (layG g n (g (244 * n + 1)) 0 k v) n, putG Λ g n 0 k v)
noncomputable def changeS (Λ : Law) (g : Row) (n c : Int) : Int × Row :=
  if ¬ ((0 ≤ n ∧ n < 7) ∧ (1 ≤ c ∧ c ≤ 127)) then (-1, g) else if ¬ ldA g n then (-2, g) else if fullA g n then (-3, g) else if newA g n ≠ 0 ∨ ¬ cfgHeld g n ∨ oldA g n = c then (-4, g)
  else (lastA (layG g n (g (244 * n + 1)) 1 (oldA g n) c) n, putG Λ g n 1 (oldA g n) c)
noncomputable def askS (Λ : Law) (g : Row) (n k : Int) : Int × Row :=
  if ¬ ((0 ≤ n ∧ n < 7) ∧ (0 ≤ k ∧ k ≤ 7)) then (-1, g) else if ¬ ldA g n then (-2, g) else if g 11135 = 16 then (-3, g) else if ¬ termA g n (g (244 * n + 9)) = g (244 * n + 1) then (-4, g)
  else (g 11135, askG Λ g n k)
section
variable {g mi mn F : Row} {S : Nat → Int32} {M : Mem} {Λ : Law} {h : His} {FL : Int → ELog} {R : Int} {D : DK}
theorem m_found_86 (hT : LT M) (hΛ : LawT M Λ) : ∀ (j : Nat) (g : Row) (n : Int) (mn F : Row) (S : Nat → Int32) (fu : Nat), GlA g → (∀ p, 0 ≤ p → p < 7 → 0 ≤ g (244 * p + 1) ∧ g (244 * p + 1) ≤ 999) → 7 - n = j → 0 ≤ n → j < fu →
    ∃ F' S', sX8_founds_86 fu (some 3772) (iI n) (tw g mi mn F S M) = some ((), tw (timersF Λ j g n) mi mn F' S' M)
  | 0, g, n, mn, F, S, fu + 1, hG, ht, e1, e2, e3 => by
    refine ⟨F, S, ?_⟩
    simp (disch := first | assumption | omega) only [sX8_founds_86, sX8_founds_86b, z10, z00, if_true, if_false, iv_add, iv_sub, iv_mul, iv_le, iv_lt, iv_eq, iv_mx, iv_mn, bI_z, bI_o, rZ0, rZ1, rZb, cl_some', lt_eq, rm_eq, dv_eq, iv_01, iv_10, the, lastA, lpA, st_eq, st_ne, cV_tw, gR_0, gR_3, gR_4, gR_27, gR_28, gI_29, aI_now, aI_mn, aI_mi, aI_fa, sI_now, sI_mn, sI_mi, sI_fa, pI_29]
    rw [if_pos (by omega)]
    rfl
  | j + 1, g, n, mn, F, S, fu + 1, hG, ht, e1, e2, e3 => by
    obtain ⟨F1, S1, x1⟩ := m_setsTimer (g := g) (mi := mi) (mn := mn) (F := F) (S := S) (n := n) hT hΛ hG e2 (by omega) (ht n e2 (by omega)).1 (ht n e2 (by omega)).2
    obtain ⟨F2, S2, x2⟩ := m_found_86 hT hΛ j (timerG Λ g n) (n + 1) mn F1 S1 fu (timerG_Gl (by omega) hG) (fun p p0 p1 => by rw [timerG_ne (by omega) (by omega)]; exact ht p p0 p1) (by omega) (by omega) (by omega)
    refine ⟨F2, S2, ?_⟩
    unfold timersF
    show sX8_founds_86b (sX8_founds_86 fu) _ _ _ = _
    generalize sX8_founds_86 fu = K at x2 ⊢
    simp (disch := first | assumption | omega) only [sX8_founds_86b, z10, z00, if_true, if_false, iv_add, iv_sub, iv_mul, iv_le, iv_lt, iv_eq, iv_mx, iv_mn, bI_z, bI_o, rZ0, rZ1, rZb, cl_some', lt_eq, rm_eq, dv_eq, iv_01, iv_10, the, lastA, lpA, st_eq, st_ne, cV_tw, gR_0, gR_3, gR_4, gR_27, gR_28, gI_29, aI_now, aI_mn, aI_mi, aI_fa, sI_now, sI_mn, sI_mi, sI_fa, pI_29, x1]
    rw [if_neg (by omega)]
    exact x2
/-- the nodes below n are bare -/
def bareN (g : Row) (c n : Int) : Row := fun x =>
  if x = 11132 then g 11132 else if 11138 ≤ x then g x else if 0 ≤ x ∧ x < 244 * n then (if x % 244 = 0 then 1 else if x % 244 = 2 then -1 else if x % 244 = 11 then -1 else if x % 244 = 6 then c else 0) else 0
theorem bareN_St {c n : Int} (n0 : 0 ≤ n) (n1 : n < 7) : st (st (st (st (bareN g c n) (244 * n + 0) 1) (244 * n + 2) (-1)) (244 * n + 11) (-1)) (244 * n + 6) c = bareN g c (n + 1) := by
  funext x
  unfold st bareN
  by_cases c1 : 244 * n ≤ x ∧ x < 244 * n + 244
  · rw [if_neg (show ¬ x = 11132 by omega), if_neg (show ¬ x = 11132 by omega), if_neg (show ¬ 11138 ≤ x by omega), if_neg (show ¬ 11138 ≤ x by omega), if_neg (show ¬ (0 ≤ x ∧ x < 244 * n) by omega), if_pos (show 0 ≤ x ∧ x < 244 * (n + 1) by omega)]
    by_cases q0 : x % 244 = 0
    · rw [if_pos q0, if_neg (by omega), if_neg (by omega), if_neg (by omega), if_pos (by omega)]
    · rw [if_neg q0]
      by_cases q2 : x % 244 = 2
      · rw [if_pos q2, if_neg (by omega), if_neg (by omega), if_pos (by omega)]
      · rw [if_neg q2]
        by_cases q11 : x % 244 = 11
        · rw [if_pos q11, if_neg (by omega), if_pos (by omega)]
        · rw [if_neg q11]
          by_cases q6 : x % 244 = 6
          · rw [if_pos q6, if_pos (by omega)]
          · rw [if_neg q6, if_neg (by omega), if_neg (by omega), if_neg (by omega), if_neg (by omega)]
  · rw [if_neg (by omega), if_neg (by omega), if_neg (by omega), if_neg (by omega)]
    by_cases d : 0 ≤ x ∧ x < 244 * n
    · rw [if_pos d, if_pos (show 0 ≤ x ∧ x < 244 * (n + 1) by omega)]
    · rw [if_neg d, if_neg (show ¬ (0 ≤ x ∧ x < 244 * (n + 1)) by omega)]
theorem bareN7 {c : Int} : bareN g c 7 = bare g c := by
  unfold bareN bare
  rfl
theorem bareR {c : Int} (hl : 0 ≤ g 11132 ∧ g 11132 < 65536) : GlA (bare g c) ∧ ∀ p, 0 ≤ p → p < 7 → 0 ≤ bare g c (244 * p + 1) ∧ bare g c (244 * p + 1) ≤ 999 := by
  have po : ∀ x, 1708 ≤ x → x < 11138 → ¬ x = 11132 → bare g c x = 0 := by
    intro x a b d
    unfold bare
    rw [if_neg d, if_neg (by omega), if_neg (by omega)]
  have p32 : bare g c 11132 = g 11132 := if_pos rfl
  refine ⟨?_, fun p p0 p1 => ?_⟩
  · unfold GlA
    rw [p32, po 11131 (by omega) (by omega) (by omega), po 11133 (by omega) (by omega) (by omega), po 11134 (by omega) (by omega) (by omega), po 11135 (by omega) (by omega) (by omega), po 11137 (by omega) (by omega) (by omega)]
    omega
  · unfold bare
    rw [if_neg (by omega), if_neg (by omega), if_pos (by omega), if_neg (by omega), if_neg (by omega), if_neg (by omega), if_neg (by omega)]
    omega
theorem m_found_42 (hT : LT M) (hΛ : LawT M Λ) {c : Int} (hl : 0 ≤ g 11132 ∧ g 11132 < 65536) : ∀ (j : Nat) (n : Int) (fu : Nat), 7 - n = j → 0 ≤ n → j < fu →
    ∃ F' S', sX8_founds_42 fu (some 3772) (iI c) (iI n) (tw (bareN g c n) mi mn F S M) = some ((), tw (foundG Λ g c) mi mn F' S' M)
  | 0, n, fu + 1, e1, e2, e3 => by
    have q : n = 7 := by omega
    subst q
    rw [bareN7]
    obtain ⟨r1, r2⟩ := bareR (c := c) hl
    obtain ⟨F2, S2, x2⟩ := m_found_86 (mi := mi) hT hΛ 7 (bare g c) 0 mn F S FU r1 r2 (by omega) (by omega) (by unfold FU; omega)
    refine ⟨F2, S2, ?_⟩
    simp (disch := first | assumption | omega) only [sX8_founds_42, sX8_founds_42b, z10, z00, if_true, if_false, iv_add, iv_sub, iv_mul, iv_le, iv_lt, iv_eq, iv_mx, iv_mn, bI_z, bI_o, rZ0, rZ1, rZb, cl_some', lt_eq, rm_eq, dv_eq, iv_01, iv_10, the, lastA, lpA, st_eq, st_ne, cV_tw, gR_0, gR_3, gR_4, gR_27, gR_28, gI_29, aI_now, aI_mn, aI_mi, aI_fa, sI_now, sI_mn, sI_mi, sI_fa, pI_29]
    rw [if_pos (by omega)]
    exact x2
  | j + 1, n, fu + 1, e1, e2, e3 => by
    obtain ⟨F2, S2, x2⟩ := m_found_42 hT hΛ hl j (n + 1) fu (by omega) (by omega) (by omega)
    refine ⟨F2, S2, ?_⟩
    rw [← x2, ← bareN_St e2 (by omega)]
    show sX8_founds_42b (sX8_founds_42 fu) _ _ _ _ = _
    generalize sX8_founds_42 fu = K
    simp (disch := first | assumption | omega) only [sX8_founds_42b, m_sets, z10, z00, if_true, if_false, iv_add, iv_sub, iv_mul, iv_le, iv_lt, iv_eq, iv_mx, iv_mn, bI_z, bI_o, rZ0, rZ1, rZb, cl_some', lt_eq, rm_eq, dv_eq, iv_01, iv_10, the, lastA, lpA, st_eq, st_ne, cV_tw, gR_0, gR_3, gR_4, gR_27, gR_28, gI_29, aI_now, aI_mn, aI_mi, aI_fa, sI_now, sI_mn, sI_mi, sI_fa, pI_29]
    rw [if_neg (by omega)]
def zeroG (g : Row) (k : Int) : Row := fun x => if 0 ≤ x ∧ x < k then 0 else g x
theorem m_found_11 (hT : LT M) (hΛ : LawT M Λ) {c : Int} (hl : 0 ≤ g 11132 ∧ g 11132 < 65536) (hneg : ∀ x, x < 0 → g x = 0) : ∀ (j : Nat) (k : Int) (fu : Nat), 11138 - k = j → 0 ≤ k → j < fu →
    ∃ F' S', sX8_founds_11 fu (some 3772) (iI c) (iI (g 11132)) (iI k) (tw (zeroG g k) mi mn F S M) = some ((), tw (foundG Λ g c) mi mn F' S' M)
  | 0, k, fu + 1, e1, e2, e3 => by
    have q : k = 11138 := by omega
    subst q
    obtain ⟨F2, S2, x2⟩ := m_found_42 (mi := mi) (mn := mn) (F := F) (S := S) hT hΛ (c := c) hl 7 0 FU (by omega) (by omega) (by unfold FU; omega)
    have e : st (zeroG g 11138) 11132 (g 11132) = bareN g c 0 := by
      funext x
      unfold st zeroG bareN
      by_cases c1 : x = 11132
      · rw [if_pos c1, if_pos c1]
      · rw [if_neg c1, if_neg c1]
        by_cases c2 : 11138 ≤ x
        · rw [if_pos c2, if_neg (by omega)]
        · rw [if_neg c2, if_neg (show ¬ (0 ≤ x ∧ x < 244 * 0) by omega)]
          by_cases c3 : 0 ≤ x
          · rw [if_pos (by omega)]
          · rw [if_neg (by omega)]
            exact hneg x (by omega)
    refine ⟨F2, S2, ?_⟩
    simp (disch := first | assumption | omega) only [sX8_founds_11, sX8_founds_11b, z10, z00, if_true, if_false, iv_add, iv_sub, iv_mul, iv_le, iv_lt, iv_eq, iv_mx, iv_mn, bI_z, bI_o, rZ0, rZ1, rZb, cl_some', lt_eq, rm_eq, dv_eq, iv_01, iv_10, the, lastA, lpA, st_eq, st_ne, cV_tw, gR_0, gR_3, gR_4, gR_27, gR_28, gI_29, aI_now, aI_mn, aI_mi, aI_fa, sI_now, sI_mn, sI_mi, sI_fa, pI_29, e]
    rw [if_pos (by omega)]
    exact x2
  | j + 1, k, fu + 1, e1, e2, e3 => by
    obtain ⟨F2, S2, x2⟩ := m_found_11 hT hΛ hl hneg j (k + 1) fu (by omega) (by omega) (by omega)
    refine ⟨F2, S2, ?_⟩
    have e : st (zeroG g k) k 0 = zeroG g (k + 1) := by
      funext x
      unfold st zeroG
      by_cases c1 : x = k
      · rw [if_pos c1, if_pos (by omega)]
      · rw [if_neg c1]
        by_cases c2 : 0 ≤ x ∧ x < k
        · rw [if_pos c2, if_pos (by omega)]
        · rw [if_neg c2, if_neg (by omega)]
    rw [← x2, ← e]
    show sX8_founds_11b (sX8_founds_11 fu) _ _ _ _ _ = _
    generalize sX8_founds_11 fu = K
    simp (disch := first | assumption | omega) only [sX8_founds_11b, z10, z00, if_true, if_false, iv_add, iv_sub, iv_mul, iv_le, iv_lt, iv_eq, iv_mx, iv_mn, bI_z, bI_o, rZ0, rZ1, rZb, cl_some', lt_eq, rm_eq, dv_eq, iv_01, iv_10, the, lastA, lpA, st_eq, st_ne, cV_tw, gR_0, gR_3, gR_4, gR_27, gR_28, gI_29, aI_now, aI_mn, aI_mi, aI_fa, sI_now, sI_mn, sI_mi, sI_fa, pI_29]
    rw [if_neg (by omega)]
theorem m_founds (hT : LT M) (hΛ : LawT M Λ) {c : Int} (hl : 0 ≤ g 11132 ∧ g 11132 < 65536) (hneg : ∀ x, x < 0 → g x = 0) :
    ∃ F' S', sX8_founds (some 3772) (iI c) (tw g mi mn F S M) = some ((), tw (foundG Λ g c) mi mn F' S' M) := by
  obtain ⟨F2, S2, x2⟩ := m_found_11 (mi := mi) (mn := mn) (F := F) (S := S) hT hΛ (c := c) hl hneg 11138 0 FU (by omega) (by omega) (by unfold FU; omega)
  refine ⟨F2, S2, ?_⟩
  have e : zeroG g 0 = g := by
    funext x
    unfold zeroG
    rw [if_neg (by omega)]
  rw [e] at x2
  simp (disch := first | assumption | omega) only [sX8_founds, z10, z00, if_true, if_false, iv_add, iv_sub, iv_mul, iv_le, iv_lt, iv_eq, iv_mx, iv_mn, bI_z, bI_o, rZ0, rZ1, rZb, cl_some', lt_eq, rm_eq, dv_eq, iv_01, iv_10, the, lastA, lpA, st_eq, st_ne, cV_tw, gR_0, gR_3, gR_4, gR_27, gR_28, gI_29, aI_now, aI_mn, aI_mi, aI_fa, sI_now, sI_mn, sI_mi, sI_fa, pI_29]
  exact x2
theorem m_found (hT : LT M) (hΛ : LawT M Λ) {c : Int} (c0 : -2147483648 ≤ c) (c1 : c ≤ 2147483647) (hl : 0 ≤ g 11132 ∧ g 11132 < 65536) (hneg : ∀ x, x < 0 → g x = 0) :
    ∃ F' S', sX8_found (some 3772) (iI c) (tw g mi mn F S M) = some (iI (foundS Λ g c).1, tw (foundS Λ g c).2 mi mn F' S' M) := by
  have y1 : ∀ σ, sX8_in (iI c) (iI 1) (iI 127) σ = some (bI (1 ≤ c ∧ c ≤ 127), σ) := fun σ => m_in c0 c1 (by omega) (by omega) (by omega) (by omega)
  unfold foundS
  by_cases d : 1 ≤ c ∧ c ≤ 127
  · obtain ⟨F2, S2, x2⟩ := m_founds (mi := mi) (mn := mn) (F := F) (S := S) hT hΛ (c := c) hl hneg
    refine ⟨F2, S2, ?_⟩
    rw [if_pos d]
    simp (disch := first | assumption | omega) only [sX8_found, z10, z00, if_true, if_false, iv_add, iv_sub, iv_mul, iv_le, iv_lt, iv_eq, iv_mx, iv_mn, bI_z, bI_o, rZ0, rZ1, rZb, cl_some', lt_eq, rm_eq, dv_eq, iv_01, iv_10, the, lastA, lpA, st_eq, st_ne, cV_tw, gR_0, gR_3, gR_4, gR_27, gR_28, gI_29, aI_now, aI_mn, aI_mi, aI_fa, sI_now, sI_mn, sI_mi, sI_fa, pI_29, y1, x2]
    rw [if_neg (fun hc => hc d)]
  · refine ⟨F, S, ?_⟩
    rw [if_neg d]
    simp (disch := first | assumption | omega) only [sX8_found, z10, z00, if_true, if_false, iv_add, iv_sub, iv_mul, iv_le, iv_lt, iv_eq, iv_mx, iv_mn, bI_z, bI_o, rZ0, rZ1, rZb, cl_some', lt_eq, rm_eq, dv_eq, iv_01, iv_10, the, lastA, lpA, st_eq, st_ne, cV_tw, gR_0, gR_3, gR_4, gR_27, gR_28, gI_29, aI_now, aI_mn, aI_mi, aI_fa, sI_now, sI_mn, sI_mi, sI_fa, pI_29, y1]
    rw [if_pos d]
theorem m_crash (hT : LT M) (I : InvS g h FL R D) {n : Int} (c0 : -2147483648 ≤ n) (c1 : n ≤ 2147483647) :
    sX8_crash (some 3772) (iI n) (tw g mi mn F S M) = some (iI (crashS g n).1, tw (crashS g n).2 mi mn F S M) := by
  have y1 := m_isUp (g := g) (mi := mi) (mn := mn) (F := F) (S := S) (n := n) hT c0 c1 (fun hn => by obtain ⟨⟨s1, s2⟩, _⟩ := I.na n hn.1 hn.2; exact ⟨s1.1, s1.2.1⟩)
  unfold crashS
  by_cases d : (0 ≤ n ∧ n < 7) ∧ g (244 * n + 0) = 1
  · obtain ⟨⟨s1, s2⟩, _⟩ := I.na n d.1.1 d.1.2
    have y2 := m_follows (g := g) (mi := mi) (mn := mn) (F := F) (S := S) (n := n) (w := -1) hT d.1.1 d.1.2 I.ar I.rd (by omega) (by omega)
    rw [if_pos d]
    unfold crashG
    simp (disch := first | assumption | omega) only [sX8_crash, m_sets, z10, z00, if_true, if_false, iv_add, iv_sub, iv_mul, iv_le, iv_lt, iv_eq, iv_mx, iv_mn, bI_z, bI_o, rZ0, rZ1, rZb, cl_some', lt_eq, rm_eq, dv_eq, iv_01, iv_10, the, lastA, lpA, st_eq, st_ne, cV_tw, gR_0, gR_3, gR_4, gR_27, gR_28, gI_29, aI_now, aI_mn, aI_mi, aI_fa, sI_now, sI_mn, sI_mi, sI_fa, pI_29, y1, y2]
    rw [if_neg (fun hc => hc d)]
  · rw [if_neg d]
    simp (disch := first | assumption | omega) only [sX8_crash, z10, z00, if_true, if_false, iv_add, iv_sub, iv_mul, iv_le, iv_lt, iv_eq, iv_mx, iv_mn, bI_z, bI_o, rZ0, rZ1, rZb, cl_some', lt_eq, rm_eq, dv_eq, iv_01, iv_10, the, lastA, lpA, st_eq, st_ne, cV_tw, gR_0, gR_3, gR_4, gR_27, gR_28, gI_29, aI_now, aI_mn, aI_mi, aI_fa, sI_now, sI_mn, sI_mi, sI_fa, pI_29, y1]
    rw [if_pos d]
theorem m_come_65 (hT : LT M) (hΛ : LawT M Λ) {n : Int} (n0 : 0 ≤ n) (n1 : n < 7) (g1 : Row) (hG : GlA g1) (t0 : 0 ≤ g1 (244 * n + 1)) (t1 : g1 (244 * n + 1) ≤ 999) : ∀ (j : Nat) (k : Int) (f : Nat), 8 - k = j → 0 ≤ k → j < f →
    ∃ F' S', sX8_comeUp_65 f (some 3772) (iI n) (iI k) (tw (kpG g1 (244 * n + 15) (-8) k) mi mn F S M) = some (iI 1, tw (timerG Λ (kpG g1 (244 * n + 15) (-8) 8) n) mi mn F' S' M)
  | 0, k, f + 1, e1, e2, e3 => by
    have q : k = 8 := by omega
    subst q
    have o : ∀ x, (x < 244 * n + 15 ∨ 244 * n + 23 ≤ x) → kpG g1 (244 * n + 15) (-8) 8 x = g1 x := by
      intro x hx
      unfold kpG
      rw [if_neg (by omega)]
    obtain ⟨F2, S2, x2⟩ := m_setsTimer (g := kpG g1 (244 * n + 15) (-8) 8) (mi := mi) (mn := mn) (F := F) (S := S) (n := n) hT hΛ (GlA_blk (fun x _ => o x (by omega)) hG) n0 n1 (by rw [o _ (by omega)]; exact t0) (by rw [o _ (by omega)]; exact t1)
    refine ⟨F2, S2, ?_⟩
    simp (disch := first | assumption | omega) only [sX8_comeUp_65, sX8_comeUp_65b, z10, z00, if_true, if_false, iv_add, iv_sub, iv_mul, iv_le, iv_lt, iv_eq, iv_mx, iv_mn, bI_z, bI_o, rZ0, rZ1, rZb, cl_some', lt_eq, rm_eq, dv_eq, iv_01, iv_10, the, lastA, lpA, st_eq, st_ne, cV_tw, gR_0, gR_3, gR_4, gR_27, gR_28, gI_29, aI_now, aI_mn, aI_mi, aI_fa, sI_now, sI_mn, sI_mi, sI_fa, pI_29, x2]
    rw [if_pos (by omega)]
  | j + 1, k, f + 1, e1, e2, e3 => by
    obtain ⟨F2, S2, ih⟩ := m_come_65 hT hΛ n0 n1 g1 hG t0 t1 j (k + 1) f (by omega) (by omega) (by omega)
    refine ⟨F2, S2, ?_⟩
    have o : kpG g1 (244 * n + 15) (-8) k (244 * n + (23 + k)) = g1 (244 * n + (23 + k)) := by
      unfold kpG
      rw [if_neg (by omega)]
    have s : st (kpG g1 (244 * n + 15) (-8) k) (244 * n + (15 + k)) (g1 (244 * n + (23 + k))) = kpG g1 (244 * n + 15) (-8) (k + 1) := by
      funext x
      unfold st kpG
      by_cases c1 : x = 244 * n + (15 + k)
      · rw [if_pos c1, if_pos (by omega), c1]
        congr 1
        omega
      · rw [if_neg c1]
        by_cases c2 : 244 * n + 15 ≤ x ∧ x < 244 * n + 15 + k
        · rw [if_pos c2, if_pos (by omega)]
        · rw [if_neg c2, if_neg (by omega)]
    rw [← ih, ← s]
    show sX8_comeUp_65b (sX8_comeUp_65 f) _ _ _ _ = _
    generalize sX8_comeUp_65 f = K
    simp (disch := first | assumption | omega) only [sX8_comeUp_65b, m_the, m_sets, z10, z00, if_true, if_false, iv_add, iv_sub, iv_mul, iv_le, iv_lt, iv_eq, iv_mx, iv_mn, bI_z, bI_o, rZ0, rZ1, rZb, cl_some', lt_eq, rm_eq, dv_eq, iv_01, iv_10, the, lastA, lpA, st_eq, st_ne, cV_tw, gR_0, gR_3, gR_4, gR_27, gR_28, gI_29, aI_now, aI_mn, aI_mi, aI_fa, sI_now, sI_mn, sI_mi, sI_fa, pI_29, o]
    rw [if_neg (by omega)]
theorem m_comeUp (hT : LT M) (hΛ : LawT M Λ) (I : InvS g h FL R D) {n : Int} (c0 : -2147483648 ≤ n) (c1 : n ≤ 2147483647) :
    ∃ F' S', sX8_comeUp (some 3772) (iI n) (tw g mi mn F S M) = some (iI (comeS Λ g n).1, tw (comeS Λ g n).2 mi mn F' S' M) := by
  unfold comeS
  by_cases d : 0 ≤ n ∧ n < 7
  · obtain ⟨⟨s1, s2⟩, _⟩ := I.na n d.1 d.2
    by_cases e : g (244 * n + 0) = 1
    · refine ⟨F, S, ?_⟩
      rw [if_neg (fun hc => hc.2 e)]
      simp (disch := first | assumption | omega) only [sX8_comeUp, m_isNode, m_the, z10, z00, if_true, if_false, iv_add, iv_sub, iv_mul, iv_le, iv_lt, iv_eq, iv_mx, iv_mn, bI_z, bI_o, rZ0, rZ1, rZb, cl_some', lt_eq, rm_eq, dv_eq, iv_01, iv_10, the, lastA, lpA, st_eq, st_ne, cV_tw, gR_0, gR_3, gR_4, gR_27, gR_28, gI_29, aI_now, aI_mn, aI_mi, aI_fa, sI_now, sI_mn, sI_mi, sI_fa, pI_29]
      rw [if_neg (fun hc => hc d), if_pos e]
    · rw [if_pos ⟨d, e⟩]
      obtain ⟨g1, hg1⟩ : ∃ g1, st (st (st (st (st g (244 * n + 0) 1) (244 * n + 9) (g (244 * n + 4))) (244 * n + 12) 0) (244 * n + 13) 0) (244 * n + 14) 0 = g1 := ⟨_, rfl⟩
      have o : ∀ x, (x < 244 * n ∨ (244 * n < x ∧ x < 244 * n + 9) ∨ (244 * n + 9 < x ∧ x < 244 * n + 12) ∨ 244 * n + 15 ≤ x) → g1 x = g x := by
        intro x hx
        rw [← hg1, st_ne (by omega), st_ne (by omega), st_ne (by omega), st_ne (by omega), st_ne (by omega)]
      obtain ⟨F2, S2, x2⟩ := m_come_65 (mi := mi) (mn := mn) (F := F) (S := S) hT hΛ d.1 d.2 g1 (GlA_blk (fun x _ => o x (by omega)) I.gl) (by rw [o _ (by omega)]; omega) (by rw [o _ (by omega)]; omega) 8 0 FU (by omega) (by omega) (by unfold FU; omega)
      have e0 : kpG g1 (244 * n + 15) (-8) 0 = g1 := kp0 _ _ _
      have e8 : kpG g1 (244 * n + 15) (-8) 8 = upG g n := by
        funext x
        unfold kpG upG
        by_cases c1 : 244 * n + 15 ≤ x ∧ x < 244 * n + 15 + 8
        · rw [if_pos c1, if_neg (by omega), if_neg (by omega), if_neg (by omega), if_pos (by omega), o _ (by omega)]
          congr 1 <;> omega
        · rw [if_neg c1, ← hg1]
          unfold st
          by_cases q0 : x = 244 * n + 0
          · rw [if_pos q0, if_neg (by omega), if_neg (by omega), if_neg (by omega), if_neg (by omega), if_pos q0]
          · rw [if_neg q0, if_neg q0]
            by_cases q9 : x = 244 * n + 9
            · rw [if_pos q9, if_neg (by omega), if_neg (by omega), if_neg (by omega), if_pos q9]
            · rw [if_neg q9, if_neg q9]
              by_cases q12 : 244 * n + 12 ≤ x ∧ x < 244 * n + 15
              · rw [if_pos q12]
                split
                · rfl
                · split
                  · rfl
                  · rw [if_pos (by omega)]
              · rw [if_neg q12, if_neg (by omega), if_neg (by omega), if_neg (by omega), if_neg (by omega)]
      rw [e0, e8] at x2
      refine ⟨F2, S2, ?_⟩
      simp (disch := first | assumption | omega) only [sX8_comeUp, m_isNode, m_the, m_sets, z10, z00, if_true, if_false, iv_add, iv_sub, iv_mul, iv_le, iv_lt, iv_eq, iv_mx, iv_mn, bI_z, bI_o, rZ0, rZ1, rZb, cl_some', lt_eq, rm_eq, dv_eq, iv_01, iv_10, the, lastA, lpA, st_eq, st_ne, cV_tw, gR_0, gR_3, gR_4, gR_27, gR_28, gI_29, aI_now, aI_mn, aI_mi, aI_fa, sI_now, sI_mn, sI_mi, sI_fa, pI_29, hg1]
      rw [if_neg (fun hc => hc d), if_neg e]
      exact x2
  · refine ⟨F, S, ?_⟩
    rw [if_neg (fun hc => d hc.1)]
    simp (disch := first | assumption | omega) only [sX8_comeUp, m_isNode, z10, z00, if_true, if_false, iv_add, iv_sub, iv_mul, iv_le, iv_lt, iv_eq, iv_mx, iv_mn, bI_z, bI_o, rZ0, rZ1, rZb, cl_some', lt_eq, rm_eq, dv_eq, iv_01, iv_10, the, lastA, lpA, st_eq, st_ne, cV_tw, gR_0, gR_3, gR_4, gR_27, gR_28, gI_29, aI_now, aI_mn, aI_mi, aI_fa, sI_now, sI_mn, sI_mi, sI_fa, pI_29]
    rw [if_pos d]
end
