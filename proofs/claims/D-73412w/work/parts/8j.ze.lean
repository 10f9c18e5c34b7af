/-! DEPS: zd -/
/-! ZE: the twin reads plans: an act's numbers -/
section
variable {q r : Row} {M : Mem}
/-- what a plan's reading leaves of the readers' row -/
def Fq (q q' : Row) : Prop := ∀ x, x ≠ 7 → x ≠ 9 → x ≠ 10 → q' x = q x
theorem Fq.trans {q q' q'' : Row} (h : Fq q q') (h' : Fq q' q'') : Fq q q'' := fun x a b c => (h' x a b c).trans (h x a b c)
theorem Fq.st {v x : Int} (hx : x = 7 ∨ x = 9 ∨ x = 10) : Fq q (st q x v) := fun y a b c => st_ne (by omega)
theorem Fq.me : Fq q q := fun _ _ _ _ => rfl
/-- how an act's numbers come out -/
def OutN (q r : Row) (M : Mem) (z : Option (Int32 × Mem)) (res : (Int × Int) ⊕ (Act × Int)) : Prop := match res with
  | .inl x => ∃ q' r', z = some (iI 0, pw q' (qw r' M)) ∧ q' 9 = -1000 * x.1 - x.2 ∧ Fq q q' ∧ ∀ y, (y < 41 ∨ 43 < y) → r' y = r y
  | .inr x => ∃ q' r', z = some (iI 1, pw q' (qw r' M)) ∧ q' 7 = x.2 ∧ Fq q q' ∧ r' 41 = x.1.2.1 ∧ r' 42 = x.1.2.2.1 ∧ r' 43 = x.1.2.2.2 ∧ ∀ y, (y < 41 ∨ 43 < y) → r' y = r y
theorem OutN.of {q r q1 r1 : Row} {z : Option (Int32 × Mem)} {res : (Int × Int) ⊕ (Act × Int)} (h : OutN q1 r1 M z res) (f : Fq q q1) (g : ∀ y, (y < 41 ∨ 43 < y) → r1 y = r y) : OutN q r M z res := by
  unfold OutN at *
  cases res with
  | inl x => obtain ⟨q', r', a1, a2, a3, a4⟩ := h; exact ⟨q', r', a1, a2, f.trans a3, fun y hy => (a4 y hy).trans (g y hy)⟩
  | inr x => obtain ⟨q', r', a1, a2, a3, a4, a5, a6, a7⟩ := h; exact ⟨q', r', a1, a2, f.trans a3, a4, a5, a6, fun y hy => (a7 y hy).trans (g y hy)⟩
theorem EI {c k : Int} (c0 : -1000 ≤ c) (c1 : c ≤ 1000) (k0 : -1000 ≤ k) (k1 : k ≤ 1000) : (iI c = iI k) ↔ c = k := by
  have : (iI c = iI k) = (c = k) := iv_eq (by omega) (by omega) (by omega) (by omega)
  rw [this]
theorem z_134 (hL : LPt M) (h7 : 0 ≤ q 7) (h8 : q 8 ≤ 240) (h9 : q 7 ≤ 10000) (h0 : 0 ≤ q 8) {c a b : Int} (c0 : 0 ≤ c) (c1 : c ≤ 255) (ha : r 41 = a) (hb : r 42 = b) (hc : r 43 = 0) :
    OutN q r M (sX8_readsNumbers_134 (some 3772) (iI c) (pw q (qw r M))) (if c ≠ 119 then .inr ((c, a, b, 0), q 7) else if ¬ pDg (tpA M) (q 8) 9 (q 7) then .inl (1, q 7) else .inr ((c, a, b, hrA (tpA M) (q 8) (q 7) - 48), q 7 + 1)) := by
  unfold sX8_readsNumbers_134
  by_cases e : c = 119
  · rw [if_pos ((EI (by omega) (by omega) (by omega) (by omega)).mpr e), if_neg (fun z => z e), cV_p (M := qw r M) hL, z_digit hL h7 h8 (by omega) h0 (by omega) (by omega)]
    by_cases d : pDg (tpA M) (q 8) 9 (q 7)
    · rw [if_pos d, if_neg (fun z => z d), clq, if_neg iv_01, gI_p10 (M := qw r M) hL, pI_z43 hL, rZ1]
      refine ⟨_, _, rfl, st_eq _ _ _, (Fq.st (by omega)).trans (Fq.st (by omega)), by rw [st_ne (by omega)]; exact ha, by rw [st_ne (by omega)]; exact hb, ?_, fun y hy => st_ne (by omega)⟩
      rw [st_eq, st_ne (by omega), st_eq]
    · rw [if_neg d, if_pos d, clq, if_pos rfl, rZ0]
      exact ⟨_, _, rfl, st_eq _ _ _, Fq.st (by omega), fun _ _ => rfl⟩
  · rw [if_neg (fun z => e ((EI (by omega) (by omega) (by omega) (by omega)).mp z)), if_pos e, rZ1]
    exact ⟨q, r, rfl, rfl, Fq.me, ha, hb, hc, fun _ _ => rfl⟩
theorem z_82 (hL : LPt M) (h7 : 0 ≤ q 7) (h8 : q 8 ≤ 240) (h9 : q 7 ≤ 5000) (h0 : 0 ≤ q 8) {c a hi : Int} (c0 : 0 ≤ c) (c1 : c ≤ 255) (ha : r 41 = a - 48) (a0 : 0 ≤ a) (a1 : a ≤ 255) (hc : r 43 = 0) (i0 : 0 ≤ hi) (i1 : hi ≤ 9) :
    OutN q r M (sX8_readsNumbers_82 (some 3772) (iI c) (some 3772) (iI hi) (pw q (qw r M))) (if ¬ pDg (tpA M) (q 8) hi (q 7) then .inl (1, q 7)
      else if (c = 120 ∨ c = 106) ∧ a = hrA (tpA M) (q 8) (q 7) then .inl (7, q 7)
      else if c ≠ 119 then .inr ((c, a - 48, hrA (tpA M) (q 8) (q 7) - 48, 0), q 7 + 1)
      else if ¬ pDg (tpA M) (q 8) 9 (q 7 + 1) then .inl (1, q 7 + 1) else .inr ((c, a - 48, hrA (tpA M) (q 8) (q 7) - 48, hrA (tpA M) (q 8) (q 7 + 1) - 48), q 7 + 2)) := by
  have hr := hrA_r (M := M) (n := q 8) (p := q 7)
  unfold sX8_readsNumbers_82
  rw [cV_p (M := qw r M) hL, z_digit hL h7 h8 (by omega) h0 i0 i1]
  by_cases d : pDg (tpA M) (q 8) hi (q 7)
  · rw [if_pos d, if_neg (fun z => z d), clq, if_neg iv_01, gI_p10 (M := qw r M) hL, pI_z42 hL, st_ne (by omega), st_eq]
    obtain ⟨q1, hq1⟩ : ∃ q1, q1 = st (st q 10 (hrA (tpA M) (q 8) (q 7) - 48)) 7 (q 7 + 1) := ⟨_, rfl⟩
    obtain ⟨r1, hr1⟩ : ∃ r1, r1 = st r 42 (hrA (tpA M) (q 8) (q 7) - 48) := ⟨_, rfl⟩
    rw [← hq1, ← hr1]
    have f1 : Fq q q1 := by rw [hq1]; exact (Fq.st (by omega)).trans (Fq.st (by omega))
    have g1 : ∀ y, (y < 41 ∨ 43 < y) → r1 y = r y := fun y hy => by rw [hr1]; exact st_ne (by omega)
    have e7 : q1 7 = q 7 + 1 := by rw [hq1]; exact st_eq _ _ _
    have e8 : q1 8 = q 8 := f1 8 (by omega) (by omega) (by omega)
    have x41 : r1 41 = a - 48 := by rw [hr1, st_ne (by omega)]; exact ha
    have x42 : r1 42 = hrA (tpA M) (q 8) (q 7) - 48 := by rw [hr1]; exact st_eq _ _ _
    have x43 : r1 43 = 0 := by rw [hr1, st_ne (by omega)]; exact hc
    have t := z_134 (q := q1) (r := r1) hL (by omega) (by omega) (by omega) (by omega) c0 c1 x41 x42 x43
    rw [e7, e8, show q 7 + 1 + 1 = q 7 + 2 by omega] at t
    have t' := t.of f1 g1
    have both : (c = 120 ∨ c = 106) → OutN q r M (sX8_readsNumbers_110 (some 3772) (iI c) (pw q1 (qw r1 M))) (if (c = 120 ∨ c = 106) ∧ a = hrA (tpA M) (q 8) (q 7) then .inl (7, q 7)
      else if c ≠ 119 then .inr ((c, a - 48, hrA (tpA M) (q 8) (q 7) - 48, 0), q 7 + 1)
      else if ¬ pDg (tpA M) (q 8) 9 (q 7 + 1) then .inl (1, q 7 + 1) else .inr ((c, a - 48, hrA (tpA M) (q 8) (q 7) - 48, hrA (tpA M) (q 8) (q 7 + 1) - 48), q 7 + 2)) := by
      intro hc2
      unfold sX8_readsNumbers_110
      rw [gI_z41 hL, gI_z42 hL, x41, x42]
      by_cases s : a = hrA (tpA M) (q 8) (q 7)
      · rw [if_pos (by rw [s]), if_pos ⟨hc2, s⟩, gI_p7 (M := qw r1 M) hL, e7, iv_sub, cV_p (M := qw r1 M) hL, z_wrong hL, clq, rZ0]
        refine ⟨_, _, rfl, ?_, f1.trans (Fq.st (by omega)), g1⟩
        rw [st_eq]
        show -1000 * 7 - (q 7 + 1 - 1) = -1000 * 7 - q 7
        omega
      · rw [if_neg (fun z => s (by have := (EI (by omega) (by omega) (by omega) (by omega)).mp z; omega)), if_neg (fun z => s z.2)]
        exact t'
    by_cases k1 : c = 120
    · rw [if_pos ((EI (by omega) (by omega) (by omega) (by omega)).mpr k1)]
      exact both (Or.inl k1)
    · rw [if_neg (fun z => k1 ((EI (by omega) (by omega) (by omega) (by omega)).mp z))]
      by_cases k2 : c = 106
      · rw [if_pos ((EI (by omega) (by omega) (by omega) (by omega)).mpr k2)]
        exact both (Or.inr k2)
      · rw [if_neg (fun z => k2 ((EI (by omega) (by omega) (by omega) (by omega)).mp z)), if_neg (fun z => by rcases z.1 with z | z; exact k1 z; exact k2 z)]
        exact t'
  · rw [if_neg d, if_pos d, clq, if_pos rfl, rZ0]
    exact ⟨_, _, rfl, st_eq _ _ _, Fq.st (by omega), fun _ _ => rfl⟩
theorem z_numbers (hL : LPt M) (h7 : 0 ≤ q 7) (h8 : q 8 ≤ 240) (h9 : q 7 ≤ 1000) (h0 : 0 ≤ q 8) {c : Int} (c0 : 0 ≤ c) (c1 : c ≤ 255) : OutN q r M (sX8_readsNumbers (some 3772) (iI c) (pw q (qw r M))) (pNum (tpA M) (q 8) c (q 7)) := by
  have hr := hrA_r (M := M) (n := q 8) (p := q 7)
  unfold sX8_readsNumbers pNum
  rw [pI_z41 hL, pI_z42 hL, pI_z43 hL]
  obtain ⟨r0, hr0⟩ : ∃ r0, r0 = st (st (st r 41 0) 42 0) 43 0 := ⟨_, rfl⟩
  rw [← hr0]
  have g0 : ∀ y, (y < 41 ∨ 43 < y) → r0 y = r y := fun y hy => by rw [hr0, st_ne (by omega), st_ne (by omega), st_ne (by omega)]
  have z41 : r0 41 = 0 := by rw [hr0, st_ne (by omega), st_ne (by omega), st_eq]
  have z42 : r0 42 = 0 := by rw [hr0, st_ne (by omega), st_eq]
  have z43 : r0 43 = 0 := by rw [hr0, st_eq]
  have E : ∀ k : Int, 0 ≤ k → k ≤ 255 → ((iI c = iI k) ↔ c = k) := fun k k0 k1 => EI (by omega) (by omega) (by omega) (by omega)
  by_cases a1 : c = 46
  · rw [if_pos ((E 46 (by omega) (by omega)).mpr a1), if_pos a1, rZ1]
    exact ⟨q, r0, rfl, rfl, Fq.me, z41, z42, z43, g0⟩
  · rw [if_neg (fun z => a1 ((E 46 (by omega) (by omega)).mp z)), if_neg a1, cV_p (M := qw r0 M) hL, z_digit hL h7 h8 (by omega) h0 (by omega) (by omega)]
    by_cases d : pDg (tpA M) (q 8) 6 (q 7)
    · rw [if_pos d, if_neg (fun z => z d), clq, if_neg iv_01, gI_p10 (M := qw r0 M) hL, pI_z41 hL, st_ne (by omega), st_eq]
      obtain ⟨q1, hq1⟩ : ∃ q1, q1 = st (st q 10 (hrA (tpA M) (q 8) (q 7) - 48)) 7 (q 7 + 1) := ⟨_, rfl⟩
      obtain ⟨r1, hr1⟩ : ∃ r1, r1 = st r0 41 (hrA (tpA M) (q 8) (q 7) - 48) := ⟨_, rfl⟩
      rw [← hq1, ← hr1]
      have f1 : Fq q q1 := by rw [hq1]; exact (Fq.st (by omega)).trans (Fq.st (by omega))
      have g1 : ∀ y, (y < 41 ∨ 43 < y) → r1 y = r y := fun y hy => by rw [hr1, st_ne (by omega)]; exact g0 y hy
      have e7 : q1 7 = q 7 + 1 := by rw [hq1]; exact st_eq _ _ _
      have e8 : q1 8 = q 8 := f1 8 (by omega) (by omega) (by omega)
      have x41 : r1 41 = hrA (tpA M) (q 8) (q 7) - 48 := by rw [hr1]; exact st_eq _ _ _
      have x42 : r1 42 = 0 := by rw [hr1, st_ne (by omega)]; exact z42
      have x43 : r1 43 = 0 := by rw [hr1, st_ne (by omega)]; exact z43
      have done : OutN q r M (rZ (iI 1) (pw q1 (qw r1 M))) (.inr ((c, hrA (tpA M) (q 8) (q 7) - 48, 0, 0), q 7 + 1)) := by
        rw [rZ1]
        exact ⟨q1, r1, rfl, e7, f1, x41, x42, x43, g1⟩
      have h48 : 48 ≤ hrA (tpA M) (q 8) (q 7) := d.1
      have two := fun hi (i0 : 0 ≤ hi) (i1 : hi ≤ 9) => (z_82 (q := q1) (r := r1) (hi := hi) (a := hrA (tpA M) (q 8) (q 7)) hL (by omega) (by omega) (by omega) (by omega) c0 c1 x41 (by omega) (by omega) x43 i0 i1).of f1 g1
      rw [e7, e8, show q 7 + 1 + 1 = q 7 + 2 by omega, show q 7 + 1 + 2 = q 7 + 3 by omega] at two
      by_cases b1 : c = 107
      · rw [if_pos ((E 107 (by omega) (by omega)).mpr b1), if_pos (Or.inl b1)]; exact done
      rw [if_neg (fun z => b1 ((E 107 (by omega) (by omega)).mp z))]
      by_cases b2 : c = 117
      · rw [if_pos ((E 117 (by omega) (by omega)).mpr b2), if_pos (Or.inr (Or.inl b2))]; exact done
      rw [if_neg (fun z => b2 ((E 117 (by omega) (by omega)).mp z))]
      by_cases b3 : c = 99
      · rw [if_pos ((E 99 (by omega) (by omega)).mpr b3), if_pos (Or.inr (Or.inr b3))]; exact done
      rw [if_neg (fun z => b3 ((E 99 (by omega) (by omega)).mp z)), if_neg (show ¬ (c = 107 ∨ c = 117 ∨ c = 99) by omega)]
      by_cases b4 : c = 120
      · rw [if_pos ((E 120 (by omega) (by omega)).mpr b4), if_pos (show c = 120 ∨ c = 106 from Or.inl b4)]
        exact two 6 (by omega) (by omega)
      rw [if_neg (fun z => b4 ((E 120 (by omega) (by omega)).mp z))]
      by_cases b5 : c = 106
      · rw [if_pos ((E 106 (by omega) (by omega)).mpr b5), if_pos (show c = 120 ∨ c = 106 from Or.inr b5)]
        exact two 6 (by omega) (by omega)
      rw [if_neg (fun z => b5 ((E 106 (by omega) (by omega)).mp z)), if_neg (show ¬ (c = 120 ∨ c = 106) by omega)]
      exact two 7 (by omega) (by omega)
    · rw [if_neg d, if_pos d, clq, if_pos rfl, rZ0]
      exact ⟨_, _, rfl, st_eq _ _ _, Fq.st (by omega), g0⟩
end
