/-! DEPS: zj -/
/-! ZK: the twin reads an item with its rounds' beginnings -/
section
variable {M : Mem}
theorem z_item (hL : LPt M) (hZ : LZ M) : ∀ (f fu : Nat) (s : Stk) (l : List Act) (p : Int) (q r : Row), AcR r l → r 38 = (s.length : Int) → StR r s → StC l.length s → s.length ≤ 2 → f + s.length ≥ 3 → f ≤ fu → 0 ≤ p → p ≤ q 8 → 0 ≤ q 8 → q 8 ≤ 240 →
    q 7 = pSt (tpA M) (q 8) p → r 39 = p → r 40 = pTm (tpA M) (q 8) p → OutI q M (sX8_readsAct_4 fu (some 3772) (pw q (qw r M))) (tItem (tpA M) (q 8) f s l p)
  | 0, fu, s, l, p, q, r, ac, h38, sr, sc, h2, hf, hfu, p0, p1, n0, n1, e7, e39, e40 => by omega
  | f + 1, 0, s, l, p, q, r, ac, h38, sr, sc, h2, hf, hfu, p0, p1, n0, n1, e7, e39, e40 => by omega
  | f + 1, fu + 1, s, l, p, q, r, ac, h38, sr, sc, h2, hf, hfu, p0, p1, n0, n1, e7, e39, e40 => by
    have hr := hrA_r (M := M) (n := q 8) (p := q 7)
    have ps := pSt_le (T := tpA M) (n := q 8) (p := p)
    have tm := pTm_r (T := tpA M) (n := q 8) (p := p)
    have E40 : (iI (hrA (tpA M) (q 8) (q 7)) = iI 40) ↔ hrA (tpA M) (q 8) (q 7) = 40 := EI (by omega) (by omega) (by omega) (by omega)
    unfold tItem
    by_cases c : hrA (tpA M) (q 8) (pSt (tpA M) (q 8) p) = 40
    · have c' : hrA (tpA M) (q 8) (q 7) = 40 := by rw [e7]; exact c
      have plt := hr_lt (T := tpA M) (n := q 8) (p := q 7) (by omega)
      rw [if_pos c]
      show OutI q M (sX8_readsAct_4b (sX8_readsAct_4 fu) (some 3772) (pw q (qw r M))) _
      have E2 : (iI (s.length : Int) = iI 2) ↔ (s.length : Int) = 2 := EI (by omega) (by omega) (by omega) (by omega)
      by_cases d : s.length = 2
      · rw [if_pos d]
        generalize sX8_readsAct_4 fu = K
        unfold sX8_readsAct_4b
        rw [cV_p (M := qw r M) hL, z_here hL (by omega) n1 (by omega) n0, clq, if_pos (E40.mpr c'), gI_z38 hL, h38, if_pos (E2.mpr (by omega)), gI_p7 (M := qw r M) hL, cV_p (M := qw r M) hL, z_wrong hL, clq, rZ0]
        refine ⟨_, _, rfl, ?_, Fq.st (by omega)⟩
        rw [st_eq, e7]
      · rw [if_neg d]
        obtain ⟨r1, push, ac1, k38, sr1⟩ := z_push (q := q) hL hZ ac h38 sr (by omega)
        have len2 : ((p, l.length, pTm (tpA M) (q 8) p) :: s).length = s.length + 1 := rfl
        obtain ⟨q1, hq1⟩ : ∃ q1, q1 = st q 7 (q 7 + 1) := ⟨_, rfl⟩
        have f1 : Fq q q1 := by rw [hq1]; exact Fq.st (by omega)
        have k7 : q1 7 = q 7 + 1 := by rw [hq1]; exact st_eq _ _ _
        have k8 : q1 8 = q 8 := f1 8 (by omega) (by omega) (by omega)
        have tmz := z_times (q := q1) (r := r1) hL (by omega) (by omega) (by omega) (by omega)
        rw [k7, k8] at tmz
        obtain ⟨q2, hq2⟩ : ∃ q2, q2 = st q1 7 (pSt (tpA M) (q 8) (q 7 + 1)) := ⟨_, rfl⟩
        obtain ⟨r2, hr2⟩ : ∃ r2, r2 = st (st r1 39 (q 7 + 1)) 40 (pTm (tpA M) (q 8) (q 7 + 1)) := ⟨_, rfl⟩
        rw [← hq2, ← hr2] at tmz
        have f2 : Fq q q2 := f1.trans (by rw [hq2]; exact Fq.st (by omega))
        have g8 : q2 8 = q 8 := f2 8 (by omega) (by omega) (by omega)
        have keep : ∀ y, y ≠ 39 → y ≠ 40 → r2 y = r1 y := fun y a b => by rw [hr2, st_ne b, st_ne a]
        have ac2 : AcR r2 l := ⟨by rw [keep 37 (by omega) (by omega)]; exact ac1.1, ac1.2.1, fun i x hi hx => by
          rw [keep _ (by omega) (by omega), keep _ (by omega) (by omega), keep _ (by omega) (by omega), keep _ (by omega) (by omega)]; exact ac1.2.2 i x hi hx⟩
        rw [e39, e40] at sr1
        have sr2 : StR r2 ((p, l.length, pTm (tpA M) (q 8) p) :: s) := sr1.up (fun k hk => ⟨keep _ (by omega) (by omega), keep _ (by omega) (by omega), keep _ (by omega) (by omega)⟩)
        have ih := z_item hL hZ f fu ((p, l.length, pTm (tpA M) (q 8) p) :: s) l (q 7 + 1) q2 r2 ac2 (by rw [keep 38 (by omega) (by omega), k38, len2]; rfl) sr2 ⟨Nat.le_refl _, tm.1, tm.2, sc⟩ (by omega) (by omega) (by omega) (by omega) (by omega) (by omega) (by omega) (by rw [g8, hq2]; exact st_eq _ _ _) (by rw [hr2, st_ne (by omega)]; exact st_eq _ _ _) (by rw [g8, hr2]; exact st_eq _ _ _)
        have go : sX8_readsAct_4b (sX8_readsAct_4 fu) (some 3772) (pw q (qw r M)) = sX8_readsAct_4 fu (some 3772) (pw q2 (qw r2 M)) := by
          generalize sX8_readsAct_4 fu = K
          unfold sX8_readsAct_4b
          rw [cV_p (M := qw r M) hL, z_here hL (by omega) n1 (by omega) n0, clq, if_pos (E40.mpr c'), gI_z38 hL]
          rw [h38, if_neg (fun z => d (by have := E2.mp z; omega)), push, gI_p7 (M := qw r1 M) hL, iv_add, pI_p7 (M := qw r1 M) hL, ← hq1, cV_p (M := qw r1 M) hL, tmz, clq]
        rw [go]
        rw [g8] at ih
        rw [← e7]
        unfold OutI at ih ⊢
        cases e : tItem (tpA M) (q 8) f ((p, l.length, pTm (tpA M) (q 8) p) :: s) l (q 7 + 1) with
        | inl y => rw [e] at ih; obtain ⟨q', r', i1, i2, i3⟩ := ih; exact ⟨q', r', i1, i2, f2.trans i3⟩
        | inr y => rw [e] at ih; obtain ⟨q', r', i1, i2, i3, i4⟩ := ih; exact ⟨q', r', i1, i2, f2.trans i3, i4⟩
    · rw [if_neg c, ← e7]
      exact z_act hL hZ ac h38 sr sc h2 (by omega) (by omega) n0 n1 e39 e40 tm.1 tm.2 (by rw [e7]; exact c)
end
