/-! DEPS: zk -/
/-! ZL: the twin reads an item and its rounds' ends -/
section
variable {M : Mem}
theorem z_readsAct (hL : LPt M) (hZ : LZ M) {s : Stk} {l : List Act} {q r : Row} (ac : AcR r l) (h38 : r 38 = (s.length : Int)) (sr : StR r s) (sc : StC l.length s) (h2 : s.length ≤ 2) (p0 : 0 ≤ q 7) (p1 : q 7 ≤ q 8) (n0 : 0 ≤ q 8) (n1 : q 8 ≤ 240) :
    OutP q M (sX8_readsAct (some 3772) (pw q (qw r M))) (match tItem (tpA M) (q 8) 4 s l (q 7) with
      | .inl e => .inl e
      | .inr (s', l', p') => tPop (tpA M) (q 8) s' l' p') := by
  have tmz := z_times (q := q) (r := r) hL p0 n1 (by omega) n0
  obtain ⟨q2, hq2⟩ : ∃ q2, q2 = st q 7 (pSt (tpA M) (q 8) (q 7)) := ⟨_, rfl⟩
  obtain ⟨r2, hr2⟩ : ∃ r2, r2 = st (st r 39 (q 7)) 40 (pTm (tpA M) (q 8) (q 7)) := ⟨_, rfl⟩
  rw [← hq2, ← hr2] at tmz
  have f2 : Fq q q2 := by rw [hq2]; exact Fq.st (by omega)
  have g8 : q2 8 = q 8 := f2 8 (by omega) (by omega) (by omega)
  have keep : ∀ y, y ≠ 39 → y ≠ 40 → r2 y = r y := fun y a b => by rw [hr2, st_ne b, st_ne a]
  have ac2 : AcR r2 l := ⟨by rw [keep 37 (by omega) (by omega)]; exact ac.1, ac.2.1, fun i x hi hx => by
    rw [keep _ (by omega) (by omega), keep _ (by omega) (by omega), keep _ (by omega) (by omega), keep _ (by omega) (by omega)]; exact ac.2.2 i x hi hx⟩
  have sr2 : StR r2 s := sr.up (fun k hk => ⟨keep _ (by omega) (by omega), keep _ (by omega) (by omega), keep _ (by omega) (by omega)⟩)
  have it := z_item hL hZ 4 FU s l (q 7) q2 r2 ac2 (by rw [keep 38 (by omega) (by omega)]; exact h38) sr2 sc h2 (by omega) (by unfold FU; omega) p0 (by omega) (by omega) (by omega) (by rw [g8, hq2]; exact st_eq _ _ _) (by rw [hr2, st_ne (by omega)]; exact st_eq _ _ _) (by rw [g8, hr2]; exact st_eq _ _ _)
  rw [g8] at it
  unfold sX8_readsAct
  rw [cV_p (M := qw r M) hL, tmz, clq]
  unfold OutI at it
  cases e : tItem (tpA M) (q 8) 4 s l (q 7) with
  | inl y => rw [e] at it; obtain ⟨q', r', i1, i2, i3⟩ := it; exact ⟨q', r', i1, i2, f2.trans i3⟩
  | inr y =>
    rw [e] at it
    obtain ⟨q', r', i1, i2, i3, i4, i5, i6, i7, i8⟩ := it
    have u := tItem_up 4 s y.1 l y.2.1 (q 7) y.2.2 p1 e
    have k8 : q' 8 = q 8 := (f2.trans i3) 8 (by omega) (by omega) (by omega)
    have pp := z_pop hL hZ y.1 y.2.1 q' r' FU i4 i5 i6 i7 i8 (by omega) (by omega) (by omega) (by omega) (by unfold FU; omega)
    rw [k8, i2] at pp
    rw [i1]
    show OutP q M _ (tPop (tpA M) (q 8) y.1 y.2.1 y.2.2)
    unfold OutP at pp ⊢
    cases e9 : tPop (tpA M) (q 8) y.1 y.2.1 y.2.2 with
    | inl z => rw [e9] at pp; obtain ⟨q3, r3, j1, j2, j3⟩ := pp; exact ⟨q3, r3, j1, j2, (f2.trans i3).trans j3⟩
    | inr z => rw [e9] at pp; obtain ⟨q3, r3, j1, j2, j3, j4⟩ := pp; exact ⟨q3, r3, j1, j2, (f2.trans i3).trans j3, j4⟩
end
