/-! DEPS: yi -/
/-! YJ: the twin reads pieces and conditions -/
section
variable {M : Mem}
theorem PQ.pushed {q q1 : Row} (hq : PQ q) (hn : q 7 < q 8) {v : Int} (v0 : 0 ≤ v) (v1 : v ≤ 20000000) (a7 : q1 7 = q 7 + 1) (a8 : q1 8 = q 8) (a12 : q1 12 = q 12 ∨ q1 12 = q 12 + 1) (a13 : q1 13 = q 13 + 1) (a11 : 0 ≤ q1 11 ∧ q1 11 ≤ 6) (aw : q1 (2000 + q 13) = v) (ne : ∀ i, 0 ≤ i → i < q 13 → q1 (2000 + i) = q (2000 + i)) : PQ q1 := by
  have p := hq.p
  have c := hq.c
  have w := hq.w
  refine ⟨by omega, by omega, by omega, a11, fun i i0 i1 => ?_⟩
  by_cases e : i = q 13
  · rw [e, aw]; omega
  · rw [ne i i0 (by omega)]
    exact hq.v i i0 (by omega)
abbrev CndOk (M : Mem) (n : Int) (q : Row) (A : Option (Int32 × Mem)) (o : Int) (r : Res CndV) : Prop :=
  (∀ x p', r = .inr (x, p') → ∃ ef fu' g' q', A = enQ ef fu' g' q' M ∧ PQ q' ∧ q' 7 = p' ∧ q 7 < p' ∧ q' 11 = o ∧ q' 13 = q 13 ∧ q' 12 - q 12 ≤ p' - q 7 ∧ RunS (cdQ q') (q 12) (q' 12) (numV x) ∧ Kq (q 12) (q 13) q q' ∧ n - p' < fu' ∧ n - p' < g' ∧ q 13 < ef) ∧
  (∀ x pl, r = .inl (x, pl) → ∃ q', A = some (iI 0, pw q' M) ∧ Bd q q' x pl)
/-- what stands below does not disturb a sum -/
abbrev okQ (q : Row) (w : Int) : Prop := 1 ≤ w ∧ 10 ≤ q (2000 + (w - 1)) / 1048576
def CndC (M : Mem) (n o : Int) (pc : Int → Res CndV) : Prop := ∀ (q : Row) (fu : Nat), PQ q → q 8 = n → q 11 = o → okQ q (q 13) → n - q 7 < fu → CndOk M n q (cwQ fu q M) o (pc (q 7))
theorem cl_as {α : Type} {X : Option (Unit × Mem)} {G : Mem → Option (Int32 × Mem)} : (cl (cl X fun _ s => rZ (iI 1) s) fun x s => if x = iI 0 then rZ (iI 0) s else G s) = cl X fun _ s => G s := by
  cases X with
  | none => rfl
  | some y =>
    show (cl (rZ (iI 1) y.2) fun x s => if x = iI 0 then rZ (iI 0) s else G s) = G y.2
    rw [rZ1, clq, if_neg iv_01]
theorem cmpA_r (c : Int) : cmpA c = -1 ∨ (7 ≤ cmpA c ∧ cmpA c ≤ 9 ∧ 0 ≤ c) := by
  unfold cmpA
  split
  · omega
  · split
    · omega
    · split <;> omega
theorem p_cmp (hL : LPt M) {n o : Int} (o0 : 0 ≤ o) (o6 : o ≤ 6) {q : Row} {fu : Nat} (hq : PQ q) (h8 : q 8 = n) (h11 : q 11 = o) (hok : okQ q (q 13)) (hfu : n - q 7 < fu) (n33 : hrA (tpA M) n (q 7) ≠ 33) (n40 : hrA (tpA M) n (q 7) ≠ 40) : CndOk M n q (cwQ fu q M) o (rCmp (tpA M) n o (q 7)) := by
  have p := hq.p
  have cc := hq.c
  have ww := hq.w
  obtain ⟨f1, hf1⟩ : ∃ f1 : Nat, fu = f1 + 1 := ⟨fu - 1, by omega⟩
  subst hf1
  have r := hrA_r (M := M) (n := n) (p := q 7)
  have xh := p_hereQ (q := q) hL hq
  rw [h8] at xh
  have S1 := p_readsSum hL hq h8 h11 (Or.inr (by omega)) o6
  have start : ∀ G, cwQ (f1 + 1) q M = G → (cl (sX8_readsCompared (some 3772) (pw q M)) fun x s => if x = iI 0 then rZ (iI 0) s else sX8_readsCondition_92 (sX8_readsCondition_40 f1) FU (some 3772) s) = G := by
    intro G h
    rw [← h]
    unfold cwQ
    show _ = sX8_readsCondition_40b (sX8_readsCondition_40 f1) _ _
    generalize sX8_readsCondition_40 f1 = K
    unfold sX8_readsCondition_40b
    rw [cV_p hL, xh, clq, if_neg (by rw [iv_eq (by omega) (by omega) (by omega) (by omega)]; exact n33), cV_p hL, xh, clq, if_neg (by rw [iv_eq (by omega) (by omega) (by omega) (by omega)]; exact n40), cV_p hL]
  have bad : ∀ q', sX8_readsCompared (some 3772) (pw q M) = some (iI 0, pw q' M) → cwQ (f1 + 1) q M = some (iI 0, pw q' M) := by
    intro q' h
    have := start _ rfl
    rw [← this, h, clq, if_pos rfl, rZ0]
  unfold rCmp
  cases hr : rSum (tpA M) n 7 o (q 7) with
  | inl x =>
    refine ⟨fun e' p' h => (by cases h), fun x' pl h => ?_⟩
    have h : (Sum.inl x : Res SumV) = .inl (x', pl) := by cases h; rfl
    obtain ⟨q', y1, y2⟩ := S1.2 x' pl (by rw [hr]; exact h)
    refine ⟨q', bad q' ?_, y2⟩
    unfold sX8_readsCompared
    rw [cV_p hL, y1, clq, if_pos rfl, rZ0]
  | inr x =>
    obtain ⟨e1, p1⟩ := x
    obtain ⟨q1, y1, y2, y3, y4, y5, y6, y7, y8, y9⟩ := S1.1 e1 p1 hr
    have yp := y2.p
    have yc := y2.c
    have y98 := y9.g.1
    have r1 := hrA_r (M := M) (n := n) (p := p1)
    have xh1 := p_hereQ (q := q1) hL y2
    rw [y98, h8, y3] at xh1
    have cr := cmpA_r (hrA (tpA M) n p1)
    obtain ⟨s, hs⟩ : ∃ s, cmpA (hrA (tpA M) n p1) = s := ⟨_, rfl⟩
    have pre : sX8_readsCompared (some 3772) (pw q M) = sX8_readsCompared_52 (some 3772) (iI s) (pw q1 M) := by
      have ne : ∀ a : Int, 0 ≤ a → a ≤ 200 → ¬ hrA (tpA M) n p1 = a → ¬ iI (hrA (tpA M) n p1) = iI a := fun a a0 a1 x => by rw [iv_eq (by omega) (by omega) (by omega) (by omega)]; exact x
      unfold sX8_readsCompared
      rw [cV_p hL, y1, clq, if_neg iv_01, cV_p hL, xh1, clq]
      unfold cmpA at hs
      by_cases c1 : hrA (tpA M) n p1 = 60
      · rw [if_pos c1] at hs
        rw [if_pos (congrArg iI c1), hs]
      · rw [if_neg c1] at hs
        rw [if_neg (ne 60 (by omega) (by omega) c1), cV_p hL, xh1, clq]
        by_cases c2 : hrA (tpA M) n p1 = 62
        · rw [if_pos c2] at hs
          rw [if_pos (congrArg iI c2), hs]
        · rw [if_neg c2] at hs
          rw [if_neg (ne 62 (by omega) (by omega) c2), cV_p hL, xh1, clq]
          by_cases c3 : hrA (tpA M) n p1 = 61
          · rw [if_pos c3] at hs
            rw [if_pos (congrArg iI c3), hs]
          · rw [if_neg c3] at hs
            rw [if_neg (ne 61 (by omega) (by omega) c3), hs]
    show CndOk M n q (cwQ (f1 + 1) q M) o (if cmpA (hrA (tpA M) n p1) = -1 then .inl (1, p1) else match rSum (tpA M) n 7 o (p1 + 1) with
      | .inl x => .inl x
      | .inr (e2, p2) => .inr (cmpV (cmpA (hrA (tpA M) n p1)) e1 e2, p2))
    rw [hs] at cr ⊢
    by_cases cs : s = -1
    · rw [if_pos cs]
      refine ⟨fun e' p' h => (by cases h), fun x' pl h => ?_⟩
      cases h
      refine ⟨st q1 9 (-1000 * 1 - p1), bad _ ?_, y9.bd Bd.mk9⟩
      rw [pre]
      unfold sX8_readsCompared_52
      rw [if_pos (congrArg iI cs), gI_p7 hL, y3, cV_p hL, p_wrong hL, clq, rZ0]
    · rw [if_neg cs]
      have hin := hr_in (T := tpA M) (n := n) (p := p1) (by omega)
      obtain ⟨q2, hq2⟩ : ∃ q2, st q1 7 (p1 + 1) = q2 := ⟨_, rfl⟩
      have ne2 : ∀ x, ¬ x = 7 → q2 x = q1 x := fun x a => by rw [← hq2, st_ne a]
      have a7 : q2 7 = p1 + 1 := by rw [← hq2]; exact st_eq _ _ _
      have a8 := ne2 8 (by omega)
      have a11 := ne2 11 (by omega)
      have a12 := ne2 12 (by omega)
      have a13 := ne2 13 (by omega)
      have yw := y2.w
      have yo := y2.o
      have pq2 : PQ q2 := ⟨by omega, by omega, by omega, by omega, fun i i0 i1 => by rw [ne2 _ (by omega)]; exact y2.v i i0 (by omega)⟩
      have k12 : Kq (q1 12) (q1 13) q1 q2 := ⟨fun i i0 i1 => ne2 _ (by omega), fun i i0 i1 => ne2 _ (by omega), fun x h => ne2 _ (by omega), a8, ne2 _ (by omega), ne2 _ (by omega)⟩
      have l8 := y8.1
      have k02 : Kq (q 12) (q 13) q q2 := y9.thn (k12.le (by omega) (by omega))
      have b2 : belowQ q2 (q2 13) 2 := Or.inr (by rw [a13, y6, k02.w (q 13 - 1) (by omega) (by omega)]; omega)
      have S2 := p_readsSum hL pq2 (n := n) (o := o) (by omega) (by omega) b2 o6
      rw [a7] at S2
      cases hr2 : rSum (tpA M) n 7 o (p1 + 1) with
      | inl x =>
        refine ⟨fun e' p' h => (by cases h), fun x' pl h => ?_⟩
        have h : (Sum.inl x : Res SumV) = .inl (x', pl) := by cases h; rfl
        obtain ⟨q', z1, z2⟩ := S2.2 x' pl (by rw [hr2]; exact h)
        refine ⟨q', bad q' ?_, k02.bd z2⟩
        rw [pre]
        unfold sX8_readsCompared_52
        rw [if_neg (by rw [iv_eq (by omega) (by omega) (by omega) (by omega)]; exact cs), gI_p7 hL, y3, iv_add, pI_p7 hL, hq2, cV_p hL, z1, clq, if_pos rfl, rZ0]
      | inr x =>
        obtain ⟨e2, p2⟩ := x
        obtain ⟨q3, z1, z2, z3, z4, z5, z6, z7, z8, z9⟩ := S2.1 e2 p2 hr2
        have zp := z2.p
        have zc := z2.c
        have z98 := z9.g.1
        refine ⟨fun e' p' h => ?_, fun x' pl h => (by cases h)⟩
        cases h
        have l3 := z8.1
        have pq4 := note_PQ (v := 1048576 * s + 0) z2 (by omega) (by omega)
        have ne4 : ∀ x, ¬ x = 1000 + q3 12 → ¬ x = 12 → noteG q3 (1048576 * s + 0) x = q3 x := fun x a b => by unfold noteG; rw [st_ne b, st_ne a]
        have c12 : noteG q3 (1048576 * s + 0) 12 = q3 12 + 1 := st_eq _ _ _
        have cc4 : noteG q3 (1048576 * s + 0) (1000 + q3 12) = 1048576 * s := by unfold noteG; rw [st_ne (by omega), st_eq]; omega
        have k34 : Kq (q3 12) (q3 13) q3 (noteG q3 (1048576 * s + 0)) := ⟨fun i i0 i1 => ne4 _ (by omega) (by omega), fun i i0 i1 => ne4 _ (by omega) (by omega), fun x h => ne4 _ (by omega) (by omega), ne4 _ (by omega) (by omega), ne4 _ (by omega) (by omega), ne4 _ (by omega) (by omega)⟩
        refine ⟨FU, f1, FU, noteG q3 (1048576 * s + 0), ?_, pq4, ?_, by omega, ?_, ?_, by rw [c12]; omega, ?_, (k02.thn (z9.le (by omega) (by omega))).thn (k34.le (by omega) (by omega)), by omega, by unfold FU; omega, by unfold FU; omega⟩
        · have := start _ rfl
          rw [← this, pre]
          unfold sX8_readsCompared_52 enQ
          rw [if_neg (by rw [iv_eq (by omega) (by omega) (by omega) (by omega)]; exact cs), gI_p7 hL, y3, iv_add, pI_p7 hL, hq2, cV_p hL, z1, clq, if_neg iv_01, cV_p hL, p_notes hL (by omega) (by omega), clq, cV_p hL]
          exact cl_as (α := Unit)
        · rw [ne4 _ (by omega) (by omega)]; exact z3
        · rw [ne4 _ (by omega) (by omega)]; exact z5
        · rw [ne4 _ (by omega) (by omega)]; omega
        · rw [c12]
          refine RunS.cmp (m := q2 12) ?_ (k34.run z8 (by omega) (Int.le_refl _)) cc4 (by omega)
          rw [a12]
          exact k34.run (z9.run (k12.run y8 cc.1 (Int.le_refl _)) cc.1 (by omega)) cc.1 (by omega)
end
