/-! DEPS: yf -/
/-! YG: the twin reads numbers, operands, sums -/
section
variable {q : Row} {M : Mem}
theorem factA_r (c : Int) : factA c = -1 ∨ (0 ≤ factA c ∧ factA c < 7) := by
  unfold factA
  split
  · omega
  · split
    · omega
    · split
      · omega
      · split
        · omega
        · split
          · omega
          · split
            · omega
            · split <;> omega
/-- ten to the k-th -/
def tenA (k : Int) : Int := if k = 0 then 1 else if k = 1 then 10 else if k = 2 then 100 else if k = 3 then 1000 else if k = 4 then 10000 else 100000
/-- the place moves, a number is read -/
def numG (q : Row) (p v : Int) : Row := st (st q 10 v) 7 p
theorem p_num_10 (hL : LPt M) {n first : Int} (n0 : 0 ≤ n) (n1 : n ≤ 240) (f0 : 0 ≤ first) : ∀ (f : Nat) (q : Row) (fu : Nat), 6 - (q 7 - first) = f → first ≤ q 7 → q 7 ≤ n → q 7 ≤ first + 5 → q 8 = n → 0 ≤ q 10 → q 10 < tenA (q 7 - first) → f < fu →
    (∀ v p, rNumL (tpA M) n first f (q 10) (q 7) = .inr (v, p) → sX8_readsNumber_10 fu (some 3772) (iI first) (pw q M) = some (iI 1, pw (numG q p v) M) ∧ q 7 ≤ p ∧ p ≤ n ∧ 0 ≤ v ∧ v ≤ 99999 ∧ (isDig (hrA (tpA M) n (q 7)) → q 7 < p)) ∧
    (∀ w pl, rNumL (tpA M) n first f (q 10) (q 7) = .inl (w, pl) → ∃ p v, sX8_readsNumber_10 fu (some 3772) (iI first) (pw q M) = some (iI 0, pw (st (numG q p v) 9 (-1000 * w - pl)) M))
  | 0, q, fu + 1, e1, e2, e3, e35, e4, v0, v1, e5 => by
    exfalso
    omega
  | f + 1, q, fu + 1, e1, e2, e3, e35, e4, v0, v1, e5 => by
    have v9 : q 10 ≤ 99999 := by
      unfold tenA at v1
      split at v1
      · omega
      · split at v1
        · omega
        · split at v1
          · omega
          · split at v1
            · omega
            · split at v1 <;> omega
    have r := hrA_r (M := M) (n := q 8) (p := q 7)
    have xd := p_isDigit (q := q) hL (by omega) (by omega) (by omega) (by omega)
    have xh := p_here (q := q) hL (by omega) (by omega) (by omega) (by omega)
    have same : numG q (q 7) (q 10) = q := by
      funext x
      unfold numG st
      split
      · rename_i c; rw [c]
      · split
        · rename_i c; rw [c]
        · rfl
    unfold rNumL
    show (∀ v p, _ → sX8_readsNumber_10b (sX8_readsNumber_10 fu) _ _ _ = _ ∧ _) ∧ (∀ w pl, _ → ∃ p v, sX8_readsNumber_10b (sX8_readsNumber_10 fu) _ _ _ = _)
    rw [← e4]
    by_cases c : isDig (hrA (tpA M) (q 8) (q 7))
    · rw [if_pos c]
      by_cases c5 : q 7 = first + 5
      · rw [if_pos c5]
        refine ⟨fun v p h => (by cases h), fun w pl h => ?_⟩
        cases h
        refine ⟨q 7, q 10, ?_⟩
        rw [same]
        generalize sX8_readsNumber_10 fu = K
        unfold sX8_readsNumber_10b
        rw [cV_p hL, xd, clq, if_neg (by rw [bI_z]; exact fun x => x c), gI_p7 hL, iv_add, if_pos (congrArg iI c5), gI_p7 hL, cV_p hL, p_wrong hL, clq, rZ0]
      · rw [if_neg c5]
        have hp : q 7 < q 8 := by
          by_cases z : q 7 < q 8
          · exact z
          · exfalso
            unfold hrA at c
            rw [if_neg z] at c
            omega
        obtain ⟨q1, hq1⟩ : ∃ q1, numG q (q 7 + 1) (10 * q 10 + hrA (tpA M) (q 8) (q 7) - 48) = q1 := ⟨_, rfl⟩
        have a7 : q1 7 = q 7 + 1 := by rw [← hq1]; exact st_eq _ _ _
        have a10 : q1 10 = 10 * q 10 + hrA (tpA M) (q 8) (q 7) - 48 := by rw [← hq1]; unfold numG; rw [st_ne (by omega), st_eq]
        have a8 : q1 8 = q 8 := by rw [← hq1]; unfold numG; rw [st_ne (by omega), st_ne (by omega)]
        have again : ∀ p v, numG q1 p v = numG q p v := by
          intro p v
          funext x
          rw [← hq1]
          unfold numG st
          split
          · rfl
          · split
            · rfl
            · rfl
        have small : q1 10 < tenA (q1 7 - first) := by
          rw [a10, a7]
          unfold tenA at v1 ⊢
          rcases (show q 7 = first ∨ q 7 = first + 1 ∨ q 7 = first + 2 ∨ q 7 = first + 3 ∨ q 7 = first + 4 by omega) with e | e | e | e | e
          · rw [if_pos (by omega)] at v1
            rw [if_neg (by omega), if_pos (by omega)]
            omega
          · rw [if_neg (by omega), if_pos (by omega)] at v1
            rw [if_neg (by omega), if_neg (by omega), if_pos (by omega)]
            omega
          · rw [if_neg (by omega), if_neg (by omega), if_pos (by omega)] at v1
            rw [if_neg (by omega), if_neg (by omega), if_neg (by omega), if_pos (by omega)]
            omega
          · rw [if_neg (by omega), if_neg (by omega), if_neg (by omega), if_pos (by omega)] at v1
            rw [if_neg (by omega), if_neg (by omega), if_neg (by omega), if_neg (by omega), if_pos (by omega)]
            omega
          · rw [if_neg (by omega), if_neg (by omega), if_neg (by omega), if_neg (by omega), if_pos (by omega)] at v1
            rw [if_neg (by omega), if_neg (by omega), if_neg (by omega), if_neg (by omega), if_neg (by omega)]
            omega
        have ih := p_num_10 hL n0 n1 f0 f q1 fu (by omega) (by omega) (by omega) (by omega) (by omega) (by omega) small (by omega)
        have st1 : sX8_readsNumber_10b (sX8_readsNumber_10 fu) (some 3772) (iI first) (pw q M) = sX8_readsNumber_10 fu (some 3772) (iI first) (pw q1 M) := by
          generalize sX8_readsNumber_10 fu = K
          unfold sX8_readsNumber_10b
          rw [cV_p hL, xd, clq, if_neg (by rw [bI_z]; exact fun x => x c), gI_p7 hL, iv_add, if_neg (by rw [iv_eq (by omega) (by omega) (by omega) (by omega)]; exact c5), gI_p10 hL, cV_p hL, xh, clq, iv_mul, iv_add, iv_sub, pI_p10 hL, gI_p7 hL, iv_add, pI_p7 hL, st_ne (show ¬ (7 : Int) = 10 by omega)]
          rw [← hq1]
          rfl
        rw [st1]
        rw [← e4, a7, a10] at ih
        refine ⟨fun v p h => ?_, fun w pl h => ?_⟩
        · obtain ⟨x1, x2, x3, x4, x5, _⟩ := ih.1 v p h
          rw [again] at x1
          exact ⟨x1, by omega, by omega, x4, x5, fun _ => by omega⟩
        · obtain ⟨p, v, x1⟩ := ih.2 w pl h
          rw [again] at x1
          exact ⟨p, v, x1⟩
    · rw [if_neg c]
      refine ⟨fun v p h => ?_, fun w pl h => by cases h⟩
      cases h
      refine ⟨?_, Int.le_refl _, by omega, v0, v9, fun x => absurd x c⟩
      rw [same]
      generalize sX8_readsNumber_10 fu = K
      unfold sX8_readsNumber_10b
      rw [cV_p hL, xd, clq, if_pos (by rw [bI_z]; exact c), rZ1]
/-! the loops of a sum; n: the text's length -/
/-- an operand is wanted: the reader of operands, then the loop -/
noncomputable def atQ (base : Int) (ff fu : Nat) (q : Row) (M : Mem) : Option (Int32 × Mem) :=
  cl (sX8_readsFactor_0 ff (some 3772) (pw q M)) fun x s => if x = iI 0 then rZ (iI 0) s else sX8_readsSum_14 fu (some 3772) (iI base) s
noncomputable def lpQ (base : Int) (fu : Nat) (q : Row) (M : Mem) : Option (Int32 × Mem) := sX8_readsSum_14 fu (some 3772) (iI base) (pw q M)
/-- an operand was read: codes are complete -/
abbrev FacOk (M : Mem) (n base : Int) (q : Row) (A : Option (Int32 × Mem)) (o : Int) (r : Res SumV) : Prop :=
  (∀ e p', r = .inr (e, p') → ∃ fu' q', A = lpQ base fu' q' M ∧ PQ q' ∧ q' 7 = p' ∧ q 7 < p' ∧ q' 11 = o ∧ q' 13 = q 13 ∧ q' 12 - q 12 ≤ p' - q 7 ∧ RunS (cdQ q') (q 12) (q' 12) e ∧ Kq (q 12) (q 13) q q' ∧ n - p' < fu') ∧
  (∀ w pl, r = .inl (w, pl) → ∃ q', A = some (iI 0, pw q' M) ∧ Bd q q' w pl)
abbrev SumOk (M : Mem) (n base : Int) (q : Row) (A : Option (Int32 × Mem)) (o : Int) (P : Row → Int → Int → SumV → Prop) (sg : Int → Int) (c w p0 : Int) (r : Res SumV) : Prop :=
  (∀ e p', r = .inr (e, p') → ∃ fu' q', A = lpQ base fu' q' M ∧ PQ q' ∧ q' 7 = p' ∧ q 7 ≤ p' ∧ q' 11 = o ∧ P q' w c e ∧ (q' 12 - c) + (q' 13 - w) ≤ p' - p0 ∧ Kq c w q q' ∧ n - p' < fu' ∧ sg (hrA (tpA M) n p') = -1) ∧
  (∀ x pl, r = .inl (x, pl) → ∃ q', A = some (iI 0, pw q' M) ∧ Bd q q' x pl)
def FacC (M : Mem) (n o : Int) (fac : Int → Res SumV) : Prop := ∀ (base : Int) (q : Row) (ff fu : Nat), PQ q → q 8 = n → q 11 = o → 0 ≤ base → base ≤ q 13 → n - q 7 < ff → n - q 7 < fu → FacOk M n base q (atQ base ff fu q M) o (fac (q 7))
theorem atQ_bad {base : Int} {ff fu : Nat} {q1 : Row} (h : sX8_readsFactor_0 ff (some 3772) (pw q M) = some (iI 0, pw q1 M)) : atQ base ff fu q M = some (iI 0, pw q1 M) := by
  unfold atQ
  rw [h, clq, if_pos rfl, rZ0]
theorem atQ_ok {base : Int} {ff fu : Nat} {q1 : Row} (h : sX8_readsFactor_0 ff (some 3772) (pw q M) = some (iI 1, pw q1 M)) : atQ base ff fu q M = lpQ base fu q1 M := by
  unfold atQ
  rw [h, clq, if_neg iv_01]
  rfl
theorem note_PQ {v : Int} (hq : PQ q) (h : q 12 + 1 ≤ q 7) (w9 : q 13 ≤ 240) : PQ (noteG q v) := by
  have p := hq.p
  have c := hq.c
  have w := hq.w
  have o := hq.o
  have ne : ∀ x, ¬ x = 1000 + q 12 → ¬ x = 12 → noteG q v x = q x := fun x a b => by unfold noteG; rw [st_ne b, st_ne a]
  have e12 : noteG q v 12 = q 12 + 1 := st_eq _ _ _
  have e7 := ne 7 (by omega) (by omega)
  have e8 := ne 8 (by omega) (by omega)
  have e13 := ne 13 (by omega) (by omega)
  have e11 := ne 11 (by omega) (by omega)
  refine ⟨by omega, by omega, by omega, by omega, fun i i0 i1 => ?_⟩
  rw [ne _ (by omega) (by omega)]
  exact hq.v i i0 (by omega)
theorem pushed_PQ {v : Int} (hq : PQ q) (hn : q 7 < q 8) (v0 : 0 ≤ v) (v1 : v ≤ 20000000) : PQ (st (pushG q v) 7 (q 7 + 1)) := by
  have p := hq.p
  have c := hq.c
  have w := hq.w
  have o := hq.o
  have ne : ∀ x, ¬ x = 2000 + q 13 → ¬ x = 13 → ¬ x = 7 → st (pushG q v) 7 (q 7 + 1) x = q x := fun x a b d => by unfold pushG; rw [st_ne d, st_ne b, st_ne a]
  have e13 : st (pushG q v) 7 (q 7 + 1) 13 = q 13 + 1 := by unfold pushG; rw [st_ne (by omega), st_eq]
  have e7 : st (pushG q v) 7 (q 7 + 1) 7 = q 7 + 1 := st_eq _ _ _
  have e8 := ne 8 (by omega) (by omega) (by omega)
  have e12 := ne 12 (by omega) (by omega) (by omega)
  have e11 := ne 11 (by omega) (by omega) (by omega)
  refine ⟨by omega, by omega, by omega, by omega, fun i i0 i1 => ?_⟩
  rw [e13] at i1
  by_cases e : i = q 13
  · subst e
    unfold pushG
    rw [st_ne (by omega), st_ne (by omega), st_eq]
    omega
  · rw [ne _ (by omega) (by omega) (by omega)]
    exact hq.v i i0 (by omega)
theorem hr_in {T : Int → Int} {n p : Int} (h : 0 ≤ hrA T n p) : p < n := by
  unfold hrA at h
  split at h
  · assumption
  · omega
theorem p_fac (hL : LPt M) {n : Int} {d : Nat} {o : Int} (o6 : o ≤ 6)
    (ih : o ≠ 6 → ∀ (base : Int) (q : Row) (ff fu : Nat), PQ q → q 8 = n → q 11 = o + 1 → 0 ≤ base → base ≤ q 13 → belowQ q (q 13) 2 → n - q 7 < ff → n - q 7 < fu → SumOk M n base q (atQ base ff fu q M) (o + 1) PendS sgnA (q 12) (q 13) (q 7) (rSum (tpA M) n d (o + 1) (q 7))) : FacC M n o (rFac (tpA M) n (rSum (tpA M) n d) o) := by
  intro base q ff fu hq h8 h11 b0 b1 hff hfu
  have p := hq.p
  have c := hq.c
  have w := hq.w
  have ho := hq.o
  obtain ⟨f1, hf1⟩ : ∃ f1 : Nat, ff = f1 + 1 := ⟨ff - 1, by omega⟩
  subst hf1
  have r := hrA_r (M := M) (n := q 8) (p := q 7)
  have xh := p_hereQ (q := q) hL hq
  have xd := p_isDigit (q := q) hL p.1 (by omega) (by omega) (by omega)
  rw [h8] at r xh xd
  unfold rFac
  by_cases c91 : hrA (tpA M) n (q 7) = 91
  · rw [if_pos c91]
    have hin := hr_in (T := tpA M) (n := n) (p := q 7) (by omega)
    have xo := p_opens (q := q) (w := 14) hL hq
    by_cases c6 : o = 6
    · rw [if_pos c6]
      refine ⟨fun e p' h => (by cases h), fun w pl h => ?_⟩
      cases h
      refine ⟨st q 9 (-1000 * 5 - q 7), atQ_bad ?_, Bd.mk9⟩
      show sX8_readsFactor_0b (sX8_readsFactor_0 f1) _ _ = _
      generalize sX8_readsFactor_0 f1 = K
      unfold sX8_readsFactor_0b
      rw [cV_p hL, xh, clq, if_pos (congrArg iI c91), cV_p hL, xo, if_pos (h11.trans c6), clq, if_pos rfl, rZ0]
    · rw [if_neg c6]
      rw [if_neg (by omega)] at xo
      obtain ⟨q1, hq1⟩ : ∃ q1, openG q 14 = q1 := ⟨_, rfl⟩
      have ne : ∀ x, ¬ x = 2000 + q 13 → ¬ x = 13 → ¬ x = 7 → ¬ x = 11 → q1 x = q x := fun x a b d e => by
        rw [← hq1]
        unfold openG pushG
        rw [st_ne d, st_ne b, st_ne (by rw [st_ne (show ¬ (13 : Int) = 11 by omega)]; exact a), st_ne e]
      have a7 : q1 7 = q 7 + 1 := by rw [← hq1]; exact st_eq _ _ _
      have a13 : q1 13 = q 13 + 1 := by
        rw [← hq1]; unfold openG pushG
        rw [st_ne (by omega), st_eq, st_ne (by omega)]
      have a11 : q1 11 = q 11 + 1 := by
        rw [← hq1]; unfold openG pushG
        rw [st_ne (by omega), st_ne (by omega), st_ne (by rw [st_ne (by omega)]; omega), st_eq]
      have aw : q1 (2000 + q 13) = 1048576 * 14 := by
        rw [← hq1]; unfold openG pushG
        rw [st_ne (by omega), st_ne (by omega), st_ne (show ¬ (13 : Int) = 11 by omega), st_eq]
      have a8 := ne 8 (by omega) (by omega) (by omega) (by omega)
      have a12 := ne 12 (by omega) (by omega) (by omega) (by omega)
      have pq1 : PQ q1 := by
        refine ⟨by omega, by omega, by omega, by omega, fun i i0 i1 => ?_⟩
        by_cases e : i = q 13
        · rw [e, aw]; omega
        · rw [ne _ (by omega) (by omega) (by omega) (by omega)]
          exact hq.v i i0 (by omega)
      have k1 : Kq (q 12) (q 13) q q1 := ⟨fun i i0 i1 => ne _ (by omega) (by omega) (by omega) (by omega), fun i i0 i1 => ne _ (by omega) (by omega) (by omega) (by omega), fun x h => ne _ (by omega) (by omega) (by omega) (by omega), ne _ (by omega) (by omega) (by omega) (by omega), ne _ (by omega) (by omega) (by omega) (by omega), ne _ (by omega) (by omega) (by omega) (by omega)⟩
      have I := ih c6 base q1 f1 fu pq1 (by omega) (by omega) b0 (by omega) (Or.inr (by rw [a13, show q 13 + 1 - 1 = q 13 by omega, aw]; omega)) (by omega) (by omega)
      rw [a7] at I
      have go : atQ base (f1 + 1) fu q M = atQ base f1 fu q1 M := by
        have : sX8_readsFactor_0 (f1 + 1) (some 3772) (pw q M) = sX8_readsFactor_0 f1 (some 3772) (pw q1 M) := by
          show sX8_readsFactor_0b (sX8_readsFactor_0 f1) _ _ = _
          generalize sX8_readsFactor_0 f1 = K
          unfold sX8_readsFactor_0b
          rw [cV_p hL, xh, clq, if_pos (congrArg iI c91), cV_p hL, xo, clq, if_neg iv_01, hq1]
        unfold atQ
        rw [this]
      cases hr : rSum (tpA M) n d (o + 1) (q 7 + 1) with
      | inl x =>
        refine ⟨fun e p' h => (by cases h), fun w' pl h => ?_⟩
        have h : (Sum.inl x : Res SumV) = .inl (w', pl) := h
        obtain ⟨q', y1, y2⟩ := I.2 w' pl (by rw [hr]; exact h)
        exact ⟨q', go.trans y1, k1.bd y2⟩
      | inr x =>
        obtain ⟨e, p2⟩ := x
        obtain ⟨fu', q2, y1, y2, y3, y4, y5, y6, y7, y8, y9, y10⟩ := I.1 e p2 hr
        have r2 := hrA_r (M := M) (n := n) (p := p2)
        have q28 : q2 8 = n := y8.g.1.trans (a8.trans h8)
        have hi := y6.hi
        have xh2 := p_hereQ (q := q2) hL y2
        rw [q28, y3] at xh2
        obtain ⟨f2, hf2⟩ : ∃ f2 : Nat, fu' = f2 + 1 := by
          have := y2.p
          exact ⟨fu' - 1, by omega⟩
        subst hf2
        have xs := p_sign (c := hrA (tpA M) n p2) (σ := pw q2 M) r2.1 r2.2
        rw [y10] at xs
        have wq2 : q2 (2000 + q 13) = 1048576 * 14 := (y8.w (q 13) (by omega) (by omega)).trans aw
        have xop := p_hasOpen (q := q2) hL y2 (i := base) b0 (by omega)
        rw [bQ_t ⟨q 13, b1, by omega, by rw [wq2]; omega⟩] at xop
        by_cases c93 : hrA (tpA M) n p2 = 93
        · have hin2 := hr_in (T := tpA M) (n := n) (p := p2) (by omega)
          show FacOk M n base q (atQ base (f1 + 1) fu q M) o (if hrA (tpA M) n p2 = 93 then .inr (e, p2 + 1) else .inl (1, p2))
          rw [if_pos c93]
          refine ⟨fun e' p' h => ?_, fun w pl h => (by cases h)⟩
          cases h
          obtain ⟨q3, z1, z2, z3, z4, z5, z6, z7, z8⟩ := p_closeS hL y2 y6 (by omega) (by omega) (Or.inr (by rw [show q1 13 - 1 = q 13 by omega, wq2]; omega)) (by omega)
          obtain ⟨q4, hq4⟩ : ∃ q4, st (st (st q3 13 (q3 13 - 1)) 11 (q3 11 - 1)) 7 (q3 7 + 1) = q4 := ⟨_, rfl⟩
          have ne4 : ∀ x, ¬ x = 13 → ¬ x = 7 → ¬ x = 11 → q4 x = q3 x := fun x a b d => by rw [← hq4, st_ne b, st_ne d, st_ne a]
          have b7 : q4 7 = q3 7 + 1 := by rw [← hq4]; exact st_eq _ _ _
          have b11 : q4 11 = q3 11 - 1 := by rw [← hq4, st_ne (by omega), st_eq]
          have b13 : q4 13 = q3 13 - 1 := by rw [← hq4, st_ne (by omega), st_ne (by omega), st_eq]
          have b8 := ne4 8 (by omega) (by omega) (by omega)
          have b12 := ne4 12 (by omega) (by omega) (by omega)
          have z88 := z8.g.1
          have k34 : Kq (q3 12) (q3 13) q3 q4 := ⟨fun i i0 i1 => ne4 _ (by omega) (by omega) (by omega), fun i i0 i1 => ne4 _ (by omega) (by omega) (by omega), fun x h => ne4 _ (by omega) (by omega) (by omega), ne4 _ (by omega) (by omega) (by omega), ne4 _ (by omega) (by omega) (by omega), ne4 _ (by omega) (by omega) (by omega)⟩
          have zp := z2.p
          have zc := z2.c
          have zw := z2.w
          have zo := z2.o
          have zr := z4.1
          refine ⟨f2, q4, ?_, ⟨by omega, by omega, by omega, by omega, fun i i0 i1 => by rw [ne4 _ (by omega) (by omega) (by omega)]; exact z2.v i i0 (by omega)⟩, by omega, by omega, by omega, by omega, by omega, ?_, ?_, by omega⟩
          · rw [go, y1]
            unfold lpQ
            show sX8_readsSum_14b (sX8_readsSum_14 f2) _ _ _ = sX8_readsSum_14 f2 _ _ _
            generalize sX8_readsSum_14 f2 = K
            unfold sX8_readsSum_14b sX8_readsSum_163
            rw [cV_p hL, xh2, clq, xs, clq, if_pos rfl, cV_p hL, xh2, clq, if_pos (congrArg iI c93), cV_p hL, xop, clq, if_neg iv_01, cV_p hL, z1, clq, gI_p13 hL, iv_sub, pI_p13 hL, gI_p11 hL, iv_sub, pI_p11 hL, gI_p7 hL, iv_add, pI_p7 hL, ← hq4]
            rw [st_ne (show ¬ (11 : Int) = 13 by omega), st_ne (show ¬ (7 : Int) = 11 by omega), st_ne (show ¬ (7 : Int) = 13 by omega)]
          · rw [b12, ← a12]
            exact k34.run z4 (by omega) (Int.le_refl _)
          · exact ((k1.thn (y8.le (by omega) (by omega))).thn (z8.le (by omega) (by omega))).thn (k34.le (by omega) (by omega))
        · show FacOk M n base q (atQ base (f1 + 1) fu q M) o (if hrA (tpA M) n p2 = 93 then .inr (e, p2 + 1) else .inl (1, p2))
          rw [if_neg c93]
          refine ⟨fun e' p' h => (by cases h), fun w pl h => ?_⟩
          cases h
          refine ⟨st q2 9 (-1000 * 1 - p2), ?_, (k1.thn (y8.le (by omega) (by omega))).bd Bd.mk9⟩
          rw [go, y1]
          unfold lpQ
          show sX8_readsSum_14b (sX8_readsSum_14 f2) _ _ _ = _
          generalize sX8_readsSum_14 f2 = K
          unfold sX8_readsSum_14b sX8_readsSum_138
          rw [cV_p hL, xh2, clq, xs, clq, if_pos rfl, cV_p hL, xh2, clq, if_neg (by rw [iv_eq (by omega) (by omega) (by omega) (by omega)]; exact c93), cV_p hL, xop, clq, if_neg iv_01, gI_p7 hL, y3, cV_p hL, p_wrong hL, clq, rZ0]
  · rw [if_neg c91]
    by_cases cd : isDig (hrA (tpA M) n (q 7))
    · rw [if_pos cd]
      have hin := hr_in (T := tpA M) (n := n) (p := q 7) (by omega)
      obtain ⟨q1, hq1⟩ : ∃ q1, st q 10 0 = q1 := ⟨_, rfl⟩
      have ne : ∀ x, ¬ x = 10 → q1 x = q x := fun x a => by rw [← hq1, st_ne a]
      have a10 : q1 10 = 0 := by rw [← hq1]; exact st_eq _ _ _
      have a7 := ne 7 (by omega)
      have a8 := ne 8 (by omega)
      have N := p_num_10 hL (n := n) (first := q 7) (by omega) (by omega) p.1 6 q1 FU (by omega) (by omega) (by omega) (by omega) (by omega) (by omega) (by rw [a10, a7, show q 7 - q 7 = 0 by omega]; decide) (by unfold FU; omega)
      rw [a10, a7] at N
      have nG : ∀ x p' v, ¬ x = 10 → ¬ x = 7 → numG q1 p' v x = q x := fun x p' v a b => by unfold numG; rw [st_ne b, st_ne a, ne _ a]
      have pre : ∀ (K : Option Nat → Mem → Option (Int32 × Mem)), sX8_readsFactor_0b K (some 3772) (pw q M) = cl (sX8_readsNumber_10 FU (some 3772) (iI (q 7)) (pw q1 M)) fun x15 s16 => if x15 = (iI 0) then rZ (iI 0) s16 else gI s16 (some 3772) 6 10 fun x17 => cV s16 (some 3772) 6 <| cl (sX8_notes (some 3772) (iI 0) x17 s16) fun _ s18 => rZ (iI 1) s18 := by
        intro K
        unfold sX8_readsFactor_0b sX8_readsNumber
        rw [cV_p hL, xh, clq, if_neg (by rw [iv_eq (by omega) (by omega) (by omega) (by omega)]; exact c91), cV_p hL, xd, clq, if_neg (by rw [bI_z]; exact fun x => x cd), cV_p hL, gI_p7 hL, pI_p10 hL, hq1]
      cases hr : rNumL (tpA M) n (q 7) 6 0 (q 7) with
      | inl x =>
        obtain ⟨w', pl'⟩ := x
        refine ⟨fun e p' h => (by cases h), fun w'' pl h => ?_⟩
        cases h
        obtain ⟨p', v, x1⟩ := N.2 w' pl' hr
        refine ⟨st (numG q1 p' v) 9 (-1000 * w' - pl'), atQ_bad ?_, ⟨st_eq _ _ _, fun x h => ?_, ?_, ?_⟩⟩
        · exact (pre _).trans (by rw [x1, clq, if_pos rfl, rZ0])
        · rw [st_ne (by omega)]; exact nG _ _ _ (by omega) (by omega)
        · rw [st_ne (by omega)]; exact nG _ _ _ (by omega) (by omega)
        · rw [st_ne (by omega)]; exact nG _ _ _ (by omega) (by omega)
      | inr x =>
        obtain ⟨v, p2⟩ := x
        refine ⟨fun e p' h => ?_, fun w pl h => (by cases h)⟩
        cases h
        obtain ⟨x1, x2, x3, x4, x5, x6⟩ := N.1 v p2 hr
        have x2' : q 7 < p2 := x6 cd
        obtain ⟨q2, hq2⟩ : ∃ q2, numG q1 p2 v = q2 := ⟨_, rfl⟩
        have ne2 : ∀ x, ¬ x = 10 → ¬ x = 7 → q2 x = q x := fun x a b => by rw [← hq2]; exact nG x _ _ a b
        have b7 : q2 7 = p2 := by rw [← hq2]; exact st_eq _ _ _
        have b10 : q2 10 = v := by rw [← hq2]; unfold numG; rw [st_ne (by omega), st_eq]
        have b12 := ne2 12 (by omega) (by omega)
        have b13 := ne2 13 (by omega) (by omega)
        have b8 := ne2 8 (by omega) (by omega)
        have b11 := ne2 11 (by omega) (by omega)
        have pq2 : PQ q2 := ⟨by omega, by omega, by omega, by omega, fun i i0 i1 => by rw [ne2 _ (by omega) (by omega)]; exact hq.v i i0 (by omega)⟩
        have pq3 := note_PQ (v := 1048576 * 0 + v) pq2 (by omega) (by omega)
        have ne3 : ∀ x, ¬ x = 1000 + q2 12 → ¬ x = 12 → noteG q2 (1048576 * 0 + v) x = q2 x := fun x a b => by unfold noteG; rw [st_ne b, st_ne a]
        have c12 : noteG q2 (1048576 * 0 + v) 12 = q2 12 + 1 := st_eq _ _ _
        refine ⟨fu, noteG q2 (1048576 * 0 + v), atQ_ok ?_, pq3, ?_, x2', ?_, ?_, ?_, ?_, ?_, by omega⟩
        · refine (pre _).trans ?_
          rw [x1, clq, if_neg iv_01, hq2, gI_p10 hL, b10, cV_p hL, p_notes hL (by omega) (by omega), clq, rZ1]
        · rw [ne3 _ (by omega) (by omega)]; exact b7
        · rw [ne3 _ (by omega) (by omega)]; omega
        · rw [ne3 _ (by omega) (by omega)]; exact b13
        · rw [c12]; omega
        · rw [c12, b12]
          refine RunS.num ?_ x4 (by omega)
          show noteG q2 (1048576 * 0 + v) (1000 + q 12) = v
          unfold noteG
          rw [st_ne (by omega), b12, st_eq]
          omega
        · exact ⟨fun i i0 i1 => by rw [ne3 _ (by omega) (by omega), ne2 _ (by omega) (by omega)], fun i i0 i1 => by rw [ne3 _ (by omega) (by omega), ne2 _ (by omega) (by omega)], fun x h => by rw [ne3 _ (by omega) (by omega), ne2 _ (by omega) (by omega)], by rw [ne3 _ (by omega) (by omega), ne2 _ (by omega) (by omega)], by rw [ne3 _ (by omega) (by omega), ne2 _ (by omega) (by omega)], by rw [ne3 _ (by omega) (by omega), ne2 _ (by omega) (by omega)]⟩
    · rw [if_neg cd]
      have xf := p_fact (c := hrA (tpA M) n (q 7)) (σ := pw q M) r.1 r.2
      by_cases cf : factA (hrA (tpA M) n (q 7)) = -1
      · rw [if_pos cf]
        refine ⟨fun e p' h => (by cases h), fun w' pl h => ?_⟩
        cases h
        refine ⟨st q 9 (-1000 * 1 - q 7), atQ_bad ?_, Bd.mk9⟩
        show sX8_readsFactor_0b (sX8_readsFactor_0 f1) _ _ = _
        generalize sX8_readsFactor_0 f1 = K
        unfold sX8_readsFactor_0b
        rw [cV_p hL, xh, clq, if_neg (by rw [iv_eq (by omega) (by omega) (by omega) (by omega)]; exact c91), cV_p hL, xd, clq, if_pos (by rw [bI_z]; exact cd), cV_p hL, xh, clq, xf, clq, if_pos (congrArg iI cf), gI_p7 hL, cV_p hL, p_wrong hL, clq, rZ0]
      · rw [if_neg cf]
        have fr : 0 ≤ factA (hrA (tpA M) n (q 7)) ∧ factA (hrA (tpA M) n (q 7)) < 7 := (factA_r _).resolve_left cf
        have hin := hr_in (T := tpA M) (n := n) (p := q 7) (by
          unfold factA at cf
          by_cases z : hrA (tpA M) n (q 7) = -1
          · rw [z] at cf
            exact absurd rfl cf
          · omega)
        refine ⟨fun e p' h => ?_, fun w pl h => (by cases h)⟩
        cases h
        generalize factA (hrA (tpA M) n (q 7)) = v at *
        obtain ⟨q2, hq2⟩ : ∃ q2, st (noteG q (1048576 * 1 + v)) 7 (q 7 + 1) = q2 := ⟨_, rfl⟩
        have ne : ∀ x, ¬ x = 1000 + q 12 → ¬ x = 12 → ¬ x = 7 → q2 x = q x := fun x a b d => by rw [← hq2, st_ne d]; unfold noteG; rw [st_ne b, st_ne a]
        have a7 : q2 7 = q 7 + 1 := by rw [← hq2]; exact st_eq _ _ _
        have a12 : q2 12 = q 12 + 1 := by rw [← hq2, st_ne (by omega)]; exact st_eq _ _ _
        have ac : q2 (1000 + q 12) = 1048576 + v := by
          rw [← hq2, st_ne (by omega)]
          unfold noteG
          rw [st_ne (by omega), st_eq]
          omega
        have a8 := ne 8 (by omega) (by omega) (by omega)
        have a13 := ne 13 (by omega) (by omega) (by omega)
        have a11 := ne 11 (by omega) (by omega) (by omega)
        refine ⟨fu, q2, atQ_ok ?_, ⟨by omega, by omega, by omega, by omega, fun i i0 i1 => by rw [ne _ (by omega) (by omega) (by omega)]; exact hq.v i i0 (by omega)⟩, a7, by omega, by omega, a13, by omega, ?_, ?_, by omega⟩
        · show sX8_readsFactor_0b (sX8_readsFactor_0 f1) _ _ = _
          generalize sX8_readsFactor_0 f1 = K
          unfold sX8_readsFactor_0b
          have e7 : noteG q (1048576 * 1 + v) 7 = q 7 := by unfold noteG; rw [st_ne (by omega), st_ne (by omega)]
          rw [cV_p hL, xh, clq, if_neg (by rw [iv_eq (by omega) (by omega) (by omega) (by omega)]; exact c91), cV_p hL, xd, clq, if_pos (by rw [bI_z]; exact cd), cV_p hL, xh, clq, xf, clq, if_neg (by rw [iv_eq (by omega) (by omega) (by omega) (by omega)]; exact cf), cV_p hL, p_notes hL (by omega) (by omega), clq, gI_p7 hL, e7, iv_add, pI_p7 hL, rZ1, hq2]
        · rw [a12]
          exact RunS.let ac fr.1 fr.2
        · exact ⟨fun i i0 i1 => ne _ (by omega) (by omega) (by omega), fun i i0 i1 => ne _ (by omega) (by omega) (by omega), fun x h => ne _ (by omega) (by omega) (by omega), a8, ne _ (by omega) (by omega) (by omega), ne _ (by omega) (by omega) (by omega)⟩
end
