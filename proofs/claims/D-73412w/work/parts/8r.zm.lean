/-! DEPS: zl -/
/-! ZM: the twin reads a plan: the loop -/
section
variable {T : Int → Int} {n : Int}
theorem tItem_len : ∀ (f : Nat) (s s' : Stk) (l l' : List Act) (p p' : Int), s.length ≤ 2 → tItem T n f s l p = .inr (s', l', p') → s'.length ≤ 2
  | 0, s, s', l, l', p, p', h2, h => by cases h
  | f + 1, s, s', l, l', p, p', h2, h => by
    unfold tItem at h
    split at h
    · split at h
      · cases h
      · exact tItem_len f _ _ _ _ _ _ (by show s.length + 1 ≤ 2; omega) h
    · cases e : pAct T n l p (pTm T n p) (pSt T n p) with
      | inl x => rw [e] at h; cases h
      | inr x => rw [e] at h; cases h; exact h2
theorem tPop_len : ∀ (s s' : Stk) (l l' : List Act) (p p' : Int), tPop T n s l p = .inr (s', l', p') → s'.length ≤ s.length
  | [], s', l, l', p, p', h => by cases h; exact Nat.le_refl _
  | (fr, st, t) :: s, s', l, l', p, p', h => by
    unfold tPop at h
    split at h
    · cases e : pRep l st t fr (p + 1) with
      | inl x => rw [e] at h; cases h
      | inr x =>
        rw [e] at h
        have := tPop_len s _ _ _ _ _ h
        exact Nat.le_succ_of_le this
    · cases h; exact Nat.le_refl _
end
section
variable {M : Mem}
/-- how the loop comes out: then what is read is done -/
def OutL (q : Row) (M : Mem) (z : Option (Int32 × Mem)) (res : (Int × Int) ⊕ List Act) : Prop := match res with
  | .inl x => ∃ q' r', z = sX8_plan_70 (some 3772) (iI 0) (pw q' (qw r' M)) ∧ q' 9 = -1000 * x.1 - x.2 ∧ Fq q q'
  | .inr l => ∃ q' r', z = sX8_plan_70 (some 3772) (iI 1) (pw q' (qw r' M)) ∧ Fq q q' ∧ AcR r' l
theorem OutL.up {q q1 : Row} {z : Option (Int32 × Mem)} {res : (Int × Int) ⊕ List Act} (f : Fq q q1) (h : OutL q1 M z res) : OutL q M z res := by
  unfold OutL at h ⊢
  cases res with
  | inl x => obtain ⟨q', r', a, b, c⟩ := h; exact ⟨q', r', a, b, f.trans c⟩
  | inr x => obtain ⟨q', r', a, b, c⟩ := h; exact ⟨q', r', a, f.trans b, c⟩
theorem plan_no {fu : Nat} {σ : Mem} : sX8_plan_40 (fu + 1) (some 3772) (iI 0) σ = sX8_plan_70 (some 3772) (iI 0) σ := by
  show sX8_plan_40b (sX8_plan_40 fu) (some 3772) (iI 0) σ = _
  generalize sX8_plan_40 fu = K
  unfold sX8_plan_40b
  rw [if_pos rfl]
/-- one item, then the loop -/
theorem z_step (hL : LPt M) (hZ : LZ M) {fu f : Nat} {s : Stk} {l : List Act} {q r : Row} (ac : AcR r l) (h38 : r 38 = (s.length : Int)) (sr : StR r s) (sc : StC l.length s) (h2 : s.length ≤ 2) (p0 : 0 ≤ q 7) (p1 : q 7 ≤ q 8) (n0 : 0 ≤ q 8) (n1 : q 8 ≤ 240)
    (ih : ∀ (s2 : Stk) (l2 : List Act) (q2 r2 : Row), AcR r2 l2 → r2 38 = (s2.length : Int) → StR r2 s2 → StC l2.length s2 → s2.length ≤ 2 → q 7 < q2 7 → q2 7 ≤ q2 8 → q2 8 = q 8 → OutL q2 M (sX8_plan_40 (fu + 1) (some 3772) (iI 1) (pw q2 (qw r2 M))) (tRun (tpA M) (q2 8) f s2 l2 (q2 7))) :
    OutL q M (cl (sX8_readsAct (some 3772) (pw q (qw r M))) fun x1 s2 => sX8_plan_40 (fu + 1) (some 3772) x1 s2) (match tItem (tpA M) (q 8) 4 s l (q 7) with
      | .inl e => .inl e
      | .inr (s', l', p') => match tPop (tpA M) (q 8) s' l' p' with
        | .inl e => .inl e
        | .inr (s2, l2, p2) => tRun (tpA M) (q 8) f s2 l2 p2) := by
  have A := z_readsAct hL hZ ac h38 sr sc h2 p0 p1 n0 n1
  unfold OutP at A
  cases e : tItem (tpA M) (q 8) 4 s l (q 7) with
  | inl x =>
    rw [e] at A
    obtain ⟨q', r', a1, a2, a3⟩ := A
    rw [a1, clq, plan_no]
    exact ⟨q', r', rfl, a2, a3⟩
  | inr x =>
    rw [e] at A
    have u := tItem_up 4 s x.1 l x.2.1 (q 7) x.2.2 p1 e
    have ln := tItem_len 4 s x.1 l x.2.1 (q 7) x.2.2 h2 e
    show OutL q M _ (match tPop (tpA M) (q 8) x.1 x.2.1 x.2.2 with
        | .inl e => .inl e
        | .inr (s2, l2, p2) => tRun (tpA M) (q 8) f s2 l2 p2)
    have A : OutP q M (sX8_readsAct (some 3772) (pw q (qw r M))) (tPop (tpA M) (q 8) x.1 x.2.1 x.2.2) := A
    unfold OutP at A
    cases e2 : tPop (tpA M) (q 8) x.1 x.2.1 x.2.2 with
    | inl y =>
      rw [e2] at A
      obtain ⟨q', r', a1, a2, a3⟩ := A
      rw [a1, clq, plan_no]
      exact ⟨q', r', rfl, a2, a3⟩
    | inr y =>
      rw [e2] at A
      obtain ⟨q', r', a1, a2, a3, a4, a5, a6, a7⟩ := A
      have u2 := tPop_up x.1 y.1 x.2.1 y.2.1 x.2.2 y.2.2 u.2 e2
      have ln2 := tPop_len x.1 y.1 x.2.1 y.2.1 x.2.2 y.2.2 e2
      have k8 : q' 8 = q 8 := a3 8 (by omega) (by omega) (by omega)
      have I := ih y.1 y.2.1 q' r' a4 a5 a6 a7.le (by omega) (by omega) (by omega) k8
      rw [a1, clq]
      show OutL q M _ (tRun (tpA M) (q 8) f y.1 y.2.1 y.2.2)
      rw [k8, a2] at I
      exact I.up a3
theorem z_planL (hL : LPt M) (hZ : LZ M) : ∀ (f fu : Nat) (s : Stk) (l : List Act) (q r : Row), AcR r l → r 38 = (s.length : Int) → StR r s → StC l.length s → s.length ≤ 2 → 0 ≤ q 7 → q 7 ≤ q 8 → 0 ≤ q 8 → q 8 ≤ 240 → (q 8 - q 7).toNat + 1 ≤ f → f ≤ fu →
    OutL q M (sX8_plan_40 (fu + 1) (some 3772) (iI 1) (pw q (qw r M))) (tRun (tpA M) (q 8) f s l (q 7))
  | 0, fu, s, l, q, r, ac, h38, sr, sc, h2, p0, p1, n0, n1, hf, hfu => by omega
  | f + 1, 0, s, l, q, r, ac, h38, sr, sc, h2, p0, p1, n0, n1, hf, hfu => by omega
  | f + 1, fu + 1, s, l, q, r, ac, h38, sr, sc, h2, p0, p1, n0, n1, hf, hfu => by
    have S := z_step (fu := fu) (f := f) hL hZ ac h38 sr sc h2 p0 p1 n0 n1 (fun s2 l2 q2 r2 b1 b2 b3 b4 b5 b6 b7 b8 => z_planL hL hZ f fu s2 l2 q2 r2 b1 b2 b3 b4 b5 (by omega) b7 (by omega) (by omega) (by omega) (by omega))
    have El : (iI (q 7) < iI (q 8)) = (q 7 < q 8) := iv_lt (by omega) (by omega) (by omega) (by omega)
    have E0 : (iI (s.length : Int) ≤ iI 0) = ((s.length : Int) ≤ 0) := iv_le (by omega) (by omega) (by omega) (by omega)
    have go : sX8_plan_62 (sX8_plan_40 (fu + 1)) (some 3772) (pw q (qw r M)) = cl (sX8_readsAct (some 3772) (pw q (qw r M))) fun x1 s2 => sX8_plan_40 (fu + 1) (some 3772) x1 s2 := by
      unfold sX8_plan_62
      rw [cV_p (M := qw r M) hL]
    unfold tRun
    show OutL q M (sX8_plan_40b (sX8_plan_40 (fu + 1)) (some 3772) (iI 1) (pw q (qw r M))) _
    rw [← go] at S
    generalize sX8_plan_40 (fu + 1) = K at S ⊢
    unfold sX8_plan_40b
    rw [if_neg iv_01, gI_p7 (M := qw r M) hL, gI_p8 (M := qw r M) hL]
    by_cases c : q 7 < q 8
    · rw [if_pos (by rw [El]; exact c), if_pos (Or.inl c)]
      exact S
    · rw [if_neg (by rw [El]; exact c), gI_z38 hL, h38]
      by_cases d : s = []
      · subst d
        rw [if_pos (by rw [E0]; exact Int.le_refl 0), if_neg (fun z => by rcases z with z | z; exact c z; exact z rfl)]
        exact ⟨q, r, rfl, Fq.me, ac⟩
      · have : 0 < s.length := List.length_pos_iff.mpr d
        rw [if_neg (by rw [E0]; omega), if_pos (Or.inr d)]
        exact S
end
