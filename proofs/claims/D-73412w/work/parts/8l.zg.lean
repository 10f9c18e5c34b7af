/-! DEPS: zf -/
/-! ZG: the twin repeats acts: whole; its rounds -/
section
variable {q r : Row} {M : Mem}
theorem z_repeats (hL : LPt M) (hZ : LZ M) {l : List Act} {s : Nat} {t fr p : Int} (ac : AcR r l) (hs : s < l.length) (t0 : 1 ≤ t) (t1 : t ≤ 9) : match pRep l s t fr p with
    | .inl x => sX8_repeats (some 3772) (iI (s : Int)) (iI t) (iI fr) (pw q (qw r M)) = some (iI 0, pw (st q 9 (-1000 * x.1 - x.2)) (qw r M))
    | .inr x => x.2 = p ∧ l.length ≤ x.1.length ∧ ∃ r', sX8_repeats (some 3772) (iI (s : Int)) (iI t) (iI fr) (pw q (qw r M)) = some (iI 1, pw q (qw r' M)) ∧ AcR r' x.1 ∧ ∀ y, y ≠ 37 → (y < 6000 ∨ 7200 ≤ y) → r' y = r y := by
  obtain ⟨a1, a2, a3⟩ := ac
  obtain ⟨tn, rfl⟩ : ∃ tn : Nat, t = (tn : Int) := nn (by omega)
  have mc : ((l.length : Int) - (s : Int)) * (tn : Int) = ((tn * (l.length - s) : Nat) : Int) := by
    rw [show ((l.length : Int) - (s : Int)) = ((l.length - s : Nat) : Int) by omega, Nat.mul_comm]
    exact (Int.natCast_mul _ _).symm
  have big : tn * (l.length - s) ≤ 9 * 200 := Nat.mul_le_mul (by omega) (by omega)
  have low : l.length - s ≤ tn * (l.length - s) := by
    calc l.length - s = 1 * (l.length - s) := (Nat.one_mul _).symm
      _ ≤ tn * (l.length - s) := Nat.mul_le_mul (by omega) (Nat.le_refl _)
  have E : (iI ((s : Int) + ((l.length : Int) - (s : Int)) * (tn : Int)) ≤ iI 200) = ((s : Int) + ((l.length : Int) - (s : Int)) * (tn : Int) ≤ 200) := by
    rw [mc]
    exact iv_le (by omega) (by omega) (by omega) (by omega)
  unfold pRep sX8_repeats
  rw [gI_z37 hL, a1, iv_sub, iv_mul, iv_add]
  by_cases c : (s : Int) + ((l.length : Int) - (s : Int)) * (tn : Int) > 200
  · rw [if_pos c, if_neg (by rw [E]; omega), cV_p (M := qw r M) hL, z_wrong hL, clq, rZ0]
  · rw [if_neg c, if_pos (by rw [E]; omega)]
    have c2 : s + tn * (l.length - s) ≤ 200 := by rw [mc] at c; omega
    have ac0 : AcN r (repL l s tn) l.length := fun i x hi hx => a3 i x hi (by rw [repL_lo (by omega) hi (by omega)] at hx; exact hx)
    obtain ⟨r', w1, w2, w3⟩ := z_rep34 (q := q) hL hZ hs c2 _ FU l.length r rfl (Nat.le_refl _) (by omega) (by unfold FU; omega) ac0
    refine ⟨rfl, ?_, r', ?_, w2, w3⟩
    · show l.length ≤ (repL l s tn).length
      rw [repL_len (by omega)]
      omega
    · rw [← w1, iv_add, show (l.length : Int) - (s : Int) = ((l.length - s : Nat) : Int) by omega, show (s : Int) + ((l.length - s : Nat) : Int) = (l.length : Int) by omega]
/-- the stack, top first, in the row -/
def StR (r : Row) : Stk → Prop
  | [] => True
  | (fr, at', t) :: s => r (7200 + (s.length : Int)) = fr ∧ r (7210 + (s.length : Int)) = (at' : Int) ∧ r (7220 + (s.length : Int)) = t ∧ StR r s
theorem StR.up {r r' : Row} : ∀ {s : Stk}, StR r s → (∀ k : Nat, k < s.length → r' (7200 + (k : Int)) = r (7200 + (k : Int)) ∧ r' (7210 + (k : Int)) = r (7210 + (k : Int)) ∧ r' (7220 + (k : Int)) = r (7220 + (k : Int))) → StR r' s
  | [], _, _ => trivial
  | (fr, a, t) :: s, h, g => by
    obtain ⟨h1, h2, h3, h4⟩ := h
    have e : ((fr, a, t) :: s).length = s.length + 1 := rfl
    obtain ⟨g1, g2, g3⟩ := g s.length (by omega)
    exact ⟨g1.trans h1, g2.trans h2, g3.trans h3, StR.up h4 (fun k hk => g k (by omega))⟩
/-- the stack's rounds begin below n -/
def StB (n : Nat) : Stk → Prop
  | [] => True
  | (fr, a, t) :: s => a < n ∧ 1 ≤ t ∧ t ≤ 9 ∧ StB n s
theorem StB.up {n n' : Nat} (h : n ≤ n') : ∀ {s : Stk}, StB n s → StB n' s
  | [], _ => trivial
  | (fr, a, t) :: s, g => ⟨Nat.lt_of_lt_of_le g.1 h, g.2.1, g.2.2.1, StB.up h g.2.2.2⟩
/-- how the rounds' ends come out -/
def OutP (q : Row) (M : Mem) (z : Option (Int32 × Mem)) (res : (Int × Int) ⊕ (Stk × List Act × Int)) : Prop := match res with
  | .inl x => ∃ q' r', z = some (iI 0, pw q' (qw r' M)) ∧ q' 9 = -1000 * x.1 - x.2 ∧ Fq q q'
  | .inr x => ∃ q' r', z = some (iI 1, pw q' (qw r' M)) ∧ q' 7 = x.2.2 ∧ Fq q q' ∧ AcR r' x.2.1 ∧ r' 38 = (x.1.length : Int) ∧ StR r' x.1 ∧ StB x.2.1.length x.1
theorem z_pop (hL : LPt M) (hZ : LZ M) : ∀ (s : Stk) (l : List Act) (q r : Row) (fu : Nat), AcR r l → r 38 = (s.length : Int) → StR r s → StB l.length s → s.length ≤ 2 → 0 ≤ q 7 → q 7 ≤ 100 + q 8 → 0 ≤ q 8 → q 8 ≤ 240 → s.length < fu → OutP q M (sX8_readsAct_245 fu (some 3772) (pw q (qw r M))) (tPop (tpA M) (q 8) s l (q 7))
  | s, l, q, r, 0, ac, h38, sr, sb, h2, p0, p1, n0, n1, hf => by omega
  | s, l, q, r, fu + 1, ac, h38, sr, sb, h2, p0, p1, n0, n1, hf => by
    have hr := hrA_r (M := M) (n := q 8) (p := q 7)
    have E : (iI (hrA (tpA M) (q 8) (q 7)) = iI 41) ↔ hrA (tpA M) (q 8) (q 7) = 41 := EI (by omega) (by omega) (by omega) (by omega)
    have stay : tPop (tpA M) (q 8) s l (q 7) = .inr (s, l, q 7) → OutP q M (some (iI 1, pw q (qw r M))) (tPop (tpA M) (q 8) s l (q 7)) := by
      intro e
      rw [e]
      exact ⟨q, r, rfl, rfl, Fq.me, ac, h38, sr, sb⟩
    show OutP q M (sX8_readsAct_245b (sX8_readsAct_245 fu) (some 3772) (pw q (qw r M))) _
    by_cases c : hrA (tpA M) (q 8) (q 7) = 41
    · cases s with
      | nil =>
        have e0 : r 38 = 0 := h38
        generalize sX8_readsAct_245 fu = K
        unfold sX8_readsAct_245b
        rw [cV_p (M := qw r M) hL, z_here hL p0 n1 (by omega) n0, clq, if_pos (E.mpr c), gI_z38 hL, e0, if_pos (by decide), rZ1]
        exact stay rfl
      | cons a s =>
        obtain ⟨fr, at', t⟩ := a
        obtain ⟨s1, s2, s3, s4⟩ := sr
        obtain ⟨b1, b2, b3, b4⟩ := sb
        have e0 : r 38 = (s.length : Int) + 1 := h38
        have plt := hr_lt (T := tpA M) (n := q 8) (p := q 7) (by omega)
        have h2' : s.length + 1 ≤ 2 := h2
        have hf' : s.length + 1 < fu + 1 := hf
        obtain ⟨q1, hq1⟩ : ∃ q1, q1 = st q 7 (q 7 + 1) := ⟨_, rfl⟩
        obtain ⟨r1, hr1⟩ : ∃ r1, r1 = st r 38 (s.length : Int) := ⟨_, rfl⟩
        have f1 : Fq q q1 := by rw [hq1]; exact Fq.st (by omega)
        have k7 : q1 7 = q 7 + 1 := by rw [hq1]; exact st_eq _ _ _
        have k8 : q1 8 = q 8 := f1 8 (by omega) (by omega) (by omega)
        have w38 : r1 38 = (s.length : Int) := by rw [hr1]; exact st_eq _ _ _
        have keep : ∀ y, y ≠ 38 → r1 y = r y := fun y hy => by rw [hr1]; exact st_ne hy
        have ac1 : AcR r1 l := ⟨by rw [keep 37 (by omega)]; exact ac.1, ac.2.1, fun i x hi hx => by
          rw [keep _ (by omega), keep _ (by omega), keep _ (by omega), keep _ (by omega)]; exact ac.2.2 i x hi hx⟩
        have rp := z_repeats (q := q1) (r := r1) (fr := fr) (p := q 7 + 1) hL hZ ac1 b1 b2 b3
        have step : sX8_readsAct_245b (sX8_readsAct_245 fu) (some 3772) (pw q (qw r M)) = cl (sX8_repeats (some 3772) (iI (at' : Int)) (iI t) (iI fr) (pw q1 (qw r1 M))) fun x17 s18 => if x17 = (iI 0) then rZ (iI 0) s18 else sX8_readsAct_245 fu (some 3772) s18 := by
          generalize sX8_readsAct_245 fu = K
          unfold sX8_readsAct_245b
          rw [cV_p (M := qw r M) hL, z_here hL p0 n1 (by omega) n0, clq, if_pos (E.mpr c), gI_z38 hL, e0, if_neg (by rw [iv_le (by omega) (by omega) (by omega) (by omega)]; omega), gI_p7 (M := qw r M) hL, iv_add, pI_p7 (M := qw r M) hL, ← hq1, gI_z38 hL, e0, iv_sub, show (s.length : Int) + 1 - 1 = (s.length : Int) by omega, pI_z38 hL, ← hr1,
            gR_z35 hL hZ, gI_z38 hL, w38, aI_z3797 hZ (by omega) (by omega), gR_z36 hL hZ, gI_z38 hL, w38, aI_z3798 hZ (by omega) (by omega), gR_z34 hL hZ, gI_z38 hL, w38, aI_z3796 hZ (by omega) (by omega), keep _ (by omega), keep _ (by omega), keep _ (by omega), s1, s2, s3, cV_p (M := qw r1 M) hL]
        rw [step]
        have ev : tPop (tpA M) (q 8) ((fr, at', t) :: s) l (q 7) = match pRep l at' t fr (q 7 + 1) with
            | .inl e => .inl e
            | .inr (l', p') => tPop (tpA M) (q 8) s l' p' := if_pos c
        rw [ev]
        cases e : pRep l at' t fr (q 7 + 1) with
        | inl x =>
          rw [e] at rp
          rw [rp, clq, if_pos rfl, rZ0]
          exact ⟨_, _, rfl, st_eq _ _ _, f1.trans (Fq.st (by omega))⟩
        | inr x =>
          rw [e] at rp
          obtain ⟨x2, ll, r2, w1, w2, w3⟩ := rp
          rw [w1, clq, if_neg iv_01]
          have g38 : r2 38 = (s.length : Int) := by rw [w3 38 (by omega) (by omega)]; exact w38
          have sr2 : StR r2 s := s4.up (fun k hk => ⟨by rw [w3 _ (by omega) (by omega), keep _ (by omega)], by rw [w3 _ (by omega) (by omega), keep _ (by omega)], by rw [w3 _ (by omega) (by omega), keep _ (by omega)]⟩)
          have ih := z_pop hL hZ s x.1 q1 r2 fu w2 g38 sr2 (b4.up ll) (by omega) (by omega) (by omega) (by omega) (by omega) (by omega)
          rw [k7, k8] at ih
          show OutP q M _ (tPop (tpA M) (q 8) s x.1 x.2)
          rw [x2]
          unfold OutP at ih ⊢
          cases e9 : tPop (tpA M) (q 8) s x.1 (q 7 + 1) with
          | inl y => rw [e9] at ih; obtain ⟨q', r', i1, i2, i3⟩ := ih; exact ⟨q', r', i1, i2, f1.trans i3⟩
          | inr y => rw [e9] at ih; obtain ⟨q', r', i1, i2, i3, i4⟩ := ih; exact ⟨q', r', i1, i2, f1.trans i3, i4⟩
    · have sm : tPop (tpA M) (q 8) s l (q 7) = .inr (s, l, q 7) := by
        cases s with
        | nil => rfl
        | cons a s => exact if_neg c
      generalize sX8_readsAct_245 fu = K
      unfold sX8_readsAct_245b
      rw [cV_p (M := qw r M) hL, z_here hL p0 n1 (by omega) n0, clq, if_neg (fun z => c (E.mp z)), rZ1]
      exact stay sm
end
