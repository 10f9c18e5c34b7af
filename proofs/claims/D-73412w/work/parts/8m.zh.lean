/-! DEPS: zg -/
/-! ZH: the twin reads an item -/
section
variable {M : Mem}
/-- the rounds begin where there are acts, or just behind -/
def StC (n : Nat) : Stk → Prop
  | [] => True
  | (fr, a, t) :: s => a ≤ n ∧ 1 ≤ t ∧ t ≤ 9 ∧ StC n s
theorem StC.lt {n n' : Nat} (h : n < n') : ∀ {s : Stk}, StC n s → StB n' s
  | [], _ => trivial
  | (fr, a, t) :: s, g => ⟨Nat.lt_of_le_of_lt g.1 h, g.2.1, g.2.2.1, StC.lt h g.2.2.2⟩
theorem StB.le {n : Nat} : ∀ {s : Stk}, StB n s → StC n s
  | [], _ => trivial
  | (fr, a, t) :: s, g => ⟨Nat.le_of_lt g.1, g.2.1, g.2.2.1, StB.le g.2.2.2⟩
theorem pTm_r {T : Int → Int} {n p : Int} : 1 ≤ pTm T n p ∧ pTm T n p ≤ 9 := by
  unfold pTm
  split <;> omega
/-- a round begins: the row -/
theorem z_push (hL : LPt M) (hZ : LZ M) {q r : Row} {s : Stk} {l : List Act} (ac : AcR r l) (h38 : r 38 = (s.length : Int)) (sr : StR r s) (h2 : s.length < 2) :
    ∃ r', (∀ {β : Type} (f : Mem → Option β), (gR (pw q (qw r M)) (some 3772) 6 34 fun x40 => gI (pw q (qw r M)) (some 3772) 6 38 fun x41 => gI (pw q (qw r M)) (some 3772) 6 39 fun x42 => sI (pw q (qw r M)) x40 x41 x42 fun s43 =>
      gR s43 (some 3772) 6 35 fun x44 => gI s43 (some 3772) 6 38 fun x45 => gI s43 (some 3772) 6 37 fun x46 => sI s43 x44 x45 x46 fun s47 =>
      gR s47 (some 3772) 6 36 fun x48 => gI s47 (some 3772) 6 38 fun x49 => gI s47 (some 3772) 6 40 fun x50 => sI s47 x48 x49 x50 fun s51 =>
      gI s51 (some 3772) 6 38 fun x52 => pI s51 (some 3772) 6 38 (x52 + (iI 1)) fun s53 => f s53) = f (pw q (qw r' M))) ∧ AcR r' l ∧ r' 38 = (s.length : Int) + 1 ∧ StR r' ((r 39, l.length, r 40) :: s) := by
  obtain ⟨r1, hr1⟩ : ∃ r1, r1 = st r (7200 + (s.length : Int)) (r 39) := ⟨_, rfl⟩
  obtain ⟨r2, hr2⟩ : ∃ r2, r2 = st r1 (7210 + (s.length : Int)) (l.length : Int) := ⟨_, rfl⟩
  obtain ⟨r3, hr3⟩ : ∃ r3, r3 = st r2 (7220 + (s.length : Int)) (r 40) := ⟨_, rfl⟩
  obtain ⟨r4, hr4⟩ : ∃ r4, r4 = st r3 38 ((s.length : Int) + 1) := ⟨_, rfl⟩
  have k1 : ∀ y, y < 7200 → r1 y = r y := fun y hy => by rw [hr1]; exact st_ne (by omega)
  have k2 : ∀ y, y < 7200 → r2 y = r y := fun y hy => by rw [hr2, st_ne (by omega)]; exact k1 y hy
  have k3 : ∀ y, y < 7200 → r3 y = r y := fun y hy => by rw [hr3, st_ne (by omega)]; exact k2 y hy
  have k4 : ∀ y, y < 7200 → y ≠ 38 → r4 y = r y := fun y hy h => by rw [hr4, st_ne h]; exact k3 y hy
  obtain ⟨a1, a2, a3⟩ := ac
  refine ⟨r4, fun f => ?_, ⟨by rw [k4 37 (by omega) (by omega)]; exact a1, a2, fun i x hi hx => ?_⟩, by rw [hr4, st_eq], ?_⟩
  · rw [gR_z34 hL hZ, gI_z38 hL, gI_z39 hL, h38, sI_z3796 hZ (by omega) (by omega), ← hr1, gR_z35 hL hZ, gI_z38 hL, gI_z37 hL, k1 38 (by omega), k1 37 (by omega), h38, a1, sI_z3797 hZ (by omega) (by omega), ← hr2,
      gR_z36 hL hZ, gI_z38 hL, gI_z40 hL, k2 38 (by omega), k2 40 (by omega), h38, sI_z3798 hZ (by omega) (by omega), ← hr3, gI_z38 hL, k3 38 (by omega), h38, iv_add, pI_z38 hL, ← hr4]
  · rw [k4 _ (by omega) (by omega), k4 _ (by omega) (by omega), k4 _ (by omega) (by omega), k4 _ (by omega) (by omega)]
    exact a3 i x hi hx
  · refine ⟨?_, ?_, ?_, sr.up (fun k hk => ⟨?_, ?_, ?_⟩)⟩
    · rw [hr4, st_ne (by omega), hr3, st_ne (by omega), hr2, st_ne (by omega), hr1, st_eq]
    · rw [hr4, st_ne (by omega), hr3, st_ne (by omega), hr2, st_eq]
    · rw [hr4, st_ne (by omega), hr3, st_eq]
    · rw [hr4, st_ne (by omega), hr3, st_ne (by omega), hr2, st_ne (by omega), hr1, st_ne (by omega)]
    · rw [hr4, st_ne (by omega), hr3, st_ne (by omega), hr2, st_ne (by omega), hr1, st_ne (by omega)]
    · rw [hr4, st_ne (by omega), hr3, st_ne (by omega), hr2, st_ne (by omega), hr1, st_ne (by omega)]
end
