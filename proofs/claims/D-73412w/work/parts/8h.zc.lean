/-! DEPS: yo zb -/
/-! ZC: the memory of the twin's plans, made of a row r (printed by src/genzc.py) -/
def bsZ : Nat → Option (Int × Nat)
  | 3792 => some (6000, 200) | 3793 => some (6300, 200) | 3794 => some (6600, 200) | 3795 => some (6900, 200) | 3796 => some (7200, 2) | 3797 => some (7210, 2) | 3798 => some (7220, 2)
  | _ => none
def plZ (a j : Nat) : Option Int := if a = 3772 then (if 37 ≤ j ∧ j ≤ 43 then some (j : Int) else none) else match bsZ a with
  | some x => if j < x.2 then some (x.1 + j) else none
  | none => none
def qwI (r : Row) (I : Nat → Nat → Int32) : Nat → Nat → Int32 := fun a j => match plZ a j with
  | some x => iI (r x)
  | none => I a j
def qw (r : Row) (M : Mem) : Mem := (qwI r (mI M), M.2)
theorem bsZ_r {a : Nat} {x : Int × Nat} (h : bsZ a = some x) : 3792 ≤ a ∧ a ≤ 3798 ∧ ((a = 3792 ∧ x = (6000, 200)) ∨ (a = 3793 ∧ x = (6300, 200)) ∨ (a = 3794 ∧ x = (6600, 200)) ∨ (a = 3795 ∧ x = (6900, 200)) ∨ (a = 3796 ∧ x = (7200, 2)) ∨ (a = 3797 ∧ x = (7210, 2)) ∨ (a = 3798 ∧ x = (7220, 2))) := by
  unfold bsZ at h
  split at h <;> first | (cases h; refine ⟨by omega, by omega, ?_⟩; simp) | cases h
theorem plZ_c {a j : Nat} {p : Int} (h : plZ a j = some p) : (a = 3772 ∧ 37 ≤ j ∧ j ≤ 43 ∧ p = j) ∨ ∃ b n, bsZ a = some (b, n) ∧ j < n ∧ p = b + j := by
  unfold plZ at h
  split at h
  · split at h
    · cases h; exact Or.inl ⟨by assumption, by omega, by omega, rfl⟩
    · cases h
  · cases e : bsZ a with
    | none => rw [e] at h; cases h
    | some x =>
      rw [e] at h
      have h : (if j < x.2 then some (x.1 + (j : Int)) else none) = some p := h
      split at h
      · cases h; exact Or.inr ⟨x.1, x.2, rfl, by assumption, rfl⟩
      · cases h
theorem plZ_inj {a j a' j' : Nat} {p : Int} (h : plZ a j = some p) (h' : plZ a' j' = some p) : a = a' ∧ j = j' := by
  rcases plZ_c h with ⟨a1, a2, a3, a4⟩ | ⟨b, n, b1, b2, b3⟩ <;> rcases plZ_c h' with ⟨c1, c2, c3, c4⟩ | ⟨d, m, d1, d2, d3⟩
  · omega
  · have := (bsZ_r d1).2.2
    rcases this with q | q | q | q | q | q | q <;> (obtain ⟨q1, q2⟩ := q; cases q2; omega)
  · have := (bsZ_r b1).2.2
    rcases this with q | q | q | q | q | q | q <;> (obtain ⟨q1, q2⟩ := q; cases q2; omega)
  · have u := (bsZ_r b1).2.2
    have v := (bsZ_r d1).2.2
    rcases u with q | q | q | q | q | q | q <;> (obtain ⟨q1, q2⟩ := q; cases q2) <;> rcases v with r | r | r | r | r | r | r <;> (obtain ⟨r1, r2⟩ := r; cases r2; omega)
/-- no reader's place is a plan's -/
theorem plZ_P {a j : Nat} {x : Int} (h : plZ a j = some x) : plP a j = none := by
  rcases plZ_c h with ⟨a1, a2, a3, a4⟩ | ⟨b, n, b1, b2, b3⟩
  · exact plP_no (Or.inr ⟨a1, by omega⟩)
  · have := bsZ_r b1
    exact plP_no (Or.inl ⟨by omega, by omega⟩)
/-- where the plans' things lie -/
def LZ (M : Mem) : Prop := (mP M 3772 30 = some 3792 ∧ mP M 3772 31 = some 3793 ∧ mP M 3772 32 = some 3794 ∧ mP M 3772 33 = some 3795 ∧ mP M 3772 34 = some 3796 ∧ mP M 3772 35 = some 3797 ∧ mP M 3772 36 = some 3798) ∧ mK M 3792 = (20, 200) ∧ mK M 3793 = (20, 200) ∧ mK M 3794 = (20, 200) ∧ mK M 3795 = (20, 200) ∧ mK M 3796 = (20, 2) ∧ mK M 3797 = (20, 2) ∧ mK M 3798 = (20, 2)
section
variable {β : Type} {q r : Row} {M : Mem}
theorem qw_at {a j : Nat} {p : Int} (h : plZ a j = some p) : mI (pw q (qw r M)) a j = iI (r p) := by
  show pwI q (qwI r (mI M)) a j = _
  unfold pwI
  rw [plZ_P h]
  show qwI r (mI M) a j = _
  unfold qwI
  rw [h]
theorem qw_st {a j : Nat} {p v : Int} (h : plZ a j = some p) : (up2 (mI (pw q (qw r M))) a j (iI v), (pw q (qw r M)).2) = pw q (qw (st r p v) M) := by
  refine Prod.ext ?_ rfl
  funext b k
  show (if b = a ∧ k = j then iI v else pwI q (qwI r (mI M)) b k) = pwI q (qwI (st r p v) (mI M)) b k
  by_cases c : b = a ∧ k = j
  · rw [if_pos c, c.1, c.2]
    unfold pwI
    rw [plZ_P h]
    show iI v = qwI (st r p v) (mI M) a j
    unfold qwI
    rw [h]
    show iI v = iI (st r p v p)
    rw [st_eq]
  · rw [if_neg c]
    unfold pwI
    cases e : plP b k with
    | some x => rfl
    | none =>
      show qwI r (mI M) b k = qwI (st r p v) (mI M) b k
      unfold qwI
      cases e2 : plZ b k with
      | none => rfl
      | some x =>
        have : x ≠ p := by
          intro hx
          subst hx
          exact c (plZ_inj e2 h)
        show iI (r x) = iI (st r p v x)
        rw [st_ne this]
theorem gI_z (hL : LPt M) {s : Nat} (s0 : 37 ≤ s) (s1 : s ≤ 43) {f : Int32 → Option β} : gI (pw q (qw r M)) (some 3772) 6 s f = f (iI (r s)) :=
  (if_pos hL.1).trans (congrArg f (qw_at (by unfold plZ; rw [if_pos rfl, if_pos ⟨s0, s1⟩])))
theorem pI_z (hL : LPt M) {s : Nat} (s0 : 37 ≤ s) (s1 : s ≤ 43) {v : Int} {f : Mem → Option β} : pI (pw q (qw r M)) (some 3772) 6 s (iI v) f = f (pw q (qw (st r s v) M)) :=
  (if_pos hL.1).trans (congrArg f (qw_st (by unfold plZ; rw [if_pos rfl, if_pos ⟨s0, s1⟩])))
theorem gR_z (hL : LPt M) {s a : Nat} (h : mP M 3772 s = some a) {f : Option Nat → Option β} : gR (pw q (qw r M)) (some 3772) 6 s f = f (some a) := (if_pos hL.1).trans (congrArg f h)
theorem aI_z {a n : Nat} {b e : Int} (hb : bsZ a = some (b, n)) (hk : mK M a = (20, n)) (h9 : n ≤ 200) (e0 : 0 ≤ e) (e1 : e < n) {f : Int32 → Option β} : aI (pw q (qw r M)) (some a) (iI e) f = f (iI (r (b + e))) := by
  have := bsZ_r hb
  rw [aI_x (σ := pw q (qw r M)) (n := n) hk e0 e1 (by omega)]
  refine congrArg f ((qw_at (p := b + e) ?_))
  unfold plZ
  rw [if_neg (by omega), hb]
  show (if e.toNat < n then some (b + (e.toNat : Int)) else none) = _
  rw [if_pos (by omega), Int.toNat_of_nonneg e0]
theorem sI_z {a n : Nat} {b e v : Int} (hb : bsZ a = some (b, n)) (hk : mK M a = (20, n)) (h9 : n ≤ 200) (e0 : 0 ≤ e) (e1 : e < n) {f : Mem → Option β} : sI (pw q (qw r M)) (some a) (iI e) (iI v) f = f (pw q (qw (st r (b + e) v) M)) := by
  have := bsZ_r hb
  rw [sI_x (σ := pw q (qw r M)) (n := n) hk e0 e1 (by omega)]
  refine congrArg f (qw_st (p := b + e) ?_)
  unfold plZ
  rw [if_neg (by omega), hb]
  show (if e.toNat < n then some (b + (e.toNat : Int)) else none) = _
  rw [if_pos (by omega), Int.toNat_of_nonneg e0]
theorem LP_q (hL : LPt M) : LPt (qw r M) := hL
theorem tp_q : tpA (qw r M) = tpA M := rfl
theorem gI_z37 (hL : LPt M) {f : Int32 → Option β} : gI (pw q (qw r M)) (some 3772) 6 37 f = f (iI (r 37)) := gI_z hL (by omega) (by omega)
theorem pI_z37 (hL : LPt M) {v : Int} {f : Mem → Option β} : pI (pw q (qw r M)) (some 3772) 6 37 (iI v) f = f (pw q (qw (st r 37 v) M)) := pI_z hL (by omega) (by omega)
theorem gI_z38 (hL : LPt M) {f : Int32 → Option β} : gI (pw q (qw r M)) (some 3772) 6 38 f = f (iI (r 38)) := gI_z hL (by omega) (by omega)
theorem pI_z38 (hL : LPt M) {v : Int} {f : Mem → Option β} : pI (pw q (qw r M)) (some 3772) 6 38 (iI v) f = f (pw q (qw (st r 38 v) M)) := pI_z hL (by omega) (by omega)
theorem gI_z39 (hL : LPt M) {f : Int32 → Option β} : gI (pw q (qw r M)) (some 3772) 6 39 f = f (iI (r 39)) := gI_z hL (by omega) (by omega)
theorem pI_z39 (hL : LPt M) {v : Int} {f : Mem → Option β} : pI (pw q (qw r M)) (some 3772) 6 39 (iI v) f = f (pw q (qw (st r 39 v) M)) := pI_z hL (by omega) (by omega)
theorem gI_z40 (hL : LPt M) {f : Int32 → Option β} : gI (pw q (qw r M)) (some 3772) 6 40 f = f (iI (r 40)) := gI_z hL (by omega) (by omega)
theorem pI_z40 (hL : LPt M) {v : Int} {f : Mem → Option β} : pI (pw q (qw r M)) (some 3772) 6 40 (iI v) f = f (pw q (qw (st r 40 v) M)) := pI_z hL (by omega) (by omega)
theorem gI_z41 (hL : LPt M) {f : Int32 → Option β} : gI (pw q (qw r M)) (some 3772) 6 41 f = f (iI (r 41)) := gI_z hL (by omega) (by omega)
theorem pI_z41 (hL : LPt M) {v : Int} {f : Mem → Option β} : pI (pw q (qw r M)) (some 3772) 6 41 (iI v) f = f (pw q (qw (st r 41 v) M)) := pI_z hL (by omega) (by omega)
theorem gI_z42 (hL : LPt M) {f : Int32 → Option β} : gI (pw q (qw r M)) (some 3772) 6 42 f = f (iI (r 42)) := gI_z hL (by omega) (by omega)
theorem pI_z42 (hL : LPt M) {v : Int} {f : Mem → Option β} : pI (pw q (qw r M)) (some 3772) 6 42 (iI v) f = f (pw q (qw (st r 42 v) M)) := pI_z hL (by omega) (by omega)
theorem gI_z43 (hL : LPt M) {f : Int32 → Option β} : gI (pw q (qw r M)) (some 3772) 6 43 f = f (iI (r 43)) := gI_z hL (by omega) (by omega)
theorem pI_z43 (hL : LPt M) {v : Int} {f : Mem → Option β} : pI (pw q (qw r M)) (some 3772) 6 43 (iI v) f = f (pw q (qw (st r 43 v) M)) := pI_z hL (by omega) (by omega)
theorem gR_z30 (hL : LPt M) (hZ : LZ M) {f : Option Nat → Option β} : gR (pw q (qw r M)) (some 3772) 6 30 f = f (some 3792) := gR_z hL hZ.1.1
theorem gR_z31 (hL : LPt M) (hZ : LZ M) {f : Option Nat → Option β} : gR (pw q (qw r M)) (some 3772) 6 31 f = f (some 3793) := gR_z hL hZ.1.2.1
theorem gR_z32 (hL : LPt M) (hZ : LZ M) {f : Option Nat → Option β} : gR (pw q (qw r M)) (some 3772) 6 32 f = f (some 3794) := gR_z hL hZ.1.2.2.1
theorem gR_z33 (hL : LPt M) (hZ : LZ M) {f : Option Nat → Option β} : gR (pw q (qw r M)) (some 3772) 6 33 f = f (some 3795) := gR_z hL hZ.1.2.2.2.1
theorem gR_z34 (hL : LPt M) (hZ : LZ M) {f : Option Nat → Option β} : gR (pw q (qw r M)) (some 3772) 6 34 f = f (some 3796) := gR_z hL hZ.1.2.2.2.2.1
theorem gR_z35 (hL : LPt M) (hZ : LZ M) {f : Option Nat → Option β} : gR (pw q (qw r M)) (some 3772) 6 35 f = f (some 3797) := gR_z hL hZ.1.2.2.2.2.2.1
theorem gR_z36 (hL : LPt M) (hZ : LZ M) {f : Option Nat → Option β} : gR (pw q (qw r M)) (some 3772) 6 36 f = f (some 3798) := gR_z hL hZ.1.2.2.2.2.2.2
theorem aI_z3792 (hZ : LZ M) {e : Int} (e0 : 0 ≤ e) (e1 : e < 200) {f : Int32 → Option β} : aI (pw q (qw r M)) (some 3792) (iI e) f = f (iI (r (6000 + e))) := aI_z rfl hZ.2.1 (by omega) e0 e1
theorem sI_z3792 (hZ : LZ M) {e v : Int} (e0 : 0 ≤ e) (e1 : e < 200) {f : Mem → Option β} : sI (pw q (qw r M)) (some 3792) (iI e) (iI v) f = f (pw q (qw (st r (6000 + e) v) M)) := sI_z rfl hZ.2.1 (by omega) e0 e1
theorem aI_z3793 (hZ : LZ M) {e : Int} (e0 : 0 ≤ e) (e1 : e < 200) {f : Int32 → Option β} : aI (pw q (qw r M)) (some 3793) (iI e) f = f (iI (r (6300 + e))) := aI_z rfl hZ.2.2.1 (by omega) e0 e1
theorem sI_z3793 (hZ : LZ M) {e v : Int} (e0 : 0 ≤ e) (e1 : e < 200) {f : Mem → Option β} : sI (pw q (qw r M)) (some 3793) (iI e) (iI v) f = f (pw q (qw (st r (6300 + e) v) M)) := sI_z rfl hZ.2.2.1 (by omega) e0 e1
theorem aI_z3794 (hZ : LZ M) {e : Int} (e0 : 0 ≤ e) (e1 : e < 200) {f : Int32 → Option β} : aI (pw q (qw r M)) (some 3794) (iI e) f = f (iI (r (6600 + e))) := aI_z rfl hZ.2.2.2.1 (by omega) e0 e1
theorem sI_z3794 (hZ : LZ M) {e v : Int} (e0 : 0 ≤ e) (e1 : e < 200) {f : Mem → Option β} : sI (pw q (qw r M)) (some 3794) (iI e) (iI v) f = f (pw q (qw (st r (6600 + e) v) M)) := sI_z rfl hZ.2.2.2.1 (by omega) e0 e1
theorem aI_z3795 (hZ : LZ M) {e : Int} (e0 : 0 ≤ e) (e1 : e < 200) {f : Int32 → Option β} : aI (pw q (qw r M)) (some 3795) (iI e) f = f (iI (r (6900 + e))) := aI_z rfl hZ.2.2.2.2.1 (by omega) e0 e1
theorem sI_z3795 (hZ : LZ M) {e v : Int} (e0 : 0 ≤ e) (e1 : e < 200) {f : Mem → Option β} : sI (pw q (qw r M)) (some 3795) (iI e) (iI v) f = f (pw q (qw (st r (6900 + e) v) M)) := sI_z rfl hZ.2.2.2.2.1 (by omega) e0 e1
theorem aI_z3796 (hZ : LZ M) {e : Int} (e0 : 0 ≤ e) (e1 : e < 2) {f : Int32 → Option β} : aI (pw q (qw r M)) (some 3796) (iI e) f = f (iI (r (7200 + e))) := aI_z rfl hZ.2.2.2.2.2.1 (by omega) e0 e1
theorem sI_z3796 (hZ : LZ M) {e v : Int} (e0 : 0 ≤ e) (e1 : e < 2) {f : Mem → Option β} : sI (pw q (qw r M)) (some 3796) (iI e) (iI v) f = f (pw q (qw (st r (7200 + e) v) M)) := sI_z rfl hZ.2.2.2.2.2.1 (by omega) e0 e1
theorem aI_z3797 (hZ : LZ M) {e : Int} (e0 : 0 ≤ e) (e1 : e < 2) {f : Int32 → Option β} : aI (pw q (qw r M)) (some 3797) (iI e) f = f (iI (r (7210 + e))) := aI_z rfl hZ.2.2.2.2.2.2.1 (by omega) e0 e1
theorem sI_z3797 (hZ : LZ M) {e v : Int} (e0 : 0 ≤ e) (e1 : e < 2) {f : Mem → Option β} : sI (pw q (qw r M)) (some 3797) (iI e) (iI v) f = f (pw q (qw (st r (7210 + e) v) M)) := sI_z rfl hZ.2.2.2.2.2.2.1 (by omega) e0 e1
theorem aI_z3798 (hZ : LZ M) {e : Int} (e0 : 0 ≤ e) (e1 : e < 2) {f : Int32 → Option β} : aI (pw q (qw r M)) (some 3798) (iI e) f = f (iI (r (7220 + e))) := aI_z rfl hZ.2.2.2.2.2.2.2 (by omega) e0 e1
theorem sI_z3798 (hZ : LZ M) {e v : Int} (e0 : 0 ≤ e) (e1 : e < 2) {f : Mem → Option β} : sI (pw q (qw r M)) (some 3798) (iI e) (iI v) f = f (pw q (qw (st r (7220 + e) v) M)) := sI_z rfl hZ.2.2.2.2.2.2.2 (by omega) e0 e1
end
