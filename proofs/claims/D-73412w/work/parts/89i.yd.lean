/-! DEPS: yc -/
/-! YD: the memory of the twin's readers, made of a row q (printed by src/genyd.py) -/
/-- where an array's places begin, how long it is -/
def bsP : Nat → Option (Int × Nat)
  | 3779 => some (1000, 260) | 3780 => some (2000, 260) | 3781 => some (3000, 16) | 3782 => some (3100, 16) | 3783 => some (3200, 16) | 3784 => some (3300, 16) | 3785 => some (4000, 260) | 3786 => some (5000, 16) | 3787 => some (5100, 16) | 3788 => some (5200, 16) | 3789 => some (5300, 16)
  | _ => none
def plP (a j : Nat) : Option Int := if a = 3772 then (if 7 ≤ j ∧ j ≤ 15 then some (j : Int) else none) else match bsP a with
  | some x => if j < x.2 then some (x.1 + j) else none
  | none => none
def pwI (q : Row) (I : Nat → Nat → Int32) : Nat → Nat → Int32 := fun a j => match plP a j with
  | some x => iI (q x)
  | none => I a j
def pw (q : Row) (M : Mem) : Mem := (pwI q (mI M), M.2)
theorem bsP_r {a : Nat} {x : Int × Nat} (h : bsP a = some x) : 3779 ≤ a ∧ a ≤ 3789 ∧ ((a = 3779 ∧ x = (1000, 260)) ∨ (a = 3780 ∧ x = (2000, 260)) ∨ (a = 3781 ∧ x = (3000, 16)) ∨ (a = 3782 ∧ x = (3100, 16)) ∨ (a = 3783 ∧ x = (3200, 16)) ∨ (a = 3784 ∧ x = (3300, 16)) ∨ (a = 3785 ∧ x = (4000, 260)) ∨ (a = 3786 ∧ x = (5000, 16)) ∨ (a = 3787 ∧ x = (5100, 16)) ∨ (a = 3788 ∧ x = (5200, 16)) ∨ (a = 3789 ∧ x = (5300, 16))) := by
  unfold bsP at h
  split at h <;> first | (cases h; refine ⟨by omega, by omega, ?_⟩; simp) | cases h
theorem plP_c {a j : Nat} {p : Int} (h : plP a j = some p) : (a = 3772 ∧ 7 ≤ j ∧ j ≤ 15 ∧ p = j) ∨ ∃ b n, bsP a = some (b, n) ∧ j < n ∧ p = b + j := by
  unfold plP at h
  split at h
  · split at h
    · cases h; exact Or.inl ⟨by assumption, by omega, by omega, rfl⟩
    · cases h
  · cases e : bsP a with
    | none => rw [e] at h; cases h
    | some x =>
      rw [e] at h
      have h : (if j < x.2 then some (x.1 + (j : Int)) else none) = some p := h
      split at h
      · cases h; exact Or.inr ⟨x.1, x.2, rfl, by assumption, rfl⟩
      · cases h
theorem plP_inj {a j a' j' : Nat} {p : Int} (h : plP a j = some p) (h' : plP a' j' = some p) : a = a' ∧ j = j' := by
  rcases plP_c h with ⟨a1, a2, a3, a4⟩ | ⟨b, n, b1, b2, b3⟩ <;> rcases plP_c h' with ⟨c1, c2, c3, c4⟩ | ⟨d, m, d1, d2, d3⟩
  · omega
  · have := (bsP_r d1).2.2
    rcases this with q | q | q | q | q | q | q | q | q | q | q <;> (obtain ⟨q1, q2⟩ := q; cases q2; omega)
  · have := (bsP_r b1).2.2
    rcases this with q | q | q | q | q | q | q | q | q | q | q <;> (obtain ⟨q1, q2⟩ := q; cases q2; omega)
  · have u := (bsP_r b1).2.2
    have v := (bsP_r d1).2.2
    rcases u with q | q | q | q | q | q | q | q | q | q | q <;> (obtain ⟨q1, q2⟩ := q; cases q2) <;> rcases v with r | r | r | r | r | r | r | r | r | r | r <;> (obtain ⟨r1, r2⟩ := r; cases r2; omega)
/-- where the readers' things lie -/
def LPt (M : Mem) : Prop := (mK M 3772).1 = 6 ∧ (mP M 3772 5 = some 3778 ∧ mP M 3772 16 = some 3779 ∧ mP M 3772 17 = some 3780 ∧ mP M 3772 18 = some 3781 ∧ mP M 3772 19 = some 3782 ∧ mP M 3772 20 = some 3783 ∧ mP M 3772 21 = some 3784 ∧ mP M 3772 22 = some 3785 ∧ mP M 3772 23 = some 3786 ∧ mP M 3772 24 = some 3787 ∧ mP M 3772 25 = some 3788 ∧ mP M 3772 26 = some 3789)
  ∧ mK M 3778 = (21, 260) ∧ mK M 3779 = (20, 260) ∧ mK M 3780 = (20, 260) ∧ mK M 3781 = (20, 16) ∧ mK M 3782 = (20, 16) ∧ mK M 3783 = (20, 16) ∧ mK M 3784 = (20, 16) ∧ mK M 3785 = (20, 260) ∧ mK M 3786 = (20, 16) ∧ mK M 3787 = (20, 16) ∧ mK M 3788 = (20, 16) ∧ mK M 3789 = (20, 16)
section
variable {β : Type} {q : Row} {M : Mem}
theorem pw_at {a j : Nat} {p : Int} (h : plP a j = some p) : pwI q (mI M) a j = iI (q p) := by
  unfold pwI
  rw [h]
theorem pw_st {a j : Nat} {p v : Int} (h : plP a j = some p) : up2 (pwI q (mI M)) a j (iI v) = pwI (st q p v) (mI M) := by
  funext b k
  unfold up2
  by_cases c : b = a ∧ k = j
  · rw [if_pos c, c.1, c.2, pw_at h, st_eq]
  · rw [if_neg c]
    unfold pwI
    cases e : plP b k with
    | none => rfl
    | some x =>
      have : x ≠ p := by
        intro hx
        subst hx
        exact c (plP_inj e h)
      show iI (q x) = iI (st q p v x)
      rw [st_ne this]
theorem cV_p (hL : LPt M) {f : Option β} : cV (pw q M) (some 3772) 6 f = f := if_pos hL.1
theorem gI_p (hL : LPt M) {s : Nat} (s0 : 7 ≤ s) (s1 : s ≤ 15) {f : Int32 → Option β} : gI (pw q M) (some 3772) 6 s f = f (iI (q s)) :=
  (if_pos hL.1).trans (congrArg f (pw_at (by unfold plP; rw [if_pos rfl, if_pos ⟨s0, s1⟩])))
theorem pI_p (hL : LPt M) {s : Nat} (s0 : 7 ≤ s) (s1 : s ≤ 15) {v : Int} {f : Mem → Option β} : pI (pw q M) (some 3772) 6 s (iI v) f = f (pw (st q s v) M) :=
  (if_pos hL.1).trans (congrArg f (Prod.ext (pw_st (by unfold plP; rw [if_pos rfl, if_pos ⟨s0, s1⟩])) rfl))
theorem gR_p (hL : LPt M) {s a : Nat} (h : mP M 3772 s = some a) {f : Option Nat → Option β} : gR (pw q M) (some 3772) 6 s f = f (some a) := (if_pos hL.1).trans (congrArg f h)
theorem aI_p {a n : Nat} {b e : Int} (hb : bsP a = some (b, n)) (hk : mK M a = (20, n)) (h9 : n ≤ 260) (e0 : 0 ≤ e) (e1 : e < n) {f : Int32 → Option β} : aI (pw q M) (some a) (iI e) f = f (iI (q (b + e))) := by
  have := bsP_r hb
  rw [aI_x (σ := pw q M) (n := n) hk e0 e1 (by omega)]
  refine congrArg f ((pw_at (p := b + e) ?_))
  unfold plP
  rw [if_neg (by omega), hb]
  show (if e.toNat < n then some (b + (e.toNat : Int)) else none) = _
  rw [if_pos (by omega), Int.toNat_of_nonneg e0]
theorem sI_p {a n : Nat} {b e v : Int} (hb : bsP a = some (b, n)) (hk : mK M a = (20, n)) (h9 : n ≤ 260) (e0 : 0 ≤ e) (e1 : e < n) {f : Mem → Option β} : sI (pw q M) (some a) (iI e) (iI v) f = f (pw (st q (b + e) v) M) := by
  have := bsP_r hb
  rw [sI_x (σ := pw q M) (n := n) hk e0 e1 (by omega)]
  refine congrArg f (Prod.ext (pw_st (p := b + e) ?_) rfl)
  unfold plP
  rw [if_neg (by omega), hb]
  show (if e.toNat < n then some (b + (e.toNat : Int)) else none) = _
  rw [if_pos (by omega), Int.toNat_of_nonneg e0]
theorem gI_p7 (hL : LPt M) {f : Int32 → Option β} : gI (pw q M) (some 3772) 6 7 f = f (iI (q 7)) := gI_p hL (by omega) (by omega)
theorem pI_p7 (hL : LPt M) {v : Int} {f : Mem → Option β} : pI (pw q M) (some 3772) 6 7 (iI v) f = f (pw (st q 7 v) M) := pI_p hL (by omega) (by omega)
theorem gI_p8 (hL : LPt M) {f : Int32 → Option β} : gI (pw q M) (some 3772) 6 8 f = f (iI (q 8)) := gI_p hL (by omega) (by omega)
theorem pI_p8 (hL : LPt M) {v : Int} {f : Mem → Option β} : pI (pw q M) (some 3772) 6 8 (iI v) f = f (pw (st q 8 v) M) := pI_p hL (by omega) (by omega)
theorem gI_p9 (hL : LPt M) {f : Int32 → Option β} : gI (pw q M) (some 3772) 6 9 f = f (iI (q 9)) := gI_p hL (by omega) (by omega)
theorem pI_p9 (hL : LPt M) {v : Int} {f : Mem → Option β} : pI (pw q M) (some 3772) 6 9 (iI v) f = f (pw (st q 9 v) M) := pI_p hL (by omega) (by omega)
theorem gI_p10 (hL : LPt M) {f : Int32 → Option β} : gI (pw q M) (some 3772) 6 10 f = f (iI (q 10)) := gI_p hL (by omega) (by omega)
theorem pI_p10 (hL : LPt M) {v : Int} {f : Mem → Option β} : pI (pw q M) (some 3772) 6 10 (iI v) f = f (pw (st q 10 v) M) := pI_p hL (by omega) (by omega)
theorem gI_p11 (hL : LPt M) {f : Int32 → Option β} : gI (pw q M) (some 3772) 6 11 f = f (iI (q 11)) := gI_p hL (by omega) (by omega)
theorem pI_p11 (hL : LPt M) {v : Int} {f : Mem → Option β} : pI (pw q M) (some 3772) 6 11 (iI v) f = f (pw (st q 11 v) M) := pI_p hL (by omega) (by omega)
theorem gI_p12 (hL : LPt M) {f : Int32 → Option β} : gI (pw q M) (some 3772) 6 12 f = f (iI (q 12)) := gI_p hL (by omega) (by omega)
theorem pI_p12 (hL : LPt M) {v : Int} {f : Mem → Option β} : pI (pw q M) (some 3772) 6 12 (iI v) f = f (pw (st q 12 v) M) := pI_p hL (by omega) (by omega)
theorem gI_p13 (hL : LPt M) {f : Int32 → Option β} : gI (pw q M) (some 3772) 6 13 f = f (iI (q 13)) := gI_p hL (by omega) (by omega)
theorem pI_p13 (hL : LPt M) {v : Int} {f : Mem → Option β} : pI (pw q M) (some 3772) 6 13 (iI v) f = f (pw (st q 13 v) M) := pI_p hL (by omega) (by omega)
theorem gI_p14 (hL : LPt M) {f : Int32 → Option β} : gI (pw q M) (some 3772) 6 14 f = f (iI (q 14)) := gI_p hL (by omega) (by omega)
theorem pI_p14 (hL : LPt M) {v : Int} {f : Mem → Option β} : pI (pw q M) (some 3772) 6 14 (iI v) f = f (pw (st q 14 v) M) := pI_p hL (by omega) (by omega)
theorem gI_p15 (hL : LPt M) {f : Int32 → Option β} : gI (pw q M) (some 3772) 6 15 f = f (iI (q 15)) := gI_p hL (by omega) (by omega)
theorem pI_p15 (hL : LPt M) {v : Int} {f : Mem → Option β} : pI (pw q M) (some 3772) 6 15 (iI v) f = f (pw (st q 15 v) M) := pI_p hL (by omega) (by omega)
theorem gR_p5 (hL : LPt M) {f : Option Nat → Option β} : gR (pw q M) (some 3772) 6 5 f = f (some 3778) := gR_p hL hL.2.1.1
theorem gR_p16 (hL : LPt M) {f : Option Nat → Option β} : gR (pw q M) (some 3772) 6 16 f = f (some 3779) := gR_p hL hL.2.1.2.1
theorem gR_p17 (hL : LPt M) {f : Option Nat → Option β} : gR (pw q M) (some 3772) 6 17 f = f (some 3780) := gR_p hL hL.2.1.2.2.1
theorem gR_p18 (hL : LPt M) {f : Option Nat → Option β} : gR (pw q M) (some 3772) 6 18 f = f (some 3781) := gR_p hL hL.2.1.2.2.2.1
theorem gR_p19 (hL : LPt M) {f : Option Nat → Option β} : gR (pw q M) (some 3772) 6 19 f = f (some 3782) := gR_p hL hL.2.1.2.2.2.2.1
theorem gR_p20 (hL : LPt M) {f : Option Nat → Option β} : gR (pw q M) (some 3772) 6 20 f = f (some 3783) := gR_p hL hL.2.1.2.2.2.2.2.1
theorem gR_p21 (hL : LPt M) {f : Option Nat → Option β} : gR (pw q M) (some 3772) 6 21 f = f (some 3784) := gR_p hL hL.2.1.2.2.2.2.2.2.1
theorem gR_p22 (hL : LPt M) {f : Option Nat → Option β} : gR (pw q M) (some 3772) 6 22 f = f (some 3785) := gR_p hL hL.2.1.2.2.2.2.2.2.2.1
theorem gR_p23 (hL : LPt M) {f : Option Nat → Option β} : gR (pw q M) (some 3772) 6 23 f = f (some 3786) := gR_p hL hL.2.1.2.2.2.2.2.2.2.2.1
theorem gR_p24 (hL : LPt M) {f : Option Nat → Option β} : gR (pw q M) (some 3772) 6 24 f = f (some 3787) := gR_p hL hL.2.1.2.2.2.2.2.2.2.2.2.1
theorem gR_p25 (hL : LPt M) {f : Option Nat → Option β} : gR (pw q M) (some 3772) 6 25 f = f (some 3788) := gR_p hL hL.2.1.2.2.2.2.2.2.2.2.2.2.1
theorem gR_p26 (hL : LPt M) {f : Option Nat → Option β} : gR (pw q M) (some 3772) 6 26 f = f (some 3789) := gR_p hL hL.2.1.2.2.2.2.2.2.2.2.2.2.2
theorem aI_p3779 (hL : LPt M) {e : Int} (e0 : 0 ≤ e) (e1 : e < 260) {f : Int32 → Option β} : aI (pw q M) (some 3779) (iI e) f = f (iI (q (1000 + e))) := aI_p rfl hL.2.2.2.1 (by omega) e0 e1
theorem sI_p3779 (hL : LPt M) {e v : Int} (e0 : 0 ≤ e) (e1 : e < 260) {f : Mem → Option β} : sI (pw q M) (some 3779) (iI e) (iI v) f = f (pw (st q (1000 + e) v) M) := sI_p rfl hL.2.2.2.1 (by omega) e0 e1
theorem aI_p3780 (hL : LPt M) {e : Int} (e0 : 0 ≤ e) (e1 : e < 260) {f : Int32 → Option β} : aI (pw q M) (some 3780) (iI e) f = f (iI (q (2000 + e))) := aI_p rfl hL.2.2.2.2.1 (by omega) e0 e1
theorem sI_p3780 (hL : LPt M) {e v : Int} (e0 : 0 ≤ e) (e1 : e < 260) {f : Mem → Option β} : sI (pw q M) (some 3780) (iI e) (iI v) f = f (pw (st q (2000 + e) v) M) := sI_p rfl hL.2.2.2.2.1 (by omega) e0 e1
theorem aI_p3781 (hL : LPt M) {e : Int} (e0 : 0 ≤ e) (e1 : e < 16) {f : Int32 → Option β} : aI (pw q M) (some 3781) (iI e) f = f (iI (q (3000 + e))) := aI_p rfl hL.2.2.2.2.2.1 (by omega) e0 e1
theorem sI_p3781 (hL : LPt M) {e v : Int} (e0 : 0 ≤ e) (e1 : e < 16) {f : Mem → Option β} : sI (pw q M) (some 3781) (iI e) (iI v) f = f (pw (st q (3000 + e) v) M) := sI_p rfl hL.2.2.2.2.2.1 (by omega) e0 e1
theorem aI_p3782 (hL : LPt M) {e : Int} (e0 : 0 ≤ e) (e1 : e < 16) {f : Int32 → Option β} : aI (pw q M) (some 3782) (iI e) f = f (iI (q (3100 + e))) := aI_p rfl hL.2.2.2.2.2.2.1 (by omega) e0 e1
theorem sI_p3782 (hL : LPt M) {e v : Int} (e0 : 0 ≤ e) (e1 : e < 16) {f : Mem → Option β} : sI (pw q M) (some 3782) (iI e) (iI v) f = f (pw (st q (3100 + e) v) M) := sI_p rfl hL.2.2.2.2.2.2.1 (by omega) e0 e1
theorem aI_p3783 (hL : LPt M) {e : Int} (e0 : 0 ≤ e) (e1 : e < 16) {f : Int32 → Option β} : aI (pw q M) (some 3783) (iI e) f = f (iI (q (3200 + e))) := aI_p rfl hL.2.2.2.2.2.2.2.1 (by omega) e0 e1
theorem sI_p3783 (hL : LPt M) {e v : Int} (e0 : 0 ≤ e) (e1 : e < 16) {f : Mem → Option β} : sI (pw q M) (some 3783) (iI e) (iI v) f = f (pw (st q (3200 + e) v) M) := sI_p rfl hL.2.2.2.2.2.2.2.1 (by omega) e0 e1
theorem aI_p3784 (hL : LPt M) {e : Int} (e0 : 0 ≤ e) (e1 : e < 16) {f : Int32 → Option β} : aI (pw q M) (some 3784) (iI e) f = f (iI (q (3300 + e))) := aI_p rfl hL.2.2.2.2.2.2.2.2.1 (by omega) e0 e1
theorem sI_p3784 (hL : LPt M) {e v : Int} (e0 : 0 ≤ e) (e1 : e < 16) {f : Mem → Option β} : sI (pw q M) (some 3784) (iI e) (iI v) f = f (pw (st q (3300 + e) v) M) := sI_p rfl hL.2.2.2.2.2.2.2.2.1 (by omega) e0 e1
theorem aI_p3785 (hL : LPt M) {e : Int} (e0 : 0 ≤ e) (e1 : e < 260) {f : Int32 → Option β} : aI (pw q M) (some 3785) (iI e) f = f (iI (q (4000 + e))) := aI_p rfl hL.2.2.2.2.2.2.2.2.2.1 (by omega) e0 e1
theorem sI_p3785 (hL : LPt M) {e v : Int} (e0 : 0 ≤ e) (e1 : e < 260) {f : Mem → Option β} : sI (pw q M) (some 3785) (iI e) (iI v) f = f (pw (st q (4000 + e) v) M) := sI_p rfl hL.2.2.2.2.2.2.2.2.2.1 (by omega) e0 e1
theorem aI_p3786 (hL : LPt M) {e : Int} (e0 : 0 ≤ e) (e1 : e < 16) {f : Int32 → Option β} : aI (pw q M) (some 3786) (iI e) f = f (iI (q (5000 + e))) := aI_p rfl hL.2.2.2.2.2.2.2.2.2.2.1 (by omega) e0 e1
theorem sI_p3786 (hL : LPt M) {e v : Int} (e0 : 0 ≤ e) (e1 : e < 16) {f : Mem → Option β} : sI (pw q M) (some 3786) (iI e) (iI v) f = f (pw (st q (5000 + e) v) M) := sI_p rfl hL.2.2.2.2.2.2.2.2.2.2.1 (by omega) e0 e1
theorem aI_p3787 (hL : LPt M) {e : Int} (e0 : 0 ≤ e) (e1 : e < 16) {f : Int32 → Option β} : aI (pw q M) (some 3787) (iI e) f = f (iI (q (5100 + e))) := aI_p rfl hL.2.2.2.2.2.2.2.2.2.2.2.1 (by omega) e0 e1
theorem sI_p3787 (hL : LPt M) {e v : Int} (e0 : 0 ≤ e) (e1 : e < 16) {f : Mem → Option β} : sI (pw q M) (some 3787) (iI e) (iI v) f = f (pw (st q (5100 + e) v) M) := sI_p rfl hL.2.2.2.2.2.2.2.2.2.2.2.1 (by omega) e0 e1
theorem aI_p3788 (hL : LPt M) {e : Int} (e0 : 0 ≤ e) (e1 : e < 16) {f : Int32 → Option β} : aI (pw q M) (some 3788) (iI e) f = f (iI (q (5200 + e))) := aI_p rfl hL.2.2.2.2.2.2.2.2.2.2.2.2.1 (by omega) e0 e1
theorem sI_p3788 (hL : LPt M) {e v : Int} (e0 : 0 ≤ e) (e1 : e < 16) {f : Mem → Option β} : sI (pw q M) (some 3788) (iI e) (iI v) f = f (pw (st q (5200 + e) v) M) := sI_p rfl hL.2.2.2.2.2.2.2.2.2.2.2.2.1 (by omega) e0 e1
theorem aI_p3789 (hL : LPt M) {e : Int} (e0 : 0 ≤ e) (e1 : e < 16) {f : Int32 → Option β} : aI (pw q M) (some 3789) (iI e) f = f (iI (q (5300 + e))) := aI_p rfl hL.2.2.2.2.2.2.2.2.2.2.2.2.2 (by omega) e0 e1
theorem sI_p3789 (hL : LPt M) {e v : Int} (e0 : 0 ≤ e) (e1 : e < 16) {f : Mem → Option β} : sI (pw q M) (some 3789) (iI e) (iI v) f = f (pw (st q (5300 + e) v) M) := sI_p rfl hL.2.2.2.2.2.2.2.2.2.2.2.2.2 (by omega) e0 e1
/-- the tape's letters -/
def tpA (M : Mem) (x : Int) : Int := (mI M 3778 x.toNat &&& iI 255).toInt
end
theorem and255 (v : Int32) : 0 ≤ (v &&& iI 255).toInt ∧ (v &&& iI 255).toInt ≤ 255 := by
  have h : (v &&& iI 255).toBitVec = v.toBitVec &&& 255#32 := rfl
  have h2 : (v &&& iI 255).toInt = (v.toBitVec &&& 255#32).toInt := rfl
  have h3 : (v.toBitVec &&& 255#32).toNat ≤ 255 := by
    rw [BitVec.toNat_and]
    exact Nat.and_le_right
  rw [h2, BitVec.toInt_eq_toNat_cond]
  split <;> omega
theorem tpA_r (M : Mem) (x : Int) : 0 ≤ tpA M x ∧ tpA M x ≤ 255 := and255 _
theorem hrA_r {M : Mem} {n p : Int} : -1 ≤ hrA (tpA M) n p ∧ hrA (tpA M) n p ≤ 255 := by
  have := tpA_r M p
  unfold hrA
  split <;> omega
section
variable {q : Row} {M : Mem}
theorem p_here (hL : LPt M) (h7 : 0 ≤ q 7) (h8 : q 8 ≤ 260) (h87 : q 7 ≤ 2147483647) (h88 : 0 ≤ q 8) : sX8_here (some 3772) (pw q M) = some (iI (hrA (tpA M) (q 8) (q 7)), pw q M) := by
  unfold sX8_here hrA
  rw [gI_p7 hL, gI_p8 hL]
  by_cases c : q 7 < q 8
  · rw [if_neg (show ¬ iI (q 8) ≤ iI (q 7) by rw [iv_le (by omega) (by omega) (by omega) (by omega)]; omega), if_pos c, gR_p5 hL, gI_p7 hL]
    show (if (mK M 3778).1 = 21 ∧ inR (iI (q 7)) (mK M 3778).2 then some (pwI q (mI M) 3778 (ix (iI (q 7))) &&& iI 255, pw q M) else none) = _
    rw [hL.2.2.1, if_pos ⟨rfl, by rw [iv_in (by omega) (by omega)]; exact ⟨h7, by show q 7 < 260; omega⟩⟩, iv_ix h7 (by omega)]
    unfold tpA
    rw [iv_of]
    rfl
  · rw [if_pos (show iI (q 8) ≤ iI (q 7) by rw [iv_le (by omega) (by omega) (by omega) (by omega)]; omega), if_neg c]
end
