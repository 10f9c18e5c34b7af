/-! DEPS: za zm -/
/-! ZN: the memory of TermLog's planner at A, made of a row r: 0 n, 5 place, 6 fault, 7 where, 8 many, 9 depth; acts as in the twin's row -/
def plK (A a j : Nat) : Option Int := if a = A then (if j ≤ 9 then some (j : Int) else none) else if A < a ∧ a ≤ A + 4 then (if j < 200 then some (5700 + 300 * ((a : Int) - A) + j) else none) else none
def kwI (A : Nat) (r : Row) (I : Nat → Nat → Int32) : Nat → Nat → Int32 := fun a j => match plK A a j with
  | some x => iI (r x)
  | none => I a j
def kw (A : Nat) (r : Row) (M : Mem) : Mem := (kwI A r (mI M), M.2)
theorem plK_c {A a j : Nat} {p : Int} (h : plK A a j = some p) : (a = A ∧ j ≤ 9 ∧ p = j) ∨ (A < a ∧ a ≤ A + 4 ∧ j < 200 ∧ p = 5700 + 300 * ((a : Int) - A) + j) := by
  unfold plK at h
  split at h
  · split at h
    · cases h; exact Or.inl ⟨by assumption, by assumption, rfl⟩
    · cases h
  · split at h
    · split at h
      · rename_i c1 c2 c3
        cases h; exact Or.inr ⟨c2.1, c2.2, c3, rfl⟩
      · cases h
    · cases h
theorem plK_inj {A a j a' j' : Nat} {p : Int} (h : plK A a j = some p) (h' : plK A a' j' = some p) : a = a' ∧ j = j' := by
  rcases plK_c h with ⟨a1, a2, a3⟩ | ⟨a1, a2, a3, a4⟩ <;> rcases plK_c h' with ⟨c1, c2, c3⟩ | ⟨c1, c2, c3, c4⟩ <;> omega
theorem plK_o {A a j : Nat} (h : a < A ∨ A + 4 < a) : plK A a j = none := by
  unfold plK
  rw [if_neg (by omega), if_neg (by omega)]
/-- where the planner's things lie -/
def LK (A : Nat) (M : Mem) : Prop := ((mK M A).1 = 13 ∧ 3799 ≤ A ∧ mP M A 1 = some (A + 1) ∧ mP M A 2 = some (A + 2) ∧ mP M A 3 = some (A + 3) ∧ mP M A 4 = some (A + 4) ∧ mP M A 10 = some 0) ∧ (∀ o : Nat, 1 ≤ o → o ≤ 4 → mK M (A + o) = (20, 200)) ∧ (mK M 0).1 = 0 ∧ mP M 0 4 = some 3767 ∧ mK M 3767 = (21, 260)
section
variable {β : Type} {A : Nat} {r : Row} {M : Mem}
theorem kw_at {a j : Nat} {p : Int} (h : plK A a j = some p) : mI (kw A r M) a j = iI (r p) := by
  show kwI A r (mI M) a j = _
  unfold kwI
  rw [h]
theorem kw_o {a j : Nat} (h : a < A ∨ A + 4 < a) : mI (kw A r M) a j = mI M a j := by
  show kwI A r (mI M) a j = _
  unfold kwI
  rw [plK_o h]
theorem kw_st {a j : Nat} {p v : Int} (h : plK A a j = some p) : (up2 (mI (kw A r M)) a j (iI v), (kw A r M).2) = kw A (st r p v) M := by
  refine Prod.ext ?_ rfl
  funext b k
  show (if b = a ∧ k = j then iI v else kwI A r (mI M) b k) = kwI A (st r p v) (mI M) b k
  by_cases c : b = a ∧ k = j
  · rw [if_pos c, c.1, c.2]
    unfold kwI
    rw [h]
    show iI v = iI (st r p v p)
    rw [st_eq]
  · rw [if_neg c]
    unfold kwI
    cases e : plK A b k with
    | none => rfl
    | some x =>
      have : x ≠ p := by
        intro hx
        subst hx
        exact c (plK_inj e h)
      show iI (r x) = iI (st r p v x)
      rw [st_ne this]
theorem plK_s {s : Nat} (h : s ≤ 9) : plK A A s = some (s : Int) := by unfold plK; rw [if_pos rfl, if_pos h]
theorem gI_k (hK : LK A M) {s : Nat} (h : s ≤ 9) {f : Int32 → Option β} : gI (kw A r M) (some A) 13 s f = f (iI (r s)) := (if_pos hK.1.1).trans (congrArg f (kw_at (plK_s h)))
theorem pI_k (hK : LK A M) {s : Nat} (h : s ≤ 9) {v : Int} {f : Mem → Option β} : pI (kw A r M) (some A) 13 s (iI v) f = f (kw A (st r s v) M) := (if_pos hK.1.1).trans (congrArg f (kw_st (plK_s h)))
theorem cV_k (hK : LK A M) {f : Option β} : cV (kw A r M) (some A) 13 f = f := if_pos hK.1.1
theorem gI_k0 (hK : LK A M) {f : Int32 → Option β} : gI (kw A r M) (some A) 13 0 f = f (iI (r 0)) := gI_k hK (by omega)
theorem gI_k5 (hK : LK A M) {f : Int32 → Option β} : gI (kw A r M) (some A) 13 5 f = f (iI (r 5)) := gI_k hK (by omega)
theorem gI_k6 (hK : LK A M) {f : Int32 → Option β} : gI (kw A r M) (some A) 13 6 f = f (iI (r 6)) := gI_k hK (by omega)
theorem gI_k7 (hK : LK A M) {f : Int32 → Option β} : gI (kw A r M) (some A) 13 7 f = f (iI (r 7)) := gI_k hK (by omega)
theorem gI_k8 (hK : LK A M) {f : Int32 → Option β} : gI (kw A r M) (some A) 13 8 f = f (iI (r 8)) := gI_k hK (by omega)
theorem gI_k9 (hK : LK A M) {f : Int32 → Option β} : gI (kw A r M) (some A) 13 9 f = f (iI (r 9)) := gI_k hK (by omega)
theorem pI_k5 (hK : LK A M) {v : Int} {f : Mem → Option β} : pI (kw A r M) (some A) 13 5 (iI v) f = f (kw A (st r 5 v) M) := pI_k hK (by omega)
theorem pI_k6 (hK : LK A M) {v : Int} {f : Mem → Option β} : pI (kw A r M) (some A) 13 6 (iI v) f = f (kw A (st r 6 v) M) := pI_k hK (by omega)
theorem pI_k7 (hK : LK A M) {v : Int} {f : Mem → Option β} : pI (kw A r M) (some A) 13 7 (iI v) f = f (kw A (st r 7 v) M) := pI_k hK (by omega)
theorem pI_k8 (hK : LK A M) {v : Int} {f : Mem → Option β} : pI (kw A r M) (some A) 13 8 (iI v) f = f (kw A (st r 8 v) M) := pI_k hK (by omega)
theorem pI_k9 (hK : LK A M) {v : Int} {f : Mem → Option β} : pI (kw A r M) (some A) 13 9 (iI v) f = f (kw A (st r 9 v) M) := pI_k hK (by omega)
theorem gR_k1 (hK : LK A M) {f : Option Nat → Option β} : gR (kw A r M) (some A) 13 1 f = f (some (A + 1)) := (if_pos hK.1.1).trans (congrArg f hK.1.2.2.1)
theorem gR_k2 (hK : LK A M) {f : Option Nat → Option β} : gR (kw A r M) (some A) 13 2 f = f (some (A + 2)) := (if_pos hK.1.1).trans (congrArg f hK.1.2.2.2.1)
theorem gR_k3 (hK : LK A M) {f : Option Nat → Option β} : gR (kw A r M) (some A) 13 3 f = f (some (A + 3)) := (if_pos hK.1.1).trans (congrArg f hK.1.2.2.2.2.1)
theorem gR_k4 (hK : LK A M) {f : Option Nat → Option β} : gR (kw A r M) (some A) 13 4 f = f (some (A + 4)) := (if_pos hK.1.1).trans (congrArg f hK.1.2.2.2.2.2.1)
theorem gR_k10 (hK : LK A M) {f : Option Nat → Option β} : gR (kw A r M) (some A) 13 10 f = f (some 0) := (if_pos hK.1.1).trans (congrArg f hK.1.2.2.2.2.2.2)
theorem plK_a {o : Nat} {e p : Int} (o1 : 1 ≤ o) (o4 : o ≤ 4) (e0 : 0 ≤ e) (e1 : e < 200) (hp : p = 5700 + 300 * (o : Int) + e) : plK A (A + o) e.toNat = some p := by
  unfold plK
  rw [if_neg (by omega), if_pos (by omega), if_pos (by omega)]
  exact congrArg some (by omega)
theorem aI_k (hK : LK A M) {o : Nat} {e p : Int} (o1 : 1 ≤ o) (o4 : o ≤ 4) (e0 : 0 ≤ e) (e1 : e < 200) (hp : p = 5700 + 300 * (o : Int) + e) {f : Int32 → Option β} : aI (kw A r M) (some (A + o)) (iI e) f = f (iI (r p)) := by
  rw [aI_x (σ := kw A r M) (n := 200) (hK.2.1 o o1 o4) e0 e1 (by omega), kw_at (plK_a o1 o4 e0 e1 hp)]
theorem sI_k (hK : LK A M) {o : Nat} {e p v : Int} (o1 : 1 ≤ o) (o4 : o ≤ 4) (e0 : 0 ≤ e) (e1 : e < 200) (hp : p = 5700 + 300 * (o : Int) + e) {f : Mem → Option β} : sI (kw A r M) (some (A + o)) (iI e) (iI v) f = f (kw A (st r p v) M) := by
  rw [sI_x (σ := kw A r M) (n := 200) (hK.2.1 o o1 o4) e0 e1 (by omega), kw_st (plK_a o1 o4 e0 e1 hp)]
theorem aI_k1 (hK : LK A M) {e : Int} (e0 : 0 ≤ e) (e1 : e < 200) {f : Int32 → Option β} : aI (kw A r M) (some (A + 1)) (iI e) f = f (iI (r (6000 + e))) := aI_k hK (by omega) (by omega) e0 e1 (by omega)
theorem aI_k2 (hK : LK A M) {e : Int} (e0 : 0 ≤ e) (e1 : e < 200) {f : Int32 → Option β} : aI (kw A r M) (some (A + 2)) (iI e) f = f (iI (r (6300 + e))) := aI_k hK (by omega) (by omega) e0 e1 (by omega)
theorem aI_k3 (hK : LK A M) {e : Int} (e0 : 0 ≤ e) (e1 : e < 200) {f : Int32 → Option β} : aI (kw A r M) (some (A + 3)) (iI e) f = f (iI (r (6600 + e))) := aI_k hK (by omega) (by omega) e0 e1 (by omega)
theorem aI_k4 (hK : LK A M) {e : Int} (e0 : 0 ≤ e) (e1 : e < 200) {f : Int32 → Option β} : aI (kw A r M) (some (A + 4)) (iI e) f = f (iI (r (6900 + e))) := aI_k hK (by omega) (by omega) e0 e1 (by omega)
theorem sI_k1 (hK : LK A M) {e v : Int} (e0 : 0 ≤ e) (e1 : e < 200) {f : Mem → Option β} : sI (kw A r M) (some (A + 1)) (iI e) (iI v) f = f (kw A (st r (6000 + e) v) M) := sI_k hK (by omega) (by omega) e0 e1 (by omega)
theorem sI_k2 (hK : LK A M) {e v : Int} (e0 : 0 ≤ e) (e1 : e < 200) {f : Mem → Option β} : sI (kw A r M) (some (A + 2)) (iI e) (iI v) f = f (kw A (st r (6300 + e) v) M) := sI_k hK (by omega) (by omega) e0 e1 (by omega)
theorem sI_k3 (hK : LK A M) {e v : Int} (e0 : 0 ≤ e) (e1 : e < 200) {f : Mem → Option β} : sI (kw A r M) (some (A + 3)) (iI e) (iI v) f = f (kw A (st r (6600 + e) v) M) := sI_k hK (by omega) (by omega) e0 e1 (by omega)
theorem sI_k4 (hK : LK A M) {e v : Int} (e0 : 0 ≤ e) (e1 : e < 200) {f : Mem → Option β} : sI (kw A r M) (some (A + 4)) (iI e) (iI v) f = f (kw A (st r (6900 + e) v) M) := sI_k hK (by omega) (by omega) e0 e1 (by omega)
/-! the small steps -/
theorem hrL_r {n p : Int} : -1 ≤ hrA (tpL M) n p ∧ hrA (tpL M) n p ≤ 255 := by
  unfold hrA
  split
  · have := and255 (mI M 3767 p.toNat)
    unfold tpL
    omega
  · omega
theorem h0_hr {n p : Int} : h0A (tpL M) n p = if hrA (tpL M) n p = -1 then 0 else hrA (tpL M) n p := by
  unfold h0A hrA
  by_cases c : p < n
  · have := and255 (mI M 3767 p.toNat)
    rw [if_pos c, if_pos c, if_neg (show ¬ tpL M p = -1 by unfold tpL; omega)]
  · rw [if_neg c, if_neg c, if_pos rfl]
/-- a letter but 0 is seen alike -/
theorem h0_is {n p k : Int} (hk : 1 ≤ k) : h0A (tpL M) n p = k ↔ hrA (tpL M) n p = k := by
  rw [h0_hr]
  split <;> omega
theorem h0K_r {n p : Int} : 0 ≤ h0A (tpL M) n p ∧ h0A (tpL M) n p ≤ 255 := by
  have := hrL_r (M := M) (n := n) (p := p)
  rw [h0_hr]
  split <;> omega
theorem k_here (hK : LK A M) (h5 : 0 ≤ r 5) (h9 : r 5 ≤ 100000) (h0 : 0 ≤ r 0) (h1 : r 0 ≤ 240) : sX16_here (some A) (kw A r M) = some (iI (h0A (tpL M) (r 0) (r 5)), kw A r M) := by
  have E : (iI (r 0) ≤ iI (r 5)) = (r 0 ≤ r 5) := iv_le (by omega) (by omega) (by omega) (by omega)
  unfold sX16_here h0A
  rw [gI_k5 hK, gI_k0 hK]
  by_cases c : r 0 ≤ r 5
  · rw [if_pos (by rw [E]; exact c), if_neg (by omega)]
  · obtain ⟨⟨b1, b2, b3⟩, c1, c2, c3, c4⟩ := id hK
    rw [if_neg (by rw [E]; exact c), if_pos (by omega), gR_k10 hK, gR_y (σ := kw A r M) c2]
    show gI (kw A r M) (some A) 13 5 (fun x5 => aB (kw A r M) (mP M 0 4) x5 fun x6 => some (x6 &&& iI 255, kw A r M)) = _
    rw [c3, gI_k5 hK]
    have k : (mK (kw A r M) 3767).1 = 21 ∧ inR (iI (r 5)) (mK (kw A r M) 3767).2 := by
      show (mK M 3767).1 = 21 ∧ inR (iI (r 5)) (mK M 3767).2
      rw [c4, iv_in (by omega) (by omega)]
      exact ⟨rfl, by omega, by show r 5 < ((260 : Nat) : Int); omega⟩
    show (if (mK (kw A r M) 3767).1 = 21 ∧ inR (iI (r 5)) (mK (kw A r M) 3767).2 then some (mI (kw A r M) 3767 (ix (iI (r 5))) &&& iI 255, kw A r M) else none) = _
    rw [if_pos k, iv_ix h5 (by omega), kw_o (by omega)]
    unfold tpL
    rw [iv_of]
theorem k_good (hK : LK A M) (f0 : 0 ≤ r 6) (f1 : r 6 ≤ 9) : sX16_isGood (some A) (kw A r M) = some (bI (r 6 = 0), kw A r M) := by
  unfold sX16_isGood
  rw [gI_k6 hK]
  by_cases c : r 6 = 0
  · rw [if_pos (by rw [c]), bI_t c, rZ1]
  · rw [if_neg (fun z => c ((EI (k := 0) (by omega) (by omega) (by omega) (by omega)).mp z)), bI_f c, rZ0]
/-- a fault is noted, unless one was -/
theorem k_bad (hK : LK A M) (f0 : r 6 = 0) {w p : Int} : sX16_bad (some A) (iI w) (iI p) (kw A r M) = some ((), kw A (st (st r 6 w) 7 p) M) := by
  unfold sX16_bad
  rw [gI_k6 hK, f0, if_pos (by decide), pI_k6 hK, pI_k7 hK]
theorem k_badNo (hK : LK A M) (f0 : 1 ≤ r 6) (f1 : r 6 ≤ 9) {w p : Int} : sX16_bad (some A) (iI w) (iI p) (kw A r M) = some ((), kw A r M) := by
  unfold sX16_bad
  rw [gI_k6 hK, if_neg (by rw [iv_le (by omega) (by omega) (by omega) (by omega)]; omega)]
end
