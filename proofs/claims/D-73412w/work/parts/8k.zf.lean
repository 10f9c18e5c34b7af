/-! DEPS: ze -/
/-! ZF: the twin repeats acts -/
section
variable {α : Type}
theorem rep_len (xs : List α) : ∀ t : Nat, (List.replicate t xs).flatten.length = t * xs.length
  | 0 => by rw [Nat.zero_mul]; rfl
  | t + 1 => by
    rw [List.replicate_succ, List.flatten_cons, List.length_append, rep_len xs t, Nat.succ_mul]
    omega
theorem rep_tail {xs : List α} {t k : Nat} (h : xs.length ≤ k) : (List.replicate (t + 1) xs).flatten[k]? = (List.replicate t xs).flatten[k - xs.length]? := by
  rw [List.replicate_succ, List.flatten_cons, List.getElem?_append_right h]
theorem rep_pre {xs : List α} {t j : Nat} (h : j < t * xs.length) : (List.replicate (t + 1) xs).flatten[j]? = (List.replicate t xs).flatten[j]? := by
  rw [List.replicate_succ', List.flatten_append, List.getElem?_append_left (by rw [rep_len]; exact h)]
/-- what stands behind s is done t times -/
def repL (l : List α) (s t : Nat) : List α := l.take s ++ (List.replicate t (l.drop s)).flatten
theorem repL_len {l : List α} {s t : Nat} (hs : s ≤ l.length) : (repL l s t).length = s + t * (l.length - s) := by
  unfold repL
  rw [List.length_append, rep_len, List.length_take, List.length_drop, Nat.min_eq_left hs]
theorem repL_lo {l : List α} {s t k : Nat} (hs : s ≤ l.length) (hk : k < l.length) (ht : 1 ≤ t) : (repL l s t)[k]? = l[k]? := by
  obtain ⟨t, rfl⟩ : ∃ u, t = u + 1 := ⟨t - 1, by omega⟩
  have lt : (l.take s).length = s := by rw [List.length_take, Nat.min_eq_left hs]
  have split : l = l.take s ++ l.drop s := (List.take_append_drop s l).symm
  unfold repL
  rw [List.replicate_succ, List.flatten_cons, ← List.append_assoc, ← split, List.getElem?_append_left hk]
theorem repL_hi {l : List α} {s t k : Nat} (hs : s ≤ l.length) (hk : l.length ≤ k) (h9 : k < s + t * (l.length - s)) : (repL l s t)[k]? = (repL l s t)[k - (l.length - s)]? := by
  have lt : (l.take s).length = s := by rw [List.length_take, Nat.min_eq_left hs]
  have ld : (l.drop s).length = l.length - s := List.length_drop
  obtain ⟨t, rfl⟩ : ∃ u, t = u + 1 := by
    cases t with
    | zero => rw [Nat.zero_mul] at h9; omega
    | succ t => exact ⟨t, rfl⟩
  rw [Nat.succ_mul] at h9
  unfold repL
  rw [List.getElem?_append_right (by omega), List.getElem?_append_right (by omega), lt, rep_tail (by omega), ld, rep_pre (by rw [ld]; omega)]
  congr 1
  omega
end
section
variable {q r : Row} {M : Mem}
/-- the row holds the acts l, as far as n -/
def AcN (r : Row) (l : List Act) (n : Nat) : Prop := ∀ (i : Nat) (x : Act), i < n → l[i]? = some x → r (6000 + i) = x.1 ∧ r (6300 + i) = x.2.1 ∧ r (6600 + i) = x.2.2.1 ∧ r (6900 + i) = x.2.2.2
def AcR (r : Row) (l : List Act) : Prop := r 37 = (l.length : Int) ∧ l.length ≤ 200 ∧ AcN r l l.length
theorem z_rep34 (hL : LPt M) (hZ : LZ M) {l : List Act} {s t : Nat} (hs : s < l.length) (h2 : s + t * (l.length - s) ≤ 200) : ∀ (j fu k : Nat) (r : Row), s + t * (l.length - s) - k = j → l.length ≤ k → k ≤ s + t * (l.length - s) → j < fu → AcN r (repL l s t) k →
    ∃ r', sX8_repeats_34 fu (some 3772) (iI (s : Int)) (iI (t : Int)) (iI ((l.length - s : Nat) : Int)) (iI (k : Int)) (pw q (qw r M)) = some (iI 1, pw q (qw r' M)) ∧ AcR r' (repL l s t) ∧ ∀ y, y ≠ 37 → (y < 6000 ∨ 7200 ≤ y) → r' y = r y
  | j, 0, k, r, e1, e2, e3, e4, ac => by omega
  | 0, fu + 1, k, r, e1, e2, e3, e4, ac => by
    have ek : k = s + t * (l.length - s) := by omega
    have len := repL_len (l := l) (s := s) (t := t) (by omega)
    have mulc : ((l.length - s : Nat) : Int) * (t : Int) = ((t * (l.length - s) : Nat) : Int) := by rw [Nat.mul_comm]; exact (Int.natCast_mul _ _).symm
    show ∃ r', sX8_repeats_34b (sX8_repeats_34 fu) _ _ _ _ _ _ = _ ∧ _
    generalize sX8_repeats_34 fu = K
    unfold sX8_repeats_34b
    rw [iv_mul, mulc, iv_add, if_pos (by rw [iv_le (by omega) (by omega) (by omega) (by omega)]; omega), pI_z37 hL, rZ1]
    refine ⟨_, rfl, ⟨?_, by omega, fun i x hi hx => ?_⟩, fun y y1 y2 => st_ne (by omega)⟩
    · rw [st_eq, len]
      omega
    · rw [st_ne (by omega), st_ne (by omega), st_ne (by omega), st_ne (by omega)]
      exact ac i x (by omega) hx
  | j + 1, fu + 1, k, r, e1, e2, e3, e4, ac => by
    have kl : k < s + t * (l.length - s) := by omega
    have len := repL_len (l := l) (s := s) (t := t) (by omega)
    have mulc : ((l.length - s : Nat) : Int) * (t : Int) = ((t * (l.length - s) : Nat) : Int) := by rw [Nat.mul_comm]; exact (Int.natCast_mul _ _).symm
    have hi := repL_hi (l := l) (s := s) (t := t) (k := k) (by omega) e2 kl
    have inr : k - (l.length - s) < (repL l s t).length := by rw [len]; omega
    obtain ⟨x, hx⟩ : ∃ x, (repL l s t)[k - (l.length - s)]? = some x := ⟨_, List.getElem?_eq_getElem inr⟩
    obtain ⟨p1, p2, p3, p4⟩ := ac _ x (by omega) hx
    have ei : (k : Int) - ((l.length - s : Nat) : Int) = ((k - (l.length - s) : Nat) : Int) := by omega
    have ih := fun r => z_rep34 hL hZ hs h2 j fu (k + 1) r (by omega) (by omega) (by omega) (by omega)
    show ∃ r', sX8_repeats_34b (sX8_repeats_34 fu) _ _ _ _ _ _ = _ ∧ _
    generalize sX8_repeats_34 fu = K at ih ⊢
    unfold sX8_repeats_34b
    rw [iv_mul, mulc, iv_add, if_neg (by rw [iv_le (by omega) (by omega) (by omega) (by omega)]; omega), iv_sub, ei,
      gR_z30 hL hZ, gR_z30 hL hZ, aI_z3792 hZ (by omega) (by omega), sI_z3792 hZ (by omega) (by omega),
      gR_z31 hL hZ, gR_z31 hL hZ, aI_z3793 hZ (by omega) (by omega), sI_z3793 hZ (by omega) (by omega),
      gR_z32 hL hZ, gR_z32 hL hZ, aI_z3794 hZ (by omega) (by omega), sI_z3794 hZ (by omega) (by omega),
      gR_z33 hL hZ, gR_z33 hL hZ, aI_z3795 hZ (by omega) (by omega), sI_z3795 hZ (by omega) (by omega), iv_add]
    obtain ⟨r1, hr1⟩ : ∃ r1, r1 = st r (6000 + (k : Int)) (r (6000 + ((k - (l.length - s) : Nat) : Int))) := ⟨_, rfl⟩
    rw [← hr1]
    obtain ⟨r2, hr2⟩ : ∃ r2, r2 = st r1 (6300 + (k : Int)) (r1 (6300 + ((k - (l.length - s) : Nat) : Int))) := ⟨_, rfl⟩
    rw [← hr2]
    obtain ⟨r3, hr3⟩ : ∃ r3, r3 = st r2 (6600 + (k : Int)) (r2 (6600 + ((k - (l.length - s) : Nat) : Int))) := ⟨_, rfl⟩
    rw [← hr3]
    obtain ⟨r4, hr4⟩ : ∃ r4, r4 = st r3 (6900 + (k : Int)) (r3 (6900 + ((k - (l.length - s) : Nat) : Int))) := ⟨_, rfl⟩
    rw [← hr4]
    have far : ∀ y, y ≠ 6000 + (k : Int) → y ≠ 6300 + (k : Int) → y ≠ 6600 + (k : Int) → y ≠ 6900 + (k : Int) → r4 y = r y := fun y a b c d => by
      rw [hr4, st_ne d, hr3, st_ne c, hr2, st_ne b, hr1, st_ne a]
    have v1 : r4 (6000 + (k : Int)) = x.1 := by rw [hr4, st_ne (by omega), hr3, st_ne (by omega), hr2, st_ne (by omega), hr1, st_eq]; exact p1
    have v2 : r4 (6300 + (k : Int)) = x.2.1 := by rw [hr4, st_ne (by omega), hr3, st_ne (by omega), hr2, st_eq, hr1, st_ne (by omega)]; exact p2
    have v3 : r4 (6600 + (k : Int)) = x.2.2.1 := by rw [hr4, st_ne (by omega), hr3, st_eq, hr2, st_ne (by omega), hr1, st_ne (by omega)]; exact p3
    have v4 : r4 (6900 + (k : Int)) = x.2.2.2 := by rw [hr4, st_eq, hr3, st_ne (by omega), hr2, st_ne (by omega), hr1, st_ne (by omega)]; exact p4
    have ac4 : AcN r4 (repL l s t) (k + 1) := by
      intro i y hi2 hy
      by_cases c : i = k
      · subst c
        rw [hi, hx] at hy
        cases hy
        exact ⟨v1, v2, v3, v4⟩
      · have := ac i y (by omega) hy
        rw [far _ (by omega) (by omega) (by omega) (by omega), far _ (by omega) (by omega) (by omega) (by omega), far _ (by omega) (by omega) (by omega) (by omega), far _ (by omega) (by omega) (by omega) (by omega)]
        exact this
    obtain ⟨r', w1, w2, w3⟩ := ih r4 ac4
    exact ⟨r', w1, w2, fun y y1 y2 => (w3 y y1 y2).trans (far y (by omega) (by omega) (by omega) (by omega))⟩
end
