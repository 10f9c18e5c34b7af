/-! DEPS: zp -/
/-! ZQ: TermLog's planner repeats acts -/
theorem repL_mod {α : Type} {l : List α} {s t : Nat} (hs : s < l.length) : ∀ (f k : Nat), k ≤ f → k < t * (l.length - s) → (repL l s t)[s + k]? = (repL l s t)[s + k % (l.length - s)]?
  | 0, k, hf, h => by
    have : k = 0 := by omega
    subst this
    rw [Nat.zero_mod]
  | f + 1, k, hf, h => by
    by_cases c : k < l.length - s
    · rw [Nat.mod_eq_of_lt c]
    · rw [repL_hi (by omega) (show l.length ≤ s + k by omega) (by omega), show s + k - (l.length - s) = s + (k - (l.length - s)) by omega, repL_mod hs f (k - (l.length - s)) (by omega) (by omega), ← Nat.mod_eq_sub_mod (by omega)]
section
variable {A : Nat} {M : Mem} {r : Row} {l : List Act} {fr bnd : Int} {ra ro rr : Option Nat → Mem → Option (Unit × Mem)}
theorem k115 (hK : LK A M) {s t : Nat} (hs : s < l.length) (ht : 1 ≤ t) (h2 : s + t * (l.length - s) ≤ 200) : ∀ (j fu k : Nat) (r : Row), t * (l.length - s) - k = j → l.length - s ≤ k → k ≤ t * (l.length - s) → j < fu → r 6 = 0 → r 8 = ((s + k : Nat) : Int) → AcN r (repL l s t) (s + k) →
    ∃ r', sX16_one_115 ra ro rr fu (some A) (iI (t : Int)) (iI (s : Int)) (iI ((l.length - s : Nat) : Int)) (iI (k : Int)) (kw A r M) = some ((), kw A r' M) ∧ AcK r' (repL l s t) ∧ ∀ y, y ≠ 8 → y < 6000 → r' y = r y
  | j, 0, k, r, e1, e2, e3, e4, f0, e8, ac => by omega
  | 0, fu + 1, k, r, e1, e2, e3, e4, f0, e8, ac => by
    have ek : k = t * (l.length - s) := by omega
    have len := repL_len (l := l) (s := s) (t := t) (by omega)
    have mulc : ((l.length - s : Nat) : Int) * (t : Int) = ((t * (l.length - s) : Nat) : Int) := by rw [Nat.mul_comm]; exact (Int.natCast_mul _ _).symm
    show ∃ r', sX16_one_115b ra ro rr (sX16_one_115 ra ro rr fu) _ _ _ _ _ _ = _ ∧ _
    generalize sX16_one_115 ra ro rr fu = K
    unfold sX16_one_115b
    rw [cV_k hK, k_good hK (by omega) (by omega), clw, if_neg (by rw [bI_z]; omega), iv_mul, mulc, if_pos (by rw [iv_le (by omega) (by omega) (by omega) (by omega)]; omega)]
    refine ⟨r, rfl, ⟨by rw [len, e8, ek], by omega, ?_⟩, fun _ _ _ => rfl⟩
    rw [len, ← ek]
    exact ac
  | j + 1, fu + 1, k, r, e1, e2, e3, e4, f0, e8, ac => by
    have kl : k < t * (l.length - s) := by omega
    have len := repL_len (l := l) (s := s) (t := t) (by omega)
    have mulc : ((l.length - s : Nat) : Int) * (t : Int) = ((t * (l.length - s) : Nat) : Int) := by rw [Nat.mul_comm]; exact (Int.natCast_mul _ _).symm
    have ml : k % (l.length - s) < l.length - s := Nat.mod_lt _ (by omega)
    have hi := repL_mod (t := t) hs k k (Nat.le_refl _) kl
    have inr : s + k % (l.length - s) < (repL l s t).length := by omega
    obtain ⟨x, hx⟩ : ∃ x, (repL l s t)[s + k % (l.length - s)]? = some x := ⟨_, List.getElem?_eq_getElem inr⟩
    obtain ⟨p1, p2, p3, p4⟩ := ac _ x (by omega) hx
    have em : (k : Int) % ((l.length - s : Nat) : Int) = ((k % (l.length - s) : Nat) : Int) := (Int.natCast_emod _ _).symm
    have ei : (s : Int) + ((k % (l.length - s) : Nat) : Int) = ((s + k % (l.length - s) : Nat) : Int) := by omega
    obtain ⟨w, hw⟩ : ∃ w, w = s + k % (l.length - s) := ⟨_, rfl⟩
    obtain ⟨u, hu⟩ : ∃ u, u = s + k := ⟨_, rfl⟩
    rw [← hw] at ei p1 p2 p3 p4 hx hi
    rw [← hu] at e8 hi ac
    have ih := fun r => k115 hK hs ht h2 j fu (k + 1) r (by omega) (by omega) (by omega) (by omega)
    show ∃ r', sX16_one_115b ra ro rr (sX16_one_115 ra ro rr fu) _ _ _ _ _ _ = _ ∧ _
    generalize sX16_one_115 ra ro rr fu = K at ih ⊢
    have rm' : ∀ {β : Type} (f : Int32 → Option β), rm (iI (k : Int)) (iI ((l.length - s : Nat) : Int)) f = f (iI ((k % (l.length - s) : Nat) : Int)) := fun f => by
      rw [rm_eq f (by omega) (by omega) (by omega) (by omega), em]
    unfold sX16_one_115b
    rw [cV_k hK, k_good hK (by omega) (by omega), clw, if_neg (by rw [bI_z]; omega), iv_mul, mulc, if_neg (by rw [iv_le (by omega) (by omega) (by omega) (by omega)]; omega),
      gR_k1 hK, gI_k8 hK, e8, gR_k1 hK, rm', iv_add, ei, aI_k1 hK (by omega) (by omega), sI_k1 hK (by omega) (by omega)]
    obtain ⟨r1, hr1⟩ : ∃ r1, r1 = st r (6000 + (u : Int)) (r (6000 + (w : Int))) := ⟨_, rfl⟩
    rw [← hr1]
    have q1 : r1 8 = (u : Int) := by rw [hr1, st_ne (by omega)]; exact e8
    rw [gR_k2 hK, gI_k8 hK, q1, gR_k2 hK, rm', iv_add, ei, aI_k2 hK (by omega) (by omega), sI_k2 hK (by omega) (by omega)]
    obtain ⟨r2, hr2⟩ : ∃ r2, r2 = st r1 (6300 + (u : Int)) (r1 (6300 + (w : Int))) := ⟨_, rfl⟩
    rw [← hr2]
    have q2 : r2 8 = (u : Int) := by rw [hr2, st_ne (by omega)]; exact q1
    rw [gR_k3 hK, gI_k8 hK, q2, gR_k3 hK, rm', iv_add, ei, aI_k3 hK (by omega) (by omega), sI_k3 hK (by omega) (by omega)]
    obtain ⟨r3, hr3⟩ : ∃ r3, r3 = st r2 (6600 + (u : Int)) (r2 (6600 + (w : Int))) := ⟨_, rfl⟩
    rw [← hr3]
    have q3 : r3 8 = (u : Int) := by rw [hr3, st_ne (by omega)]; exact q2
    rw [gR_k4 hK, gI_k8 hK, q3, gR_k4 hK, rm', iv_add, ei, aI_k4 hK (by omega) (by omega), sI_k4 hK (by omega) (by omega)]
    obtain ⟨r4, hr4⟩ : ∃ r4, r4 = st r3 (6900 + (u : Int)) (r3 (6900 + (w : Int))) := ⟨_, rfl⟩
    rw [← hr4]
    have q4 : r4 8 = (u : Int) := by rw [hr4, st_ne (by omega)]; exact q3
    rw [gI_k8 hK, q4, iv_add, pI_k8 hK, iv_add]
    have far : ∀ y, y ≠ 6000 + (u : Int) → y ≠ 6300 + (u : Int) → y ≠ 6600 + (u : Int) → y ≠ 6900 + (u : Int) → r4 y = r y := fun y a b c d => by
      rw [hr4, st_ne d, hr3, st_ne c, hr2, st_ne b, hr1, st_ne a]
    have v1 : r4 (6000 + (u : Int)) = x.1 := by rw [hr4, st_ne (by omega), hr3, st_ne (by omega), hr2, st_ne (by omega), hr1, st_eq]; exact p1
    have v2 : r4 (6300 + (u : Int)) = x.2.1 := by rw [hr4, st_ne (by omega), hr3, st_ne (by omega), hr2, st_eq, hr1, st_ne (by omega)]; exact p2
    have v3 : r4 (6600 + (u : Int)) = x.2.2.1 := by rw [hr4, st_ne (by omega), hr3, st_eq, hr2, st_ne (by omega), hr1, st_ne (by omega)]; exact p3
    have v4 : r4 (6900 + (u : Int)) = x.2.2.2 := by rw [hr4, st_eq, hr3, st_ne (by omega), hr2, st_ne (by omega), hr1, st_ne (by omega)]; exact p4
    obtain ⟨r5, hr5⟩ : ∃ r5, r5 = st r4 8 ((u : Int) + 1) := ⟨_, rfl⟩
    rw [← hr5]
    have k5 : ∀ y, y ≠ 8 → r5 y = r4 y := fun y hy => by rw [hr5]; exact st_ne hy
    have ac5 : AcN r5 (repL l s t) (s + (k + 1)) := by
      intro i y hi2 hy
      rw [k5 _ (by omega), k5 _ (by omega), k5 _ (by omega), k5 _ (by omega)]
      by_cases c : i = u
      · subst c
        rw [hi, hx] at hy
        cases hy
        exact ⟨v1, v2, v3, v4⟩
      · have := ac i y (by omega) hy
        rw [far _ (by omega) (by omega) (by omega) (by omega), far _ (by omega) (by omega) (by omega) (by omega), far _ (by omega) (by omega) (by omega) (by omega), far _ (by omega) (by omega) (by omega) (by omega)]
        exact this
    have e85 : r5 8 = ((s + (k + 1) : Nat) : Int) := by rw [hr5, st_eq]; omega
    have e65 : r5 6 = 0 := by rw [k5 6 (by omega), far 6 (by omega) (by omega) (by omega) (by omega)]; exact f0
    obtain ⟨r', w1, w2, w3⟩ := ih r5 e65 e85 ac5
    exact ⟨r', w1, w2, fun y y1 y2 => (w3 y y1 y2).trans ((k5 y y1).trans (far y (by omega) (by omega) (by omega) (by omega)))⟩
theorem FU7' : ∃ f, FU = f + 5 := ⟨999995, rfl⟩
/-- with a fault nothing is repeated -/
theorem k111B (hK : LK A M) {t s z : Int32} (f0 : 1 ≤ r 6) (f1 : r 6 ≤ 9) : sX16_one_111 ra ro rr (some A) t s z (kw A r M) = some ((), kw A r M) := by
  obtain ⟨f, hf⟩ := FU7'
  unfold sX16_one_111
  rw [hf]
  show sX16_one_115b ra ro rr (sX16_one_115 ra ro rr (f + 4)) _ _ _ _ _ _ = _
  generalize sX16_one_115 ra ro rr (f + 4) = K
  unfold sX16_one_115b
  rw [cV_k hK, k_good hK (by omega) f1, clw, if_pos (by rw [bI_z]; omega)]
theorem k77B (hK : LK A M) {t s : Int32} {fr : Int32} (f0 : 1 ≤ r 6) (f1 : r 6 ≤ 9) : sX16_one_77 ra ro rr (some A) fr t s (kw A r M) = some ((), kw A r M) := by
  unfold sX16_one_77
  rw [gI_k8 hK, cV_k hK, k_good hK (by omega) f1, clw, if_pos (by rw [bI_z]; omega), k111B hK f0 f1]
theorem k77G (hK : LK A M) {s : Nat} {t : Int} (f0 : r 6 = 0) (ac : AcK r l) (hs : s < l.length) (t0 : 1 ≤ t) (t1 : t ≤ 9) (h5 : 0 ≤ r 5) (hb : r 5 ≤ bnd) : OutK A M r (sX16_one_77 ra ro rr (some A) (iI fr) (iI t) (iI (s : Int)) (kw A r M)) bnd (pRep l s t fr (r 5)) := by
  have l200 := ac.2.1
  obtain ⟨tn, rfl⟩ : ∃ tn : Nat, t = (tn : Int) := nn (by omega)
  have mc : ((l.length : Int) - (s : Int)) * (tn : Int) = ((tn * (l.length - s) : Nat) : Int) := by
    rw [show ((l.length : Int) - (s : Int)) = ((l.length - s : Nat) : Int) by omega, Nat.mul_comm]
    exact (Int.natCast_mul _ _).symm
  have big : tn * (l.length - s) ≤ 9 * 200 := Nat.mul_le_mul (by omega) (by omega)
  have low : l.length - s ≤ tn * (l.length - s) := by
    calc l.length - s = 1 * (l.length - s) := (Nat.one_mul _).symm
      _ ≤ tn * (l.length - s) := Nat.mul_le_mul (by omega) (Nat.le_refl _)
  have E : (iI ((s : Int) + ((l.length : Int) - (s : Int)) * (tn : Int)) ≤ iI 200) = ((s : Int) + ((l.length : Int) - (s : Int)) * (tn : Int) ≤ 200) := by
    rw [mc]
    exact iv_le (by omega) (by omega) (by omega) (by omega)
  unfold sX16_one_77 pRep
  rw [gI_k8 hK, ac.1, cV_k hK, k_good hK (by omega) (by omega), clw, if_neg (by rw [bI_z]; omega), iv_sub, iv_mul, iv_add]
  by_cases c : (s : Int) + ((l.length : Int) - (s : Int)) * (tn : Int) > 200
  · have e6 : st (st r 6 6) 7 fr 6 = 6 := (st_ne (by omega)).trans (st_eq _ _ _)
    rw [if_pos c, if_neg (by rw [E]; omega), cV_k hK, k_bad hK f0, clw, k111B hK (by omega) (by omega)]
    exact BadO.me.out e6 (st_eq _ _ _) ((st_ne (by omega)).trans (st_ne (by omega))) (by rw [st_ne (by omega), st_ne (by omega)]; exact h5) (by rw [st_ne (by omega), st_ne (by omega)]; omega)
  · rw [if_neg c, if_pos (by rw [E]; omega)]
    have c2 : s + tn * (l.length - s) ≤ 200 := by rw [mc] at c; omega
    have ac0 : AcN r (repL l s tn) (s + (l.length - s)) := fun i x hi hx => ac.2.2 i x (by omega) (by rw [repL_lo (by omega) (by omega) (by omega)] at hx; exact hx)
    obtain ⟨r', w1, w2, w3⟩ := k115 (ra := ra) (ro := ro) (rr := rr) hK hs (by omega) c2 _ FU (l.length - s) r rfl (Nat.le_refl _) (by omega) (by unfold FU; omega) f0 (by rw [ac.1]; omega) ac0
    unfold sX16_one_111
    rw [show (l.length : Int) - (s : Int) = ((l.length - s : Nat) : Int) by omega, w1]
    exact ⟨r', rfl, (w3 6 (by omega) (by omega)).trans f0, w3 5 (by omega) (by omega), w3 0 (by omega) (by omega), w3 9 (by omega) (by omega), w2⟩
end
