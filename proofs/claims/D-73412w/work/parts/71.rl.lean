/-! DEPS: rk -/
/-! RL: the invariant through commits -/
abbrev HcA (g : Row) : Prop := ∀ i, 1 ≤ i → i ≤ 999 → (g (6028 + 4 * i) = 0 ↔ g 11134 < i)
section
variable {g g' : Row} {h h' : His} {FL : Int → ELog} {R : Int} {D : DK} {Λ : Law}
theorem seen_inv {n i : Int} (hC : CmA g n) (h1 : 1 ≤ i) (hi0 : g (244 * n + 4) < i) (hi : i ≤ g (244 * n + 4) + g (244 * n + 8)) (hg : i ≤ g 11134 + 1) (hc : HcA g) (hk : KyA g n) (h8 : 0 ≤ g 11138) :
    HcA (seenG g n i) ∧ KyA (seenG g n i) n ∧ seenG g n i 11134 - seenG g n i 11138 = g 11134 - g 11138 ∧ 0 ≤ seenG g n i 11138 ∧ g 11134 ≤ seenG g n i 11134 ∧ i ≤ seenG g n i 11134 := by
  obtain ⟨hL, hH, hG⟩ := hC
  obtain ⟨⟨_, _, _, _, _, _, _, _, _, _, _, _, _, _⟩, hE⟩ := hL
  have hE1 := hE i hi0 hi
  have hEq : ∀ x, 6028 ≤ x → keyG g n i x = g x := fun x hx => keyG_ne hE1 (by omega)
  have hKy : KyA (keyG g n i) n := by
    intro x a b
    unfold keyG
    simp only [the, lpA]
    unfold EntA at hE1
    split
    · unfold st
      split
      · omega
      · exact hk x a b
    · exact hk x a b
  have hc1 := hc i h1 (by omega)
  rw [seenG_eq]
  unfold seen0
  have ek : keyG g n i (6028 + 4 * i) = g (6028 + 4 * i) := hEq _ (by omega)
  by_cases c : keyG g n i (6028 + 4 * i) = 0
  · rw [if_pos c]
    rw [ek] at c
    have c2 : i = g 11134 + 1 := by omega
    have e34 : seen1 (keyG g n i) (lpA g n i) i 11134 = max (g 11134) i := by
      unfold seen1
      rw [if_neg (by omega), if_pos rfl, hEq _ (by omega)]
    have e38 : seen1 (keyG g n i) (lpA g n i) i 11138 = g 11138 + 1 := by
      unfold seen1
      rw [if_neg (by omega), if_neg (by omega), if_pos rfl, hEq _ (by omega)]
    refine ⟨fun j j0 j1 => ?_, fun x a b => ?_, ?_, ?_, ?_, ?_⟩
    · rw [e34]
      by_cases cj : j = i
      · have : seen1 (keyG g n i) (lpA g n i) i (6028 + 4 * j) = g (244 * n + 52 + 4 * (i - g (244 * n + 4) - 1)) := by
          unfold seen1
          rw [if_pos (by omega), show lpA g n i + (6028 + 4 * j - (6028 + 4 * i)) = 244 * n + 52 + 4 * (i - g (244 * n + 4) - 1) by simp only [lpA, the]; omega]
          exact keyG_ne hE1 (by omega)
        rw [this]
        unfold EntA at hE1
        constructor
        · intro q; omega
        · intro q; omega
      · have : seen1 (keyG g n i) (lpA g n i) i (6028 + 4 * j) = g (6028 + 4 * j) := by
          unfold seen1
          rw [if_neg (by omega), if_neg (by omega), if_neg (by omega), hEq _ (by omega)]
        rw [this, hc j j0 j1]
        omega
    · unfold seen1
      rw [if_neg (by omega), if_neg (by omega), if_neg (by omega)]
      exact hKy x a b
    · rw [e34, e38]; omega
    · rw [e38]; omega
    · rw [e34]; omega
    · rw [e34]; omega
  · rw [if_neg c]
    rw [ek] at c
    have fin : ∀ g1 : Row, (∀ x, ¬ x = 11136 → g1 x = keyG g n i x) → HcA g1 ∧ KyA g1 n ∧ g1 11134 - g1 11138 = g 11134 - g 11138 ∧ 0 ≤ g1 11138 ∧ g 11134 ≤ g1 11134 ∧ i ≤ g1 11134 := by
      intro g1 o
      refine ⟨fun j j0 j1 => by rw [o _ (by omega), o _ (by omega), hEq _ (by omega), hEq _ (by omega)]; exact hc j j0 j1, fun x a b => by rw [o x (by omega)]; exact hKy x a b, ?_, ?_, ?_, ?_⟩
      · rw [o _ (by omega), o _ (by omega), hEq _ (by omega), hEq _ (by omega)]
      · rw [o _ (by omega), hEq _ (by omega)]; exact h8
      · rw [o _ (by omega), hEq _ (by omega)]; exact Int.le_refl _
      · rw [o _ (by omega), hEq _ (by omega)]; omega
    split
    · exact fin _ (fun x _ => rfl)
    · exact fin _ (fun x a => st_ne a)
theorem growF_inv {n : Int} : ∀ (j : Nat) (g : Row) (i : Int), CmA g n → 1 ≤ i → g (244 * n + 9) < i → i + j ≤ g (244 * n + 4) + g (244 * n + 8) + 1 → i ≤ g 11134 + 1 → HcA g → KyA g n → 0 ≤ g 11138 →
    HcA (growF n j g i) ∧ KyA (growF n j g i) n ∧ growF n j g i 11134 - growF n j g i 11138 = g 11134 - g 11138 ∧ 0 ≤ growF n j g i 11138 ∧ g 11134 ≤ growF n j g i 11134 ∧ i + j ≤ growF n j g i 11134 + 1
  | 0, g, i, hC, h1, h2, h3, h4, hc, hk, h8 => ⟨hc, hk, rfl, h8, Int.le_refl _, by show i + 0 ≤ g 11134 + 1; omega⟩
  | j + 1, g, i, hC, h1, h2, h3, h4, hc, hk, h8 => by
    have hC' := hC
    obtain ⟨hL, hH, hG⟩ := hC
    obtain ⟨⟨_, _, _, _, _, _, _, _, _, _, _, _, _, _⟩, hE⟩ := hL
    have hE1 := hE i (by omega) (by omega)
    have o := fun x => seenG_ne (g := g) (n := n) (i := i) (x := x) hE1
    have o4 : seenG g n i (244 * n + 4) = g (244 * n + 4) := o _ (by omega) (by omega) (by omega) (by omega) (by omega)
    have o8 : seenG g n i (244 * n + 8) = g (244 * n + 8) := o _ (by omega) (by omega) (by omega) (by omega) (by omega)
    have o9 : seenG g n i (244 * n + 9) = g (244 * n + 9) := o _ (by omega) (by omega) (by omega) (by omega) (by omega)
    obtain ⟨s1, s2, s3, s4, s5, s6⟩ := seen_inv hC' h1 (by omega) (by omega) h4 hc hk h8
    have ih := growF_inv j (seenG g n i) (i + 1) (seenG_Cm hC' (by omega) (by omega)) (by omega) (by omega) (by omega) (by omega) s1 s2 s4
    have e : growF n (j + 1) g i = growF n j (seenG g n i) (i + 1) := rfl
    rw [e]
    obtain ⟨t1, t2, t3, t4, t5, t6⟩ := ih
    exact ⟨t1, t2, by omega, t4, by omega, by omega⟩
theorem NA_gr {n : Int} (he : ∀ x, 244 * n ≤ x → x < 244 * n + 244 → g' x = g x) (h4 : g 11134 ≤ g' 11134) (a : NA g R n) : NA g' R n := by
  obtain ⟨s, ky, kb, lr⟩ := a
  refine ⟨?_, fun x a b => ?_, fun e k a b => ?_, fun e k a b => ?_⟩
  · unfold NSg
    rw [he (244 * n + 0) (by omega) (by omega), he (244 * n + 1) (by omega) (by omega), he (244 * n + 2) (by omega) (by omega), he (244 * n + 3) (by omega) (by omega), he (244 * n + 4) (by omega) (by omega), he (244 * n + 5) (by omega) (by omega), he (244 * n + 6) (by omega) (by omega), he (244 * n + 7) (by omega) (by omega), he (244 * n + 8) (by omega) (by omega), he (244 * n + 9) (by omega) (by omega), he (244 * n + 10) (by omega) (by omega), he (244 * n + 11) (by omega) (by omega), he (244 * n + 12) (by omega) (by omega), he (244 * n + 13) (by omega) (by omega), he (244 * n + 14) (by omega) (by omega)]
    unfold NSg NS at s
    unfold NS
    exact ⟨s.1, by omega⟩
  · rw [he x (by omega) (by omega)]; exact ky x a b
  · rw [he (244 * n + 9) (by omega) (by omega), he (244 * n + 4) (by omega) (by omega)] at e
    rw [he _ (by omega) (by omega), he _ (by omega) (by omega)]
    exact kb e k a b
  · rw [he (244 * n + 3) (by omega) (by omega)] at e
    rw [he (244 * n + (31 + k)) (by omega) (by omega), he (244 * n + (38 + k)) (by omega) (by omega), he (244 * n + (45 + k)) (by omega) (by omega), he (244 * n + 4) (by omega) (by omega), he (244 * n + 8) (by omega) (by omega)]
    exact lr e k a b
/-- a node's commit grows up to t -/
theorem InvS.growX (I : InvS g h FL R D) {n t : Int} (n0 : 0 ≤ n) (n1 : n < 7) (ht : t ≤ g (244 * n + 4) + g (244 * n + 8)) (H' : HI h') (O : Ot h h' n)
    (ni : NI h' n (g (244 * n + 1)) (g (244 * n + 2)) (g (244 * n + 3)) (g (244 * n + 4) + g (244 * n + 8)) (max (g (244 * n + 9)) t) (g (244 * n + 12)) (FL n) (fun k => g (244 * n + (38 + k)))) :
    InvS (growG g n t) h' FL R D ∧ g 11134 ≤ growG g n t 11134 := by
  have nb := I.nb n n0 n1
  have a := I.na n n0 n1
  have hC := I.cm n0 n1
  have hC' := growG_Cm hC ht
  have o := fun x a b c d e f => growG_ne (x := x) hC ht a b c d e f
  have e9 := growG_9 (g := g) (n := n) (t := t)
  obtain ⟨⟨s1, s2⟩, _⟩ := I.na n n0 n1
  have dd := I.dd
  obtain ⟨k1, k2, k3, k4, k5, k6⟩ : HcA (growG g n t) ∧ KyA (growG g n t) n ∧ growG g n t 11134 - growG g n t 11138 = g 11134 - g 11138 ∧ 0 ≤ growG g n t 11138 ∧ g 11134 ≤ growG g n t 11134 ∧ max (g (244 * n + 9)) t ≤ growG g n t 11134 := by
    have q : ∀ x, ¬ x = 244 * n + 9 → growG g n t x = growF n (t - g (244 * n + 9)).toNat g (g (244 * n + 9) + 1) x := fun x hx => st_ne hx
    have r : HcA (growF n (t - g (244 * n + 9)).toNat g (g (244 * n + 9) + 1)) ∧ KyA (growF n (t - g (244 * n + 9)).toNat g (g (244 * n + 9) + 1)) n ∧ growF n (t - g (244 * n + 9)).toNat g (g (244 * n + 9) + 1) 11134 - growF n (t - g (244 * n + 9)).toNat g (g (244 * n + 9) + 1) 11138 = g 11134 - g 11138 ∧ 0 ≤ growF n (t - g (244 * n + 9)).toNat g (g (244 * n + 9) + 1) 11138 ∧ g 11134 ≤ growF n (t - g (244 * n + 9)).toNat g (g (244 * n + 9) + 1) 11134 ∧ max (g (244 * n + 9)) t ≤ growF n (t - g (244 * n + 9)).toNat g (g (244 * n + 9) + 1) 11134 := by
      by_cases c : g (244 * n + 9) ≤ t
      · obtain ⟨w1, w2, w3, w4, w5, w6⟩ := growF_inv (t - g (244 * n + 9)).toNat g (g (244 * n + 9) + 1) hC (by omega) (by omega) (by omega) (by omega) I.hc a.ky dd.2.1
        exact ⟨w1, w2, w3, w4, w5, by omega⟩
      · rw [show (t - g (244 * n + 9)).toNat = 0 by omega]
        exact ⟨I.hc, a.ky, rfl, dd.2.1, Int.le_refl _, by show _ ≤ g 11134; omega⟩
    obtain ⟨r1, r2, r3, r4, r5, r6⟩ := r
    refine ⟨fun i i0 i1 => by rw [q _ (by omega), q _ (by omega)]; exact r1 i i0 i1, fun x x0 x1 => by rw [q _ (by omega)]; exact r2 x x0 x1, ?_, ?_, ?_, ?_⟩
    · rw [q _ (by omega), q _ (by omega)]; exact r3
    · rw [q _ (by omega)]; exact r4
    · rw [q _ (by omega)]; exact r5
    · rw [q _ (by omega)]; exact r6
  refine ⟨?_, k5⟩
  have hA := I.ar
  refine ⟨H', fun p p0 p1 => ?_, fun p p0 p1 => ?_, fun i b c => ?_, hC'.2.2, hC'.2.1, k1, RdA_ext (o _ (by omega) (by omega) (by omega) (by omega) (by omega) (by omega)) hA.2 (fun x _ _ => o x (by omega) (by omega) (by omega) (by omega) (by omega) (by omega)) I.rd, fun r b c d => ?_, fun t b c => by rw [o t (by omega) (by omega) (by omega) (by omega) (by omega) (by omega)]; exact I.ld t b c, fun k b c => by rw [o _ (by omega) (by omega) (by omega) (by omega) (by omega) (by omega)]; exact I.ct k b c, by rw [o 11131 (by omega) (by omega) (by omega) (by omega) (by omega) (by omega)]; omega, I.rr⟩
  · by_cases c : p = n
    · subst c
      refine ⟨?_, k2, fun e k b c => ?_, fun e k b c => ?_⟩
      · unfold NSg
        rw [e9, o (244 * p + 0) (by omega) (by omega) (by omega) (by omega) (by omega) (by omega), o (244 * p + 1) (by omega) (by omega) (by omega) (by omega) (by omega) (by omega), o (244 * p + 2) (by omega) (by omega) (by omega) (by omega) (by omega) (by omega), o (244 * p + 3) (by omega) (by omega) (by omega) (by omega) (by omega) (by omega), o (244 * p + 4) (by omega) (by omega) (by omega) (by omega) (by omega) (by omega), o (244 * p + 5) (by omega) (by omega) (by omega) (by omega) (by omega) (by omega), o (244 * p + 6) (by omega) (by omega) (by omega) (by omega) (by omega) (by omega), o (244 * p + 7) (by omega) (by omega) (by omega) (by omega) (by omega) (by omega), o (244 * p + 8) (by omega) (by omega) (by omega) (by omega) (by omega) (by omega), o (244 * p + 10) (by omega) (by omega) (by omega) (by omega) (by omega) (by omega), o (244 * p + 11) (by omega) (by omega) (by omega) (by omega) (by omega) (by omega), o (244 * p + 12) (by omega) (by omega) (by omega) (by omega) (by omega) (by omega), o (244 * p + 13) (by omega) (by omega) (by omega) (by omega) (by omega) (by omega), o (244 * p + 14) (by omega) (by omega) (by omega) (by omega) (by omega) (by omega)]
        unfold NS at *
        exact ⟨s1, by omega⟩
      · rw [e9, o (244 * p + 4) (by omega) (by omega) (by omega) (by omega) (by omega) (by omega)] at e
        have e2 := a.kb (by omega) k b c
        have : growG g p t = st g (244 * p + 9) (max (g (244 * p + 9)) t) := by
          unfold growG
          simp only [the]
          rw [show (t - g (244 * p + 9)).toNat = 0 by omega]
          rfl
        rw [this, st_ne (by omega), st_ne (by omega)]
        exact e2
      · rw [o (244 * p + 3) (by omega) (by omega) (by omega) (by omega) (by omega) (by omega)] at e
        have := a.lr e k b c
        rw [o (244 * p + (31 + k)) (by omega) (by omega) (by omega) (by omega) (by omega) (by omega), o (244 * p + (38 + k)) (by omega) (by omega) (by omega) (by omega) (by omega) (by omega), o (244 * p + (45 + k)) (by omega) (by omega) (by omega) (by omega) (by omega) (by omega), o (244 * p + 4) (by omega) (by omega) (by omega) (by omega) (by omega) (by omega), o (244 * p + 8) (by omega) (by omega) (by omega) (by omega) (by omega) (by omega)]
        exact this
    · exact NA_gr (fun x _ _ => o x (by omega) (by omega) (by omega) (by omega) (by omega) (by omega)) k5 (I.na p p0 p1)
  · by_cases c : p = n
    · subst c
      exact NB.mk ni (Lk_ext (fun x _ _ _ => o x (by omega) (by omega) (by omega) (by omega) (by omega) (by omega)) ⟨n0, by omega, by omega⟩ nb.2) (o _ (by omega) (by omega) (by omega) (by omega) (by omega) (by omega)) (o _ (by omega) (by omega) (by omega) (by omega) (by omega) (by omega)) (o _ (by omega) (by omega) (by omega) (by omega) (by omega) (by omega)) (by rw [o _ (by omega) (by omega) (by omega) (by omega) (by omega) (by omega), o _ (by omega) (by omega) (by omega) (by omega) (by omega) (by omega)]) e9 (o _ (by omega) (by omega) (by omega) (by omega) (by omega) (by omega)) (fun k _ _ => o _ (by omega) (by omega) (by omega) (by omega) (by omega) (by omega))
    · obtain ⟨⟨q1, q2⟩, _⟩ := I.na p p0 p1
      have b := NB_ext (g' := growG g n t) (fun x _ _ _ => o x (by omega) (by omega) (by omega) (by omega) (by omega) (by omega)) ⟨p0, by omega, by omega⟩ (I.nb p p0 p1)
      exact ⟨b.1.gr I.hi O.gr p0 (O.ak p c) (O.vf p c) (O.ld p c) (O.ln p c), b.2⟩
  · rw [o _ (by omega) (by omega) (by omega) (by omega) (by omega) (by omega)] at c
    have hG := I.gl
    obtain ⟨_, _, _, _, _, _, _, _, _, _, _, _⟩ := hG
    obtain ⟨q1, q2⟩ := I.ml i b c
    have e : ∀ w, 0 ≤ w → w < 27 → msg (growG g n t) i w = msg g i w := fun w w0 w1 => o _ (by omega) (by omega) (by omega) (by omega) (by omega) (by omega)
    exact ⟨MI_ext (fun w w0 w1 _ => e w w0 w1) (q1.gr I.hi O.gr (Int.le_refl _) k5), by rw [e 4 (by omega) (by omega)]; exact q2⟩
  · rw [o _ (by omega) (by omega) (by omega) (by omega) (by omega) (by omega)] at c d
    have := I.rd r b c
    rw [o (11028 + 6 * r) (by omega) (by omega) (by omega) (by omega) (by omega) (by omega), o _ (by omega) (by omega) (by omega) (by omega) (by omega) (by omega)]
    exact I.rl r b c d
/-- a follower's commit -/
theorem InvS.grow (I : InvS g h FL R D) {n t : Int} (n0 : 0 ≤ n) (n1 : n < 7) (ht : t ≤ g (244 * n + 4) + g (244 * n + 8)) (hc : CmtOK h (FL n) (g (244 * n + 1)) t) : InvS (growG g n t) h FL R D := by
  have nb := I.nb n n0 n1
  refine (I.growX n0 n1 ht I.hi Ot.rfl ?_).1
  by_cases c : g (244 * n + 9) ≤ t
  · rw [show max (g (244 * n + 9)) t = t by omega]
    exact nb.1.grow ht hc
  · rw [show max (g (244 * n + 9)) t = g (244 * n + 9) by omega]
    exact nb.1
theorem topF_is {n : Int} : ∀ (k : Nat) (i : Int), i - g (244 * n + 9) = k → topF g n k i = g (244 * n + 9) ∨ (g (244 * n + 9) < topF g n k i ∧ termA g n (topF g n k i) = g (244 * n + 1) ∧ mostA g n (whoMatchA g n (topF g n k i)))
  | 0, i, e => Or.inl rfl
  | k + 1, i, e => by
    have ih := topF_is (n := n) k (i - 1) (by omega)
    unfold topF
    simp only [the] at *
    split
    · exact Or.inl rfl
    · split
      · rename_i c d
        exact Or.inr ⟨by omega, d⟩
      · exact ih
theorem whoF_has {n i w p : Int} (p0 : 0 ≤ p) (p1 : p < 7) : ∀ (f : Nat) (s k : Int), 0 ≤ k → k + f ≤ 7 → hasI (whoF g n w i f s k) p → hasI s p ∨ i ≤ g (244 * n + (w + p))
  | 0, s, k, k0, k1, a => Or.inl a
  | f + 1, s, k, k0, k1, a => by
    unfold whoF at a
    simp only [the] at a
    have ih := whoF_has (n := n) (i := i) (w := w) p0 p1 f _ (k + 1) (by omega) (by omega) a
    rcases ih with ih | ih
    · split at ih
      · rename_i c
        rcases or_hasI ih with q | q
        · exact Or.inl q
        · have := bit_hasI k0 (by omega) p0 p1 q
          rw [this]
          exact Or.inr c
      · exact Or.inl ih
    · exact Or.inr ih
/-- a leader's commit -/
theorem InvS.growL (I : InvS g h FL R D) {n : Int} (n0 : 0 ≤ n) (n1 : n < 7) (hr : g (244 * n + 3) = 2) : Ex (growG g n (topA g n)) h R D := by
  have nb := I.nb n n0 n1
  have hL := I.lg n0 n1
  have ht := topA_le hL
  obtain ⟨⟨s1, s2⟩, _⟩ := I.na n n0 n1
  have e := topF_is (g := g) (n := n) (lastA g n - g (244 * n + 9)).toNat (lastA g n) (by simp only [lastA, the]; omega)
  have e : topA g n = g (244 * n + 9) ∨ (g (244 * n + 9) < topA g n ∧ termA g n (topA g n) = g (244 * n + 1) ∧ mostA g n (whoMatchA g n (topA g n))) := e
  generalize topA g n = t at *
  rcases e with e | ⟨e1, e2, e3⟩
  · have := I.growX (t := t) n0 n1 ht.2 I.hi Ot.rfl (by rw [show max (g (244 * n + 9)) t = g (244 * n + 9) by omega]; exact nb.1)
    exact this.1.ex
  · obtain ⟨c, c1, c2, c3, c4⟩ := nb.2.conf (by omega)
    have hmj := (most_iff c2 c3).mp e3
    rw [nb.2.term (by omega) ht.2] at e2
    have H' := nb.1.hold_hi I.hi hr (by omega) ht.2 e2 c1 hmj (fun p p0 p1 q => by
      rcases whoF_has (g := g) p0 p1 7 (bitI n) 0 (by omega) (by omega) q with r | r
      · exact Or.inl (bit_hasI n0 n1 p0 p1 r)
      · exact Or.inr r)
    have := I.growX (t := t) n0 n1 ht.2 H' Ot.event (by rw [show max (g (244 * n + 9)) t = t by omega]; exact nb.1.hold hr ht.2)
    exact ⟨_, _, Gr.event, this.1⟩
end
