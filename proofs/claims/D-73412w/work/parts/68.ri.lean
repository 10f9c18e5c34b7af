/-! DEPS: rh -/
/-! RI: the invariant through votes, standing, counting, matches -/
section
variable {g g' : Row} {h h' : His} {FL : Int → ELog} {R : Int} {D : DK} {Λ : Law}
theorem InvS.vote (I : InvS g h FL R D) {n c : Int} (n0 : 0 ≤ n) (n1 : n < 7) (c0 : 0 ≤ c) (c1 : c < 7) (hv : g (244 * n + 2) = -1 ∨ g (244 * n + 2) = c) (hcc : h.vf (g (244 * n + 1)) c = c) (hu : Utd (h.cl (g (244 * n + 1)) c) (h.cn (g (244 * n + 1)) c) (FL n) (g (244 * n + 4) + g (244 * n + 8))) :
    ∃ h', Gr h h' ∧ InvS (st g (244 * n + 2) c) h' FL R D ∧ h'.vf (g (244 * n + 1)) n = c := by
  have nb := I.nb n n0 n1
  obtain ⟨⟨s1, s2⟩, _⟩ := I.na n n0 n1
  by_cases e : g (244 * n + 2) = c
  · refine ⟨h, Gr.rfl, ?_, ?_⟩
    · have : st g (244 * n + 2) c = g := by
        funext x
        unfold st
        split
        · rename_i q; rw [q, e]
        · rfl
      rw [this]; exact I
    · rw [nb.1.vt1 (by omega), e]
  · have e1 : g (244 * n + 2) = -1 := by omega
    have h0 : h.vf (g (244 * n + 1)) n = -1 := by
      apply Classical.byContradiction
      intro q
      have := (nb.1.vot _ q).2 rfl
      omega
    have hr : g (244 * n + 3) ≠ 1 := by
      intro q
      have := (nb.1.can q).1
      omega
    refine ⟨h.vote (g (244 * n + 1)) n c (FL n) (g (244 * n + 4) + g (244 * n + 8)), Gr.vote h0, ?_, if_pos ⟨rfl, rfl⟩⟩
    refine I.scal n0 n1 (nb.1.vote_hi I.hi h0 c0 (Or.inr hcc) hu) (Ot.vote h0) (fun x _ => st_ne (by omega)) (fun x _ _ => st_ne (by omega)) ?_ ?_ ?_ ?_ ?_
    · simp (disch := omega) only [NSg, the, st_ne, st_eq]
      unfold NS
      omega
    · rw [st_ne (by omega)]
      exact Or.inl
    · rw [st_ne (by omega)]
      exact id
    · rw [st_eq, st_ne (by omega), st_ne (by omega), st_ne (by omega), st_ne (by omega)]
      exact nb.1.vote_gr h0 hr n0 c0 I.hi
    · rw [st_ne (by omega)]
      exact id
theorem bit_has : ∀ n : Nat, n < 7 → ∀ p : Nat, p < 7 → hasI (bitI (n : Int)) (p : Int) → p = n := by decide
theorem bit_hasI {n p : Int} (n0 : 0 ≤ n) (n1 : n < 7) (p0 : 0 ≤ p) (p1 : p < 7) (a : hasI (bitI n) p) : p = n := by
  obtain ⟨n, rfl⟩ := nn n0
  obtain ⟨p, rfl⟩ := nn p0
  have := bit_has n (by omega) p (by omega) a
  omega
theorem or_has (a b k : Nat) : (a ||| b) / 2 ^ k % 2 = 1 → a / 2 ^ k % 2 = 1 ∨ b / 2 ^ k % 2 = 1 := by
  have h : ∀ x : Nat, (x / 2 ^ k % 2 = 1) ↔ x.testBit k = true := by
    intro x
    rw [Nat.testBit_eq_decide_div_mod_eq]
    simp
  rw [h, h, h, Nat.testBit_or]
  simp
theorem or_hasI {a b p : Int} (q : hasI (orI a b) p) : hasI a p ∨ hasI b p := by
  unfold orI at q
  have q : ((a.toNat ||| b.toNat : Nat) : Int).toNat / 2 ^ p.toNat % 2 = 1 := q
  rw [Int.toNat_natCast] at q
  exact or_has _ _ _ q
/-- a node stands -/
theorem InvS.stood (I : InvS g h FL R D) {n : Int} (n0 : 0 ≤ n) (n1 : n < 7) (ht : g (244 * n + 1) ≤ 998) (hr : g (244 * n + 3) ≠ 2) (hup : g (244 * n + 0) = 1) :
    ∃ h', Gr h h' ∧ InvS (standV g n) h' FL R D := by
  have nb := I.nb n n0 n1
  obtain ⟨⟨s1, s2⟩, _⟩ := I.na n n0 n1
  have hb := bitR n0 n1
  refine ⟨h.stand (g (244 * n + 1) + 1) n (FL n) (g (244 * n + 4) + g (244 * n + 8)), Gr.stand nb.1.stand_vf, ?_⟩
  have o := fun x a => standV_ne (g := g) (n := n) (x := x) a
  refine I.scal n0 n1 (nb.1.stand_hi I.hi n0) (Ot.stand nb.1.stand_vf) (fun x _ => o x (by omega)) (fun x _ _ => o x (by omega)) ?_ ?_ ?_ ?_ ?_
  · unfold standV
    simp (disch := omega) only [NSg, the, st_ne, st_eq]
    unfold NS
    omega
  · rw [o _ (by omega)]
    exact Or.inl
  · unfold standV
    rw [st_ne (by omega), st_ne (by omega), st_ne (by omega), st_eq]
    intro q; omega
  · have := nb.1.stand I.hi n0 (vo' := bitI n) (fun p p0 p1 q => bit_hasI n0 n1 p0 p1 q)
    unfold standV
    rw [st_ne (show ¬ 244 * n + 1 = 244 * n + 11 by omega), st_ne (show ¬ 244 * n + 1 = 244 * n + 12 by omega), st_ne (show ¬ 244 * n + 1 = 244 * n + 2 by omega), st_ne (show ¬ 244 * n + 1 = 244 * n + 3 by omega), st_eq]
    rw [st_ne (show ¬ 244 * n + 2 = 244 * n + 11 by omega), st_ne (show ¬ 244 * n + 2 = 244 * n + 12 by omega), st_eq]
    rw [st_ne (show ¬ 244 * n + 3 = 244 * n + 11 by omega), st_ne (show ¬ 244 * n + 3 = 244 * n + 12 by omega), st_ne (show ¬ 244 * n + 3 = 244 * n + 2 by omega), st_eq]
    rw [st_ne (show ¬ 244 * n + 9 = 244 * n + 11 by omega), st_ne (show ¬ 244 * n + 9 = 244 * n + 12 by omega), st_ne (show ¬ 244 * n + 9 = 244 * n + 2 by omega), st_ne (show ¬ 244 * n + 9 = 244 * n + 3 by omega), st_ne (show ¬ 244 * n + 9 = 244 * n + 1 by omega)]
    rw [st_ne (show ¬ 244 * n + 12 = 244 * n + 11 by omega), st_eq]
    exact this
  · intro q; exact absurd q hr
/-- a vote is counted -/
theorem InvS.count (I : InvS g h FL R D) {n p : Int} (n0 : 0 ≤ n) (n1 : n < 7) (p0 : 0 ≤ p) (p1 : p < 7) (hp : h.vf (g (244 * n + 1)) p = n) : InvS (st g (244 * n + 12) (orI (g (244 * n + 12)) (bitI p))) h FL R D := by
  have nb := I.nb n n0 n1
  obtain ⟨⟨s1, s2⟩, _⟩ := I.na n n0 n1
  have hb := bitR p0 p1
  have ho := orR (a := g (244 * n + 12)) (b := bitI p) (by omega) (by omega) (by omega) hb.2
  refine I.scal n0 n1 I.hi Ot.rfl (fun x _ => st_ne (by omega)) (fun x _ _ => st_ne (by omega)) ?_ ?_ ?_ ?_ ?_
  · simp (disch := omega) only [NSg, the, st_ne, st_eq]
    unfold NS
    omega
  · rw [st_ne (by omega)]
    exact Or.inl
  · rw [st_ne (by omega)]
    exact id
  · rw [st_eq, st_ne (by omega), st_ne (by omega), st_ne (by omega), st_ne (by omega)]
    exact nb.1.count hp (fun q q0 q1 q2 => by
      rcases or_hasI q2 with e | e
      · exact Or.inl e
      · exact Or.inr (bit_hasI p0 p1 q0 q1 e))
  · rw [st_ne (by omega)]
    exact id
/-- a leader's rows about the others change -/
theorem InvS.rows (I : InvS g h FL R D) {n : Int} (n0 : 0 ≤ n) (n1 : n < 7) (he : ∀ x, (x < 244 * n + 31 ∨ 244 * n + 52 ≤ x) → g' x = g x) (lr : g (244 * n + 3) = 2 → LrA g' R n)
    (mt : g (244 * n + 3) = 2 → ∀ k, 0 ≤ k → k < 7 → g' (244 * n + (38 + k)) ≤ g (244 * n + (38 + k)) ∨ g' (244 * n + (38 + k)) ≤ h.ak (g (244 * n + 1)) k) : InvS g' h FL R D := by
  have nb := I.nb n n0 n1
  have a := I.na n n0 n1
  obtain ⟨⟨s1, s2⟩, _⟩ := I.na n n0 n1
  have := I.node (g' := g') (fl' := FL n) n0 n1 I.hi Ot.rfl (fun x _ => he x (by omega)) ⟨?_, fun x b c => by rw [he x (by omega)]; exact a.ky x b c, fun e k b c => ?_, fun e k b c => ?_⟩ (NB.mk (nb.1.match (mt' := fun k => g' (244 * n + (38 + k))) mt) (Lk_ext (fun x b c d => he x (by omega)) ⟨n0, by omega, by omega⟩ nb.2) (he _ (by omega)) (he _ (by omega)) (he _ (by omega)) (by rw [he _ (by omega), he _ (by omega)]) (he _ (by omega)) (he _ (by omega)) (fun k _ _ => rfl)) (by rw [he _ (by omega)]; exact id)
  · rw [fl_self] at this
    exact this
  · unfold NSg
    rw [he (244 * n + 0) (by omega), he (244 * n + 1) (by omega), he (244 * n + 2) (by omega), he (244 * n + 3) (by omega), he (244 * n + 4) (by omega), he (244 * n + 5) (by omega), he (244 * n + 6) (by omega), he (244 * n + 7) (by omega), he (244 * n + 8) (by omega), he (244 * n + 9) (by omega), he (244 * n + 10) (by omega), he (244 * n + 11) (by omega), he (244 * n + 12) (by omega), he (244 * n + 13) (by omega), he (244 * n + 14) (by omega), he 11134 (by omega)]
    exact ⟨s1, s2⟩
  · rw [he (244 * n + 9) (by omega), he (244 * n + 4) (by omega)] at e
    rw [he _ (by omega), he _ (by omega)]
    exact a.kb e k b c
  · rw [he (244 * n + 3) (by omega)] at e
    exact lr e k b c
/-- what the own log's end is written as matched -/
theorem InvS.matchO (I : InvS g h FL R D) {n : Int} (n0 : 0 ≤ n) (n1 : n < 7) (hr : g (244 * n + 3) = 2) : InvS (st g (244 * n + 38 + n) (lastA g n)) h FL R D := by
  obtain ⟨⟨s1, s2⟩, _⟩ := I.na n n0 n1
  have nb := I.nb n n0 n1
  have a := I.na n n0 n1
  refine I.rows n0 n1 (fun x _ => st_ne (by omega)) (fun e k b c => ?_) (fun e k b c => ?_)
  · have := a.lr e k b c
    rw [st_ne (x := 244 * n + (31 + k)) (by omega), st_ne (x := 244 * n + 4) (by omega), st_ne (x := 244 * n + 8) (by omega), st_ne (x := 244 * n + (45 + k)) (by omega)]
    by_cases q : k = n
    · rw [q, show 244 * n + (38 + n) = 244 * n + 38 + n by omega, st_eq]
      simp only [lastA, the]
      rw [q] at this
      omega
    · rw [st_ne (by omega)]
      omega
  · by_cases q : k = n
    · rw [q, show 244 * n + (38 + n) = 244 * n + 38 + n by omega, st_eq]
      obtain ⟨a1, a2, a3, a4, a5, a6⟩ := nb.1.led hr
      exact Or.inr a5
    · rw [st_ne (by omega)]
      exact Or.inl (Int.le_refl _)
theorem InvS.heard (I : InvS g h FL R D) {n : Int} {mi : Row} (n0 : 0 ≤ n) (n1 : n < 7) (p0 : 0 ≤ mi 0) (p1 : mi 0 < 7) (r0 : 0 ≤ mi 10) (r1 : mi 10 ≤ R) : InvS (heardG g mi n) h FL R D := by
  have a := I.na n n0 n1
  unfold heardG
  simp only [the]
  refine I.rows n0 n1 (fun x _ => st_ne (by omega)) (fun e k b c => ?_) (fun e k b c => ?_)
  · have := a.lr e k b c
    rw [st_ne (x := 244 * n + (31 + k)) (by omega), st_ne (x := 244 * n + 4) (by omega), st_ne (x := 244 * n + 8) (by omega), st_ne (x := 244 * n + (38 + k)) (by omega)]
    by_cases q : k = mi 0
    · rw [q, show 244 * n + (45 + mi 0) = 244 * n + 45 + mi 0 by omega, st_eq]
      rw [q, show 244 * n + (45 + mi 0) = 244 * n + 45 + mi 0 by omega] at this
      omega
    · rw [st_ne (by omega)]
      omega
  · rw [st_ne (by omega)]
    exact Or.inl (Int.le_refl _)
/-- the other one has all up to i -/
theorem InvS.matchd (I : InvS g h FL R D) {n i : Int} {mi : Row} (n0 : 0 ≤ n) (n1 : n < 7) (hr : g (244 * n + 3) = 2) (p0 : 0 ≤ mi 0) (p1 : mi 0 < 7) (hi : i ≤ 0 ∨ i ≤ h.ak (g (244 * n + 1)) (mi 0)) : InvS (matchG g mi n i) h FL R D := by
  have a := I.na n n0 n1
  have nb := I.nb n n0 n1
  obtain ⟨⟨s1, s2⟩, _⟩ := I.na n n0 n1
  obtain ⟨a1, a2, a3, a4, a5, a6⟩ := nb.1.led hr
  have hk := I.hi.akn (g (244 * n + 1)) (mi 0)
  have hls : h.ak (g (244 * n + 1)) (mi 0) ≤ g (244 * n + 4) + g (244 * n + 8) := by
    by_cases c : 1 ≤ h.ak (g (244 * n + 1)) (mi 0)
    · have := (I.hi.akb _ _ c).2
      omega
    · omega
  have hm := a6 (mi 0) p0 p1
  have e38 : matchG g mi n i (244 * n + 38 + mi 0) = max (g (244 * n + (38 + mi 0))) i := by
    unfold matchG
    simp only [the]
    rw [st_ne (by omega), st_eq]
  have e31 : matchG g mi n i (244 * n + 31 + mi 0) = max (g (244 * n + (38 + mi 0))) i + 1 := by
    unfold matchG
    simp only [the]
    rw [st_eq, show 244 * n + (38 + mi 0) = 244 * n + 38 + mi 0 by omega, st_eq]
  have o : ∀ x, ¬ x = 244 * n + 38 + mi 0 → ¬ x = 244 * n + 31 + mi 0 → matchG g mi n i x = g x := by
    intro x b c
    unfold matchG
    simp only [the]
    rw [st_ne c, st_ne b]
  refine I.rows n0 n1 (fun x _ => o x (by omega) (by omega)) (fun e k b c => ?_) (fun e k b c => ?_)
  · have := a.lr e k b c
    rw [o (244 * n + (45 + k)) (by omega) (by omega), o (244 * n + 4) (by omega) (by omega), o (244 * n + 8) (by omega) (by omega)]
    by_cases q : k = mi 0
    · rw [q, show 244 * n + (38 + mi 0) = 244 * n + 38 + mi 0 by omega, show 244 * n + (31 + mi 0) = 244 * n + 31 + mi 0 by omega, e38, e31]
      rw [q] at this
      omega
    · rw [o _ (by omega) (by omega), o _ (by omega) (by omega)]
      omega
  · by_cases q : k = mi 0
    · rw [q, show 244 * n + (38 + mi 0) = 244 * n + 38 + mi 0 by omega, e38]
      omega
    · rw [o _ (by omega) (by omega)]
      exact Or.inl (Int.le_refl _)
theorem InvS.backd (I : InvS g h FL R D) {n : Int} {mi : Row} (n0 : 0 ≤ n) (n1 : n < 7) (hr : g (244 * n + 3) = 2) (p0 : 0 ≤ mi 0) (p1 : mi 0 < 7) : InvS (backG g mi n) h FL R D := by
  have a := I.na n n0 n1
  have hm := I.mt n0 n1 hr p0 p1
  unfold backG
  simp only [the]
  refine I.rows n0 n1 (fun x _ => st_ne (by omega)) (fun e k b c => ?_) (fun e k b c => ?_)
  · have := a.lr e k b c
    rw [st_ne (x := 244 * n + 4) (by omega), st_ne (x := 244 * n + 8) (by omega), st_ne (x := 244 * n + (38 + k)) (by omega), st_ne (x := 244 * n + (45 + k)) (by omega)]
    by_cases q : k = mi 0
    · rw [q, show 244 * n + (31 + mi 0) = 244 * n + 31 + mi 0 by omega, st_eq]
      rw [q] at this
      rw [show 244 * n + 31 + mi 0 = 244 * n + (31 + mi 0) by omega]
      omega
    · rw [st_ne (by omega)]
      omega
  · rw [st_ne (by omega)]
    exact Or.inl (Int.le_refl _)
end
