/-! DEPS: iv -/
/-! RA: Raft over a history: majorities, configurations, leaders hold all that is committed -/
abbrev Ent : Type := (Int) × (Int) × (Int) × (Int)
abbrev Ent.t (self : Ent) : Int := self.1
abbrev Ent.k (self : Ent) : Int := self.2.1
abbrev Ent.a (self : Ent) : Int := self.2.2.1
abbrev Ent.b (self : Ent) : Int := self.2.2.2
abbrev ELog : Type := Int → Ent
/-- two logs agree up to an index (0 is the founding configuration) -/
def Ag (f g : ELog) (n : Int) : Prop := ∀ i, 0 ≤ i → i ≤ n → f i = g i
theorem Ag.symm {f g : ELog} {n : Int} (h : Ag f g n) : Ag g f n := fun i a b => (h i a b).symm
theorem Ag.trans {f g e : ELog} {n : Int} (h : Ag f g n) (h2 : Ag g e n) : Ag f e n := fun i a b => (h i a b).trans (h2 i a b)
theorem Ag.le {f g : ELog} {n m : Int} (h : Ag f g n) (hm : m ≤ n) : Ag f g m := fun i a b => h i a (by omega)
theorem Ag.rfl {f : ELog} {n : Int} : Ag f f n := fun _ _ _ => Eq.refl _
abbrev Qm (s o : Int) : Prop := bitsI o < 2 * bitsI (andI s o)
/-- s is a majority of the configuration c -/
abbrev Mj (s : Int) (c : Ent) : Prop := Qm s c.a ∧ (c.b = 0 ∨ Qm s c.b)
/-- a configuration follows another -/
def Suc (c d : Ent) : Prop := (c.b = 0 ∧ d.a = c.a ∧ d.b ≠ 0) ∨ (c.b ≠ 0 ∧ d.a = c.b ∧ d.b = 0)
def LastC (f : ELog) (n i : Int) : Prop := 0 ≤ i ∧ i ≤ n ∧ (f i).k = 1 ∧ ∀ j, i < j → j ≤ n → (f j).k ≠ 1
theorem and_bit (s o k : Nat) : (s &&& o) / 2 ^ k % 2 = (s / 2 ^ k % 2) * (o / 2 ^ k % 2) := by
  have h : ∀ x : Nat, x / 2 ^ k % 2 = (x.testBit k).toNat := by
    intro x
    rw [Nat.testBit_eq_decide_div_mod_eq]
    by_cases c : x / 2 ^ k % 2 = 1
    · rw [decide_eq_true c, c]; rfl
    · rw [decide_eq_false c]
      have := Nat.mod_two_eq_zero_or_one (x / 2 ^ k)
      simp only [Bool.toNat_false]
      omega
  rw [h, h, h, Nat.testBit_and]
  cases s.testBit k <;> cases o.testBit k <;> rfl
theorem q_bits (a b o : Nat) (h : ∀ k, k < 7 → ¬ (a / 2 ^ k % 2 = 1 ∧ b / 2 ^ k % 2 = 1)) (h1 : bitsI (o : Int) < 2 * bitsI (andI (a : Int) (o : Int))) (h2 : bitsI (o : Int) < 2 * bitsI (andI (b : Int) (o : Int))) : False := by
  unfold bitsI andI at h1 h2
  simp only [Int.toNat_natCast] at h1 h2
  have hb : ∀ x k : Nat, x / 2 ^ k % 2 = 0 ∨ x / 2 ^ k % 2 = 1 := fun x k => Nat.mod_two_eq_zero_or_one _
  have key : ∀ k, k < 7 → (a &&& o) / 2 ^ k % 2 + (b &&& o) / 2 ^ k % 2 ≤ o / 2 ^ k % 2 := by
    intro k hk
    rw [and_bit, and_bit]
    have hh := h k hk
    rcases hb a k with e1 | e1 <;> rcases hb b k with e2 | e2 <;> rcases hb o k with e3 | e3 <;> rw [e1, e2, e3] <;> simp_all
  have k0 := key 0 (by omega)
  have k1 := key 1 (by omega)
  have k2 := key 2 (by omega)
  have k3 := key 3 (by omega)
  have k4 := key 4 (by omega)
  have k5 := key 5 (by omega)
  have k6 := key 6 (by omega)
  simp only [show 2 ^ 0 = 1 from rfl, show 2 ^ 1 = 2 from rfl, show 2 ^ 2 = 4 from rfl, show 2 ^ 3 = 8 from rfl, show 2 ^ 4 = 16 from rfl, show 2 ^ 5 = 32 from rfl, show 2 ^ 6 = 64 from rfl, Nat.div_one] at k0 k1 k2 k3 k4 k5 k6
  omega
/-- two majorities of one set meet -/
theorem Qm_meet {s s' o : Int} (h : Qm s o) (h' : Qm s' o) : ∃ k, 0 ≤ k ∧ k < 7 ∧ hasI s k ∧ hasI s' k := by
  apply Classical.byContradiction
  intro hn
  refine q_bits s.toNat s'.toNat o.toNat (fun k hk hc => hn ⟨(k : Int), by omega, by omega, ?_, ?_⟩) ?_ ?_
  · show s.toNat / 2 ^ (k : Int).toNat % 2 = 1
    rw [Int.toNat_natCast]; exact hc.1
  · show s'.toNat / 2 ^ (k : Int).toNat % 2 = 1
    rw [Int.toNat_natCast]; exact hc.2
  · exact h
  · exact h'
theorem Suc.meet1 {c d : Ent} {s s' : Int} (h : Suc c d) (h1 : Mj s c) (h2 : Mj s' d) : ∃ k, 0 ≤ k ∧ k < 7 ∧ hasI s k ∧ hasI s' k := by
  rcases h with ⟨h3, h4, h5⟩ | ⟨h3, h4, h5⟩
  · have := h2.1
    rw [h4] at this
    exact Qm_meet h1.1 this
  · have := h2.1
    rw [h4] at this
    rcases h1.2 with h6 | h6
    · exact absurd h6 h3
    · exact Qm_meet h6 this
theorem Suc.meet2 {c d e : Ent} {s s' : Int} (h : Suc c d) (h' : Suc c e) (h1 : Mj s d) (h2 : Mj s' e) : ∃ k, 0 ≤ k ∧ k < 7 ∧ hasI s k ∧ hasI s' k := by
  rcases h with ⟨h3, h4, h5⟩ | ⟨h3, h4, h5⟩ <;> rcases h' with ⟨g3, g4, g5⟩ | ⟨g3, g4, g5⟩
  · have a1 := h1.1
    have a2 := h2.1
    rw [h4] at a1
    rw [g4] at a2
    exact Qm_meet a1 a2
  · exact absurd h3 g3
  · exact absurd g3 h3
  · have a1 := h1.1
    have a2 := h2.1
    rw [h4] at a1
    rw [g4] at a2
    exact Qm_meet a1 a2
/-- the configuration before the one at i, in f, stands in g too -/
def PrevOK (f g : ELog) (ng i : Int) : Prop := i = 0 ∨ ∃ p, LastC f (i - 1) p ∧ Ag g f p ∧ p ≤ ng ∧ Suc (f p) (f i)
theorem compat {f g : ELog} {nf ng i j s s' : Int} (h0 : f 0 = g 0) (hi : LastC f nf i) (hj : LastC g ng j) (hp : PrevOK f g ng i) (hq : PrevOK g f nf j) (h1 : Mj s (f i)) (h2 : Mj s' (g j)) : ∃ k, 0 ≤ k ∧ k < 7 ∧ hasI s k ∧ hasI s' k := by
  have sw : (∃ k, 0 ≤ k ∧ k < 7 ∧ hasI s' k ∧ hasI s k) → ∃ k, 0 ≤ k ∧ k < 7 ∧ hasI s k ∧ hasI s' k := fun ⟨k, a, b, c, d⟩ => ⟨k, a, b, d, c⟩
  -- q a configuration of g that f has: q ≤ i; p of f that g has: p ≤ j
  have up1 : ∀ q, LastC g (j - 1) q → Ag f g q → q ≤ nf → q ≤ i := by
    intro q a b c
    apply Classical.byContradiction
    intro hn
    have e := b q a.1 (Int.le_refl _)
    exact hi.2.2.2 q (by omega) c (by rw [e]; exact a.2.2.1)
  have up2 : ∀ p, LastC f (i - 1) p → Ag g f p → p ≤ ng → p ≤ j := by
    intro q a b c
    apply Classical.byContradiction
    intro hn
    have e := b q a.1 (Int.le_refl _)
    exact hj.2.2.2 q (by omega) c (by rw [e]; exact a.2.2.1)
  rcases hp with hp | ⟨p, p1, p2, p3, p4⟩
  · rcases hq with hq | ⟨q, q1, q2, q3, q4⟩
    · subst hp hq
      rw [h0] at h1
      exact Qm_meet h1.1 h2.1
    · have a := up1 q q1 q2 q3
      have : q = 0 := by have := q1.1; omega
      subst this hp
      rw [h0] at h1
      exact q4.meet1 h1 h2
  · rcases hq with hq | ⟨q, q1, q2, q3, q4⟩
    · have a := up2 p p1 p2 p3
      have : p = 0 := by have := p1.1; omega
      subst this hq
      rw [← h0] at h2
      exact sw (p4.meet1 h2 h1)
    · have a := up1 q q1 q2 q3
      have b := up2 p p1 p2 p3
      rcases Int.lt_trichotomy p q with c | c | c
      · have e := q2 q q1.1 (Int.le_refl _)
        have : q = i := by
          apply Classical.byContradiction
          intro hn
          exact p1.2.2.2 q c (by omega) (by rw [e]; exact q1.2.2.1)
        subst this
        rw [← e] at q4
        exact q4.meet1 h1 h2
      · subst c
        have e := q2 p q1.1 (Int.le_refl _)
        rw [← e] at q4
        exact p4.meet2 q4 h1 h2
      · have e := p2 p p1.1 (Int.le_refl _)
        have : p = j := by
          apply Classical.byContradiction
          intro hn
          exact q1.2.2.2 p c (by omega) (by rw [e]; exact p1.2.2.1)
        subst this
        rw [← e] at p4
        exact sw (p4.meet1 h2 h1)
