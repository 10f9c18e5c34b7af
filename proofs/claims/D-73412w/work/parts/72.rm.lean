/-! DEPS: rl -/
/-! RM: the invariant through holding, leading, standing, votes -/
section
variable {g g' : Row} {h h' : His} {FL : Int → ELog} {R : Int} {D : DK} {Λ : Law}
theorem InvS.cfgc (I : InvS g h FL R D) {n : Int} (n0 : 0 ≤ n) (n1 : n < 7) (hc : cfgHeld g n) : ∃ p, LastC (FL n) (g (244 * n + 4) + g (244 * n + 8)) p ∧ p ≤ g (244 * n + 9) ∧ oldA g n = (FL n p).a ∧ newA g n = (FL n p).b := by
  have nb := I.nb n n0 n1
  obtain ⟨⟨s1, s2⟩, _⟩ := I.na n n0 n1
  obtain ⟨c, c1, c2, c3, c4⟩ := nb.2.conf (by omega)
  refine ⟨c, c1, ?_, c2, c3⟩
  have hc : cfgA g n (g (244 * n + 4) + g (244 * n + 8)) ≤ g (244 * n + 9) := hc
  omega
theorem InvS.holdK {n : Int} (n0 : 0 ≤ n) (n1 : n < 7) : ∀ (f : Nat) (g : Row) (h : His) (FL : Int → ELog), InvS g h FL R D → g (244 * n + 3) = 2 → Ex (holdF Λ n f g) h R D
  | 0, g, h, FL, I, hr => I.ex
  | f + 1, g, h, FL, I, hr => by
    have hC := I.cm n0 n1
    have ht := topA_le (I.lg n0 n1)
    have hL0 := I.lg n0 n1
    have hr1 : growG g n (topA g n) (244 * n + 3) = 2 := by
      rw [growG_ne hC ht.2 (by omega) (by omega) (by omega) (by omega) (by omega) (by omega)]; exact hr
    unfold holdF
    simp only []
    refine (I.growL n0 n1 hr).bind (fun h1 FL1 G1 I1 => ?_)
    generalize growG g n (topA g n) = g1 at *
    have nr := newR (I1.lg n0 n1)
    have hL := I1.lg n0 n1
    split
    · rename_i c1
      split
      · rename_i c2
        obtain ⟨p, p1, p2, p3, p4⟩ := I1.cfgc n0 n1 c2
        have hl : Ex (layG g1 n (g1 (244 * n + 1)) 1 (newA g1 n) 0) h1 R D := I1.layL n0 n1 hr1 (by omega) (by omega) (by omega) (by omega) (fun _ => ⟨p, p1, p2, Or.inr ⟨by rw [← p4]; exact c1, p4, rfl⟩⟩)
        have hr2 : layG g1 n (g1 (244 * n + 1)) 1 (newA g1 n) 0 (244 * n + 3) = 2 := by rw [layG_ne hL (by omega) (by omega) (by omega)]; exact hr1
        split
        · refine hl.bind (fun h2 FL2 G2 I2 => ?_)
          simp only [the] at *
          generalize layG g1 n (g1 (244 * n + 1)) 1 (newA g1 n) 0 = g2 at *
          have I3 := I2.matchO n0 n1 hr2
          have hr3 : st g2 (244 * n + 38 + n) (lastA g2 n) (244 * n + 3) = 2 := by rw [st_ne (by omega)]; exact hr2
          have I4 := I3.sendAll (Λ := Λ) n0 n1 hr3
          exact InvS.holdK n0 n1 f _ h2 FL2 I4 (by rw [sendAllG_lo I3.gl (by omega)]; exact hr3)
        · exact hl
      · exact I1.ex
    · split
      · exact I1.ex
      · split
        · exact I1.ex
        · exact ((I1.follow (w := -1) n0 n1 (by omega) (by omega) (Or.inr rfl)).timer n0 n1).ex
theorem InvS.hold (I : InvS g h FL R D) {n : Int} (n0 : 0 ≤ n) (n1 : n < 7) (hr : g (244 * n + 3) = 2) : Ex (holdG Λ g n) h R D := InvS.holdK n0 n1 3 g h FL I hr
theorem InvS.laid (I : InvS g h FL R D) {n : Int} (n0 : 0 ≤ n) (n1 : n < 7) (hr : g (244 * n + 3) = 2) : Ex (laidG Λ g n) h R D := by
  have I3 := I.matchO n0 n1 hr
  have hr3 : st g (244 * n + 38 + n) (lastA g n) (244 * n + 3) = 2 := by rw [st_ne (by omega)]; exact hr
  have I4 := I3.sendAll (Λ := Λ) n0 n1 hr3
  exact I4.hold n0 n1 (by rw [sendAllG_lo I3.gl (by omega)]; exact hr3)
theorem InvS.lead (I : InvS g h FL R D) {n : Int} (n0 : 0 ≤ n) (n1 : n < 7) (hr : g (244 * n + 3) = 1) (hm : mostA g n (g (244 * n + 12))) (h1 : 1 ≤ g (244 * n + 1)) : Ex (leadG Λ g n) h R D := by
  obtain ⟨⟨s1, s2⟩, _⟩ := I.na n n0 n1
  have I1 := I.led n0 n1
  have o := fun x a => ledG_ne (g := g) (n := n) (x := x) a (by omega) (by omega)
  have hx := cfg_ext (g' := ledG g n) (I.lg n0 n1) (fun x _ _ _ => o x (by omega))
  have hm1 : mostA (ledG g n) n (ledG g n (244 * n + 12)) := by
    rw [o _ (by omega)]
    unfold mostA at hm ⊢
    rw [hx.1, hx.2.1]
    exact hm
  obtain ⟨h2, G2, I2⟩ := I1.crown n0 n1 (by rw [o _ (by omega)]; exact hr) hm1 (by rw [o _ (by omega)]; exact h1)
  have e1 : crownG (ledG g n) n (244 * n + 1) = g (244 * n + 1) := by rw [crownG_ne (by omega), o _ (by omega)]
  have hr2 : crownG (ledG g n) n (244 * n + 3) = 2 := if_pos rfl
  have hl := I2.layL (k := 2) (a := 0) (b := 0) n0 n1 hr2 (by omega) (by omega) (by omega) (by omega) (fun q => by omega)
  have hL := I2.lg n0 n1
  rw [e1] at hl
  have hr3 : layG (crownG (ledG g n) n) n (g (244 * n + 1)) 2 0 0 (244 * n + 3) = 2 := by rw [layG_ne hL (by omega) (by omega) (by omega)]; exact hr2
  unfold leadG
  exact (hl.bind (fun h3 FL3 G3 I3 => I3.laid n0 n1 hr3)).gr G2
theorem InvS.askMI (I : InvS g h FL R D) {n t : Int} (n0 : 0 ≤ n) (n1 : n < 7) (hr : g (244 * n + 3) = 1) (t0 : 0 ≤ t) (t1 : t < 7) : MI h R (g 11134) (askM g n t) := by
  have nb := I.nb n n0 n1
  obtain ⟨⟨s1, s2⟩, _⟩ := I.na n n0 n1
  obtain ⟨a1, a2, a3, a4, a5, a6⟩ := nb.1.can hr
  have tr := termR (I.lg n0 n1) (i := g (244 * n + 4) + g (244 * n + 8)) (by omega) (by omega)
  have tt := nb.2.term (i := g (244 * n + 4) + g (244 * n + 8)) (by omega) (by omega)
  have rr := I.rr
  have m0 : askM g n t 0 = n := rfl
  have m1 : askM g n t 1 = t := rfl
  have m2 : askM g n t 2 = 0 := rfl
  have m3 : askM g n t 3 = g (244 * n + 1) := rfl
  have m5 : askM g n t 5 = 0 := rfl
  have m6 : askM g n t 6 = g (244 * n + 4) + g (244 * n + 8) := rfl
  have m7 : askM g n t 7 = termA g n (g (244 * n + 4) + g (244 * n + 8)) := rfl
  have m10 : askM g n t 10 = 0 := rfl
  refine ⟨by rw [m0, m1, m2, m3, m5, m6, m7, m10]; omega, fun _ => ?_, fun q => by rw [m2] at q; omega, fun q => by rw [m2] at q; omega, fun q => by rw [m2] at q; omega, fun q => by rw [m2] at q; omega, fun q => by rw [m2] at q; omega⟩
  rw [m0, m3, m6, m7, a2, a3, tt]
  exact ⟨a1, rfl, rfl⟩
theorem InvS.askK {n : Int} (n0 : 0 ≤ n) (n1 : n < 7) : ∀ (j : Nat) (g : Row) (t : Int), InvS g h FL R D → g (244 * n + 3) = 1 → 0 ≤ t → t + j ≤ 7 → InvS (askF Λ n j g t) h FL R D
  | 0, g, t, I, hr, t0, t1 => I
  | j + 1, g, t, I, hr, t0, t1 => by
    unfold askF
    have hG := I.gl
    have hG2 : 0 ≤ g 11133 := hG.2.2.2.2.1
    split
    · exact InvS.askK n0 n1 j _ (t + 1) (I.post (I.askMI n0 n1 hr t0 (by omega))) (by rw [postG_ne hG (by omega) (by omega) (by omega) (by omega)]; exact hr) (by omega) (by omega)
    · exact InvS.askK n0 n1 j g (t + 1) I hr (by omega) (by omega)
theorem InvS.stand (I : InvS g h FL R D) {n : Int} (n0 : 0 ≤ n) (n1 : n < 7) (hr : g (244 * n + 3) ≠ 2) (hup : g (244 * n + 0) = 1) : Ex (standG Λ g n) h R D := by
  obtain ⟨⟨s1, s2⟩, _⟩ := I.na n n0 n1
  unfold standG
  simp only [the]
  split
  · exact (I.timer n0 n1).ex
  · rename_i c
    have c1 : ¬ g (244 * n + 1) = 999 := fun q => c (Or.inr q)
    obtain ⟨h1, G1, I1⟩ := I.stood n0 n1 (by omega) hr hup
    have I2 := I1.timer (Λ := Λ) n0 n1
    have e3 : timerG Λ (standV g n) n (244 * n + 3) = 1 := by
      rw [timerG_ne (by omega) (by omega)]
      unfold standV
      rw [st_ne (by omega), st_ne (by omega), st_ne (by omega), st_eq]
    have e1 : timerG Λ (standV g n) n (244 * n + 1) = g (244 * n + 1) + 1 := by rw [timerG_ne (by omega) (by omega), standV_1]
    generalize timerG Λ (standV g n) n = g2 at *
    split
    · rename_i c2
      exact (I2.lead n0 n1 e3 c2 (by omega)).gr G1
    · exact (InvS.askK n0 n1 7 g2 0 I2 e3 (by omega) (by omega)).ex.gr G1
/-! answers -/
theorem ans_w {mi : Row} {k a b r : Int} : ansM g mi k a b r 0 = mi 1 ∧ ansM g mi k a b r 1 = mi 0 ∧ ansM g mi k a b r 2 = k ∧ ansM g mi k a b r 3 = g (244 * mi 1 + 1) ∧ ansM g mi k a b r 5 = 0 ∧ ansM g mi k a b r 6 = a ∧ ansM g mi k a b r 7 = b ∧ ansM g mi k a b r 10 = r :=
  ⟨rfl, rfl, rfl, rfl, rfl, rfl, rfl, rfl⟩
theorem InvS.ans (I : InvS g h FL R D) {mi : Row} {k a b r : Int} (hm0 : 0 ≤ mi 0 ∧ mi 0 < 7) (hm1 : 0 ≤ mi 1 ∧ mi 1 < 7) (hk : k = 1 ∨ k = 3 ∨ k = 5) (ha : 0 ≤ a ∧ a ≤ 999) (hb : 0 ≤ b ∧ b ≤ 1000) (hr : 0 ≤ r ∧ r ≤ R)
    (h1 : k = 1 → a = 0 ∨ (a = 1 ∧ h.vf (g (244 * mi 1 + 1)) (mi 1) = mi 0)) (h3 : k = 3 → (a = 1 ∧ h.el (g (244 * mi 1 + 1)) ∧ b ≤ h.ak (g (244 * mi 1 + 1)) (mi 1)) ∨ (a = 0 ∧ 1 ≤ b)) (h5 : k = 5 → a = 0 ∨ (h.el (g (244 * mi 1 + 1)) ∧ a ≤ h.ak (g (244 * mi 1 + 1)) (mi 1))) :
    InvS (ansG Λ g mi k a b r) h FL R D := by
  obtain ⟨⟨s1, s2⟩, _⟩ := I.na (mi 1) hm1.1 hm1.2
  refine I.post ?_
  obtain ⟨m0, m1, m2, m3, m5, m6, m7, m10⟩ := ans_w (g := g) (mi := mi) (k := k) (a := a) (b := b) (r := r)
  refine ⟨by rw [m0, m1, m2, m3, m5, m6, m7, m10]; omega, fun q => by rw [m2] at q; omega, fun q => ?_, fun q => by rw [m2] at q; omega, fun q => ?_, fun q => by rw [m2] at q; omega, fun q => ?_⟩
  · rw [m2] at q
    rw [m0, m1, m3, m6]; exact h1 q
  · rw [m2] at q
    rw [m0, m3, m6, m7]; exact h3 q
  · rw [m2] at q
    rw [m0, m3, m6]; exact h5 q
/-- a node is asked to vote -/
theorem InvS.votes (I : InvS g h FL R D) {mi : Row} {n : Int} (hM : MI h R (g 11134) mi) (hn : mi 1 = n) (hk : mi 2 = 0) : Ex (voteG Λ g mi n) h R D := by
  have hs := hM.s
  have n0 : 0 ≤ n := by omega
  have n1 : n < 7 := by omega
  have nb := I.nb n n0 n1
  obtain ⟨⟨s1, s2⟩, _⟩ := I.na n n0 n1
  have rr := I.rr
  unfold voteG
  split
  · rename_i c
    obtain ⟨c1, c2, c3⟩ := c
    obtain ⟨k1, k2, k3⟩ := hM.k0 hk
    simp only [the] at c1 c2
    rw [c1] at k1 k2 k3
    have hu : Utd (h.cl (g (244 * n + 1)) (mi 0)) (h.cn (g (244 * n + 1)) (mi 0)) (FL n) (g (244 * n + 4) + g (244 * n + 8)) := by
      unfold noLess at c3
      rw [nb.2.term (by simp only [lastA, the]; omega) (by simp only [lastA, the]; omega), k3] at c3
      simp only [lastA, the] at c3
      unfold Utd
      rw [← k2]
      exact c3
    obtain ⟨h1, G1, I1, v1⟩ := I.vote n0 n1 (by omega) (by omega) c2 k1 hu
    have I2 := I1.timer (Λ := Λ) n0 n1
    have e1 : timerG Λ (st g (244 * n + 2) (mi 0)) n (244 * n + 1) = g (244 * n + 1) := by rw [timerG_ne (by omega) (by omega), st_ne (by omega)]
    refine ⟨h1, FL, G1, I2.ans ⟨by omega, by omega⟩ ⟨by omega, by omega⟩ (Or.inl rfl) (by omega) (by omega) (by omega) (fun _ => Or.inr ⟨rfl, ?_⟩) (fun q => by omega) (fun q => by omega)⟩
    rw [hn, e1]
    exact v1
  · exact (I.ans ⟨by omega, by omega⟩ ⟨by omega, by omega⟩ (Or.inl rfl) (by omega) (by omega) (by omega) (fun _ => Or.inl rfl) (fun q => by omega) (fun q => by omega)).ex
theorem InvS.counts (I : InvS g h FL R D) {mi : Row} {n : Int} (hM : MI h R (g 11134) mi) (hn : mi 1 = n) (hk : mi 2 = 1) : Ex (countG Λ g mi n) h R D := by
  have hs := hM.s
  have n0 : 0 ≤ n := by omega
  have n1 : n < 7 := by omega
  unfold countG
  simp only [the]
  split
  · exact I.ex
  · rename_i c
    have c1 : g (244 * n + 3) = 1 := Classical.byContradiction (fun q => c (Or.inl q))
    have c2 : mi 3 = g (244 * n + 1) := Classical.byContradiction (fun q => c (Or.inr (Or.inl q)))
    have c3 : mi 6 = 1 := Classical.byContradiction (fun q => c (Or.inr (Or.inr q)))
    have k1 := hM.k1 hk
    rw [c2, hn] at k1
    have I1 := I.count n0 n1 (p := mi 0) (by omega) (by omega) (by omega)
    have nb := I.nb n n0 n1
    obtain ⟨a1, a2, a3, a4, a5, a6⟩ := nb.1.can c1
    obtain ⟨⟨s1, s2⟩, _⟩ := I.na n n0 n1
    have ht : 1 ≤ g (244 * n + 1) := by omega
    split
    · rename_i c4
      exact I1.lead n0 n1 (by rw [st_ne (by omega)]; exact c1) c4 (by rw [st_ne (by omega)]; exact ht)
    · exact I1.ex
end
