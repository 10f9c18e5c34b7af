/-! DEPS: rm -/
/-! RN: the invariant through entries and snapshots taken -/
section
variable {g g' : Row} {h h' : His} {FL : Int → ELog} {R : Int} {D : DK} {Λ : Law}
/-- only the history grows -/
theorem InvS.hist (I : InvS g h FL R D) {n : Int} (n0 : 0 ≤ n) (n1 : n < 7) (H' : HI h') (O : Ot h h' n) (ni : NI h' n (g (244 * n + 1)) (g (244 * n + 2)) (g (244 * n + 3)) (g (244 * n + 4) + g (244 * n + 8)) (g (244 * n + 9)) (g (244 * n + 12)) (FL n) (fun k => g (244 * n + (38 + k)))) : InvS g h' FL R D := by
  have := I.node (g' := g) (fl' := FL n) n0 n1 H' O (fun x _ => rfl) (I.na n n0 n1) ⟨ni, (I.nb n n0 n1).2⟩ id
  rw [fl_self] at this
  exact this
theorem InvS.ackd (I : InvS g h FL R D) {n a : Int} (n0 : 0 ≤ n) (n1 : n < 7) (hU : h.el (g (244 * n + 1))) (h1 : a ≤ g (244 * n + 4) + g (244 * n + 8)) (h2 : a ≤ h.ln (g (244 * n + 1))) (hag : Ag (FL n) (h.ll (g (244 * n + 1))) a) :
    ∃ h', Gr h h' ∧ InvS g h' FL R D ∧ h'.el (g (244 * n + 1)) ∧ a ≤ h'.ak (g (244 * n + 1)) n := by
  have nb := I.nb n n0 n1
  refine ⟨h.ack (g (244 * n + 1)) n a, Gr.ack, I.hist n0 n1 (nb.1.ack_hi I.hi hU h2) Ot.ack (nb.1.ack h1 hag), hU, ?_⟩
  show a ≤ if g (244 * n + 1) = g (244 * n + 1) ∧ n = n then max (h.ak (g (244 * n + 1)) n) a else h.ak (g (244 * n + 1)) n
  rw [if_pos ⟨rfl, rfl⟩]
  omega
/-- the log is cut before r + 1 -/
theorem InvS.cutF (I : InvS g h FL R D) {n r : Int} (n0 : 0 ≤ n) (n1 : n < 7) (hr : g (244 * n + 3) = 0) (hU : h.el (g (244 * n + 1))) (h0 : g (244 * n + 9) ≤ r) (h1 : r < g (244 * n + 4) + g (244 * n + 8)) (h2 : r + 1 ≤ h.ln (g (244 * n + 1))) (hd : (FL n (r + 1)).t ≠ (h.ll (g (244 * n + 1)) (r + 1)).t) :
    InvS (st g (244 * n + 8) (r - g (244 * n + 4))) h FL R D := by
  have nb := I.nb n n0 n1
  have a := I.na n n0 n1
  obtain ⟨⟨s1, s2⟩, _⟩ := I.na n n0 n1
  have ni := nb.1
  rw [hr] at ni
  have nc := ni.cut hU (r := r) (by omega) h1 h2 hd h0
  obtain ⟨v, hv⟩ : ∃ v, r - g (244 * n + 4) = v := ⟨_, rfl⟩
  rw [hv]
  have o : ∀ x, ¬ x = 244 * n + 8 → st g (244 * n + 8) v x = g x := fun x a => st_ne a
  have e8 : st g (244 * n + 8) v (244 * n + 8) = v := st_eq _ _ _
  have := I.node (g' := st g (244 * n + 8) v) (fl' := FL n) n0 n1 I.hi Ot.rfl (fun x _ => o x (by omega)) ⟨?_, fun x b c => by rw [o x (by omega)]; exact a.ky x b c, fun e k b c => ?_, fun e => ?_⟩ (NB.mk nc (nb.2.cut (m := v) (by omega) (fun x b c d => o x (by omega)) (by omega) e8 (by omega)) (o _ (by omega)) (o _ (by omega)) (by rw [o _ (by omega)]; exact hr) (by rw [e8, o _ (by omega)]; omega) (o _ (by omega)) (o _ (by omega)) (fun k _ _ => o _ (by omega))) (by rw [o _ (by omega)]; exact id)
  · rw [fl_self] at this
    exact this
  · unfold NSg
    rw [e8, o (244 * n + 0) (by omega), o (244 * n + 1) (by omega), o (244 * n + 2) (by omega), o (244 * n + 3) (by omega), o (244 * n + 4) (by omega), o (244 * n + 5) (by omega), o (244 * n + 6) (by omega), o (244 * n + 7) (by omega), o (244 * n + 9) (by omega), o (244 * n + 10) (by omega), o (244 * n + 11) (by omega), o (244 * n + 12) (by omega), o (244 * n + 13) (by omega), o (244 * n + 14) (by omega), o 11134 (by omega)]
    unfold NS
    omega
  · rw [o (244 * n + 9) (by omega), o (244 * n + 4) (by omega)] at e
    rw [o _ (by omega), o _ (by omega)]
    exact a.kb e k b c
  · rw [o _ (by omega)] at e
    omega
/-- the leader's next entry is laid -/
theorem InvS.layF (I : InvS g h FL R D) {n r : Int} (n0 : 0 ≤ n) (n1 : n < 7) (hr : g (244 * n + 3) = 0) (hU : h.el (g (244 * n + 1))) (h1 : r = g (244 * n + 4) + g (244 * n + 8)) (h2 : r + 1 ≤ h.ln (g (244 * n + 1))) (hag : Ag (FL n) (h.ll (g (244 * n + 1))) r) {e : Ent} (he : e = h.ll (g (244 * n + 1)) (r + 1)) :
    (layOk g n → InvS (layG g n e.t e.k e.a e.b) h (fun p => if p = n then app (FL n) (r + 1) e else FL p) R D ∧ layG g n e.t e.k e.a e.b (244 * n + 4) + layG g n e.t e.k e.a e.b (244 * n + 8) = r + 1) ∧ (¬ layOk g n → InvS (layG g n e.t e.k e.a e.b) h FL R D ∧ layG g n e.t e.k e.a e.b (244 * n + 4) + layG g n e.t e.k e.a e.b (244 * n + 8) = r) := by
  have I1 := I.layc n0 n1
  have hL := I.lg n0 n1
  have hl := layG_last (t := e.t) (k := e.k) (a := e.a) (b := e.b) hL
  have o := fun x a b c => lay1_ne (g := g) (n := n) (x := x) hL a b c
  have ol := lay1_last hL
  refine ⟨fun c => ?_, fun c => ?_⟩
  · rw [if_pos c] at hl
    refine ⟨?_, by omega⟩
    unfold layG
    rw [if_pos c]
    have q1 : lay1 g n (244 * n + 1) = g (244 * n + 1) := o _ (by omega) (by omega) (by omega)
    have q3 : lay1 g n (244 * n + 3) = g (244 * n + 3) := o _ (by omega) (by omega) (by omega)
    rw [← q1] at hU h2 hag he
    rw [← q3] at hr
    rw [← ol] at h1
    have c2 : ¬ lay1 g n (244 * n + 8) = 48 ∧ ¬ lay1 g n (244 * n + 4) + lay1 g n (244 * n + 8) = 999 := c
    clear c hl o ol q1 q3
    generalize lay1 g n = g1 at *
    have nb := I1.nb n n0 n1
    obtain ⟨⟨s1, s2⟩, _⟩ := I1.na n n0 n1
    have ni := nb.1
    rw [hr] at ni
    subst h1
    refine I1.layE n0 n1 (by omega) (by omega) I1.hi Ot.rfl ?_
    rw [hr]
    exact ni.take I1.hi hU h2 hag app_ag (app_at.trans he)
  · rw [if_neg c] at hl
    refine ⟨?_, by omega⟩
    unfold layG
    rw [if_neg c]
    exact I1
/-- the entries of a message, laid from an index on -/
theorem InvS.reach {mi : Row} {n : Int} (hM : MI h R (g 11134) mi) (hk : mi 2 = 2) (n0 : 0 ≤ n) (n1 : n < 7) : ∀ (f : Nat) (g : Row) (r : Int) (FL : Int → ELog), InvS g h FL R D → g (244 * n + 3) = 0 → g (244 * n + 1) = mi 3 → mi 6 ≤ r → r ≤ mi 6 + mi 5 → r ≤ g (244 * n + 4) + g (244 * n + 8) → Ag (FL n) (h.ll (mi 3)) r →
    ∃ FL', InvS (reachF mi n f g r).1 h FL' R D ∧ (reachF mi n f g r).1 (244 * n + 3) = 0 ∧ (reachF mi n f g r).1 (244 * n + 1) = mi 3 ∧ mi 6 ≤ (reachF mi n f g r).2 ∧ (reachF mi n f g r).2 ≤ mi 6 + mi 5 ∧ (reachF mi n f g r).2 ≤ (reachF mi n f g r).1 (244 * n + 4) + (reachF mi n f g r).1 (244 * n + 8) ∧ Ag (FL' n) (h.ll (mi 3)) (reachF mi n f g r).2
  | 0, g, r, FL, I, e3, e1, a1, a2, a3, a4 => ⟨FL, I, e3, e1, a1, a2, a3, a4⟩
  | f + 1, g, r, FL, I, e3, e1, a1, a2, a3, a4 => by
    obtain ⟨k1, k2, k3, k4, k5, k6, k7⟩ := hM.k2 hk
    have nb := I.nb n n0 n1
    have ni := nb.1
    have hs := hM.s
    obtain ⟨⟨s1, s2⟩, _⟩ := I.na n n0 n1
    have hU : h.el (g (244 * n + 1)) := by rw [e1]; exact k1
    unfold reachF
    by_cases c1 : r < mi 6 + mi 5
    · rw [if_pos c1]
      have ke := k4 (r - mi 6) (by omega) (by omega)
      rw [show mi 6 + 1 + (r - mi 6) = r + 1 by omega] at ke
      obtain ⟨e, he⟩ : ∃ e, h.ll (mi 3) (r + 1) = e := ⟨_, rfl⟩
      rw [he] at ke
      have kt : mi (11 + 4 * (r - mi 6)) = e.t := congrArg Ent.t ke
      have kk : mi (11 + 4 * (r - mi 6) + 1) = e.k := congrArg Ent.k ke
      have ka : mi (11 + 4 * (r - mi 6) + 2) = e.a := congrArg Ent.a ke
      have kb : mi (11 + 4 * (r - mi 6) + 3) = e.b := congrArg Ent.b ke
      have hcm := ni.comm I.hi hU
      rw [e1] at hcm
      by_cases c2 : hasAs g n (r + 1) (mi (11 + 4 * (r - mi 6)))
      · have q1 : asOk g mi n (r + 1) (11 + 4 * (r - mi 6)) := Or.inl c2
        have q2 : asG g mi n (r + 1) (11 + 4 * (r - mi 6)) = g := if_pos c2
        rw [if_pos q1, q2]
        have hag : Ag (FL n) (h.ll (mi 3)) (r + 1) ∧ r + 1 ≤ g (244 * n + 4) + g (244 * n + 8) := by
          unfold hasAs at c2
          simp only [the, lastA] at c2
          by_cases c3 : r + 1 ≤ g (244 * n + 4)
          · exact ⟨hcm.2.le (by omega), by omega⟩
          · have c2 : r + 1 ≤ g (244 * n + 4) + g (244 * n + 8) ∧ termA g n (r + 1) = mi (11 + 4 * (r - mi 6)) := by
              rcases c2 with c2 | c2
              · exact absurd c2 c3
              · exact c2
            rw [nb.2.term (by omega) c2.1, kt, ← he] at c2
            have := ni.same I.hi hU (i := r + 1) (by omega) c2.1 (by rw [e1]; omega) (by rw [e1]; exact c2.2)
            rw [e1] at this
            exact ⟨this, c2.1⟩
        exact InvS.reach hM hk n0 n1 f g (r + 1) FL I e3 e1 (by omega) (by omega) hag.2 hag.1
      · have q2 : asG g mi n (r + 1) (11 + 4 * (r - mi 6)) = layG (cutG g n (r + 1)) n (mi (11 + 4 * (r - mi 6))) (mi (11 + 4 * (r - mi 6) + 1)) (mi (11 + 4 * (r - mi 6) + 2)) (mi (11 + 4 * (r - mi 6) + 3)) := if_neg c2
        rw [kt, kk, ka, kb] at q2
        -- the log ends at r now
        obtain ⟨g1, hg1, I1, p1, p3, pl⟩ : ∃ g1, cutG g n (r + 1) = g1 ∧ InvS g1 h FL R D ∧ g1 (244 * n + 1) = g (244 * n + 1) ∧ g1 (244 * n + 3) = g (244 * n + 3) ∧ r = g1 (244 * n + 4) + g1 (244 * n + 8) := by
          unfold hasAs at c2
          simp only [the, lastA] at c2
          by_cases c3 : g (244 * n + 4) + g (244 * n + 8) < r + 1
          · exact ⟨g, if_pos c3, I, rfl, rfl, by omega⟩
          · have hne : (FL n (r + 1)).t ≠ (h.ll (mi 3) (r + 1)).t := by
              intro q
              apply c2
              exact Or.inr ⟨by omega, by rw [nb.2.term (by omega) (by omega), kt, q, he]⟩
            have c4 : g (244 * n + 9) ≤ r := by
              apply Classical.byContradiction
              intro q
              apply hne
              rw [hcm.2 (r + 1) (by omega) (by omega)]
            refine ⟨st g (244 * n + 8) (r - g (244 * n + 4)), ?_, I.cutF n0 n1 e3 hU c4 (by omega) (by rw [e1]; omega) (by rw [e1]; exact hne), st_ne (by omega), st_ne (by omega), ?_⟩
            · unfold cutG
              simp only [the, lastA]
              rw [if_neg c3, if_neg (by omega), show r + 1 - g (244 * n + 4) - 1 = r - g (244 * n + 4) by omega]
            · rw [st_ne (by omega), st_eq]; omega
        rw [hg1] at q2
        have q1 : asOk g mi n (r + 1) (11 + 4 * (r - mi 6)) ↔ layOk g1 n := by
          unfold asOk
          rw [hg1]
          exact ⟨fun x => x.resolve_left c2, Or.inr⟩
        rw [q2]
        obtain ⟨f1, f2⟩ := I1.layF n0 n1 (p3.trans e3) (by rw [p1]; exact hU) pl (by rw [p1, e1]; omega) (by rw [p1, e1]; exact a4) (e := e) (by rw [p1, e1]; exact he.symm)
        have hL1 := I1.lg n0 n1
        have o1 : layG g1 n e.t e.k e.a e.b (244 * n + 1) = mi 3 := by rw [layG_ne hL1 (by omega) (by omega) (by omega), p1, e1]
        have o3 : layG g1 n e.t e.k e.a e.b (244 * n + 3) = 0 := by rw [layG_ne hL1 (by omega) (by omega) (by omega), p3, e3]
        by_cases c5 : layOk g1 n
        · rw [if_pos (q1.mpr c5)]
          obtain ⟨f3, f4⟩ := f1 c5
          refine InvS.reach hM hk n0 n1 f _ (r + 1) _ f3 o3 o1 (by omega) (by omega) (by omega) ?_
          show Ag (if n = n then app (FL n) (r + 1) e else FL n) _ _
          rw [if_pos rfl]
          intro i i0 i1
          by_cases ci : i = r + 1
          · rw [ci, app_at, he]
          · exact (if_neg ci).trans (a4 i i0 (by omega))
        · rw [if_neg (fun x => c5 (q1.mp x))]
          obtain ⟨f3, f4⟩ := f2 c5
          exact ⟨FL, f3, o3, o1, a1, a2, by show r ≤ layG g1 n e.t e.k e.a e.b (244 * n + 4) + layG g1 n e.t e.k e.a e.b (244 * n + 8); omega, a4⟩
    · rw [if_neg c1]
      exact ⟨FL, I, e3, e1, a1, a2, a3, a4⟩
theorem firstF_le {n i : Int} : ∀ (f : Nat) (k : Int), firstF g n i f k ≤ k
  | 0, k => Int.le_refl _
  | f + 1, k => by
    unfold firstF
    split
    · have := firstF_le (n := n) (i := i) f (k - 1)
      omega
    · exact Int.le_refl _
/-- entries come -/
theorem InvS.entries (I : InvS g h FL R D) {mi : Row} {n : Int} (hM : MI h R (g 11134) mi) (hn : mi 1 = n) (hk : mi 2 = 2) (hrs : mi 3 ≤ g (244 * n + 1)) (hup : g (244 * n + 0) = 1) : Ex (entriesG Λ g mi n) h R D := by
  have hs := hM.s
  have n0 : 0 ≤ n := by omega
  have n1 : n < 7 := by omega
  have rr := I.rr
  obtain ⟨k1, k2, k3, k4, k5, k6, k7⟩ := hM.k2 hk
  unfold entriesG
  simp only [the, lastA]
  by_cases c0 : mi 3 < g (244 * n + 1)
  · rw [if_pos c0]
    exact (I.ans ⟨by omega, by omega⟩ ⟨by omega, by omega⟩ (Or.inr (Or.inl rfl)) (by omega) (by omega) (by omega) (fun q => by omega) (fun _ => Or.inr ⟨rfl, by omega⟩) (fun q => by omega)).ex
  · rw [if_neg c0]
    have I1 := (I.follow (w := mi 0) n0 n1 (by omega) (by omega) (Or.inl hup)).timer (Λ := Λ) n0 n1
    have hA := I.ar
    have e3 : timerG Λ (followG g n (mi 0)) n (244 * n + 3) = 0 := by rw [timerG_ne (by omega) (by omega), followG_3]
    have e1 : timerG Λ (followG g n (mi 0)) n (244 * n + 1) = mi 3 := by
      rw [timerG_ne (by omega) (by omega), followG_ne (by omega) hA (by omega) (by omega)]
      omega
    have e34 : timerG Λ (followG g n (mi 0)) n 11134 = g 11134 := by rw [timerG_ne (by omega) (by omega), followG_ne (by omega) hA (by omega) (by omega)]
    rw [← e34] at hM k7
    generalize timerG Λ (followG g n (mi 0)) n = g1 at *
    have nb := I1.nb n n0 n1
    have ni := nb.1
    have hU : h.el (g1 (244 * n + 1)) := by rw [e1]; exact k1
    obtain ⟨⟨s1, s2⟩, _⟩ := I1.na n n0 n1
    by_cases c1 : g1 (244 * n + 4) + g1 (244 * n + 8) < mi 6
    · rw [if_pos c1]
      exact (I1.ans ⟨by omega, by omega⟩ ⟨by omega, by omega⟩ (Or.inr (Or.inl rfl)) (by omega) (by omega) (by omega) (fun q => by omega) (fun _ => Or.inr ⟨rfl, by omega⟩) (fun q => by omega)).ex
    · rw [if_neg c1]
      by_cases c2 : g1 (244 * n + 4) ≤ mi 6 ∧ termA g1 n (mi 6) ≠ mi 7
      · rw [if_pos c2]
        have f1 := firstF_le (g := g1) (n := n) (i := mi 6) (mi 6 - the g1 n 4).toNat (mi 6)
        have f2 : 1 ≤ firstA g1 n (mi 6) ∧ firstA g1 n (mi 6) ≤ 1000 := by
          unfold firstA
          omega
        exact (I1.ans ⟨by omega, by omega⟩ ⟨by omega, by omega⟩ (Or.inr (Or.inl rfl)) (by omega) (by omega) (by omega) (fun q => by omega) (fun _ => Or.inr ⟨rfl, by omega⟩) (fun q => by omega)).ex
      · rw [if_neg c2]
        have hcm := ni.comm I1.hi hU
        rw [e1] at hcm
        have hag : Ag (FL n) (h.ll (mi 3)) (mi 6) := by
          by_cases c3 : g1 (244 * n + 4) ≤ mi 6
          · have c4 : termA g1 n (mi 6) = mi 7 := Classical.byContradiction (fun q => c2 ⟨c3, q⟩)
            rw [nb.2.term c3 (by omega), k3] at c4
            by_cases c5 : mi 6 = 0
            · rw [c5]
              exact hcm.2.le (by omega)
            · have := ni.same I1.hi hU (i := mi 6) (by omega) (by omega) (by rw [e1]; omega) (by rw [e1]; exact c4)
              rw [e1] at this
              exact this
          · exact hcm.2.le (by omega)
        obtain ⟨FL2, I2, q3, q1, p1, p2, p3, p4⟩ := InvS.reach hM hk n0 n1 5 g1 (mi 6) FL I1 e3 e1 (by omega) (by omega) (by omega) hag
        generalize reachF mi n 5 g1 (mi 6) = p at *
        obtain ⟨⟨s3, s4⟩, _⟩ := I2.na n n0 n1
        have I3 := I2.grow (t := min (mi 8) p.2) n0 n1 (by omega) (by rw [q1]; exact (k5.le (by omega)).ag (p4.le (by omega)))
        have hC2 := I2.cm n0 n1
        have o := fun x a b c d e f => growG_ne (x := x) (t := min (mi 8) p.2) hC2 (by omega) a b c d e f
        have o1 := o (244 * n + 1) (by omega) (by omega) (by omega) (by omega) (by omega) (by omega)
        have o4 := o (244 * n + 4) (by omega) (by omega) (by omega) (by omega) (by omega) (by omega)
        have o8 := o (244 * n + 8) (by omega) (by omega) (by omega) (by omega) (by omega) (by omega)
        obtain ⟨h4, G4, I4, r1, r2⟩ := I3.ackd (a := p.2) n0 n1 (by rw [o1, q1]; exact k1) (by rw [o4, o8]; exact p3) (by rw [o1, q1]; omega) (by rw [o1, q1]; exact p4)
        have rr2 := I4.rr
        refine (I4.ans ⟨by omega, by omega⟩ ⟨by omega, by omega⟩ (Or.inr (Or.inl rfl)) (by omega) (by omega) (by omega) (fun q => by omega) (fun _ => Or.inl ⟨rfl, ?_, ?_⟩) (fun q => by omega)).ex.gr G4
        · rw [hn]; exact r1
        · rw [hn]; exact r2
end
