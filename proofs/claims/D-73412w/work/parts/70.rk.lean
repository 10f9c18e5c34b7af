/-! DEPS: rj -/
/-! RK: the invariant through a leader's laying and sending -/
section
variable {g g' : Row} {h h' : His} {FL : Int → ELog} {R : Int} {D : DK} {Λ : Law}
def mkE (t k a b : Int) : Ent := ⟨t, k, a, b⟩
theorem InvS.layE (I : InvS g h FL R D) {n : Int} {e : Ent} (n0 : 0 ≤ n) (n1 : n < 7) (hm : g (244 * n + 8) < 48) (hl : g (244 * n + 4) + g (244 * n + 8) < 999) (H' : HI h') (O : Ot h h' n)
    (ni : NI h' n (g (244 * n + 1)) (g (244 * n + 2)) (g (244 * n + 3)) (g (244 * n + 4) + g (244 * n + 8) + 1) (g (244 * n + 9)) (g (244 * n + 12)) (app (FL n) (g (244 * n + 4) + g (244 * n + 8) + 1) e) (fun k => g (244 * n + (38 + k)))) :
    InvS (lay0 g n e.t e.k e.a e.b) h' (fun p => if p = n then app (FL n) (g (244 * n + 4) + g (244 * n + 8) + 1) e else FL p) R D := by
  have nb := I.nb n n0 n1
  have a := I.na n n0 n1
  have hL := I.lg n0 n1
  obtain ⟨⟨s1, s2⟩, _⟩ := I.na n n0 n1
  have o := fun x a b => lay0_ne (g := g) (n := n) (t := e.t) (k := e.k) (a := e.a) (b := e.b) (x := x) a b
  have e8 : lay0 g n e.t e.k e.a e.b (244 * n + 8) = g (244 * n + 8) + 1 := lay0_8
  refine I.node n0 n1 H' O (fun x _ => o x (by omega) (by omega)) ⟨?_, fun x b c => by rw [o x (by omega) (by omega)]; exact a.ky x b c, fun e' k b c => ?_, fun e' k b c => ?_⟩ (NB.mk ni (nb.2.lay hL hm) (o _ (by omega) (by omega)) (o _ (by omega) (by omega)) (o _ (by omega) (by omega)) (by rw [e8, o _ (by omega) (by omega)]; omega) (o _ (by omega) (by omega)) (o _ (by omega) (by omega)) (fun k _ _ => o _ (by omega) (by omega))) (by rw [o _ (by omega) (by omega)]; exact id)
  · unfold NSg
    rw [e8, o (244 * n + 0) (by omega) (by omega), o (244 * n + 1) (by omega) (by omega), o (244 * n + 2) (by omega) (by omega), o (244 * n + 3) (by omega) (by omega), o (244 * n + 4) (by omega) (by omega), o (244 * n + 5) (by omega) (by omega), o (244 * n + 6) (by omega) (by omega), o (244 * n + 7) (by omega) (by omega), o (244 * n + 9) (by omega) (by omega), o (244 * n + 10) (by omega) (by omega), o (244 * n + 11) (by omega) (by omega), o (244 * n + 12) (by omega) (by omega), o (244 * n + 13) (by omega) (by omega), o (244 * n + 14) (by omega) (by omega), o 11134 (by omega) (by omega)]
    unfold NS at *
    omega
  · rw [o (244 * n + 9) (by omega) (by omega), o (244 * n + 4) (by omega) (by omega)] at e'
    rw [o _ (by omega) (by omega), o _ (by omega) (by omega)]
    exact a.kb e' k b c
  · rw [o (244 * n + 3) (by omega) (by omega)] at e'
    have := a.lr e' k b c
    rw [e8, o (244 * n + (31 + k)) (by omega) (by omega), o (244 * n + (38 + k)) (by omega) (by omega), o (244 * n + (45 + k)) (by omega) (by omega), o (244 * n + 4) (by omega) (by omega)]
    omega
/-- a leader lays an entry of its term -/
theorem InvS.layL (I : InvS g h FL R D) {n k a b : Int} (n0 : 0 ≤ n) (n1 : n < 7) (hr : g (244 * n + 3) = 2) (hk : 0 ≤ k ∧ k ≤ 2) (ha : 0 ≤ a ∧ a ≤ 127) (hb : 0 ≤ b ∧ b ≤ 127) (hk0 : k = 0 → a ≤ 7)
    (hc : k = 1 → ∃ p, LastC (FL n) (g (244 * n + 4) + g (244 * n + 8)) p ∧ p ≤ g (244 * n + 9) ∧ Suc (FL n p) (mkE (g (244 * n + 1)) k a b)) : Ex (layG g n (g (244 * n + 1)) k a b) h R D := by
  have I1 := I.layc n0 n1
  have hL := I.lg n0 n1
  unfold layG
  split
  · rename_i c
    have o := fun x a b c => lay1_ne (g := g) (n := n) (x := x) hL a b c
    have ol := lay1_last hL
    have q1 : lay1 g n (244 * n + 1) = g (244 * n + 1) := o _ (by omega) (by omega) (by omega)
    have q9 : lay1 g n (244 * n + 9) = g (244 * n + 9) := o _ (by omega) (by omega) (by omega)
    have q3 : lay1 g n (244 * n + 3) = g (244 * n + 3) := o _ (by omega) (by omega) (by omega)
    rw [← ol, ← q1, ← q9] at hc
    rw [← q1]
    rw [← q3] at hr
    have c2 : ¬ lay1 g n (244 * n + 8) = 48 ∧ ¬ lay1 g n (244 * n + 4) + lay1 g n (244 * n + 8) = 999 := c
    clear c
    generalize lay1 g n = g1 at *
    have nb := I1.nb n n0 n1
    obtain ⟨⟨s1, s2⟩, _⟩ := I1.na n n0 n1
    obtain ⟨l1, l2, l3, l4, l5, l6⟩ := nb.1.led hr
    have t1 := (I1.hi.el1 _ l1).1
    have e1 : (mkE (g1 (244 * n + 1)) k a b).t = g1 (244 * n + 1) := rfl
    have eok : EOK (mkE (g1 (244 * n + 1)) k a b) := ⟨t1, by omega, hk.1, hk.2, ha.1, ha.2, hb.1, hb.2, hk0⟩
    refine ⟨h.lay (g1 (244 * n + 1)) n (mkE (g1 (244 * n + 1)) k a b), fun p => if p = n then app (FL n) (g1 (244 * n + 4) + g1 (244 * n + 8) + 1) (mkE (g1 (244 * n + 1)) k a b) else FL p, Gr.lay I1.hi l1, ?_⟩
    refine I1.layE (e := (mkE (g1 (244 * n + 1)) k a b)) n0 n1 ?_ ?_ (nb.1.lay_hi I1.hi hr e1 eok hc) (Ot.lay I1.hi l1 l2) (nb.1.lay I1.hi hr e1 app_ag app_at)
    · omega
    · omega
  · exact I1.ex
/-! what a leader sends -/
theorem InvS.mi (I : InvS g h FL R D) {n t : Int} (n0 : 0 ≤ n) (n1 : n < 7) (hr : g (244 * n + 3) = 2) (t0 : 0 ≤ t) (t1 : t < 7) : MI h R (g 11134) (if the g n (31 + t) ≤ the g n 4 then snapM g n t else entsM g n t) := by
  have nb := I.nb n n0 n1
  have a := I.na n n0 n1
  have hL := I.lg n0 n1
  obtain ⟨⟨s1, s2⟩, _⟩ := I.na n n0 n1
  obtain ⟨x0, x1, x2, x3, x4⟩ := a.lr hr t t0 t1
  obtain ⟨l1, l2, l3, l4, l5, l6⟩ := nb.1.led hr
  have cm := nb.1.cmt.2
  simp only [the]
  by_cases c : g (244 * n + (31 + t)) ≤ g (244 * n + 4)
  · rw [if_pos c]
    have m0 : snapM g n t 0 = n := rfl
    have m1 : snapM g n t 1 = t := rfl
    have m2 : snapM g n t 2 = 4 := rfl
    have m3 : snapM g n t 3 = g (244 * n + 1) := rfl
    have m5 : snapM g n t 5 = 0 := rfl
    have m6 : snapM g n t 6 = g (244 * n + 4) := rfl
    have m7 : snapM g n t 7 = g (244 * n + 5) := rfl
    have m8 : snapM g n t 8 = g (244 * n + 6) := rfl
    have m9 : snapM g n t 9 = g (244 * n + 7) := rfl
    have m10 : snapM g n t 10 = g (244 * n + 13) := rfl
    refine ⟨by rw [m0, m1, m2, m3, m5, m6, m7, m10]; omega, fun q => by rw [m2] at q; omega, fun q => by rw [m2] at q; omega, fun q => by rw [m2] at q; omega, fun q => by rw [m2] at q; omega, fun _ => ?_, fun q => by rw [m2] at q; omega⟩
    rw [m3, m6, m7, m8, m9]
    obtain ⟨k1, k2, k, k3, k4, k5⟩ := nb.2
    have p0 := k3.1
    have p1 := k3.2.1
    refine ⟨l1, by omega, by omega, by omega, by rw [← l4 _ (by omega) (by omega)]; exact k2, ⟨k, k3.ag (l4.symm.le (by omega)), by rw [← l4 k p0 (by omega)]; exact k4, by rw [← l4 k p0 (by omega)]; exact k5⟩, (cm.le (by omega)).ag (l4.symm.le (by omega)), fun x y z => ?_⟩
    have : snapM g n t x = g (244 * n + (12 + x)) := by
      unfold snapM
      rw [if_neg (by omega), if_neg (by omega), if_neg (by omega), if_neg (by omega), if_neg (by omega), if_pos ⟨y, z⟩]
    rw [this]
    exact a.ky _ (by omega) (by omega)
  · rw [if_neg c]
    obtain ⟨M, hM⟩ : ∃ M, manyA g n t = M := ⟨_, rfl⟩
    have hM2 : M = max 0 (min 4 (g (244 * n + 4) + g (244 * n + 8) - g (244 * n + (31 + t)) + 1)) := hM.symm
    have m0 : entsM g n t 0 = n := by unfold entsM; rw [if_neg (by omega), if_neg (by omega), if_neg (by omega), if_neg (by omega), if_neg (by omega), if_neg (by omega)]; rfl
    have m1 : entsM g n t 1 = t := by unfold entsM; rw [if_neg (by omega), if_neg (by omega), if_neg (by omega), if_neg (by omega), if_neg (by omega), if_neg (by omega)]; rfl
    have m2 : entsM g n t 2 = 2 := by unfold entsM; rw [if_neg (by omega), if_neg (by omega), if_neg (by omega), if_neg (by omega), if_neg (by omega), if_neg (by omega)]; rfl
    have m3 : entsM g n t 3 = g (244 * n + 1) := by unfold entsM; rw [if_neg (by omega), if_neg (by omega), if_neg (by omega), if_neg (by omega), if_neg (by omega), if_neg (by omega)]; rfl
    have m5 : entsM g n t 5 = M := hM ▸ rfl
    have m6 : entsM g n t 6 = g (244 * n + (31 + t)) - 1 := rfl
    have m7 : entsM g n t 7 = termA g n (g (244 * n + (31 + t)) - 1) := rfl
    have m8 : entsM g n t 8 = g (244 * n + 9) := rfl
    have m10 : entsM g n t 10 = g (244 * n + 13) := rfl
    have mw : ∀ w, 11 ≤ w → w < 11 + 4 * M → entsM g n t w = g (lpA g n (g (244 * n + (31 + t))) + (w - 11)) := by
      intro w y z
      unfold entsM
      rw [hM, if_neg (by omega), if_neg (by omega), if_neg (by omega), if_neg (by omega), if_neg (by omega), if_pos ⟨y, z⟩]
    have tt := nb.2.term (i := g (244 * n + (31 + t)) - 1) (by omega) (by omega)
    have tr := termR hL (i := g (244 * n + (31 + t)) - 1) (by omega) (by omega)
    refine ⟨by rw [m0, m1, m2, m3, m5, m6, m7, m10]; omega, fun q => by rw [m2] at q; omega, fun q => by rw [m2] at q; omega, fun _ => ?_, fun q => by rw [m2] at q; omega, fun q => by rw [m2] at q; omega, fun q => by rw [m2] at q; omega⟩
    rw [m3, m5, m6, m7, m8]
    refine ⟨l1, by omega, by rw [tt, l4 _ (by omega) (by omega)], fun i i0 i1 => ?_, cm.ag (l4.symm.le (by omega)), by omega, by omega⟩
    rw [show g (244 * n + (31 + t)) - 1 + 1 + i = g (244 * n + (31 + t)) + i by omega, ← l4 _ (by omega) (by omega), ← nb.2.1 _ (by omega) (by omega)]
    unfold entM entA
    rw [mw (11 + 4 * i) (by omega) (by omega), mw (11 + 4 * i + 1) (by omega) (by omega), mw (11 + 4 * i + 2) (by omega) (by omega), mw (11 + 4 * i + 3) (by omega) (by omega)]
    simp only [lpA, the]
    rw [show 244 * n + 52 + 4 * (g (244 * n + (31 + t)) - g (244 * n + 4) - 1) + (11 + 4 * i - 11) = 244 * n + 52 + 4 * (g (244 * n + (31 + t)) + i - g (244 * n + 4) - 1) by omega,
      show 244 * n + 52 + 4 * (g (244 * n + (31 + t)) - g (244 * n + 4) - 1) + (11 + 4 * i + 1 - 11) = 244 * n + 52 + 4 * (g (244 * n + (31 + t)) + i - g (244 * n + 4) - 1) + 1 by omega,
      show 244 * n + 52 + 4 * (g (244 * n + (31 + t)) - g (244 * n + 4) - 1) + (11 + 4 * i + 2 - 11) = 244 * n + 52 + 4 * (g (244 * n + (31 + t)) + i - g (244 * n + 4) - 1) + 2 by omega,
      show 244 * n + 52 + 4 * (g (244 * n + (31 + t)) - g (244 * n + 4) - 1) + (11 + 4 * i + 3 - 11) = 244 * n + 52 + 4 * (g (244 * n + (31 + t)) + i - g (244 * n + 4) - 1) + 3 by omega]
theorem InvS.send (I : InvS g h FL R D) {n t : Int} (n0 : 0 ≤ n) (n1 : n < 7) (hr : g (244 * n + 3) = 2) (t0 : 0 ≤ t) (t1 : t < 7) : InvS (sendG Λ g n t) h FL R D := I.post (I.mi n0 n1 hr t0 t1)
theorem InvS.sendK {n : Int} (n0 : 0 ≤ n) (n1 : n < 7) : ∀ (j : Nat) (g : Row) (t : Int), InvS g h FL R D → g (244 * n + 3) = 2 → 0 ≤ t → t + j ≤ 7 → InvS (sendF Λ n j g t) h FL R D
  | 0, g, t, I, hr, t0, t1 => I
  | j + 1, g, t, I, hr, t0, t1 => by
    unfold sendF
    split
    · exact InvS.sendK n0 n1 j _ (t + 1) (I.send n0 n1 hr t0 (by omega)) (by rw [sendG_lo I.gl (by omega)]; exact hr) (by omega) (by omega)
    · exact InvS.sendK n0 n1 j g (t + 1) I hr (by omega) (by omega)
theorem InvS.sendAll (I : InvS g h FL R D) {n : Int} (n0 : 0 ≤ n) (n1 : n < 7) (hr : g (244 * n + 3) = 2) : InvS (sendAllG Λ g n) h FL R D := InvS.sendK n0 n1 7 g 0 I hr (by omega) (by omega)
end
