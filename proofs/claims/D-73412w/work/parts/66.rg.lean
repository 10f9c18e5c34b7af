/-! DEPS: rf -/
/-! RG: the invariant through messages put and taken, timers, following -/
section
variable {g g' : Row} {h h' : His} {FL : Int → ELog} {R : Int} {D : DK} {Λ : Law}
theorem InvS.lot (I : InvS g h FL R D) (he : ∀ x, ¬ x = 11132 → ¬ x = 11136 → ¬ x = 11137 → g' x = g x) (gl : GlA g') : InvS g' h FL R D := by
  refine I.glob (fun x _ => he x (by omega) (by omega) (by omega)) (he _ (by omega) (by omega) (by omega)) (fun i a b => ?_) gl (fun x _ _ => he x (by omega) (by omega) (by omega)) (he _ (by omega) (by omega) (by omega)) (he _ (by omega) (by omega) (by omega)) (he _ (by omega) (by omega) (by omega))
  rw [he 11133 (by omega) (by omega) (by omega)] at b
  rw [he 11134 (by omega) (by omega) (by omega)]
  have hG := I.gl
  obtain ⟨_, _, _, _, _, _, _, _, _, _, _, _⟩ := hG
  obtain ⟨q1, q2⟩ := I.ml i a b
  have e : ∀ w, 0 ≤ w → w < 27 → msg g' i w = msg g i w := fun w w0 w1 => he _ (by omega) (by omega) (by omega)
  exact ⟨MI_ext (fun w w0 w1 _ => e w w0 w1) q1, by rw [e 4 (by omega) (by omega)]; exact q2⟩
theorem InvS.draw (I : InvS g h FL R D) : InvS (drawG g) h FL R D := I.lot (fun x a _ _ => drawG_ne a) (drawGl I.gl)
theorem InvS.lose (I : InvS g h FL R D) : InvS (loseG g) h FL R D := by
  refine I.lot (fun x _ _ c => st_ne c) ?_
  have hG := I.gl
  obtain ⟨_, _, _, _, _, _, _, _, _, _, _, _⟩ := hG
  unfold GlA loseG
  rw [st_ne (by omega), st_ne (by omega), st_ne (by omega), st_ne (by omega), st_ne (by omega), st_eq]
  omega
theorem InvS.brk (I : InvS g h FL R D) : InvS (breakG g) h FL R D := I.lot (fun x _ b _ => st_ne b) (GlA_ext I.gl (st_ne (by omega)) (st_ne (by omega)) (st_ne (by omega)) (by unfold breakG; rw [st_ne (by omega)]; have hG := I.gl; obtain ⟨_, _, _, _, _, _, _, _, _, _, _, _⟩ := hG; omega) (st_ne (by omega)) (st_ne (by omega)))
/-- a message is put -/
theorem InvS.post (I : InvS g h FL R D) {m : Row} (hm : MI h R (g 11134) m) : InvS (postG Λ g m) h FL R D := by
  have hG' := postG_Gl (Λ := Λ) (m := m) I.gl
  unfold postG at hG' ⊢
  split
  · exact I.draw.lose
  · rename_i hg
    rw [if_neg hg] at hG'
    have I' := I.draw
    have r1 := tellR Λ (c := 100) (lo := 0) (hi := 9) (wo := 0) (F := factsA (drawG g) (m 0) (m 1) (m 2)) (by omega) (by omega) (by omega)
    have hG := I.gl
    obtain ⟨_, _, _, _, _, _, _, _, _, _, _, _⟩ := hG
    have d3 : drawG g 11133 = g 11133 := st_ne (by omega)
    have d34 : drawG g 11134 = g 11134 := st_ne (by omega)
    have h160 : ¬ g 11133 = 160 := fun h => hg (Or.inr (Or.inr (d3.trans h)))
    obtain ⟨due, hdue⟩ : ∃ due, g 11131 + 1 + tellA Λ 100 0 9 0 (factsA (drawG g) (m 0) (m 1) (m 2)) = due := ⟨_, rfl⟩
    rw [hdue] at hG' ⊢
    have o : ∀ x, ¬ x = 11133 → (x < 1708 + 27 * g 11133 ∨ 1735 + 27 * g 11133 ≤ x) → mailG (drawG g) m due x = drawG g x := by
      intro x a b
      unfold mailG
      rw [if_neg a, if_neg (by omega)]
    have e33 : mailG (drawG g) m due 11133 = drawG g 11133 + 1 := if_pos rfl
    refine I'.glob (fun x _ => o x (by omega) (by omega)) (o _ (by omega) (by omega)) (fun i a b => ?_) hG' (fun x _ _ => o x (by omega) (by omega)) (o _ (by omega) (by omega)) (o _ (by omega) (by omega)) (o _ (by omega) (by omega))
    rw [e33, d3] at b
    rw [o 11134 (by omega) (by omega), d34]
    by_cases c : i = g 11133
    · have e : ∀ w, 0 ≤ w → w < 27 → msg (mailG (drawG g) m due) i w = if w = 4 then due else m w := by
        intro w w0 w1
        show mailG (drawG g) m due (1708 + 27 * i + w) = _
        unfold mailG
        rw [d3, c, if_neg (by omega), if_pos (by omega), show 1708 + 27 * g 11133 + w - (1708 + 27 * g 11133) = w by omega]
      refine ⟨MI_ext (fun w w0 w1 w4 => ?_) hm, ?_⟩
      · rw [e w w0 w1, if_neg w4]
      · rw [e 4 (by omega) (by omega), if_pos rfl]
        have dd := I.dd
        omega
    · obtain ⟨q1, q2⟩ := I'.ml i a (by rw [d3]; omega)
      have e : ∀ w, 0 ≤ w → w < 27 → msg (mailG (drawG g) m due) i w = msg (drawG g) i w := fun w w0 w1 => o _ (by omega) (by omega)
      rw [d34] at q1
      exact ⟨MI_ext (fun w w0 w1 _ => e w w0 w1) q1, by rw [e 4 (by omega) (by omega)]; exact q2⟩
/-- a message is taken out -/
theorem InvS.out (I : InvS g h FL R D) {m : Int} (m0 : 0 ≤ m) (m1 : m < g 11133) (mK : m < D.2.1) : InvS (outG g m) h FL R (D.1, D.2.1 - 1, D.2.2) := by
  have hG := I.gl
  obtain ⟨_, _, _, _, _, _, _, _, _, _, _, _⟩ := hG
  have o : ∀ x, ¬ x = 11133 → (x < 1708 + 27 * m ∨ 1708 + 27 * (g 11133 - 1) ≤ x) → outG g m x = g x := by
    intro x a b
    unfold outG
    rw [if_neg a, if_neg (by omega)]
  have e33 : outG g m 11133 = g 11133 - 1 := if_pos rfl
  have K0 : ∀ i, 0 ≤ i → i < outG g m 11133 → MI h R (outG g m 11134) (msg (outG g m) i) ∧ 0 ≤ msg (outG g m) i 4 ∧ msg (outG g m) i 4 ≤ 20000 ∧ (D.2.1 - 1 ≤ i → D.2.2 < msg (outG g m) i 4) := by
    intro i a b
    rw [e33] at b
    rw [o 11134 (by omega) (by omega)]
    by_cases c : i < m
    · obtain ⟨q1, q2⟩ := I.ml i a (by omega)
      have e : ∀ w, 0 ≤ w → w < 27 → msg (outG g m) i w = msg g i w := fun w w0 w1 => o _ (by omega) (by omega)
      exact ⟨MI_ext (fun w w0 w1 _ => e w w0 w1) q1, by rw [e 4 (by omega) (by omega)]; omega⟩
    · obtain ⟨q1, q2⟩ := I.ml (i + 1) (by omega) (by omega)
      have e : ∀ w, 0 ≤ w → w < 27 → msg (outG g m) i w = msg g (i + 1) w := by
        intro w w0 w1
        show outG g m (1708 + 27 * i + w) = g (1708 + 27 * (i + 1) + w)
        unfold outG
        rw [if_neg (by omega), if_pos (by omega)]
        congr 1
        omega
      exact ⟨MI_ext (fun w w0 w1 _ => e w w0 w1) q1, by rw [e 4 (by omega) (by omega)]; omega⟩
  refine I.globD (D' := (D.1, D.2.1 - 1, D.2.2)) (fun x _ => o x (by omega) (by omega)) (o _ (by omega) (by omega)) K0 ?_ (fun x _ _ => o x (by omega) (by omega)) (o _ (by omega) (by omega)) (o _ (by omega) (by omega)) rfl (by rw [o _ (by omega) (by omega)]; exact I.dd.2.2)
  · unfold GlA
    rw [e33, o 11131 (by omega) (by omega), o 11132 (by omega) (by omega), o 11134 (by omega) (by omega), o 11135 (by omega) (by omega), o 11137 (by omega) (by omega)]
    omega
/-! one node acts: the others' invariants -/
def Ot (h h' : His) (n : Int) : Prop :=
  (Gr h h') ∧
  (∀ p, p ≠ n → ∀ T, h'.ak T p = h.ak T p) ∧
  (∀ p, p ≠ n → ∀ U, h'.vf U p = h.vf U p) ∧
  (∀ p, p ≠ n → ∀ T, h'.el T → h'.ld T = p → h.el T) ∧
  (∀ p, p ≠ n → ∀ T, h.el T → h.ld T = p → h'.ln T = h.ln T)
theorem Ot.gr {h h' : His} {n : Int} (self : Ot h h' n) : Gr h h' := self.1
theorem Ot.ak {h h' : His} {n : Int} (self : Ot h h' n) : ∀ p, p ≠ n → ∀ T, h'.ak T p = h.ak T p := self.2.1
theorem Ot.vf {h h' : His} {n : Int} (self : Ot h h' n) : ∀ p, p ≠ n → ∀ U, h'.vf U p = h.vf U p := self.2.2.1
theorem Ot.ld {h h' : His} {n : Int} (self : Ot h h' n) : ∀ p, p ≠ n → ∀ T, h'.el T → h'.ld T = p → h.el T := self.2.2.2.1
theorem Ot.ln {h h' : His} {n : Int} (self : Ot h h' n) : ∀ p, p ≠ n → ∀ T, h.el T → h.ld T = p → h'.ln T = h.ln T := self.2.2.2.2
theorem Ot.rfl {n : Int} : Ot h h n := ⟨Gr.rfl, fun _ _ _ => Eq.refl _, fun _ _ _ => Eq.refl _, fun _ _ _ a _ => a, fun _ _ _ _ _ => Eq.refl _⟩
theorem Ot.vote {U n c : Int} {f : ELog} {m : Int} (h0 : h.vf U n = -1) : Ot h (h.vote U n c f m) n :=
  ⟨Gr.vote h0, fun _ _ _ => Eq.refl _, fun p a U' => if_neg (fun q => a q.2), fun _ _ _ a _ => a, fun _ _ _ _ _ => Eq.refl _⟩
theorem Ot.stand {U n : Int} {f : ELog} {m : Int} (h0 : h.vf U n = -1) : Ot h (h.stand U n f m) n :=
  ⟨Gr.stand h0, fun _ _ _ => Eq.refl _, fun p a U' => if_neg (fun q => a q.2), fun _ _ _ a _ => a, fun _ _ _ _ _ => Eq.refl _⟩
theorem Ot.ack {T n a : Int} : Ot h (h.ack T n a) n :=
  ⟨Gr.ack, fun p b W => if_neg (fun q => b q.2), fun _ _ _ => Eq.refl _, fun _ _ _ a _ => a, fun _ _ _ _ _ => Eq.refl _⟩
theorem Ot.event {T c l n : Int} : Ot h (h.event T c l) n :=
  ⟨Gr.event, fun _ _ _ => Eq.refl _, fun _ _ _ => Eq.refl _, fun _ _ _ a _ => a, fun _ _ _ _ _ => Eq.refl _⟩
theorem Ot.lay (H : HI h) {T n : Int} {e : Ent} (hT : h.el T) (hl : h.ld T = n) : Ot h (h.lay T n e) n :=
  ⟨Gr.lay H hT, fun p b W => if_neg (fun q => b q.2), fun _ _ _ => Eq.refl _, fun _ _ _ a _ => a, fun p a W b c => if_neg (fun q => a (by rw [← c, q]; exact hl))⟩
theorem Ot.elect (H : HI h) {U n : Int} {f : ELog} {m : Int} (hU : ¬ h.el U) (hm : 0 ≤ m) : Ot h (h.elect U n f m) n := by
  refine ⟨Gr.elect H hU hm, fun p b W => if_neg (fun q => b q.2), fun _ _ _ => Eq.refl _, fun p a T b c => ?_, fun p a W b c => if_neg (fun (q : W = U) => hU (q ▸ b))⟩
  rcases b with b | b
  · exfalso
    have c : (if T = U then n else h.ld T) = p := c
    rw [if_pos b] at c
    exact a c.symm
  · exact b
/-- the block of one node changes -/
theorem InvS.node' (I : InvS g h FL R D) {n : Int} {fl' : ELog} (n0 : 0 ≤ n) (n1 : n < 7) (H' : HI h') (O : Ot h h' n) (he : ∀ x, (x < 244 * n ∨ 244 * n + 244 ≤ x) → g' x = g x) (na : NA g' R n) (nb : NB g' h' n fl') (hr : ∀ r, 0 ≤ r → r < g 11135 → g (11028 + 6 * r) = n → g (11028 + 6 * r + 4) = 0 → g' (244 * n + 3) = 2) :
    InvS g' h' (fun p => if p = n then fl' else FL p) R D := by
  have hA : g 11135 ≤ 16 := by
    have hG := I.gl
    obtain ⟨_, _, _, _, _, _, _, _, _, _, _, _⟩ := hG
    omega
  refine ⟨H', fun p p0 p1 => ?_, fun p p0 p1 => ?_, fun i a b => ?_, GlA_blk (fun x _ => he x (by omega)) I.gl, fun x a b => by rw [he x (by omega)]; exact I.hd x a b, fun i a b => by rw [he _ (by omega), he _ (by omega)]; exact I.hc i a b, RdA_ext (he _ (by omega)) hA (fun x _ _ => he x (by omega)) I.rd, fun r a b c => ?_, fun t a b => by rw [he t (by omega)]; exact I.ld t a b, fun k a b => by rw [he _ (by omega)]; exact I.ct k a b, by rw [he _ (by omega), he _ (by omega), he _ (by omega)]; exact I.dd, I.rr⟩
  · by_cases c : p = n
    · rw [c]; exact na
    · exact NA_ext (fun x _ _ => he x (by omega)) (he _ (by omega)) (I.na p p0 p1)
  · show NB g' h' p (if p = n then fl' else FL p)
    by_cases c : p = n
    · rw [if_pos c, c]; exact nb
    · rw [if_neg c]
      obtain ⟨⟨s1, s2⟩, _⟩ := I.na p p0 p1
      have b := NB_ext (g' := g') (fun x _ _ _ => he x (by omega)) ⟨p0, by omega, by omega⟩ (I.nb p p0 p1)
      exact ⟨b.1.gr I.hi O.gr p0 (O.ak p c) (O.vf p c) (O.ld p c) (O.ln p c), b.2⟩
  · rw [he _ (by omega)] at b
    rw [he 11134 (by omega)]
    obtain ⟨q1, q2⟩ := I.ml i a b
    have e : ∀ w, 0 ≤ w → w < 27 → msg g' i w = msg g i w := fun w w0 w1 => he _ (by omega)
    exact ⟨MI_ext (fun w w0 w1 _ => e w w0 w1) (q1.gr I.hi O.gr (Int.le_refl _) (Int.le_refl _)), by rw [e 4 (by omega) (by omega)]; exact q2⟩
  · rw [he _ (by omega)] at b c
    have := I.rd r a b
    rw [he (11028 + 6 * r) (by omega)]
    have q := I.rl r a b c
    by_cases cn : g (11028 + 6 * r) = n
    · rw [cn]
      exact hr r a b cn c
    · rw [he _ (by omega)]
      exact q
theorem InvS.node (I : InvS g h FL R D) {n : Int} {fl' : ELog} (n0 : 0 ≤ n) (n1 : n < 7) (H' : HI h') (O : Ot h h' n) (he : ∀ x, (x < 244 * n ∨ 244 * n + 244 ≤ x) → g' x = g x) (na : NA g' R n) (nb : NB g' h' n fl') (hr : g (244 * n + 3) = 2 → g' (244 * n + 3) = 2) :
    InvS g' h' (fun p => if p = n then fl' else FL p) R D :=
  I.node' n0 n1 H' O he na nb (fun r a b c d => hr (by have := I.rl r a b d; rw [c] at this; exact this))
theorem fl_self {n : Int} : (fun p => if p = n then FL n else FL p) = FL := by
  funext p
  split
  · rename_i c; rw [c]
  · rfl
/-- a scalar or two of a node change -/
theorem NA.upd {n : Int} (a : NA g R n) (he : ∀ x, 244 * n + 15 ≤ x → x < 244 * n + 244 → g' x = g x) (s : NSg g' R (g' 11134) n) (kb : g' (244 * n + 9) = g' (244 * n + 4) → g (244 * n + 9) = g (244 * n + 4)) (lr : g' (244 * n + 3) = 2 → g (244 * n + 3) = 2 ∧ g (244 * n + 4) + g (244 * n + 8) ≤ g' (244 * n + 4) + g' (244 * n + 8)) : NA g' R n := by
  refine ⟨s, fun x b c => by rw [he x (by omega) (by omega)]; exact a.ky x b c, fun e k b c => ?_, fun e k b c => ?_⟩
  · rw [he _ (by omega) (by omega), he _ (by omega) (by omega)]
    exact a.kb (kb e) k b c
  · obtain ⟨l1, l2⟩ := lr e
    have := a.lr l1 k b c
    rw [he (244 * n + (31 + k)) (by omega) (by omega), he (244 * n + (38 + k)) (by omega) (by omega), he (244 * n + (45 + k)) (by omega) (by omega)]
    omega
theorem NB.mk {n tm vt rl ls cm vo : Int} {fl : ELog} {mt : Int → Int} (i : NI h n tm vt rl ls cm vo fl mt) (l : Lk g n fl) (e1 : g (244 * n + 1) = tm) (e2 : g (244 * n + 2) = vt) (e3 : g (244 * n + 3) = rl) (e4 : g (244 * n + 4) + g (244 * n + 8) = ls) (e9 : g (244 * n + 9) = cm) (e12 : g (244 * n + 12) = vo) (em : ∀ k, 0 ≤ k → k < 7 → g (244 * n + (38 + k)) = mt k) : NB g h n fl := by
  refine ⟨?_, l⟩
  rw [e1, e2, e3, e4, e9, e12]
  exact i.match (fun _ k k0 k1 => Or.inl (by rw [em k k0 k1]; exact Int.le_refl _))
/-- the timer is set -/
theorem InvS.timer (I : InvS g h FL R D) {n : Int} (n0 : 0 ≤ n) (n1 : n < 7) : InvS (timerG Λ g n) h FL R D := by
  have I' := I.draw
  have hG := I'.gl
  obtain ⟨⟨s1, s2⟩, _⟩ := I'.na n n0 n1
  have r1 := tellR Λ (c := 101) (lo := 4) (hi := 40) (wo := 8) (F := factsA (drawG g) n n 6) (by omega) (by omega) (by omega)
  unfold timerG
  obtain ⟨v, hv⟩ : ∃ v, tellA Λ 101 4 40 8 (factsA (drawG g) n n 6) + drawG g 11132 % 10 = v := ⟨_, rfl⟩
  have hv2 : 1 ≤ v ∧ v ≤ 50 := by
    obtain ⟨_, _, _, _, _, _, _, _, _, _, _, _⟩ := hG
    omega
  rw [hv]
  have o : ∀ x, ¬ x = 244 * n + 10 → st (drawG g) (244 * n + 10) v x = drawG g x := fun x a => st_ne a
  have := I'.node (g' := st (drawG g) (244 * n + 10) v) n0 n1 I'.hi Ot.rfl (fun x _ => o x (by omega)) ((I'.na n n0 n1).upd (fun x _ _ => o x (by omega)) ?_ (by rw [o _ (by omega), o _ (by omega)]; exact id) (by rw [o _ (by omega), o _ (by omega), o _ (by omega)]; exact fun e => ⟨e, Int.le_refl _⟩)) (NB_ext (fun x _ _ _ => o x (by omega)) ⟨n0, by omega, by omega⟩ (I'.nb n n0 n1)) (by rw [o _ (by omega)]; exact id)
  · rw [fl_self] at this
    exact this
  · unfold NSg
    rw [o (244 * n + 0) (by omega), o (244 * n + 1) (by omega), o (244 * n + 2) (by omega), o (244 * n + 3) (by omega), o (244 * n + 4) (by omega), o (244 * n + 5) (by omega), o (244 * n + 6) (by omega), o (244 * n + 7) (by omega), o (244 * n + 8) (by omega), o (244 * n + 9) (by omega), o (244 * n + 11) (by omega), o (244 * n + 12) (by omega), o (244 * n + 13) (by omega), o (244 * n + 14) (by omega), o 11134 (by omega), st_eq]
    unfold NS at *
    omega
end
