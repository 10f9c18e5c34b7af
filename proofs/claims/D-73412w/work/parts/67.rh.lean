/-! DEPS: rg -/
/-! RH: the invariant through following, later terms, votes, standing -/
section
variable {g g' : Row} {h h' : His} {FL : Int → ELog} {R : Int} {D : DK} {Λ : Law}
theorem InvS.ar (I : InvS g h FL R D) : 0 ≤ g 11135 ∧ g 11135 ≤ 16 := by
  have hG := I.gl
  obtain ⟨_, _, _, _, _, _, _, _, _, _, _, _⟩ := hG
  omega
/-- all scalars of a node but some are kept -/
theorem InvS.reads (I : InvS g h FL R D) {n : Int} : InvS (readsG g n) h FL R D := by
  have hA := I.ar
  have o := fun x a => readsG_ne (g := g) (n := n) (x := x) a hA
  refine ⟨I.hi, fun p p0 p1 => NA_ext (fun x _ _ => o x (by omega)) (o _ (by omega)) (I.na p p0 p1), fun p p0 p1 => ?_, fun i a b => ?_, GlA_blk (fun x _ => o x (by omega)) I.gl, fun x a b => by rw [o x (by omega)]; exact I.hd x a b, fun i a b => by rw [o _ (by omega), o _ (by omega)]; exact I.hc i a b, readsG_Rd hA I.rd, fun r a b c => ?_, fun t a b => by rw [o t (by omega)]; exact I.ld t a b, fun k a b => ?_, by rw [o _ (by omega), o _ (by omega), o _ (by omega)]; exact I.dd, I.rr⟩
  · obtain ⟨⟨s1, s2⟩, _⟩ := I.na p p0 p1
    exact NB_ext (fun x _ _ _ => o x (by omega)) ⟨p0, by omega, by omega⟩ (I.nb p p0 p1)
  · rw [o _ (by omega)] at b
    rw [o 11134 (by omega)]
    have hG := I.gl
    obtain ⟨_, _, _, _, _, _, _, _, _, _, _, _⟩ := hG
    obtain ⟨q1, q2⟩ := I.ml i a b
    have e : ∀ w, 0 ≤ w → w < 27 → msg (readsG g n) i w = msg g i w := fun w w0 w1 => o _ (by omega)
    exact ⟨MI_ext (fun w w0 w1 _ => e w w0 w1) q1, by rw [e 4 (by omega) (by omega)]; exact q2⟩
  · rw [o 11135 (by omega)] at b
    have e0 : readsG g n (11028 + 6 * r) = g (11028 + 6 * r) := lrG_ne (k := g 11135) (by omega)
    have q := I.rd r a b
    rw [e0, o _ (by omega)]
    apply I.rl r a b
    unfold readsG at c
    split at c
    · omega
    · exact c
  · by_cases c : k < 4
    · have : readsG g n (11124 + k) = g (11124 + k) := lrG_ne (k := g 11135) (by omega)
      rw [this]; exact I.ct k a b
    · rw [o _ (by omega)]; exact I.ct k a b
/-- after that no read of the node is open -/
theorem reads_none {n r : Int} (a : 0 ≤ r) (b : r < readsG g n 11135) (hA : 0 ≤ g 11135 ∧ g 11135 ≤ 16) (c : readsG g n (11028 + 6 * r) = n) : readsG g n (11028 + 6 * r + 4) ≠ 0 := by
  rw [readsG_ne (by omega) hA] at b
  have e0 : readsG g n (11028 + 6 * r) = g (11028 + 6 * r) := lrG_ne (k := g 11135) (by omega)
  rw [e0] at c
  unfold readsG
  split
  · omega
  · rename_i q
    intro d
    apply q
    exact ⟨by omega, by omega, by omega, by rw [show 11028 + 6 * r + 4 - 4 = 11028 + 6 * r by omega]; exact c, d⟩
theorem InvS.follow (I : InvS g h FL R D) {n w : Int} (n0 : 0 ≤ n) (n1 : n < 7) (w0 : -1 ≤ w) (w1 : w ≤ 6) (hu : g (244 * n + 0) = 1 ∨ w = -1) : InvS (followG g n w) h FL R D := by
  obtain ⟨g1, hg1, I1, hn⟩ : ∃ g1, (if the g n 3 = 2 then readsG g n else g) = g1 ∧ InvS g1 h FL R D ∧ ∀ r, 0 ≤ r → r < g1 11135 → g1 (11028 + 6 * r) = n → g1 (11028 + 6 * r + 4) ≠ 0 := by
    by_cases c : the g n 3 = 2
    · exact ⟨_, rfl, by rw [if_pos c]; exact I.reads, by rw [if_pos c]; exact fun r a b d => reads_none a b I.ar d⟩
    · refine ⟨_, rfl, by rw [if_neg c]; exact I, ?_⟩
      rw [if_neg c]
      intro r a b d e
      have := I.rl r a b e
      rw [d] at this
      exact c this
  have e0 : g1 (244 * n + 0) = g (244 * n + 0) := by
    rw [← hg1]
    split
    · exact readsG_ne (by omega) I.ar
    · rfl
  unfold followG
  rw [hg1]
  have o : ∀ x, ¬ x = 244 * n + 3 → ¬ x = 244 * n + 11 → st (st g1 (244 * n + 3) 0) (244 * n + 11) w x = g1 x := fun x a b => by rw [st_ne b, st_ne a]
  have e3 : st (st g1 (244 * n + 3) 0) (244 * n + 11) w (244 * n + 3) = 0 := by rw [st_ne (by omega), st_eq]
  have e11 : st (st g1 (244 * n + 3) 0) (244 * n + 11) w (244 * n + 11) = w := st_eq _ _ _
  obtain ⟨⟨s1, s2⟩, _⟩ := I1.na n n0 n1
  have nb := I1.nb n n0 n1
  have := I1.node' (g' := st (st g1 (244 * n + 3) 0) (244 * n + 11) w) (fl' := FL n) n0 n1 I1.hi Ot.rfl (fun x _ => o x (by omega) (by omega)) ((I1.na n n0 n1).upd (fun x _ _ => o x (by omega) (by omega)) ?_ (by rw [o _ (by omega) (by omega), o _ (by omega) (by omega)]; exact id) (by rw [e3]; intro q; omega)) (NB.mk (nb.1.foll) (Lk_ext (fun x _ _ _ => o x (by omega) (by omega)) ⟨n0, by omega, by omega⟩ nb.2) (o _ (by omega) (by omega)) (o _ (by omega) (by omega)) e3 (by rw [o _ (by omega) (by omega), o _ (by omega) (by omega)]) (o _ (by omega) (by omega)) (o _ (by omega) (by omega)) (fun k _ _ => o _ (by omega) (by omega))) (fun r a b c d => absurd d (hn r a b c))
  · rw [fl_self] at this
    exact this
  · unfold NSg
    rw [o (244 * n + 0) (by omega) (by omega), o (244 * n + 1) (by omega) (by omega), o (244 * n + 2) (by omega) (by omega), e3, o (244 * n + 4) (by omega) (by omega), o (244 * n + 5) (by omega) (by omega), o (244 * n + 6) (by omega) (by omega), o (244 * n + 7) (by omega) (by omega), o (244 * n + 8) (by omega) (by omega), o (244 * n + 9) (by omega) (by omega), o (244 * n + 10) (by omega) (by omega), e11, o (244 * n + 12) (by omega) (by omega), o (244 * n + 13) (by omega) (by omega), o (244 * n + 14) (by omega) (by omega), o 11134 (by omega) (by omega)]
    unfold NS at *
    omega
/-- scalars below 15 change, all else of the node is kept -/
theorem InvS.scal (I : InvS g h FL R D) {n : Int} (n0 : 0 ≤ n) (n1 : n < 7) (H' : HI h') (O : Ot h h' n) (he : ∀ x, (x < 244 * n ∨ 244 * n + 15 ≤ x) → g' x = g x)
    (h4 : ∀ x, 244 * n + 4 ≤ x → x < 244 * n + 9 → g' x = g x) (s : NSg g' R (g 11134) n) (kb : g' (244 * n + 9) = g (244 * n + 4) → g (244 * n + 9) = g (244 * n + 4) ∨ KbA g n) (lr : g' (244 * n + 3) = 2 → g (244 * n + 3) = 2)
    (ni : NI h' n (g' (244 * n + 1)) (g' (244 * n + 2)) (g' (244 * n + 3)) (g (244 * n + 4) + g (244 * n + 8)) (g' (244 * n + 9)) (g' (244 * n + 12)) (FL n) (fun k => g (244 * n + (38 + k))))
    (hr : g (244 * n + 3) = 2 → g' (244 * n + 3) = 2) : InvS g' h' FL R D := by
  have nb := I.nb n n0 n1
  obtain ⟨⟨s1, s2⟩, _⟩ := I.na n n0 n1
  have a := I.na n n0 n1
  have e34 : g' 11134 = g 11134 := he _ (by omega)
  have := I.node (g' := g') (fl' := FL n) n0 n1 H' O (fun x _ => he x (by omega)) ⟨by rw [e34]; exact s, fun x b c => by rw [he x (by omega)]; exact a.ky x b c, fun e k b c => ?_, fun e k b c => ?_⟩ (NB.mk ni (Lk_ext (fun x b c d => ?_) ⟨n0, by omega, by omega⟩ nb.2) rfl rfl rfl (by rw [h4 _ (by omega) (by omega), h4 _ (by omega) (by omega)]) rfl rfl (fun k _ _ => he _ (by omega))) hr
  · rw [fl_self] at this
    exact this
  · rw [he _ (by omega), he _ (by omega)]
    rw [h4 (244 * n + 4) (by omega) (by omega)] at e
    rcases kb e with q | q
    · exact a.kb q k b c
    · exact q k b c
  · rw [he (244 * n + (31 + k)) (by omega), he (244 * n + (38 + k)) (by omega), he (244 * n + (45 + k)) (by omega), h4 (244 * n + 4) (by omega) (by omega), h4 (244 * n + 8) (by omega) (by omega)]
    exact a.lr (lr e) k b c
  · by_cases q : x < 244 * n + 9
    · exact h4 x b q
    · exact he x (by omega)
/-- a later term comes -/
theorem InvS.rise (I : InvS g h FL R D) {mi : Row} {n : Int} (n0 : 0 ≤ n) (n1 : n < 7) (hm : mi 3 ≤ 999) : InvS (riseG g mi n) h FL R D := by
  unfold riseG
  split
  · rename_i c
    have c : g (244 * n + 1) < mi 3 := c
    have e : followG (st (st g (244 * n + 1) (mi 3)) (244 * n + 2) (-1)) n (-1) = st (st (followG g n (-1)) (244 * n + 1) (mi 3)) (244 * n + 2) (-1) := by
      have q3 : st (st g (244 * n + 1) (mi 3)) (244 * n + 2) (-1) (244 * n + 3) = g (244 * n + 3) := by rw [st_ne (by omega), st_ne (by omega)]
      have q35 : st (st g (244 * n + 1) (mi 3)) (244 * n + 2) (-1) 11135 = g 11135 := by rw [st_ne (by omega), st_ne (by omega)]
      funext x
      unfold followG
      simp only [the, q3]
      by_cases x2 : x = 244 * n + 2
      · rw [x2, st_ne (by omega), st_ne (by omega), st_eq]
        split
        · rw [readsG_ne (by omega) (by rw [q35]; exact I.ar), st_eq]
        · rw [st_eq]
      · by_cases x1 : x = 244 * n + 1
        · rw [x1, st_ne (by omega), st_ne (by omega), st_ne (by omega), st_eq]
          split
          · rw [readsG_ne (by omega) (by rw [q35]; exact I.ar), st_ne (by omega), st_eq]
          · rw [st_ne (by omega), st_eq]
        · rw [st_ne x2, st_ne x1]
          unfold st
          split
          · rfl
          · split
            · rfl
            · split
              · unfold readsG
                have hA := I.ar
                simp only []
                by_cases cx : 11032 ≤ x
                · rw [if_neg (show ¬ x - 4 = 244 * n + 2 by omega), if_neg (show ¬ x - 4 = 244 * n + 1 by omega), if_neg x2, if_neg x1, if_neg (show ¬ (11135 : Int) = 244 * n + 2 by omega), if_neg (show ¬ (11135 : Int) = 244 * n + 1 by omega)]
                · simp only [cx, false_and, if_false]
                  rw [if_neg x2, if_neg x1]
              · exact (if_neg x2).trans (if_neg x1)
    rw [show the g n 1 = g (244 * n + 1) from rfl] at *
    rw [e]
    have I1 := I.follow (w := -1) n0 n1 (by omega) (by omega) (Or.inr rfl)
    have hA := I.ar
    have of := fun x a b => followG_ne (g := g) (n := n) (w := -1) (x := x) a hA b
    have f1 : followG g n (-1) (244 * n + 1) = g (244 * n + 1) := of _ (by omega) (by omega) (by omega)
    have f3 : followG g n (-1) (244 * n + 3) = 0 := followG_3
    have o : ∀ x, ¬ x = 244 * n + 1 → ¬ x = 244 * n + 2 → st (st (followG g n (-1)) (244 * n + 1) (mi 3)) (244 * n + 2) (-1) x = followG g n (-1) x := fun x a b => by rw [st_ne b, st_ne a]
    have e1 : st (st (followG g n (-1)) (244 * n + 1) (mi 3)) (244 * n + 2) (-1) (244 * n + 1) = mi 3 := by rw [st_ne (by omega), st_eq]
    have e2 : st (st (followG g n (-1)) (244 * n + 1) (mi 3)) (244 * n + 2) (-1) (244 * n + 2) = -1 := st_eq _ _ _
    have nb := I1.nb n n0 n1
    obtain ⟨⟨s1, s2⟩, _⟩ := I1.na n n0 n1
    refine I1.scal n0 n1 I1.hi Ot.rfl (fun x _ => o x (by omega) (by omega)) (fun x _ _ => o x (by omega) (by omega)) ?_ ?_ ?_ ?_ ?_
    · unfold NSg
      rw [o (244 * n + 0) (by omega) (by omega), e1, e2, o (244 * n + 3) (by omega) (by omega), o (244 * n + 4) (by omega) (by omega), o (244 * n + 5) (by omega) (by omega), o (244 * n + 6) (by omega) (by omega), o (244 * n + 7) (by omega) (by omega), o (244 * n + 8) (by omega) (by omega), o (244 * n + 9) (by omega) (by omega), o (244 * n + 10) (by omega) (by omega), o (244 * n + 11) (by omega) (by omega), o (244 * n + 12) (by omega) (by omega), o (244 * n + 13) (by omega) (by omega), o (244 * n + 14) (by omega) (by omega)]
      unfold NS at *
      omega
    · rw [o _ (by omega) (by omega)]
      exact Or.inl
    · rw [o _ (by omega) (by omega)]
      exact id
    · rw [e1, e2, o (244 * n + 3) (by omega) (by omega), o (244 * n + 9) (by omega) (by omega), o (244 * n + 12) (by omega) (by omega), f3]
      exact nb.1.rise (by rw [f1]; exact c)
    · rw [o _ (by omega) (by omega)]
      exact id
  · exact I
end
