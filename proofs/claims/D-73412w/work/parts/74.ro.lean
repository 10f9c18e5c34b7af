/-! DEPS: rn -/
/-! RO: the invariant through snapshots, answers heard, reads, messages handed over, ticks -/
section
variable {g g' : Row} {h h' : His} {FL : Int → ELog} {R : Int} {D : DK} {Λ : Law}
theorem snapG_eq {mi : Row} {n x : Int} : snapG g mi n x = if x = 244 * n + 5 then mi 7 else if x = 244 * n + 6 then mi 8 else if x = 244 * n + 7 then mi 9 else if x = 244 * n + 9 then mi 6
    else if 244 * n + 15 ≤ x ∧ x < 244 * n + 23 then mi (11 + (x - (244 * n + 15))) else if 244 * n + 23 ≤ x ∧ x < 244 * n + 31 then mi (11 + (x - (244 * n + 23))) else goesG (if hasEnt g n (mi 6) ∧ termA g n (mi 6) = mi 7 then g else st g (244 * n + 8) 0) n (mi 6) x := rfl
theorem snapG_o {mi : Row} {n x : Int} (h1 : x < 244 * n + 4 ∨ 244 * n + 10 ≤ x) (h2 : x < 244 * n + 15 ∨ 244 * n + 31 ≤ x) (h3 : x < 244 * n + 52 ∨ 244 * n + 52 + 4 * max 0 (g (244 * n + 8) - (mi 6 - g (244 * n + 4))) ≤ x) (h8 : 0 ≤ g (244 * n + 8)) (h6 : g (244 * n + 4) ≤ mi 6) : snapG g mi n x = g x := by
  rw [snapG_eq, if_neg (by omega), if_neg (by omega), if_neg (by omega), if_neg (by omega), if_neg (by omega), if_neg (by omega)]
  split
  · exact goesG_ne (by omega) (by omega) h3
  · rw [goesG_ne (by omega) (by omega) (by rw [st_eq, st_ne (by omega)]; omega), st_ne (by omega)]
theorem InvS.snapd (I : InvS g h FL R D) {mi : Row} {n : Int} (hM : MI h R (g 11134) mi) (hk : mi 2 = 4) (n0 : 0 ≤ n) (n1 : n < 7) (e3 : g (244 * n + 3) = 0) (e1 : g (244 * n + 1) = mi 3) (hc : g (244 * n + 9) < mi 6) :
    ∃ FL', InvS (snapG g mi n) h FL' R D ∧ Ag (FL' n) (h.ll (mi 3)) (mi 6) ∧ mi 6 ≤ snapG g mi n (244 * n + 4) + snapG g mi n (244 * n + 8) ∧ snapG g mi n (244 * n + 1) = mi 3 := by
  obtain ⟨k1, k2, k3, k4, k5, ⟨cc, kc1, kc2, kc3⟩, k7, k8⟩ := hM.k4 hk
  have hs := hM.s
  have nb := I.nb n n0 n1
  have a := I.na n n0 n1
  have ni := nb.1
  rw [e3] at ni
  obtain ⟨⟨s1, s2⟩, _⟩ := I.na n n0 n1
  have hU : h.el (g (244 * n + 1)) := by rw [e1]; exact k1
  obtain ⟨sn1, sn2⟩ := ni.snap I.hi hU (i := mi 6) k2 (by rw [e1]; exact k3) (by rw [e1]; exact k7)
  rw [e1] at sn1 sn2
  have hsm := ni.same I.hi hU (i := mi 6) k2
  rw [e1] at hsm
  -- which log goes on
  have hcond : (hasEnt g n (mi 6) ∧ termA g n (mi 6) = mi 7) ↔ (mi 6 ≤ g (244 * n + 4) + g (244 * n + 8) ∧ (FL n (mi 6)).t = (h.ll (mi 3) (mi 6)).t) := by
    unfold hasEnt
    simp only [the, lastA]
    constructor
    · intro ⟨q1, q2⟩
      rw [nb.2.term (by omega) q1.2, k5] at q2
      exact ⟨q1.2, q2⟩
    · intro ⟨q1, q2⟩
      refine ⟨⟨by omega, q1⟩, ?_⟩
      rw [nb.2.term (by omega) q1, k5]
      exact q2
  have p5 : snapG g mi n (244 * n + 5) = mi 7 := if_pos rfl
  have p6 : snapG g mi n (244 * n + 6) = mi 8 := by rw [snapG_eq, if_neg (by omega), if_pos rfl]
  have p7 : snapG g mi n (244 * n + 7) = mi 9 := by rw [snapG_eq, if_neg (by omega), if_neg (by omega), if_pos rfl]
  have p9 : snapG g mi n (244 * n + 9) = mi 6 := by rw [snapG_eq, if_neg (by omega), if_neg (by omega), if_neg (by omega), if_pos rfl]
  have p4 : snapG g mi n (244 * n + 4) = mi 6 := by rw [snapG_eq, if_neg (by omega), if_neg (by omega), if_neg (by omega), if_neg (by omega), if_neg (by omega), if_neg (by omega), goesG_4]
  have pk : ∀ k, 0 ≤ k → k < 8 → snapG g mi n (244 * n + (15 + k)) = mi (11 + k) ∧ snapG g mi n (244 * n + (23 + k)) = mi (11 + k) := by
    intro k q0 q1
    constructor
    · rw [snapG_eq, if_neg (by omega), if_neg (by omega), if_neg (by omega), if_neg (by omega), if_pos (by omega)]
      congr 1
      omega
    · rw [snapG_eq, if_neg (by omega), if_neg (by omega), if_neg (by omega), if_neg (by omega), if_neg (by omega), if_pos (by omega)]
      congr 1
      omega
  have o := fun x a b c => snapG_o (g := g) (mi := mi) (n := n) (x := x) a b c (by omega) (by omega)
  -- how many stay, and what they are
  obtain ⟨fl', m', hm0, p8, hag, hni, hent⟩ : ∃ fl' m', (0 ≤ m' ∧ m' ≤ 48 ∧ mi 6 + m' ≤ 999) ∧ snapG g mi n (244 * n + 8) = m' ∧ Ag fl' (h.ll (mi 3)) (mi 6) ∧ NI h n (mi 3) (g (244 * n + 2)) 0 (mi 6 + m') (mi 6) (g (244 * n + 12)) fl' (fun k => g (244 * n + (38 + k))) ∧ (∀ i, mi 6 < i → i ≤ mi 6 + m' → ∀ w, 0 ≤ w → w < 4 → snapG g mi n (244 * n + 52 + 4 * (i - mi 6 - 1) + w) = g (244 * n + 52 + 4 * (i - g (244 * n + 4) - 1) + w) ∧ fl' i = FL n i ∧ i ≤ g (244 * n + 4) + g (244 * n + 8)) := by
    by_cases c : hasEnt g n (mi 6) ∧ termA g n (mi 6) = mi 7
    · have c' := hcond.mp c
      refine ⟨FL n, g (244 * n + 4) + g (244 * n + 8) - mi 6, by omega, ?_, hsm c'.1 k3 c'.2, ?_, fun i i0 i1 w w0 w1 => ⟨?_, rfl, by omega⟩⟩
      · rw [snapG_eq, if_pos c, if_neg (by omega), if_neg (by omega), if_neg (by omega), if_neg (by omega), if_neg (by omega), if_neg (by omega), goesG_8]
        omega
      · rw [show mi 6 + (g (244 * n + 4) + g (244 * n + 8) - mi 6) = g (244 * n + 4) + g (244 * n + 8) by omega]
        exact sn1 c'
      · rw [snapG_eq, if_pos c, if_neg (by omega), if_neg (by omega), if_neg (by omega), if_neg (by omega), if_neg (by omega), if_neg (by omega), goesG_log (by omega) (by omega)]
        congr 1
        omega
    · have c' := fun q => c (hcond.mpr q)
      refine ⟨h.ll (mi 3), 0, by omega, ?_, Ag.rfl, ?_, fun i i0 i1 w w0 w1 => by omega⟩
      · rw [snapG_eq, if_neg c, if_neg (by omega), if_neg (by omega), if_neg (by omega), if_neg (by omega), if_neg (by omega), if_neg (by omega), goesG_8, st_eq, st_ne (by omega)]
        omega
      · rw [Int.add_zero]
        exact sn2 c'
  have o1 : snapG g mi n (244 * n + 1) = mi 3 := by rw [o _ (by omega) (by omega) (by omega), e1]
  have lk : Lk (snapG g mi n) n fl' := by
    have c0 := kc1.1
    have c9 := kc1.2.1
    unfold Lk
    rw [p4, p5, p6, p7, p8]
    refine ⟨fun i i0 i1 => ?_, by rw [hag _ (by omega) (by omega)]; exact k5, cc, kc1.ag hag, by rw [hag cc c0 c9]; exact kc2, by rw [hag cc c0 c9]; exact kc3⟩
    have e := hent i i0 i1
    obtain ⟨w0, w1, w2⟩ := e 0 (by omega) (by omega)
    rw [w1, ← nb.2.1 i (by omega) w2]
    unfold entA
    simp only [lpA, the]
    rw [Int.add_zero, Int.add_zero] at w0
    rw [p4, w0, (e 1 (by omega) (by omega)).1, (e 2 (by omega) (by omega)).1, (e 3 (by omega) (by omega)).1]
  refine ⟨_, I.node (g' := snapG g mi n) (fl' := fl') n0 n1 I.hi Ot.rfl (fun x _ => o x (by omega) (by omega) (by omega)) ⟨?_, fun x b c => ?_, fun e k b c => ?_, fun e => ?_⟩ (NB.mk hni lk o1 (o _ (by omega) (by omega) (by omega)) (by rw [o _ (by omega) (by omega) (by omega)]; exact e3) (by rw [p4, p8]) p9 (o _ (by omega) (by omega) (by omega)) (fun k _ _ => o _ (by omega) (by omega) (by omega))) (by rw [o _ (by omega) (by omega) (by omega)]; exact id), ?_, by rw [p4, p8]; omega, o1⟩
  · unfold NSg
    rw [p4, p5, p6, p7, p8, p9, o1, o (244 * n + 0) (by omega) (by omega) (by omega), o (244 * n + 2) (by omega) (by omega) (by omega), o (244 * n + 3) (by omega) (by omega) (by omega), o (244 * n + 10) (by omega) (by omega) (by omega), o (244 * n + 11) (by omega) (by omega) (by omega), o (244 * n + 12) (by omega) (by omega) (by omega), o (244 * n + 13) (by omega) (by omega) (by omega), o (244 * n + 14) (by omega) (by omega) (by omega), o 11134 (by omega) (by omega) (by omega)]
    have l0 := kc1.1
    have lb : 0 ≤ mi 8 ∧ mi 8 < 128 ∧ 0 ≤ mi 9 ∧ mi 9 < 128 ∧ mi 7 ≤ 999 := by
      have c9 := kc1.2.1
      have E := fun i i0 i1 => I.hi.eok (mi 3) i k1 i0 i1
      have e6 := E (mi 6) k2 k3
      unfold EOK at e6
      have z := I.hi.z
      by_cases q : cc = 0
      · rw [q, (I.hi.el1 _ k1).2.2.2.1.1] at kc2 kc3
        omega
      · have ec := E cc (by omega) (by omega)
        unfold EOK at ec
        omega
    unfold NS
    omega
  · have := pk (x - 244 * n - 15)
    have := pk (x - 244 * n - 23)
    by_cases q : x < 244 * n + 23
    · have q2 := (pk (x - 244 * n - 15) (by omega) (by omega)).1
      rw [show 244 * n + (15 + (x - 244 * n - 15)) = x by omega] at q2
      rw [q2]
      exact k8 _ (by omega) (by omega)
    · have q2 := (pk (x - 244 * n - 23) (by omega) (by omega)).2
      rw [show 244 * n + (23 + (x - 244 * n - 23)) = x by omega] at q2
      rw [q2]
      exact k8 _ (by omega) (by omega)
  · obtain ⟨q1, q2⟩ := pk k b c
    rw [q1, q2]
  · rw [o _ (by omega) (by omega) (by omega)] at e
    omega
  · show Ag (if n = n then fl' else FL n) _ _
    rw [if_pos rfl]
    exact hag
theorem InvS.snapshot (I : InvS g h FL R D) {mi : Row} {n : Int} (hM : MI h R (g 11134) mi) (hn : mi 1 = n) (hk : mi 2 = 4) (hrs : mi 3 ≤ g (244 * n + 1)) (hup : g (244 * n + 0) = 1) : Ex (snapshotG Λ g mi n) h R D := by
  have hs := hM.s
  have n0 : 0 ≤ n := by omega
  have n1 : n < 7 := by omega
  have rr := I.rr
  obtain ⟨k1, k2, k3, k4, k5, k6, k7, k8⟩ := hM.k4 hk
  unfold snapshotG
  simp only [the]
  by_cases c0 : mi 3 < g (244 * n + 1)
  · rw [if_pos c0]
    exact (I.ans ⟨by omega, by omega⟩ ⟨by omega, by omega⟩ (Or.inr (Or.inr rfl)) (by omega) (by omega) (by omega) (fun q => by omega) (fun q => by omega) (fun _ => Or.inl rfl)).ex
  · rw [if_neg c0]
    have I1 := (I.follow (w := mi 0) n0 n1 (by omega) (by omega) (Or.inl hup)).timer (Λ := Λ) n0 n1
    have hA := I.ar
    have e3 : timerG Λ (followG g n (mi 0)) n (244 * n + 3) = 0 := by rw [timerG_ne (by omega) (by omega), followG_3]
    have e1 : timerG Λ (followG g n (mi 0)) n (244 * n + 1) = mi 3 := by
      rw [timerG_ne (by omega) (by omega), followG_ne (by omega) hA (by omega) (by omega)]
      omega
    have e34 : timerG Λ (followG g n (mi 0)) n 11134 = g 11134 := by rw [timerG_ne (by omega) (by omega), followG_ne (by omega) hA (by omega) (by omega)]
    rw [← e34] at hM
    generalize timerG Λ (followG g n (mi 0)) n = g1 at *
    have nb := I1.nb n n0 n1
    have ni := nb.1
    have hU : h.el (g1 (244 * n + 1)) := by rw [e1]; exact k1
    obtain ⟨⟨s1, s2⟩, _⟩ := I1.na n n0 n1
    by_cases c1 : mi 6 ≤ g1 (244 * n + 9)
    · rw [if_pos c1]
      have hcm := ni.comm I1.hi hU
      obtain ⟨h4, G4, I4, r1, r2⟩ := I1.ackd (a := g1 (244 * n + 9)) n0 n1 hU (by omega) hcm.1 hcm.2
      refine (I4.ans ⟨by omega, by omega⟩ ⟨by omega, by omega⟩ (Or.inr (Or.inr rfl)) (by omega) (by omega) (by omega) (fun q => by omega) (fun q => by omega) (fun _ => Or.inr ⟨?_, ?_⟩)).ex.gr G4
      · rw [hn]; exact r1
      · rw [hn]; exact r2
    · rw [if_neg c1]
      obtain ⟨FL2, I2, p1, p2, p3⟩ := I1.snapd hM hk n0 n1 e3 e1 (by omega)
      obtain ⟨h4, G4, I4, r1, r2⟩ := I2.ackd (a := mi 6) n0 n1 (by rw [p3]; exact k1) p2 (by rw [p3]; exact k3) (by rw [p3]; exact p1)
      refine (I4.ans ⟨by omega, by omega⟩ ⟨by omega, by omega⟩ (Or.inr (Or.inr rfl)) (by omega) (by omega) (by omega) (fun q => by omega) (fun q => by omega) (fun _ => Or.inr ⟨?_, ?_⟩)).ex.gr G4
      · rw [hn]; exact r1
      · rw [hn]; exact r2
/-! reads -/
theorem InvS.rdx (I : InvS g h FL R D) (he : ∀ x, (x < 11028 ∨ 11124 ≤ x) → ¬ x = 11136 → g' x = g x) (hr : ∀ r, 0 ≤ r → r < g 11135 → (∀ w, 0 ≤ w → w < 4 → g' (11028 + 6 * r + w) = g (11028 + 6 * r + w)) ∧ (g' (11028 + 6 * r + 4) = 1 ∨ g' (11028 + 6 * r + 4) = g (11028 + 6 * r + 4))) : InvS g' h FL R D := by
  have hA := I.ar
  have hG := I.gl
  refine ⟨I.hi, fun n n0 n1 => NA_ext (fun x _ _ => he x (by omega) (by omega)) (he _ (by omega) (by omega)) (I.na n n0 n1), fun n n0 n1 => ?_, fun i a b => ?_, GlA_ext hG (he _ (by omega) (by omega)) (he _ (by omega) (by omega)) (he _ (by omega) (by omega)) (by rw [he _ (by omega) (by omega)]; obtain ⟨_, _, _, _, _, _, _, _, _, _, _, _⟩ := hG; omega) (he _ (by omega) (by omega)) (he _ (by omega) (by omega)), fun x a b => by rw [he x (by omega) (by omega)]; exact I.hd x a b, fun i a b => by rw [he _ (by omega) (by omega), he _ (by omega) (by omega)]; exact I.hc i a b, fun r a b => ?_, fun r a b c => ?_, fun t a b => by rw [he t (by omega) (by omega)]; exact I.ld t a b, fun k a b => by rw [he _ (by omega) (by omega)]; exact I.ct k a b, by rw [he _ (by omega) (by omega), he _ (by omega) (by omega), he _ (by omega) (by omega)]; exact I.dd, I.rr⟩
  · obtain ⟨⟨s1, s2⟩, _⟩ := I.na n n0 n1
    exact NB_ext (fun x _ _ _ => he x (by omega) (by omega)) ⟨n0, by omega, by omega⟩ (I.nb n n0 n1)
  · rw [he _ (by omega) (by omega)] at b
    rw [he 11134 (by omega) (by omega)]
    obtain ⟨_, _, _, _, _, _, _, _, _, _, _, _⟩ := hG
    obtain ⟨q1, q2⟩ := I.ml i a b
    have e : ∀ w, 0 ≤ w → w < 27 → msg g' i w = msg g i w := fun w w0 w1 => he _ (by omega) (by omega)
    exact ⟨MI_ext (fun w w0 w1 _ => e w w0 w1) q1, by rw [e 4 (by omega) (by omega)]; exact q2⟩
  · rw [he _ (by omega) (by omega)] at b
    obtain ⟨q1, q2⟩ := hr r a b
    have := I.rd r a b
    have e0 := q1 0 (by omega) (by omega)
    rw [Int.add_zero] at e0
    rw [e0, q1 1 (by omega) (by omega), q1 2 (by omega) (by omega), q1 3 (by omega) (by omega)]
    omega
  · rw [he _ (by omega) (by omega)] at b
    obtain ⟨q1, q2⟩ := hr r a b
    have := I.rd r a b
    have e0 := q1 0 (by omega) (by omega)
    rw [Int.add_zero] at e0
    rw [e0, he _ (by omega) (by omega)]
    exact I.rl r a b (by omega)
theorem InvS.readK {n : Int} : ∀ (f : Nat) (g : Row) (r : Int), InvS g h FL R D → 0 ≤ r → r + f ≤ g 11135 → InvS (readF n f g r) h FL R D
  | 0, g, r, I, a, b => I
  | f + 1, g, r, I, a, b => by
    have hA := I.ar
    unfold readF
    split
    · have o : ∀ x, ¬ x = 11032 + 6 * r → ¬ x = 11033 + 6 * r → ¬ x = 11136 → (let h := st (st g (11032 + 6 * r) 1) (11033 + 6 * r) (the g n (15 + g (11029 + 6 * r)))
          if the h n 9 < h (11031 + 6 * r) then breakG h else h) x = g x := by
        intro x a b c
        simp only []
        split
        · unfold breakG
          rw [st_ne c, st_ne b, st_ne a]
        · rw [st_ne b, st_ne a]
      have o4 : (let h := st (st g (11032 + 6 * r) 1) (11033 + 6 * r) (the g n (15 + g (11029 + 6 * r)))
          if the h n 9 < h (11031 + 6 * r) then breakG h else h) (11032 + 6 * r) = 1 := by
        simp only []
        split
        · unfold breakG
          rw [st_ne (by omega), st_ne (by omega), st_eq]
        · rw [st_ne (by omega), st_eq]
      generalize (let h := st (st g (11032 + 6 * r) 1) (11033 + 6 * r) (the g n (15 + g (11029 + 6 * r)))
          if the h n 9 < h (11031 + 6 * r) then breakG h else h) = g1 at o o4 ⊢
      have I1 : InvS g1 h FL R D := by
        refine I.rdx (fun x a b => o x (by omega) (by omega) b) (fun q q0 q1 => ⟨fun w w0 w1 => o _ (by omega) (by omega) (by omega), ?_⟩)
        by_cases c : q = r
        · rw [c, show 11028 + 6 * r + 4 = 11032 + 6 * r by omega]
          exact Or.inl o4
        · exact Or.inr (o _ (by omega) (by omega) (by omega))
      exact InvS.readK f g1 (r + 1) I1 (by omega) (by rw [o _ (by omega) (by omega) (by omega)]; omega)
    · exact InvS.readK f g (r + 1) I (by omega) (by omega)
theorem InvS.read (I : InvS g h FL R D) {n : Int} : InvS (readG g n) h FL R D := by
  unfold readG
  split
  · exact InvS.readK _ g 0 I (by omega) (by have := I.ar; omega)
  · exact I
/-! answers heard -/
theorem InvS.matched (I : InvS g h FL R D) {mi : Row} {n i : Int} (n0 : 0 ≤ n) (n1 : n < 7) (p0 : 0 ≤ mi 0) (p1 : mi 0 < 7) (hr : g (244 * n + 3) = 2) (hi : i ≤ 0 ∨ i ≤ h.ak (g (244 * n + 1)) (mi 0)) : Ex (matchedG Λ g mi n i) h R D := by
  have I1 := I.matchd (mi := mi) n0 n1 hr p0 p1 hi
  have e3 : matchG g mi n i (244 * n + 3) = 2 := by
    unfold matchG
    simp only [the]
    rw [st_ne (by omega), st_ne (by omega)]
    exact hr
  unfold matchedG
  simp only []
  refine (I1.hold (Λ := Λ) n0 n1 e3).bind (fun h2 FL2 G2 I2 => ?_)
  split
  · rename_i c
    exact (I2.send n0 n1 c.1 p0 p1).ex
  · exact I2.ex
theorem InvS.hearE (I : InvS g h FL R D) {mi : Row} {n : Int} (hM : MI h R (g 11134) mi) (hn : mi 1 = n) (hk : mi 2 = 3) : Ex (hearEG Λ g mi n) h R D := by
  have hs := hM.s
  have n0 : 0 ≤ n := by omega
  have n1 : n < 7 := by omega
  unfold hearEG
  split
  · rename_i c
    obtain ⟨c1, c2⟩ := c
    simp only [the] at c1 c2
    have k3 := hM.k3 hk
    have I1 := I.heard (mi := mi) n0 n1 (by omega) (by omega) (by omega) (by omega)
    have e3 : heardG g mi n (244 * n + 3) = 2 := by
      unfold heardG
      rw [st_ne (by omega)]; exact c1
    have e1 : heardG g mi n (244 * n + 1) = mi 3 := by
      unfold heardG
      rw [st_ne (by omega)]; exact c2.symm
    generalize heardG g mi n = g1 at *
    split
    · rename_i c3
      exact (I1.matched n0 n1 (by omega) (by omega) e3 (by rw [e1]; omega)).bind (fun h2 FL2 G2 I2 => I2.read.ex)
    · have I2 := I1.backd (mi := mi) n0 n1 e3 (by omega) (by omega)
      have e4 : backG g1 mi n (244 * n + 3) = 2 := by
        unfold backG
        rw [st_ne (by omega)]; exact e3
      exact (I2.send n0 n1 e4 (by omega) (by omega)).read.ex
  · exact I.ex
theorem InvS.hearS (I : InvS g h FL R D) {mi : Row} {n : Int} (hM : MI h R (g 11134) mi) (hn : mi 1 = n) (hk : mi 2 = 5) : Ex (hearSG Λ g mi n) h R D := by
  have hs := hM.s
  have n0 : 0 ≤ n := by omega
  have n1 : n < 7 := by omega
  unfold hearSG
  split
  · rename_i c
    obtain ⟨c1, c2⟩ := c
    simp only [the] at c1 c2
    have k5 := hM.k5 hk
    have I1 := I.heard (mi := mi) n0 n1 (by omega) (by omega) (by omega) (by omega)
    have e3 : heardG g mi n (244 * n + 3) = 2 := by
      unfold heardG
      rw [st_ne (by omega)]; exact c1
    have e1 : heardG g mi n (244 * n + 1) = mi 3 := by
      unfold heardG
      rw [st_ne (by omega)]; exact c2.symm
    generalize heardG g mi n = g1 at *
    exact (I1.matched n0 n1 (by omega) (by omega) e3 (by rw [e1]; omega)).bind (fun h2 FL2 G2 I2 => I2.read.ex)
  · exact I.ex
/-! a message handed over -/
theorem rise_ge (I : InvS g h FL R D) {mi : Row} {n : Int} (n0 : 0 ≤ n) (n1 : n < 7) : mi 3 ≤ riseG g mi n (244 * n + 1) ∧ riseG g mi n 11134 = g 11134 ∧ riseG g mi n (244 * n + 0) = g (244 * n + 0) := by
  unfold riseG
  split
  · have hA := I.ar
    rw [followG_ne (by omega) (by rw [st_ne (by omega), st_ne (by omega)]; exact hA) (by omega) (by omega), followG_ne (by omega) (by rw [st_ne (by omega), st_ne (by omega)]; exact hA) (by omega) (by omega), st_ne (by omega), st_eq, st_ne (by omega), st_ne (by omega)]
    exact ⟨Int.le_refl _, rfl, by rw [followG_ne (by omega) (by rw [st_ne (by omega), st_ne (by omega)]; exact hA) (by omega) (by omega), st_ne (by omega), st_ne (by omega)]⟩
  · rename_i c
    simp only [the] at c
    exact ⟨by omega, rfl, rfl⟩
theorem InvS.hand (I : InvS g h FL R D) {mi : Row} (hM : MI h R (g 11134) mi) : Ex (handG Λ g mi) h R D := by
  have hs := hM.s
  unfold handG
  simp only []
  split
  · exact I.lose.ex
  · rename_i cu
    have hup : g (244 * mi 1 + 0) = 1 := Classical.byContradiction (fun q => cu (Or.inl q))
    have I1 := I.rise (mi := mi) (n := mi 1) (by omega) (by omega) (by omega)
    obtain ⟨r1, r2, r3⟩ := rise_ge I (mi := mi) (n := mi 1) (by omega) (by omega)
    rw [hup] at r3
    rw [← r2] at hM
    generalize riseG g mi (mi 1) = g1 at *
    by_cases c0 : mi 2 = 0
    · rw [if_pos c0]; exact I1.votes hM rfl c0
    · rw [if_neg c0]
      by_cases c1 : mi 2 = 1
      · rw [if_pos c1]; exact I1.counts hM rfl c1
      · rw [if_neg c1]
        by_cases c2 : mi 2 = 2
        · rw [if_pos c2]; exact I1.entries hM rfl c2 r1 r3
        · rw [if_neg c2]
          by_cases c3 : mi 2 = 3
          · rw [if_pos c3]; exact I1.hearE hM rfl c3
          · rw [if_neg c3]
            by_cases c4 : mi 2 = 4
            · rw [if_pos c4]; exact I1.snapshot hM rfl c4 r1 r3
            · rw [if_neg c4]; exact I1.hearS hM rfl (by omega)
theorem dueF_is : ∀ (f : Nat) (m : Int) (k : Int), 0 ≤ m → dueF g f m = some k → m ≤ k ∧ k < m + f ∧ g (1708 + 27 * k + 4) ≤ g 11131
  | 0, m, k, a, b => by cases b
  | f + 1, m, k, a, b => by
    unfold dueF at b
    split at b
    · rename_i c
      cases b
      exact ⟨Int.le_refl _, by omega, c⟩
    · have := dueF_is f (m + 1) k (by omega) b
      omega
theorem clip_MI {gr : Int} {m : Row} (a : MI h R gr m) : MI h R gr (clip m) := MI_ext (fun w w0 w1 _ => if_pos ⟨w0, w1⟩) a
/-- a message that is due is one of the old ones -/
theorem InvS.due (I : InvS g h FL R D) {m : Int} (hm : dueA g = some m) : 0 ≤ m ∧ m < g 11133 ∧ m < D.2.1 := by
  have hG := I.gl
  obtain ⟨_, _, _, _, _, _, _, _, _, _, _, _⟩ := hG
  have q := dueF_is (g := g) _ 0 m (by omega) hm
  refine ⟨q.1, by omega, ?_⟩
  apply Classical.byContradiction
  intro c
  have : D.2.2 < g (1708 + 27 * m + 4) := (I.ml m q.1 (by omega)).2.2.2 (by omega)
  have dd := I.dd.2.2
  have : g (1708 + 27 * m + 4) ≤ g 11131 := q.2.2
  omega
theorem InvS.handK : ∀ (f : Nat) (g : Row) (h : His) (FL : Int → ELog) (D : DK), InvS g h FL R D → ∃ K, Ex (handF Λ f g) h R (D.1, K, D.2.2)
  | 0, g, h, FL, D, I => ⟨D.2.1, I.ex⟩
  | f + 1, g, h, FL, D, I => by
    unfold handF
    split
    · exact ⟨D.2.1, I.ex⟩
    · rename_i m hm
      obtain ⟨q0, q1, q2⟩ := I.due hm
      have I1 := I.out (m := m) q0 q1 q2
      have hM := clip_MI (I.ml m q0 q1).1
      have e34 : outG g m 11134 = g 11134 := by
        have hG := I.gl
        obtain ⟨_, _, _, _, _, _, _, _, _, _, _, _⟩ := hG
        unfold outG
        rw [if_neg (by omega), if_neg (by omega)]
      rw [← e34] at hM
      obtain ⟨h2, FL2, G2, I2⟩ := I1.hand (Λ := Λ) hM
      obtain ⟨K, e⟩ := InvS.handK f _ h2 FL2 _ I2
      exact ⟨K, e.gr G2⟩
end
