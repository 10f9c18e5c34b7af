/-! DEPS: vv -/
/-! VW: a client's acts on TermLog: ask -/
/-- other rows of reads are put in -/
def ins (g r : Row) : Row := fun x => if (11028 ≤ x ∧ x < 11124) ∨ x = 11135 then r x else g x
section
variable {B : Nat} {h g r C Hd Mo : Row} {M : Mem} {Λ : Law} {hs : His} {FL : Int → ELog} {R : Int} {D : DK}
theorem ins_o {x : Int} (a : x < 11028 ∨ 11124 ≤ x) (b : ¬ x = 11135) : ins g r x = g x := if_neg (by omega)
theorem ins_q {x : Int} (a : (11028 ≤ x ∧ x < 11124) ∨ x = 11135) : ins g r x = r x := if_pos a
theorem ins_st {e v : Int} (a : e < 11028 ∨ 11124 ≤ e) (b : ¬ e = 11135) : st (ins g r) e v = ins (st g e v) r := by
  funext x
  by_cases c : x = e
  · rw [c, st_eq, ins_o a b, st_eq]
  · rw [st_ne c]
    by_cases q : (11028 ≤ x ∧ x < 11124) ∨ x = 11135
    · rw [ins_q q, ins_q q]
    · rw [ins_o (by omega) (by omega), ins_o (by omega) (by omega), st_ne c]
theorem ins_draw : drawG (ins g r) = ins (drawG g) r := by
  unfold drawG
  rw [ins_o (by omega) (by omega), ins_st (by omega) (by omega)]
theorem ins_facts {a b c : Int} (a0 : 0 ≤ a) (a1 : a < 7) : factsA (ins g r) a b c = factsA g a b c := by
  unfold factsA
  simp only [the]
  rw [ins_o (x := 244 * a + 1) (by omega) (by omega), ins_o (x := 11133) (by omega) (by omega), ins_o (x := 11131) (by omega) (by omega), ins_o (x := 11132) (by omega) (by omega)]
theorem ins_post {m m' : Row} (hm : ∀ w, 0 ≤ w → w < 27 → m' w = m w) (m0 : 0 ≤ m 0) (m1 : m 0 < 7) (hG : GlA g) : postG Λ (ins g r) m' = ins (postG Λ g m) r := by
  have hd := drawGl hG
  have e0 := hm 0 (by omega) (by omega)
  have e1 := hm 1 (by omega) (by omega)
  have e2 := hm 2 (by omega) (by omega)
  have k33 : 0 ≤ drawG g 11133 ∧ drawG g 11133 ≤ 160 := by
    have hG := hd
    obtain ⟨_, _, _, _, _, _, _, _, _, _, _, _⟩ := hG
    omega
  have o31 : ins g r 11131 = g 11131 := ins_o (by omega) (by omega)
  unfold postG goneA
  rw [ins_draw, e0, e1, e2, ins_facts m0 m1, o31, ins_o (g := drawG g) (x := 11132) (by omega) (by omega), ins_o (g := drawG g) (x := 11133) (by omega) (by omega)]
  split
  · unfold loseG
    rw [ins_o (by omega) (by omega), ins_st (by omega) (by omega)]
  · funext x
    by_cases c : (11028 ≤ x ∧ x < 11124) ∨ x = 11135
    · rw [ins_q c]
      unfold mailG
      rw [ins_o (g := drawG g) (x := 11133) (by omega) (by omega), if_neg (by omega), if_neg (by omega), ins_q c]
    · rw [ins_o (x := x) (by omega) (by omega)]
      unfold mailG
      rw [ins_o (g := drawG g) (x := 11133) (by omega) (by omega), ins_o (g := drawG g) (x := x) (by omega) (by omega)]
      split
      · rfl
      · split
        · split
          · rfl
          · exact hm _ (by omega) (by omega)
        · rfl
theorem ins_RelN {n : Int} (n0 : 0 ≤ n) (n1 : n < 7) (h8 : g (244 * n + 8) ≤ 48) : RelN (ins g r) g n :=
  ⟨fun w _ _ => ins_o (by omega) (by omega), fun w _ _ => ins_o (by omega) (by omega), fun _ => ins_o (by omega) (by omega), fun x _ _ => ins_o (by omega) (by omega), fun _ w _ _ => ins_o (by omega) (by omega)⟩
theorem ins_send (I : InvS g hs FL R D) {n t : Int} (n0 : 0 ≤ n) (n1 : n < 7) (hr : g (244 * n + 3) = 2) (t0 : 0 ≤ t) (t1 : t < 7) : sendG Λ (ins g r) n t = ins (sendG Λ g n t) r := by
  obtain ⟨⟨s1, s2⟩, _⟩ := I.na n n0 n1
  have hg := I.lg n0 n1
  have hl := (I.na n n0 n1).lr hr t t0 t1
  have rn := ins_RelN (r := r) n0 n1 (show g (244 * n + 8) ≤ 48 by omega)
  have o : ∀ w, 0 ≤ w → w < 244 → ins g r (244 * n + w) = g (244 * n + w) := fun w a b => ins_o (by omega) (by omega)
  have o31 := o (31 + t) (by omega) (by omega)
  have o4 := o 4 (by omega) (by omega)
  unfold sendG
  simp only [the, o31, o4]
  by_cases c : g (244 * n + (31 + t)) ≤ g (244 * n + 4)
  · rw [if_pos c, if_pos c]
    refine ins_post (fun w w0 w1 => ?_) n0 n1 I.gl
    unfold snapM mail0
    simp only [the]
    rw [o 4 (by omega) (by omega), o 5 (by omega) (by omega), o 6 (by omega) (by omega), o 7 (by omega) (by omega), o 13 (by omega) (by omega), o (12 + w) (by omega) (by omega), o 1 (by omega) (by omega)]
  · rw [if_neg c, if_neg c]
    have em : entsM g n t 0 = n := by
      unfold entsM mail0
      rw [if_neg (by omega), if_neg (by omega), if_neg (by omega), if_neg (by omega), if_neg (by omega), if_neg (by omega), if_pos rfl]
    refine ins_post (fun w w0 w1 => ?_) (by rw [em]; exact n0) (by rw [em]; exact n1) I.gl
    have ema : manyA (ins g r) n t = manyA g n t := by
      unfold manyA
      simp only [lastA, the]
      rw [o (31 + t) (by omega) (by omega), o 4 (by omega) (by omega), o 8 (by omega) (by omega)]
    have et : termA (ins g r) n (g (244 * n + (31 + t)) - 1) = termA g n (g (244 * n + (31 + t)) - 1) := rn.term hg (by omega) (by omega)
    unfold entsM mail0
    simp only [the, lpA]
    rw [ema, o (31 + t) (by omega) (by omega), et, o 9 (by omega) (by omega), o 13 (by omega) (by omega), o 4 (by omega) (by omega), o 1 (by omega) (by omega)]
    by_cases d : 11 ≤ w ∧ w < 11 + 4 * manyA g n t
    · have := d.2
      unfold manyA at this
      simp only [lastA, the] at this
      rw [ins_o (x := 244 * n + 52 + 4 * (g (244 * n + (31 + t)) - g (244 * n + 4) - 1) + (w - 11)) (by omega) (by omega)]
    · rw [if_neg d, if_neg d]
theorem ins_sendF {n : Int} (n0 : 0 ≤ n) (n1 : n < 7) : ∀ (j : Nat) (g : Row) (t : Int), InvS g hs FL R D → g (244 * n + 3) = 2 → 0 ≤ t → t + j ≤ 7 → sendF Λ n j (ins g r) t = ins (sendF Λ n j g t) r
  | 0, g, t, I, hr, t0, t1 => rfl
  | j + 1, g, t, I, hr, t0, t1 => by
    obtain ⟨⟨s1, s2⟩, _⟩ := I.na n n0 n1
    have rn := ins_RelN (r := r) n0 n1 (show g (244 * n + 8) ≤ 48 by omega)
    have em := rn.memb (I.lg n0 n1)
    unfold sendF
    rw [em]
    split
    · rw [ins_send I n0 n1 hr t0 (by omega)]
      exact ins_sendF n0 n1 j _ (t + 1) (I.send n0 n1 hr t0 (by omega)) (by rw [sendG_lo I.gl (by omega)]; exact hr) (by omega) (by omega)
    · exact ins_sendF n0 n1 j g (t + 1) I hr (by omega) (by omega)
theorem ins_all (I : InvS g hs FL R D) {n : Int} (n0 : 0 ≤ n) (n1 : n < 7) (hr : g (244 * n + 3) = 2) : sendAllG Λ (ins g r) n = ins (sendAllG Λ g n) r := ins_sendF n0 n1 7 g 0 I hr (by omega) (by omega)
theorem new_all (I : InvS g hs FL R D) {n k : Int} (n0 : 0 ≤ n) (n1 : n < 7) (hr : g (244 * n + 3) = 2) (h16 : g 11135 < 16) : sendAllG Λ (newR1 g n k) n = newR1 (sendAllG Λ g n) n k := by
  have hA := I.ar
  have lo := fun x hx => sendAllG_lo (Λ := Λ) (n := n) (x := x) I.gl hx
  have e1 : newR1 g n k = ins g (newR1 g n k) := by
    funext x
    unfold ins
    split
    · rfl
    · unfold newR1
      rw [if_neg (by omega), if_neg (by omega), if_neg (by omega), if_neg (by omega), if_neg (by omega), if_neg (by omega), if_neg (by omega)]
  have e2 : newR1 (sendAllG Λ g n) n k = ins (sendAllG Λ g n) (newR1 g n k) := by
    funext x
    unfold ins
    split
    · unfold newR1
      rw [lo 11135 (by omega), lo (244 * n + 13) (by omega), lo 11134 (by omega), lo x (by omega)]
    · unfold newR1
      rw [lo 11135 (by omega), if_neg (by omega), if_neg (by omega), if_neg (by omega), if_neg (by omega), if_neg (by omega), if_neg (by omega), if_neg (by omega)]
  rw [e2, ← ins_all I n0 n1 hr, ← e1]
/-- TermLog's row with a new read -/
def newH (h : Row) (n k a b : Int) : Row := st (st (st (st (st (st (st h (11028 + 6 * h 11135 + 0) n) (11028 + 6 * h 11135 + 1) k) (11028 + 6 * h 11135 + 2) a) (11028 + 6 * h 11135 + 3) b) (11028 + 6 * h 11135 + 4) 0) (11028 + 6 * h 11135 + 5) (-2)) 11135 (h 11135 + 1)
theorem newH_o {n k a b x : Int} (c : x < 11028 + 6 * h 11135 ∨ 11034 + 6 * h 11135 ≤ x) (d : ¬ x = 11135) : newH h n k a b x = h x := by
  unfold newH
  rw [st_ne d, st_ne (by omega), st_ne (by omega), st_ne (by omega), st_ne (by omega), st_ne (by omega), st_ne (by omega)]
theorem Rel.newr (rel : Rel h g) (I : InvS g hs FL R D) {n k : Int} (n0 : 0 ≤ n) (n1 : n < 7) (h16 : g 11135 < 16) : Rel (newH h n k (g (244 * n + 13)) (g 11134)) (newR1 g n k) := by
  have hA := I.ar
  have hG := I.gl
  obtain ⟨_, _, _, _, _, _, _, _, _, _, _, _⟩ := hG
  have e35 := rel.gl 11135 (by omega) (by omega)
  have oh : ∀ x, (x < 11028 + 6 * g 11135 ∨ 11034 + 6 * g 11135 ≤ x) → ¬ x = 11135 → newH h n k (g (244 * n + 13)) (g 11134) x = h x := fun x a b => newH_o (by omega) b
  have og : ∀ x, (x < 11028 + 6 * g 11135 ∨ 11034 + 6 * g 11135 ≤ x) → ¬ x = 11135 → newR1 g n k x = g x := fun x a b => by
    unfold newR1
    rw [if_neg b, if_neg (by omega), if_neg (by omega), if_neg (by omega), if_neg (by omega), if_neg (by omega), if_neg (by omega)]
  have g35 : newR1 g n k 11135 = g 11135 + 1 := if_pos rfl
  have h35 : newH h n k (g (244 * n + 13)) (g 11134) 11135 = g 11135 + 1 := by unfold newH; rw [st_eq, e35]
  have b1 := I.bd.1
  refine ⟨fun m m0 m1 => (rel.nd m m0 m1).keep (fun x _ _ => oh x (by omega) (by omega)) (fun x _ _ => og x (by omega) (by omega)) (b1 m m0 m1), fun i a c w w0 w1 => ?_, fun x a c => by rw [oh x (by omega) (by omega), og x (by omega) (by omega)]; exact rel.ld x a c, fun q a c => ?_, fun x a c => by rw [oh x (by omega) (by omega), og x (by omega) (by omega)]; exact rel.ct x a c, fun x a c => ?_, fun i a c => ?_⟩
  · rw [og _ (by omega) (by omega)] at c
    rw [oh _ (by omega) (by omega), og _ (by omega) (by omega)]
    exact rel.hl i a c w w0 w1
  · rw [g35] at c
    by_cases d : q = g 11135
    · subst d
      have p4 : newR1 g n k (11028 + 6 * g 11135 + 4) = 0 := by
        unfold newR1
        rw [if_neg (by omega), if_neg (by omega), if_neg (by omega), if_neg (by omega), if_neg (by omega), if_pos rfl]
      rw [p4]
      refine ⟨fun w w0 w1 => ?_, fun x => by omega, fun _ => ?_⟩
      · unfold newH newR1
        rw [e35]
        rcases (show w = 0 ∨ w = 1 ∨ w = 2 ∨ w = 3 ∨ w = 4 by omega) with e | e | e | e | e <;> subst e
        · rw [if_neg (by omega), if_pos (by omega)]
          simp (disch := omega) only [st_eq, st_ne]
        · rw [if_neg (by omega), if_neg (by omega), if_pos (by omega)]
          simp (disch := omega) only [st_eq, st_ne]
        · rw [if_neg (by omega), if_neg (by omega), if_neg (by omega), if_pos (by omega)]
          simp (disch := omega) only [st_eq, st_ne]
        · rw [if_neg (by omega), if_neg (by omega), if_neg (by omega), if_neg (by omega), if_pos (by omega)]
          simp (disch := omega) only [st_eq, st_ne]
        · rw [if_neg (by omega), if_neg (by omega), if_neg (by omega), if_neg (by omega), if_neg (by omega), if_pos (by omega)]
          simp (disch := omega) only [st_eq, st_ne]
      · unfold newH
        rw [e35]
        simp (disch := omega) only [st_eq, st_ne]
    · obtain ⟨z1, z2, z3⟩ := rel.rd q a (by omega)
      refine ⟨fun w w0 w1 => by rw [oh _ (by omega) (by omega), og _ (by omega) (by omega)]; exact z1 w w0 w1, fun x => ?_, fun x => ?_⟩
      · rw [og _ (by omega) (by omega)] at x
        rw [oh _ (by omega) (by omega), og _ (by omega) (by omega)]; exact z2 x
      · rw [og _ (by omega) (by omega)] at x
        rw [oh _ (by omega) (by omega)]; exact z3 x
  · by_cases d : x = 11135
    · rw [d, h35, g35]
    · rw [oh x (by omega) d, og x (by omega) d]; exact rel.gl x a c
  · rw [og _ (by omega) (by omega)] at c
    obtain ⟨q1, q2⟩ := rel.ml i a c
    exact ⟨MR_ext q1 (fun f f0 f1 _ => oh _ (by omega) (by omega)) (fun w w0 w1 _ => og _ (by omega) (by omega)), by show newH h n k _ _ _ = newR1 g n k _; rw [oh _ (by omega) (by omega), og _ (by omega) (by omega)]; exact q2⟩
theorem t_ask (hL : LyC B M) (hN : mP M 0 1 = some B) (hΛ : LawL M Λ) (rel : Rel h g) (I : InvS g hs FL R D) {n k : Int} (c0 : -2147483648 ≤ n) (c1 : n ≤ 2147483647) (k0 : -2147483648 ≤ k) (k1 : k ≤ 2147483647) (hR : R + 1 ≤ 1000000) :
    ∃ h' C' Mo', sX0_ask (some 0) (iI n) (iI k) (tl B h C Hd Mo M) = some (iI (askS Λ g n k).1, tl B h' C' Hd Mo' M) ∧ Rel h' (askS Λ g n k).2 := by
  have hA := I.ar
  have e35 := rel.gl 11135 (by omega) (by omega)
  have e34 := rel.gl 11134 (by omega) (by omega)
  unfold askS
  by_cases d1 : 0 ≤ n ∧ n < 7
  · have n0 := d1.1
    have n1 := d1.2
    by_cases d2 : 0 ≤ k ∧ k ≤ 7
    · rw [if_neg (fun hc => hc ⟨d1, d2⟩)]
      have y3 := t_isLeader (C := C) (Hd := Hd) (Mo := Mo) hL rel I n0 n1
      by_cases d4 : ldA g n
      · rw [if_neg (fun hc => hc d4)]
        by_cases d5 : g 11135 = 16
        · rw [if_pos d5]
          refine ⟨h, C, Mo, ?_, rel⟩
          simp (disch := first | assumption | omega) only [sX0_ask, t_isNode, t_in, gR_t1, z10, z00, if_true, if_false, iv_add, iv_sub, iv_mul, iv_le, iv_lt, iv_eq, iv_mx, iv_mn, bI_z, bI_o, rZ0, rZ1, rZb, cl_some', lt_eq, rm_eq, dv_eq, iv_01, iv_10, the, lastA, lpA, st_eq, st_ne, sh_addM, cV_cl, cV_nd, cV_mo, cV_lt, gR_t0, aR_nd, gR_c0, gR_c1, gR_c2, gR_c3, gR_c4, gR_c5, gR_c6, gR_c15, gR_c16, gI_c7, pI_c7, gI_c8, pI_c8, gI_c9, pI_c9, gI_c10, pI_c10, gI_c11, pI_c11, gI_c12, pI_c12, gI_c13, pI_c13, gI_c14, pI_c14, gN_9, gN_10, gN_11, gN_12, gN_13, gN_14, gN_15, gN_16, gN_17, gN_18, gN_19, gN_20, gN_21, gN_22, gN_23, pN_9, pN_10, pN_11, pN_12, pN_13, pN_14, pN_15, pN_16, pN_17, pN_18, pN_19, pN_20, pN_21, pN_22, pZ_0, pZ_1, gR_n0, aI_n0, sI_n0, gR_n1, aI_n1, sI_n1, gR_n2, aI_n2, sI_n2, gR_n3, aI_n3, sI_n3, gR_n4, aI_n4, sI_n4, gR_n5, aI_n5, sI_n5, gR_n6, aI_n6, sI_n6, gR_n7, aI_n7, sI_n7, gR_n8, aI_n8, sI_n8, aR_s, aI_s, sI_s, aR_h, aI_h, sI_h, aR_r, aI_r, sI_r, aI_c, sI_c, aI_l, sI_l, aI_ca, aI_ha, sI_ca, sI_ha, gI_mo, pI_mo, y3, e35]
          rw [if_neg (fun hc => hc d1), if_neg (by omega), if_neg (fun hc => hc d4), if_pos d5]
        · rw [if_neg d5]
          obtain ⟨⟨s1, s2⟩, _⟩ := I.na n n0 n1
          have rn := rel.nd n n0 n1
          have hg := I.lg n0 n1
          have w9 := rn.s 9 (by omega) (by omega)
          have w1 := rn.s 1 (by omega) (by omega)
          have w13 := rn.t 13 (by omega) (by omega)
          have x2 := t_termAt (C := C) (Hd := Hd) (Mo := Mo) hL (rn.lg hg) (i := g (244 * n + 9)) (by have := rn.s 4 (by omega) (by omega); omega) (by have := rn.s 4 (by omega) (by omega); have := rn.s 8 (by omega) (by omega); omega)
          rw [rn.term hg (by omega) (by omega)] at x2
          have tr := termR hg (i := g (244 * n + 9)) (by omega) (by omega)
          by_cases d6 : termA g n (g (244 * n + 9)) = g (244 * n + 1)
          · rw [if_neg (fun hc => hc d6)]
            have hr : g (244 * n + 3) = 2 := d4.2
            have I1 := I.round n0 n1 hR
            have rr := I1.rr
            have p13 : roundG g n (244 * n + 13) = g (244 * n + 13) + 1 := st_eq _ _ _
            have e3 : roundG g n (244 * n + 3) = 2 := by
              unfold roundG
              rw [st_ne (by omega), st_ne (by omega)]; exact hr
            have p35 : roundG g n 11135 = g 11135 := by
              unfold roundG
              rw [st_ne (by omega), st_ne (by omega)]
            have p34 : roundG g n 11134 = g 11134 := by
              unfold roundG
              rw [st_ne (by omega), st_ne (by omega)]
            have r1 : Rel (st (st h (244 * n + 13) (g (244 * n + 13) + 1)) (244 * n + 14) 0) (roundG g n) := by
              have := (rel.set I.bd (w := 13) (v := g (244 * n + 13) + 1) n0 n1 (by omega) (by omega) (by omega) (by omega)).set (I.bd.set n0 n1 (by omega) (by omega) (by omega)) (w := 14) (v := 0) n0 n1 (by omega) (by omega) (by omega) (by omega)
              rw [st_com (g := g) (by omega)] at this
              exact this
            have I2 := I1.newr (k := k) n0 n1 e3 d2.1 (by omega) (by rw [p35]; omega)
            have r2 := r1.newr (k := k) I1 n0 n1 (by rw [p35]; omega)
            rw [p13, p34] at r2
            have e32 : newR1 (roundG g n) n k (244 * n + 3) = 2 := by
              unfold newR1
              rw [p35, if_neg (by omega), if_neg (by omega), if_neg (by omega), if_neg (by omega), if_neg (by omega), if_neg (by omega), if_neg (by omega)]
              exact e3
            obtain ⟨h3, C3, M3, x3, r3⟩ := t_sendsToAll (C := C) (Hd := Hd) (Mo := Mo) hL hΛ r2 I2 n0 n1 e32
            have I3 := I2.sendAll (Λ := Λ) n0 n1 e32
            have e33 : sendAllG Λ (newR1 (roundG g n) n k) n (244 * n + 3) = 2 := by rw [sendAllG_lo I2.gl (by omega)]; exact e32
            obtain ⟨h4, x4, r4⟩ := t_answersReads (C := C3) (Hd := Hd) (Mo := M3) hL r3 I3 n0 n1 e33
            have eN : askG Λ g n k = readG (sendAllG Λ (newR1 (roundG g n) n k) n) n := by
              unfold askG
              rw [new_all I1 n0 n1 e3 (by rw [p35]; omega)]
            rw [← eN] at r4
            refine ⟨h4, C3, M3, ?_, r4⟩
            obtain ⟨hX, hh⟩ : ∃ hX, st (st h (244 * n + 13) (g (244 * n + 13) + 1)) (244 * n + 14) 0 = hX := ⟨_, rfl⟩
            have q35 : hX 11135 = g 11135 := by rw [← hh, st_ne (by omega), st_ne (by omega)]; exact e35
            have q34 : hX 11134 = g 11134 := by rw [← hh, st_ne (by omega), st_ne (by omega)]; exact e34
            have q13 : hX (244 * n + 13) = g (244 * n + 13) + 1 := by rw [← hh, st_ne (by omega), st_eq]
            rw [hh] at x3
            unfold newH at x3
            rw [q35] at x3
            simp (disch := first | assumption | omega) only [sX0_ask, t_isNode, t_in, gR_t1, z10, z00, if_true, if_false, iv_add, iv_sub, iv_mul, iv_le, iv_lt, iv_eq, iv_mx, iv_mn, bI_z, bI_o, rZ0, rZ1, rZb, cl_some', lt_eq, rm_eq, dv_eq, iv_01, iv_10, the, lastA, lpA, st_eq, st_ne, sh_addM, cV_cl, cV_nd, cV_mo, cV_lt, gR_t0, aR_nd, gR_c0, gR_c1, gR_c2, gR_c3, gR_c4, gR_c5, gR_c6, gR_c15, gR_c16, gI_c7, pI_c7, gI_c8, pI_c8, gI_c9, pI_c9, gI_c10, pI_c10, gI_c11, pI_c11, gI_c12, pI_c12, gI_c13, pI_c13, gI_c14, pI_c14, gN_9, gN_10, gN_11, gN_12, gN_13, gN_14, gN_15, gN_16, gN_17, gN_18, gN_19, gN_20, gN_21, gN_22, gN_23, pN_9, pN_10, pN_11, pN_12, pN_13, pN_14, pN_15, pN_16, pN_17, pN_18, pN_19, pN_20, pN_21, pN_22, pZ_0, pZ_1, gR_n0, aI_n0, sI_n0, gR_n1, aI_n1, sI_n1, gR_n2, aI_n2, sI_n2, gR_n3, aI_n3, sI_n3, gR_n4, aI_n4, sI_n4, gR_n5, aI_n5, sI_n5, gR_n6, aI_n6, sI_n6, gR_n7, aI_n7, sI_n7, gR_n8, aI_n8, sI_n8, aR_s, aI_s, sI_s, aR_h, aI_h, sI_h, aR_r, aI_r, sI_r, aI_c, sI_c, aI_l, sI_l, aI_ca, aI_ha, sI_ca, sI_ha, gI_mo, pI_mo, y3, e35, w9, w1, w13, x2, hh, q35, q34, q13, x3, x4]
            rw [if_neg (fun hc => hc d1), if_neg (by omega), if_neg (fun hc => hc d4), if_neg d5, if_pos d6]
          · rw [if_pos d6]
            refine ⟨h, C, Mo, ?_, rel⟩
            simp (disch := first | assumption | omega) only [sX0_ask, t_isNode, t_in, gR_t1, z10, z00, if_true, if_false, iv_add, iv_sub, iv_mul, iv_le, iv_lt, iv_eq, iv_mx, iv_mn, bI_z, bI_o, rZ0, rZ1, rZb, cl_some', lt_eq, rm_eq, dv_eq, iv_01, iv_10, the, lastA, lpA, st_eq, st_ne, sh_addM, cV_cl, cV_nd, cV_mo, cV_lt, gR_t0, aR_nd, gR_c0, gR_c1, gR_c2, gR_c3, gR_c4, gR_c5, gR_c6, gR_c15, gR_c16, gI_c7, pI_c7, gI_c8, pI_c8, gI_c9, pI_c9, gI_c10, pI_c10, gI_c11, pI_c11, gI_c12, pI_c12, gI_c13, pI_c13, gI_c14, pI_c14, gN_9, gN_10, gN_11, gN_12, gN_13, gN_14, gN_15, gN_16, gN_17, gN_18, gN_19, gN_20, gN_21, gN_22, gN_23, pN_9, pN_10, pN_11, pN_12, pN_13, pN_14, pN_15, pN_16, pN_17, pN_18, pN_19, pN_20, pN_21, pN_22, pZ_0, pZ_1, gR_n0, aI_n0, sI_n0, gR_n1, aI_n1, sI_n1, gR_n2, aI_n2, sI_n2, gR_n3, aI_n3, sI_n3, gR_n4, aI_n4, sI_n4, gR_n5, aI_n5, sI_n5, gR_n6, aI_n6, sI_n6, gR_n7, aI_n7, sI_n7, gR_n8, aI_n8, sI_n8, aR_s, aI_s, sI_s, aR_h, aI_h, sI_h, aR_r, aI_r, sI_r, aI_c, sI_c, aI_l, sI_l, aI_ca, aI_ha, sI_ca, sI_ha, gI_mo, pI_mo, y3, e35, w9, w1, x2]
            rw [if_neg (fun hc => hc d1), if_neg (by omega), if_neg (fun hc => hc d4), if_neg d5, if_neg d6]
      · rw [if_pos d4]
        refine ⟨h, C, Mo, ?_, rel⟩
        simp (disch := first | assumption | omega) only [sX0_ask, t_isNode, t_in, gR_t1, z10, z00, if_true, if_false, iv_add, iv_sub, iv_mul, iv_le, iv_lt, iv_eq, iv_mx, iv_mn, bI_z, bI_o, rZ0, rZ1, rZb, cl_some', lt_eq, rm_eq, dv_eq, iv_01, iv_10, the, lastA, lpA, st_eq, st_ne, sh_addM, cV_cl, cV_nd, cV_mo, cV_lt, gR_t0, aR_nd, gR_c0, gR_c1, gR_c2, gR_c3, gR_c4, gR_c5, gR_c6, gR_c15, gR_c16, gI_c7, pI_c7, gI_c8, pI_c8, gI_c9, pI_c9, gI_c10, pI_c10, gI_c11, pI_c11, gI_c12, pI_c12, gI_c13, pI_c13, gI_c14, pI_c14, gN_9, gN_10, gN_11, gN_12, gN_13, gN_14, gN_15, gN_16, gN_17, gN_18, gN_19, gN_20, gN_21, gN_22, gN_23, pN_9, pN_10, pN_11, pN_12, pN_13, pN_14, pN_15, pN_16, pN_17, pN_18, pN_19, pN_20, pN_21, pN_22, pZ_0, pZ_1, gR_n0, aI_n0, sI_n0, gR_n1, aI_n1, sI_n1, gR_n2, aI_n2, sI_n2, gR_n3, aI_n3, sI_n3, gR_n4, aI_n4, sI_n4, gR_n5, aI_n5, sI_n5, gR_n6, aI_n6, sI_n6, gR_n7, aI_n7, sI_n7, gR_n8, aI_n8, sI_n8, aR_s, aI_s, sI_s, aR_h, aI_h, sI_h, aR_r, aI_r, sI_r, aI_c, sI_c, aI_l, sI_l, aI_ca, aI_ha, sI_ca, sI_ha, gI_mo, pI_mo, y3]
        rw [if_neg (fun hc => hc d1), if_neg (by omega), if_pos d4]
    · rw [if_pos (fun hc => d2 hc.2)]
      refine ⟨h, C, Mo, ?_, rel⟩
      simp (disch := first | assumption | omega) only [sX0_ask, t_isNode, t_in, gR_t1, z10, z00, if_true, if_false, iv_add, iv_sub, iv_mul, iv_le, iv_lt, iv_eq, iv_mx, iv_mn, bI_z, bI_o, rZ0, rZ1, rZb, cl_some', lt_eq, rm_eq, dv_eq, iv_01, iv_10, the, lastA, lpA, st_eq, st_ne, sh_addM, cV_cl, cV_nd, cV_mo, cV_lt, gR_t0, aR_nd, gR_c0, gR_c1, gR_c2, gR_c3, gR_c4, gR_c5, gR_c6, gR_c15, gR_c16, gI_c7, pI_c7, gI_c8, pI_c8, gI_c9, pI_c9, gI_c10, pI_c10, gI_c11, pI_c11, gI_c12, pI_c12, gI_c13, pI_c13, gI_c14, pI_c14, gN_9, gN_10, gN_11, gN_12, gN_13, gN_14, gN_15, gN_16, gN_17, gN_18, gN_19, gN_20, gN_21, gN_22, gN_23, pN_9, pN_10, pN_11, pN_12, pN_13, pN_14, pN_15, pN_16, pN_17, pN_18, pN_19, pN_20, pN_21, pN_22, pZ_0, pZ_1, gR_n0, aI_n0, sI_n0, gR_n1, aI_n1, sI_n1, gR_n2, aI_n2, sI_n2, gR_n3, aI_n3, sI_n3, gR_n4, aI_n4, sI_n4, gR_n5, aI_n5, sI_n5, gR_n6, aI_n6, sI_n6, gR_n7, aI_n7, sI_n7, gR_n8, aI_n8, sI_n8, aR_s, aI_s, sI_s, aR_h, aI_h, sI_h, aR_r, aI_r, sI_r, aI_c, sI_c, aI_l, sI_l, aI_ca, aI_ha, sI_ca, sI_ha, gI_mo, pI_mo]
      rw [if_neg (fun hc => hc d1), if_pos (by omega)]
  · rw [if_pos (fun hc => d1 hc.1)]
    refine ⟨h, C, Mo, ?_, rel⟩
    simp (disch := first | assumption | omega) only [sX0_ask, t_isNode, t_in, gR_t1, z10, z00, if_true, if_false, iv_add, iv_sub, iv_mul, iv_le, iv_lt, iv_eq, iv_mx, iv_mn, bI_z, bI_o, rZ0, rZ1, rZb, cl_some', lt_eq, rm_eq, dv_eq, iv_01, iv_10, the, lastA, lpA, st_eq, st_ne, sh_addM, cV_cl, cV_nd, cV_mo, cV_lt, gR_t0, aR_nd, gR_c0, gR_c1, gR_c2, gR_c3, gR_c4, gR_c5, gR_c6, gR_c15, gR_c16, gI_c7, pI_c7, gI_c8, pI_c8, gI_c9, pI_c9, gI_c10, pI_c10, gI_c11, pI_c11, gI_c12, pI_c12, gI_c13, pI_c13, gI_c14, pI_c14, gN_9, gN_10, gN_11, gN_12, gN_13, gN_14, gN_15, gN_16, gN_17, gN_18, gN_19, gN_20, gN_21, gN_22, gN_23, pN_9, pN_10, pN_11, pN_12, pN_13, pN_14, pN_15, pN_16, pN_17, pN_18, pN_19, pN_20, pN_21, pN_22, pZ_0, pZ_1, gR_n0, aI_n0, sI_n0, gR_n1, aI_n1, sI_n1, gR_n2, aI_n2, sI_n2, gR_n3, aI_n3, sI_n3, gR_n4, aI_n4, sI_n4, gR_n5, aI_n5, sI_n5, gR_n6, aI_n6, sI_n6, gR_n7, aI_n7, sI_n7, gR_n8, aI_n8, sI_n8, aR_s, aI_s, sI_s, aR_h, aI_h, sI_h, aR_r, aI_r, sI_r, aI_c, sI_c, aI_l, sI_l, aI_ca, aI_ha, sI_ca, sI_ha, gI_mo, pI_mo]
    rw [if_pos d1]
end
