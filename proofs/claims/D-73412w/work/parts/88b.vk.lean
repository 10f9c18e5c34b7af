/-! DEPS: vj -/
/-! VK: TermLog holds -/
/-- one node's block changes on both sides -/
theorem Rel.node {h g h' g' : Row} (r : Rel h g) (b : BdA g) {n : Int} (n0 : 0 ≤ n) (n1 : n < 7) (eh : ∀ x, (x < 244 * n ∨ 244 * n + 244 ≤ x) → h' x = h x) (eg : ∀ x, (x < 244 * n ∨ 244 * n + 244 ≤ x) → g' x = g x) (rn : RelN h' g' n) : Rel h' g' := by
  obtain ⟨b1, hG⟩ := b
  obtain ⟨_, _, _, _, _, _, _, _, _, _, _, _⟩ := hG
  refine ⟨fun m m0 m1 => ?_, fun i a c w w0 w1 => ?_, fun x a c => by rw [eh x (by omega), eg x (by omega)]; exact r.ld x a c, fun q a c => ?_, fun x a c => by rw [eh x (by omega), eg x (by omega)]; exact r.ct x a c, fun x a c => by rw [eh x (by omega), eg x (by omega)]; exact r.gl x a c, fun i a c => ?_⟩
  · by_cases e : m = n
    · rw [e]; exact rn
    · exact (r.nd m m0 m1).keep (fun x _ _ => eh x (by omega)) (fun x _ _ => eg x (by omega)) (b1 m m0 m1)
  · rw [eg _ (by omega)] at c
    rw [eh _ (by omega), eg _ (by omega)]
    exact r.hl i a c w w0 w1
  · rw [eg _ (by omega)] at c
    obtain ⟨q1, q2, q3⟩ := r.rd q a c
    refine ⟨fun w w0 w1 => by rw [eh _ (by omega), eg _ (by omega)]; exact q1 w w0 w1, fun d => ?_, fun d => ?_⟩
    · rw [eg _ (by omega)] at d
      rw [eh _ (by omega), eg _ (by omega)]; exact q2 d
    · rw [eg _ (by omega)] at d
      rw [eh _ (by omega)]; exact q3 d
  · rw [eg _ (by omega)] at c
    obtain ⟨q1, q2⟩ := r.ml i a c
    exact ⟨MR_ext q1 (fun f f0 f1 _ => eh _ (by omega)) (fun w w0 w1 _ => eg _ (by omega)), by show h' _ = g' _; rw [eh _ (by omega), eg _ (by omega)]; exact q2⟩
section
variable {B : Nat} {h g C Hd Mo : Row} {M : Mem} {Λ : Law} {hs : His} {FL : Int → ELog} {R : Int} {D : DK}
theorem RelN.comp {n : Int} (rn : RelN h g n) (hg : LgA g n) : RelN (compG h n) (compG g n) n := by
  have hb := hg.1
  have hgh := rn.lg hg
  have hbh := hgh.1
  have s := rn.s
  have s4 := s 4 (by omega) (by omega)
  have s8 := s 8 (by omega) (by omega)
  have s9 := s 9 (by omega) (by omega)
  have c := rn.cfg hg (up := g (244 * n + 9)) (by omega) (by omega)
  have a := cfgA_le g n (g (244 * n + 9)) (by omega)
  have oh := fun x p q z => compG_ne (g := h) (n := n) (x := x) p q z
  have og := fun x p q z => compG_ne (g := g) (n := n) (x := x) p q z
  refine ⟨fun w w0 w1 => ?_, fun w w0 w1 => ?_, fun k => ?_, fun x x0 x1 => ?_, fun k w w0 w1 => ?_⟩
  · by_cases e4 : w = 4
    · rw [e4, compG_4, compG_4, s9]
    · by_cases e5 : w = 5
      · rw [e5, compG_5, compG_5, s9, rn.term hg (by omega) (by omega)]
      · by_cases e8 : w = 8
        · rw [e8, compG_8, compG_8, s4, s8, s9]
        · by_cases e6 : w = 6
          · rw [e6, compG_6, compG_6, s9, c, s4, s 6 (by omega) (by omega)]
            split
            · rfl
            · exact rn.e _ (by omega) (by omega)
          · by_cases e7 : w = 7
            · rw [e7, compG_7, compG_7, s9, c, s4, s 7 (by omega) (by omega)]
              split
              · rfl
              · exact rn.e _ (by omega) (by omega)
            · rw [oh _ (by omega) (by omega) (by omega), og _ (by omega) (by omega) (by omega)]
              exact s w w0 w1
  · by_cases e : w < 23
    · rw [oh _ (by omega) (by omega) (by omega), og _ (by omega) (by omega) (by omega)]
      exact rn.t w w0 w1
    · rw [compG_snap (by omega) (by omega), compG_snap (by omega) (by omega)]
      have := rn.t (w - 8) (by omega) (by omega)
      rw [show 244 * n + w - 8 = 244 * n + (w - 8) by omega]
      exact this
  · rw [og _ (by omega) (by omega) (by omega)] at k
    rw [oh _ (by omega) (by omega) (by omega), og _ (by omega) (by omega) (by omega)]
    exact rn.k k
  · rw [compG_8] at x1
    rw [compG_log (by omega) x0 (by rw [s4, s8, s9]; exact x1), compG_log (by omega) x0 x1, s9, s4]
    exact rn.e _ (by omega) (by omega)
  · rw [og _ (by omega) (by omega) (by omega)] at k
    rw [oh _ (by omega) (by omega) (by omega), og _ (by omega) (by omega) (by omega)]
    exact rn.l k w w0 w1
theorem RelN.layc {n : Int} (rn : RelN h g n) (hg : LgA g n) : RelN (lay1 h n) (lay1 g n) n := by
  have s8 := rn.s 8 (by omega) (by omega)
  unfold lay1
  simp only [the]
  by_cases c : g (244 * n + 8) = 48
  · rw [if_pos c, if_pos (s8.trans c)]
    exact rn.comp hg
  · rw [if_neg c, if_neg (fun q => c (s8.symm.trans q))]
    exact rn
theorem RelN.laye {n t k a b : Int} (rn : RelN h g n) (h8 : 0 ≤ g (244 * n + 8) ∧ g (244 * n + 8) < 48) : RelN (lay0 h n t k a b) (lay0 g n t k a b) n := by
  have s8 := rn.s 8 (by omega) (by omega)
  have oh := fun x p q => lay0_ne (g := h) (n := n) (t := t) (k := k) (a := a) (b := b) (x := x) p q
  have og := fun x p q => lay0_ne (g := g) (n := n) (t := t) (k := k) (a := a) (b := b) (x := x) p q
  refine ⟨fun w w0 w1 => ?_, fun w w0 w1 => ?_, fun k => ?_, fun x x0 x1 => ?_, fun k w w0 w1 => ?_⟩
  · by_cases e8 : w = 8
    · rw [e8, lay0_8, lay0_8, s8]
    · rw [oh _ (by omega) (by omega), og _ (by omega) (by omega)]
      exact rn.s w w0 w1
  · rw [oh _ (by omega) (by omega), og _ (by omega) (by omega)]
    exact rn.t w w0 w1
  · rw [og _ (by omega) (by omega)] at k
    rw [oh _ (by omega) (by omega), og _ (by omega) (by omega)]
    exact rn.k k
  · rw [lay0_8] at x1
    by_cases c : x < 244 * n + 52 + 4 * g (244 * n + 8)
    · rw [oh x (by omega) (by omega), og x (by omega) (by omega)]
      exact rn.e x x0 c
    · have e1 := lay0_ent (g := h) (n := n) (t := t) (k := k) (a := a) (b := b) (w := x - (244 * n + 52 + 4 * g (244 * n + 8))) (by omega) (by omega) (by omega)
      have e2 := lay0_ent (g := g) (n := n) (t := t) (k := k) (a := a) (b := b) (w := x - (244 * n + 52 + 4 * g (244 * n + 8))) (by omega) (by omega) (by omega)
      rw [show 244 * n + 52 + 4 * h (244 * n + 8) + (x - (244 * n + 52 + 4 * g (244 * n + 8))) = x by omega] at e1
      rw [show 244 * n + 52 + 4 * g (244 * n + 8) + (x - (244 * n + 52 + 4 * g (244 * n + 8))) = x by omega] at e2
      rw [e1, e2]
  · rw [og _ (by omega) (by omega)] at k
    rw [oh _ (by omega) (by omega), og _ (by omega) (by omega)]
    exact rn.l k w w0 w1
theorem RelN.lok {n : Int} (rn : RelN h g n) (hg : LgA g n) : layOk h n ↔ layOk g n := by
  have r1 := rn.layc hg
  unfold layOk
  simp only [the, lastA]
  rw [r1.s 4 (by omega) (by omega), r1.s 8 (by omega) (by omega)]
theorem RelN.lay {n t k a b : Int} (rn : RelN h g n) (hg : LgA g n) : RelN (layG h n t k a b) (layG g n t k a b) n := by
  have hb := (lay1_Lg hg).1
  have lo := rn.lok hg
  unfold layG
  by_cases c : layOk g n
  · rw [if_pos c, if_pos (lo.mpr c)]
    refine (rn.layc hg).laye ⟨by omega, ?_⟩
    have := c.1
    simp only [the] at this
    omega
  · rw [if_neg c, if_neg (fun q => c (lo.mp q))]
    exact rn.layc hg
theorem layG_out {h g : Row} {n t k a b x : Int} (hg : LgA g n) (hx : x < 244 * n ∨ 244 * n + 244 ≤ x) : layG g n t k a b x = g x := layG_ne hg (by omega) (by omega) (by omega)
theorem Rel.lay (r : Rel h g) (b : BdA g) {n t k a c : Int} (n0 : 0 ≤ n) (n1 : n < 7) (hg : LgA g n) : Rel (layG h n t k a c) (layG g n t k a c) :=
  r.node b n0 n1 (fun x hx => layG_ne ((r.nd n n0 n1).lg hg) (by omega) (by omega) (by omega)) (fun x hx => layG_ne hg (by omega) (by omega) (by omega)) ((r.nd n n0 n1).lay hg)
/-- TermLog lays -/
theorem t_layR (hL : LyC B M) (r : Rel h g) (I : InvS g hs FL R D) {n t k a b : Int} (n0 : 0 ≤ n) (n1 : n < 7) :
    sX4_lays (some (ndA B n)) (iI t) (iI k) (iI a) (iI b) (tl B h C Hd Mo M) = some (bI (layOk g n), tl B (layG h n t k a b) C Hd Mo M) ∧ Rel (layG h n t k a b) (layG g n t k a b) := by
  have rn := r.nd n n0 n1
  have hg := I.lg n0 n1
  have kb := (I.na n n0 n1).kb
  have x1 := tn_lays (C := C) (Hd := Hd) (Mo := Mo) (t := t) (k := k) (a := a) (b := b) hL (rn.lg hg) (fun e q q0 q1 => by
    have e' : g (244 * n + 9) = g (244 * n + 4) := by rw [← rn.s 9 (by omega) (by omega), ← rn.s 4 (by omega) (by omega)]; exact e
    have := kb e' q q0 q1
    rw [rn.t (15 + q) (by omega) (by omega), rn.t (23 + q) (by omega) (by omega)]
    exact this)
  rw [bI_c (rn.lok hg)] at x1
  exact ⟨x1, r.lay I.bd n0 n1 hg⟩
/-- the own log's end is matched -/
theorem Rel.matchO (r : Rel h g) (b : BdA g) {n : Int} (n0 : 0 ≤ n) (n1 : n < 7) : Rel (st h (244 * n + (38 + n)) (h (244 * n + 4) + h (244 * n + 8))) (st g (244 * n + 38 + n) (lastA g n)) := by
  have rn := r.nd n n0 n1
  rw [rn.s 4 (by omega) (by omega), rn.s 8 (by omega) (by omega), show 244 * n + 38 + n = 244 * n + (38 + n) by omega]
  refine r.plain b (fun x y z => ?_) (fun x y => st_ne (by omega)) (fun x y z => st_ne (by omega))
  by_cases d : x = 244 * n + (38 + n)
  · rw [d, st_eq, st_eq]
    exact Or.inr ⟨rfl, fun m m0 m1 => by omega, by omega, by omega, by omega, by omega⟩
  · exact Or.inl ⟨st_ne d, st_ne d⟩
theorem t_holds_12 (hL : LyC B M) (r : Rel h g) (I : InvS g hs FL R D) {n : Int} (n0 : 0 ≤ n) (n1 : n < 7) (hr : g (244 * n + 3) = 2) (rX : Option Nat → Int32 → Mem → Option (Unit × Mem)) : ∀ (k : Nat) (i : Int) (f : Nat), i - g (244 * n + 9) = k → i ≤ g (244 * n + 4) + g (244 * n + 8) → k < f →
    sX3_holds_12 rX f (some B) (iI n) (some (ndA B n)) (iI i) (tl B h C Hd Mo M) = sX3_holds_51 rX (some B) (iI n) (some (ndA B n)) (iI (topF g n k i)) (tl B h C Hd Mo M)
  | 0, i, f + 1, e1, e2, e3 => by
    have rn := r.nd n n0 n1
    obtain ⟨⟨s1, s2⟩, _⟩ := I.na n n0 n1
    have w9 := rn.s 9 (by omega) (by omega)
    have e : topF g n 0 i = i := by show g (244 * n + 9) = i; omega
    rw [e]
    simp (disch := first | assumption | omega) only [sX3_holds_12, sX3_holds_12b, z10, z00, if_true, if_false, iv_add, iv_sub, iv_mul, iv_le, iv_lt, iv_eq, iv_mx, iv_mn, bI_z, bI_o, rZ0, rZ1, rZb, cl_some', lt_eq, rm_eq, dv_eq, iv_01, iv_10, the, lastA, lpA, st_eq, st_ne, sh_addM, cV_cl, cV_nd, cV_mo, cV_lt, gR_t0, aR_nd, gR_c0, gR_c1, gR_c2, gR_c3, gR_c4, gR_c5, gR_c6, gR_c15, gR_c16, gI_c7, pI_c7, gI_c8, pI_c8, gI_c9, pI_c9, gI_c10, pI_c10, gI_c11, pI_c11, gI_c12, pI_c12, gI_c13, pI_c13, gI_c14, pI_c14, gN_9, gN_10, gN_11, gN_12, gN_13, gN_14, gN_15, gN_16, gN_17, gN_18, gN_19, gN_20, gN_21, gN_22, gN_23, pN_9, pN_10, pN_11, pN_12, pN_13, pN_14, pN_15, pN_16, pN_17, pN_18, pN_19, pN_20, pN_21, pN_22, pZ_0, pZ_1, gR_n0, aI_n0, sI_n0, gR_n1, aI_n1, sI_n1, gR_n2, aI_n2, sI_n2, gR_n3, aI_n3, sI_n3, gR_n4, aI_n4, sI_n4, gR_n5, aI_n5, sI_n5, gR_n6, aI_n6, sI_n6, gR_n7, aI_n7, sI_n7, gR_n8, aI_n8, sI_n8, aR_s, aI_s, sI_s, aR_h, aI_h, sI_h, aR_r, aI_r, sI_r, aI_c, sI_c, aI_l, sI_l, aI_ca, aI_ha, sI_ca, sI_ha, gI_mo, pI_mo, w9]
    rw [if_pos (by omega)]
  | k + 1, i, f + 1, e1, e2, e3 => by
    have ih := t_holds_12 hL r I n0 n1 hr rX k (i - 1) f (by omega) (by omega) (by omega)
    have rn := r.nd n n0 n1
    have hg := I.lg n0 n1
    obtain ⟨⟨s1, s2⟩, _⟩ := I.na n n0 n1
    have w9 := rn.s 9 (by omega) (by omega)
    have w1 := rn.s 1 (by omega) (by omega)
    have w4 := rn.s 4 (by omega) (by omega)
    have w8 := rn.s 8 (by omega) (by omega)
    have x1 := t_termAt (C := C) (Hd := Hd) (Mo := Mo) hL (rn.lg hg) (i := i) (by omega) (by omega)
    rw [rn.term hg (by omega) (by omega)] at x1
    have tr := termR hg (i := i) (by omega) (by omega)
    have x2 := t_withMatch (C := C) (Hd := Hd) (Mo := Mo) hL r I n0 n1 hr (i := i) (by omega) (by omega)
    have hH := I.ho n0 n1 hr
    have wr : 0 ≤ whoMatchA g n i ∧ whoMatchA g n i < 128 := by
      have q : ∀ (j : Nat) (s k : Int), 0 ≤ k → k + j ≤ 7 → 0 ≤ s → s < 128 → 0 ≤ whoF g n 38 i j s k ∧ whoF g n 38 i j s k < 128 := by
        intro j
        induction j with
        | zero => intro s k _ _ a b; exact ⟨a, b⟩
        | succ j ih =>
          intro s k k0 k1 a b
          unfold whoF
          have hb := bitR k0 (show k < 7 by omega)
          split
          · have := orR a b (show 0 ≤ bitI k by omega) hb.2
            exact ih _ (k + 1) (by omega) (by omega) this.1 this.2
          · exact ih _ (k + 1) (by omega) (by omega) a b
      have hb := bitR n0 n1
      exact q 7 (bitI n) 0 (by omega) (by omega) (by omega) hb.2
    have x3 := t_isMajority (C := C) (Hd := Hd) (Mo := Mo) hL (rn.lg hg) wr.1 wr.2
    rw [bI_c (rn.most hg)] at x3
    unfold topF
    simp only [the]
    rw [if_neg (show ¬ i ≤ g (244 * n + 9) by omega)]
    show sX3_holds_12b rX (sX3_holds_12 rX f) _ _ _ _ _ = _
    generalize sX3_holds_12 rX f = K at ih ⊢
    simp (disch := first | assumption | omega) only [sX3_holds_12b, sX3_holds_45, z10, z00, if_true, if_false, iv_add, iv_sub, iv_mul, iv_le, iv_lt, iv_eq, iv_mx, iv_mn, bI_z, bI_o, rZ0, rZ1, rZb, cl_some', lt_eq, rm_eq, dv_eq, iv_01, iv_10, the, lastA, lpA, st_eq, st_ne, sh_addM, cV_cl, cV_nd, cV_mo, cV_lt, gR_t0, aR_nd, gR_c0, gR_c1, gR_c2, gR_c3, gR_c4, gR_c5, gR_c6, gR_c15, gR_c16, gI_c7, pI_c7, gI_c8, pI_c8, gI_c9, pI_c9, gI_c10, pI_c10, gI_c11, pI_c11, gI_c12, pI_c12, gI_c13, pI_c13, gI_c14, pI_c14, gN_9, gN_10, gN_11, gN_12, gN_13, gN_14, gN_15, gN_16, gN_17, gN_18, gN_19, gN_20, gN_21, gN_22, gN_23, pN_9, pN_10, pN_11, pN_12, pN_13, pN_14, pN_15, pN_16, pN_17, pN_18, pN_19, pN_20, pN_21, pN_22, pZ_0, pZ_1, gR_n0, aI_n0, sI_n0, gR_n1, aI_n1, sI_n1, gR_n2, aI_n2, sI_n2, gR_n3, aI_n3, sI_n3, gR_n4, aI_n4, sI_n4, gR_n5, aI_n5, sI_n5, gR_n6, aI_n6, sI_n6, gR_n7, aI_n7, sI_n7, gR_n8, aI_n8, sI_n8, aR_s, aI_s, sI_s, aR_h, aI_h, sI_h, aR_r, aI_r, sI_r, aI_c, sI_c, aI_l, sI_l, aI_ca, aI_ha, sI_ca, sI_ha, gI_mo, pI_mo, w9, w1, x1, x2, x3]
    rw [if_neg (by omega)]
    by_cases c1 : termA g n i = g (244 * n + 1)
    · rw [if_pos c1]
      by_cases c2 : mostA g n (whoMatchA g n i)
      · rw [if_neg (fun hc => hc c2), if_pos ⟨c1, c2⟩]
      · rw [if_pos c2, if_neg (fun hc => c2 hc.2), show i + -1 = i - 1 by omega]
        exact ih
    · rw [if_neg c1, if_neg (fun hc => c1 hc.1), show i + -1 = i - 1 by omega]
      exact ih
theorem t_holds_0 (hL : LyC B M) (hΛ : LawL M Λ) {n : Int} (n0 : 0 ≤ n) (n1 : n < 7) (rX : Option Nat → Int32 → Mem → Option (Unit × Mem)) (f : Nat) {h g C Mo : Row} {hs : His} {FL : Int → ELog} (r : Rel h g) (I : InvS g hs FL R D) (hr : g (244 * n + 3) = 2)
    (hI : newA g n = 0 ∨ ∀ (h g C Mo : Row) (hs : His) (FL : Int → ELog), Rel h g → InvS g hs FL R D → g (244 * n + 3) = 2 → newA g n = 0 → ∃ h' C' Mo', rX (some B) (iI n) (tl B h C Hd Mo M) = some ((), tl B h' C' Hd Mo' M) ∧ Rel h' (holdF Λ n f g)) :
    ∃ h' C' Mo', sX3_holds_0 rX (some B) (iI n) (tl B h C Hd Mo M) = some ((), tl B h' C' Hd Mo' M) ∧ Rel h' (holdF Λ n (f + 1) g) := by
  have rn := r.nd n n0 n1
  have hg := I.lg n0 n1
  obtain ⟨⟨s1, s2⟩, _⟩ := I.na n n0 n1
  have w4 := rn.s 4 (by omega) (by omega)
  have w8 := rn.s 8 (by omega) (by omega)
  have ht := topA_le hg
  have hC := I.cm n0 n1
  have x1 := t_holds_12 (C := C) (Hd := Hd) (Mo := Mo) hL r I n0 n1 hr rX (g (244 * n + 4) + g (244 * n + 8) - g (244 * n + 9)).toNat (g (244 * n + 4) + g (244 * n + 8)) FU (by omega) (by omega) (by unfold FU; omega)
  have et : topF g n (g (244 * n + 4) + g (244 * n + 8) - g (244 * n + 9)).toNat (g (244 * n + 4) + g (244 * n + 8)) = topA g n := rfl
  rw [et] at x1
  obtain ⟨h1, y1, r1⟩ := t_commits (C := C) (Hd := Hd) (Mo := Mo) hL r I n0 n1 (t := topA g n) (by omega) ht.2
  obtain ⟨hs1, FL1, G1, I1⟩ := I.growL n0 n1 hr
  have o := fun x a b c d e f => growG_ne (x := x) hC ht.2 a b c d e f
  have hr1 : growG g n (topA g n) (244 * n + 3) = 2 := by rw [o _ (by omega) (by omega) (by omega) (by omega) (by omega) (by omega)]; exact hr
  have cx := cfg_ext (g' := growG g n (topA g n)) hg (fun x _ _ _ => o x (by omega) (by omega) (by omega) (by omega) (by omega) (by omega))
  have hnw : newA (growG g n (topA g n)) n = newA g n := cx.2.1
  have fin : ∀ {h' C' Mo' : Row} {z : Row}, sX3_holds_51 rX (some B) (iI n) (some (ndA B n)) (iI (topA g n)) (tl B h C Hd Mo M) = some ((), tl B h' C' Hd Mo' M) → Rel h' z → ∃ h' C' Mo', sX3_holds_0 rX (some B) (iI n) (tl B h C Hd Mo M) = some ((), tl B h' C' Hd Mo' M) ∧ Rel h' z := by
    intro h' C' Mo' z a b
    refine ⟨h', C', Mo', ?_, b⟩
    simp (disch := first | assumption | omega) only [sX3_holds_0, t_last, z10, z00, if_true, if_false, iv_add, iv_sub, iv_mul, iv_le, iv_lt, iv_eq, iv_mx, iv_mn, bI_z, bI_o, rZ0, rZ1, rZb, cl_some', lt_eq, rm_eq, dv_eq, iv_01, iv_10, the, lastA, lpA, st_eq, st_ne, sh_addM, cV_cl, cV_nd, cV_mo, cV_lt, gR_t0, aR_nd, gR_c0, gR_c1, gR_c2, gR_c3, gR_c4, gR_c5, gR_c6, gR_c15, gR_c16, gI_c7, pI_c7, gI_c8, pI_c8, gI_c9, pI_c9, gI_c10, pI_c10, gI_c11, pI_c11, gI_c12, pI_c12, gI_c13, pI_c13, gI_c14, pI_c14, gN_9, gN_10, gN_11, gN_12, gN_13, gN_14, gN_15, gN_16, gN_17, gN_18, gN_19, gN_20, gN_21, gN_22, gN_23, pN_9, pN_10, pN_11, pN_12, pN_13, pN_14, pN_15, pN_16, pN_17, pN_18, pN_19, pN_20, pN_21, pN_22, pZ_0, pZ_1, gR_n0, aI_n0, sI_n0, gR_n1, aI_n1, sI_n1, gR_n2, aI_n2, sI_n2, gR_n3, aI_n3, sI_n3, gR_n4, aI_n4, sI_n4, gR_n5, aI_n5, sI_n5, gR_n6, aI_n6, sI_n6, gR_n7, aI_n7, sI_n7, gR_n8, aI_n8, sI_n8, aR_s, aI_s, sI_s, aR_h, aI_h, sI_h, aR_r, aI_r, sI_r, aI_c, sI_c, aI_l, sI_l, aI_ca, aI_ha, sI_ca, sI_ha, gI_mo, pI_mo, w4, w8]
    rw [x1]
    exact a
  unfold holdF
  simp only []
  generalize growG g n (topA g n) = g1 at *
  have rn1 := r1.nd n n0 n1
  have hg1 := I1.lg n0 n1
  have nr := newR hg1
  have z1 := t_isConfigHeld (C := C) (Hd := Hd) (Mo := Mo) hL (rn1.lg hg1)
  have z2 := t_news (C := C) (Hd := Hd) (Mo := Mo) hL (rn1.lg hg1)
  have z3 := t_members (C := C) (Hd := Hd) (Mo := Mo) hL (rn1.lg hg1)
  rw [bI_c (rn1.held hg1)] at z1
  rw [(rn1.conf hg1).2.1] at z2
  rw [rn1.memb hg1] at z3
  have mr := membR hg1
  by_cases c2 : cfgHeld g1 n
  · by_cases c1 : newA g1 n = 0
    · rw [if_neg (fun q => q c1), if_neg (fun q => q c2)]
      by_cases c3 : hasI (membA g1 n) n
      · rw [if_pos c3]
        refine fin (C' := C) (Mo' := Mo) ?_ r1
        · simp (disch := first | assumption | omega) only [sX3_holds_51, t_has, z10, z00, if_true, if_false, iv_add, iv_sub, iv_mul, iv_le, iv_lt, iv_eq, iv_mx, iv_mn, bI_z, bI_o, rZ0, rZ1, rZb, cl_some', lt_eq, rm_eq, dv_eq, iv_01, iv_10, the, lastA, lpA, st_eq, st_ne, sh_addM, cV_cl, cV_nd, cV_mo, cV_lt, gR_t0, aR_nd, gR_c0, gR_c1, gR_c2, gR_c3, gR_c4, gR_c5, gR_c6, gR_c15, gR_c16, gI_c7, pI_c7, gI_c8, pI_c8, gI_c9, pI_c9, gI_c10, pI_c10, gI_c11, pI_c11, gI_c12, pI_c12, gI_c13, pI_c13, gI_c14, pI_c14, gN_9, gN_10, gN_11, gN_12, gN_13, gN_14, gN_15, gN_16, gN_17, gN_18, gN_19, gN_20, gN_21, gN_22, gN_23, pN_9, pN_10, pN_11, pN_12, pN_13, pN_14, pN_15, pN_16, pN_17, pN_18, pN_19, pN_20, pN_21, pN_22, pZ_0, pZ_1, gR_n0, aI_n0, sI_n0, gR_n1, aI_n1, sI_n1, gR_n2, aI_n2, sI_n2, gR_n3, aI_n3, sI_n3, gR_n4, aI_n4, sI_n4, gR_n5, aI_n5, sI_n5, gR_n6, aI_n6, sI_n6, gR_n7, aI_n7, sI_n7, gR_n8, aI_n8, sI_n8, aR_s, aI_s, sI_s, aR_h, aI_h, sI_h, aR_r, aI_r, sI_r, aI_c, sI_c, aI_l, sI_l, aI_ca, aI_ha, sI_ca, sI_ha, gI_mo, pI_mo, y1, z1, z2, z3]
          rw [if_neg (fun q => q c2), if_pos c1, if_neg (fun q => q c3)]
      · rw [if_neg c3]
        have I2 := I1.follow (w := -1) n0 n1 (by omega) (by omega) (Or.inr rfl)
        have r2 := r1.follow I1.bd (w := -1) n0 n1
        have hA1 := I1.ar
        obtain ⟨⟨u1, u2⟩, _⟩ := I1.na n n0 n1
        have f3 := rn1.s 3 (by omega) (by omega)
        have y2 := t_follows (C := C) (Hd := Hd) (Mo := Mo) (w := -1) hL n0 n1 (r1.rdh hA1 I1.rd) (by omega)
        obtain ⟨⟨v1, v2⟩, _⟩ := I2.na n n0 n1
        obtain ⟨h2, Mo2, y3, r3⟩ := t_setsTimer (C := C) (Hd := Hd) (Mo := Mo) hL hΛ r2 I2.bd n0 n1 (by omega) (by omega)
        refine fin (C' := C) (Mo' := Mo2) ?_ r3
        · simp (disch := first | assumption | omega) only [sX3_holds_51, t_has, z10, z00, if_true, if_false, iv_add, iv_sub, iv_mul, iv_le, iv_lt, iv_eq, iv_mx, iv_mn, bI_z, bI_o, rZ0, rZ1, rZb, cl_some', lt_eq, rm_eq, dv_eq, iv_01, iv_10, the, lastA, lpA, st_eq, st_ne, sh_addM, cV_cl, cV_nd, cV_mo, cV_lt, gR_t0, aR_nd, gR_c0, gR_c1, gR_c2, gR_c3, gR_c4, gR_c5, gR_c6, gR_c15, gR_c16, gI_c7, pI_c7, gI_c8, pI_c8, gI_c9, pI_c9, gI_c10, pI_c10, gI_c11, pI_c11, gI_c12, pI_c12, gI_c13, pI_c13, gI_c14, pI_c14, gN_9, gN_10, gN_11, gN_12, gN_13, gN_14, gN_15, gN_16, gN_17, gN_18, gN_19, gN_20, gN_21, gN_22, gN_23, pN_9, pN_10, pN_11, pN_12, pN_13, pN_14, pN_15, pN_16, pN_17, pN_18, pN_19, pN_20, pN_21, pN_22, pZ_0, pZ_1, gR_n0, aI_n0, sI_n0, gR_n1, aI_n1, sI_n1, gR_n2, aI_n2, sI_n2, gR_n3, aI_n3, sI_n3, gR_n4, aI_n4, sI_n4, gR_n5, aI_n5, sI_n5, gR_n6, aI_n6, sI_n6, gR_n7, aI_n7, sI_n7, gR_n8, aI_n8, sI_n8, aR_s, aI_s, sI_s, aR_h, aI_h, sI_h, aR_r, aI_r, sI_r, aI_c, sI_c, aI_l, sI_l, aI_ca, aI_ha, sI_ca, sI_ha, gI_mo, pI_mo, y1, z1, z2, z3, y2, y3]
          rw [if_neg (fun q => q c2), if_pos c1, if_pos c3]
    · rw [if_pos c1, if_pos c2]
      obtain ⟨y2, r2⟩ := t_layR (C := C) (Hd := Hd) (Mo := Mo) (t := g1 (244 * n + 1)) (k := 1) (a := newA g1 n) (b := 0) hL r1 I1 n0 n1
      have w1 := rn1.s 1 (by omega) (by omega)
      obtain ⟨p, p1, p2, p3, p4⟩ := I1.cfgc n0 n1 c2
      have hl : Ex (layG g1 n (g1 (244 * n + 1)) 1 (newA g1 n) 0) hs1 R D := I1.layL n0 n1 hr1 (by omega) (by omega) (by omega) (by omega) (fun _ => ⟨p, p1, p2, Or.inr ⟨by rw [← p4]; exact c1, p4, rfl⟩⟩)
      have hr2 : layG g1 n (g1 (244 * n + 1)) 1 (newA g1 n) 0 (244 * n + 3) = 2 := by rw [layG_ne hg1 (by omega) (by omega) (by omega)]; exact hr1
      by_cases c3 : layOk g1 n
      · rw [if_pos c3]
        have hz : newA (layG g1 n (g1 (244 * n + 1)) 1 (newA g1 n) 0) n = 0 := by
          unfold layG
          rw [if_pos c3, lay0_new (lay1_Lg hg1)]
          rfl
        simp only [the]
        obtain ⟨hs2, FL2, G2, I2⟩ := hl
        generalize layG g1 n (g1 (244 * n + 1)) 1 (newA g1 n) 0 = g2 at *
        generalize layG h1 n (g1 (244 * n + 1)) 1 (newA g1 n) 0 = h2 at *
        have I3 := I2.matchO n0 n1 hr2
        have r3 := r2.matchO I2.bd n0 n1
        have hr3 : st g2 (244 * n + 38 + n) (lastA g2 n) (244 * n + 3) = 2 := by rw [st_ne (by omega)]; exact hr2
        obtain ⟨h4, C4, Mo4, y4, r4⟩ := t_sendsToAll (C := C) (Hd := Hd) (Mo := Mo) hL hΛ r3 I3 n0 n1 hr3
        have I4 := I3.sendAll (Λ := Λ) n0 n1 hr3
        have hr4 : sendAllG Λ (st g2 (244 * n + 38 + n) (lastA g2 n)) n (244 * n + 3) = 2 := by rw [sendAllG_lo I3.gl (by omega)]; exact hr3
        have hz4 : newA (sendAllG Λ (st g2 (244 * n + 38 + n) (lastA g2 n)) n) n = 0 := by
          rw [(cfg_ext (I3.lg n0 n1) (fun x _ _ _ => sendAllG_lo I3.gl (by omega))).2.1, (cfg_ext (I2.lg n0 n1) (fun x _ _ _ => st_ne (by omega))).2.1]
          exact hz
        rcases hI with hI | hI
        · exact absurd (hnw.trans hI) c1
        · obtain ⟨h5, C5, Mo5, y5, r5⟩ := hI h4 _ C4 Mo4 hs2 FL2 r4 I4 hr4 hz4
          refine fin (C' := C5) (Mo' := Mo5) ?_ r5
          · have q4 : (0 ≤ h2 (244 * n + 4) + h2 (244 * n + 8) ∧ h2 (244 * n + 4) + h2 (244 * n + 8) ≤ 999) := by
              have rn2 := r2.nd n n0 n1
              rw [rn2.s 4 (by omega) (by omega), rn2.s 8 (by omega) (by omega)]
              obtain ⟨⟨v1, v2⟩, _⟩ := I2.na n n0 n1
              omega
            simp (disch := first | assumption | omega) only [sX3_holds_51, t_last, z10, z00, if_true, if_false, iv_add, iv_sub, iv_mul, iv_le, iv_lt, iv_eq, iv_mx, iv_mn, bI_z, bI_o, rZ0, rZ1, rZb, cl_some', lt_eq, rm_eq, dv_eq, iv_01, iv_10, the, lastA, lpA, st_eq, st_ne, sh_addM, cV_cl, cV_nd, cV_mo, cV_lt, gR_t0, aR_nd, gR_c0, gR_c1, gR_c2, gR_c3, gR_c4, gR_c5, gR_c6, gR_c15, gR_c16, gI_c7, pI_c7, gI_c8, pI_c8, gI_c9, pI_c9, gI_c10, pI_c10, gI_c11, pI_c11, gI_c12, pI_c12, gI_c13, pI_c13, gI_c14, pI_c14, gN_9, gN_10, gN_11, gN_12, gN_13, gN_14, gN_15, gN_16, gN_17, gN_18, gN_19, gN_20, gN_21, gN_22, gN_23, pN_9, pN_10, pN_11, pN_12, pN_13, pN_14, pN_15, pN_16, pN_17, pN_18, pN_19, pN_20, pN_21, pN_22, pZ_0, pZ_1, gR_n0, aI_n0, sI_n0, gR_n1, aI_n1, sI_n1, gR_n2, aI_n2, sI_n2, gR_n3, aI_n3, sI_n3, gR_n4, aI_n4, sI_n4, gR_n5, aI_n5, sI_n5, gR_n6, aI_n6, sI_n6, gR_n7, aI_n7, sI_n7, gR_n8, aI_n8, sI_n8, aR_s, aI_s, sI_s, aR_h, aI_h, sI_h, aR_r, aI_r, sI_r, aI_c, sI_c, aI_l, sI_l, aI_ca, aI_ha, sI_ca, sI_ha, gI_mo, pI_mo, y1, z1, z2, w1, y2, y4, y5]
            rw [if_neg (fun q => q c2), if_neg c1, if_neg (fun q => q c3)]
      · rw [if_neg c3]
        refine fin (C' := C) (Mo' := Mo) ?_ r2
        · simp (disch := first | assumption | omega) only [sX3_holds_51, z10, z00, if_true, if_false, iv_add, iv_sub, iv_mul, iv_le, iv_lt, iv_eq, iv_mx, iv_mn, bI_z, bI_o, rZ0, rZ1, rZb, cl_some', lt_eq, rm_eq, dv_eq, iv_01, iv_10, the, lastA, lpA, st_eq, st_ne, sh_addM, cV_cl, cV_nd, cV_mo, cV_lt, gR_t0, aR_nd, gR_c0, gR_c1, gR_c2, gR_c3, gR_c4, gR_c5, gR_c6, gR_c15, gR_c16, gI_c7, pI_c7, gI_c8, pI_c8, gI_c9, pI_c9, gI_c10, pI_c10, gI_c11, pI_c11, gI_c12, pI_c12, gI_c13, pI_c13, gI_c14, pI_c14, gN_9, gN_10, gN_11, gN_12, gN_13, gN_14, gN_15, gN_16, gN_17, gN_18, gN_19, gN_20, gN_21, gN_22, gN_23, pN_9, pN_10, pN_11, pN_12, pN_13, pN_14, pN_15, pN_16, pN_17, pN_18, pN_19, pN_20, pN_21, pN_22, pZ_0, pZ_1, gR_n0, aI_n0, sI_n0, gR_n1, aI_n1, sI_n1, gR_n2, aI_n2, sI_n2, gR_n3, aI_n3, sI_n3, gR_n4, aI_n4, sI_n4, gR_n5, aI_n5, sI_n5, gR_n6, aI_n6, sI_n6, gR_n7, aI_n7, sI_n7, gR_n8, aI_n8, sI_n8, aR_s, aI_s, sI_s, aR_h, aI_h, sI_h, aR_r, aI_r, sI_r, aI_c, sI_c, aI_l, sI_l, aI_ca, aI_ha, sI_ca, sI_ha, gI_mo, pI_mo, y1, z1, z2, w1, y2]
          rw [if_neg (fun q => q c2), if_neg c1, if_pos c3]
  · have e : (if newA g1 n ≠ 0 then if cfgHeld g1 n then if layOk g1 n then holdF Λ n f (sendAllG Λ (st (layG g1 n (the g1 n 1) 1 (newA g1 n) 0) (244 * n + 38 + n) (lastA (layG g1 n (the g1 n 1) 1 (newA g1 n) 0) n)) n) else layG g1 n (the g1 n 1) 1 (newA g1 n) 0 else g1
        else if ¬ cfgHeld g1 n then g1 else if hasI (membA g1 n) n then g1 else timerG Λ (followG g1 n (-1)) n) = g1 := by
      by_cases c1 : newA g1 n = 0
      · rw [if_neg (fun q => q c1), if_pos c2]
      · rw [if_pos c1, if_neg c2]
    rw [e]
    refine fin (C' := C) (Mo' := Mo) ?_ r1
    · simp (disch := first | assumption | omega) only [sX3_holds_51, z10, z00, if_true, if_false, iv_add, iv_sub, iv_mul, iv_le, iv_lt, iv_eq, iv_mx, iv_mn, bI_z, bI_o, rZ0, rZ1, rZb, cl_some', lt_eq, rm_eq, dv_eq, iv_01, iv_10, the, lastA, lpA, st_eq, st_ne, sh_addM, cV_cl, cV_nd, cV_mo, cV_lt, gR_t0, aR_nd, gR_c0, gR_c1, gR_c2, gR_c3, gR_c4, gR_c5, gR_c6, gR_c15, gR_c16, gI_c7, pI_c7, gI_c8, pI_c8, gI_c9, pI_c9, gI_c10, pI_c10, gI_c11, pI_c11, gI_c12, pI_c12, gI_c13, pI_c13, gI_c14, pI_c14, gN_9, gN_10, gN_11, gN_12, gN_13, gN_14, gN_15, gN_16, gN_17, gN_18, gN_19, gN_20, gN_21, gN_22, gN_23, pN_9, pN_10, pN_11, pN_12, pN_13, pN_14, pN_15, pN_16, pN_17, pN_18, pN_19, pN_20, pN_21, pN_22, pZ_0, pZ_1, gR_n0, aI_n0, sI_n0, gR_n1, aI_n1, sI_n1, gR_n2, aI_n2, sI_n2, gR_n3, aI_n3, sI_n3, gR_n4, aI_n4, sI_n4, gR_n5, aI_n5, sI_n5, gR_n6, aI_n6, sI_n6, gR_n7, aI_n7, sI_n7, gR_n8, aI_n8, sI_n8, aR_s, aI_s, sI_s, aR_h, aI_h, sI_h, aR_r, aI_r, sI_r, aI_c, sI_c, aI_l, sI_l, aI_ca, aI_ha, sI_ca, sI_ha, gI_mo, pI_mo, y1, z1]
      rw [if_pos c2]
theorem t_holds (hL : LyC B M) (hΛ : LawL M Λ) (r : Rel h g) (I : InvS g hs FL R D) {n : Int} (n0 : 0 ≤ n) (n1 : n < 7) (hr : g (244 * n + 3) = 2) :
    ∃ h' C' Mo', sX3_holds 4 (some B) (iI n) (tl B h C Hd Mo M) = some ((), tl B h' C' Hd Mo' M) ∧ Rel h' (holdG Λ g n) := by
  have hI : ∀ (d f : Nat) (h g C Mo : Row) (hs : His) (FL : Int → ELog), Rel h g → InvS g hs FL R D → g (244 * n + 3) = 2 → newA g n = 0 → ∃ h' C' Mo', gX3_holds (d + 1) (some B) (iI n) (tl B h C Hd Mo M) = some ((), tl B h' C' Hd Mo' M) ∧ Rel h' (holdF Λ n (f + 1) g) :=
    fun d f h g C Mo hs FL r I hr hz => t_holds_0 hL hΛ n0 n1 (gX3_holds d) f r I hr (Or.inl hz)
  exact t_holds_0 hL hΛ n0 n1 (gX3_holds 3) 2 r I hr (Or.inr (hI 2 1))
end
