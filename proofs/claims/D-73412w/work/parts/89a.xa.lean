/-! DEPS: wi -/
/-! XA: what is asked of both: what is broken -/
/-- a truth as a number, whatever it is -/
noncomputable def bC (p : Prop) : Int32 := @bI p (Classical.propDecidable p)
theorem bC_t {p : Prop} (h : p) : bC p = iI 1 := if_pos h
theorem bC_f {p : Prop} (h : ¬ p) : bC p = iI 0 := if_neg h
theorem bC_c {p q : Prop} (h : p ↔ q) : bC p = bC q := by rw [propext h]
noncomputable def tC (p : Prop) : Int := @ite Int p (Classical.propDecidable p) 1 0
theorem tC_t {p : Prop} (h : p) : tC p = 1 := if_pos h
theorem tC_f {p : Prop} (h : ¬ p) : tC p = 0 := if_neg h
theorem rZC (p : Prop) (σ : Mem) : rZ (bC p) σ = some (bC p, σ) := by
  by_cases h : p
  · rw [bC_t h]; exact rZ1 σ
  · rw [bC_f h]; exact rZ0 σ
abbrev lowA (g : Row) (a b : Int) : Int := max (g (244 * a + 4)) (g (244 * b + 4))
abbrev topB (g : Row) (a b : Int) : Int := min (g (244 * a + 4) + g (244 * a + 8)) (g (244 * b + 4) + g (244 * b + 8))
abbrev smA (g : Row) (a b i : Int) : Prop := sameA g (lpA g a i) (lpA g b i)
abbrev teA (g : Row) (a b i : Int) : Prop := g (lpA g a i) = g (lpA g b i)
def fwP (g : Row) (a b : Int) (f : Prop) (i : Int) : Prop := ∀ i', i ≤ i' → i' ≤ topB g a b → teA g a b i' → f ∧ ∀ j, i ≤ j → j ≤ i' → smA g a b j
def bwP (g : Row) (a b : Int) (p : Prop) (i : Int) : Prop := ∀ j, lowA g a b < j → j ≤ i → (p ∨ ∃ i', j ≤ i' ∧ i' ≤ i ∧ teA g a b i') → smA g a b j
def matA (g : Row) (a b : Int) : Prop := fwP g a b True (lowA g a b + 1)
theorem mat_bw {g : Row} {a b : Int} : matA g a b ↔ bwP g a b False (topB g a b) := by
  constructor
  · intro h j j0 j1 hj
    rcases hj with hj | ⟨i', h1, h2, h3⟩
    · exact hj.elim
    · exact (h i' (by omega) h2 h3).2 j (by omega) h1
  · intro h i' i0 i1 ht
    exact ⟨trivial, fun j j0 j1 => h j (by omega) (by omega) (Or.inr ⟨i', j1, i1, ht⟩)⟩
def alkA (g : Row) (a b : Int) : Prop := ¬ g (244 * a + 0) = 1 ∨ ¬ g (244 * b + 0) = 1 ∨ ¬ g (244 * a + 9) = g (244 * b + 9) ∨ ∀ k, 0 ≤ k → k < 8 → g (244 * a + (15 + k)) = g (244 * b + (15 + k))
abbrev pairP (g : Row) (w a b : Int) : Prop := (w = 1 ∧ matA g a b) ∨ (¬ w = 1 ∧ alkA g a b)
noncomputable def prIn (g : Row) (w a : Int) : Nat → Int → Int → Int
  | 0, n, _ => n
  | f + 1, n, b => prIn g w a f (n + (1 - tC (pairP g w a b))) (b + 1)
noncomputable def prOut (g : Row) (w : Int) : Nat → Int → Int → Int
  | 0, n, _ => n
  | f + 1, n, a => prOut g w f (prIn g w a a.toNat n 0) (a + 1)
noncomputable def brokeS (g : Row) (w : Int) : Int := if ¬ (0 ≤ w ∧ w < 3) then -1 else if w = 0 then g 11136 else prOut g w 7 0 0
theorem tC_r {p : Prop} : tC p = 0 ∨ tC p = 1 := by
  by_cases h : p
  · exact Or.inr (tC_t h)
  · exact Or.inl (tC_f h)
theorem prIn_r {g : Row} {w a : Int} : ∀ (f : Nat) (n b : Int), n ≤ prIn g w a f n b ∧ prIn g w a f n b ≤ n + f
  | 0, n, b => by unfold prIn; omega
  | f + 1, n, b => by
    unfold prIn
    have := prIn_r (g := g) (w := w) (a := a) f (n + (1 - tC (pairP g w a b))) (b + 1)
    have t := tC_r (p := pairP g w a b)
    omega
section
variable {B : Nat} {h g C Hd Mo : Row} {M : Mem} {Λ : Law} {hs : His} {FL : Int → ELog} {R : Int} {D : DK}
theorem t_isAlike (hL : LyC B M) (rel : Rel h g) (I : InvS g hs FL R D) {a b i : Int} (a0 : 0 ≤ a) (a1 : a < 7) (b0 : 0 ≤ b) (b1 : b < 7) (i0 : lowA g a b < i) (i1 : i ≤ topB g a b) :
    sX4_isAlike (some (ndA B a)) (some (ndA B b)) (iI i) (tl B h C Hd Mo M) = some (bI (smA g a b i), tl B h C Hd Mo M) := by
  have el : lowA g a b = max (g (244 * a + 4)) (g (244 * b + 4)) := rfl
  have et : topB g a b = min (g (244 * a + 4) + g (244 * a + 8)) (g (244 * b + 4) + g (244 * b + 8)) := rfl
  have ha := I.lg a0 a1
  have hb := I.lg b0 b1
  have ra := rel.nd a a0 a1
  have rb := rel.nd b b0 b1
  have ba := ha.1
  have bb := hb.1
  have ea := ha.2 i (by omega) (by omega)
  have eb := hb.2 i (by omega) (by omega)
  have wa := ra.s 4 (by omega) (by omega)
  have wb := rb.s 4 (by omega) (by omega)
  have wa8 := ra.s 8 (by omega) (by omega)
  have wb8 := rb.s 8 (by omega) (by omega)
  have ta := ra.term ha (i := i) (by omega) (by omega)
  have tb := rb.term hb (i := i) (by omega) (by omega)
  have ta2 : termA g a i = g (lpA g a i) := if_neg (by show ¬ i = g (244 * a + 4); omega)
  have tb2 : termA g b i = g (lpA g b i) := if_neg (by show ¬ i = g (244 * b + 4); omega)
  rw [ta2] at ta
  rw [tb2] at tb
  have xa := t_termAt (C := C) (Hd := Hd) (Mo := Mo) hL (ra.lg ha) (i := i) (by omega) (by omega)
  have xb := t_termAt (C := C) (Hd := Hd) (Mo := Mo) hL (rb.lg hb) (i := i) (by omega) (by omega)
  have ka := t_kindAt (C := C) (Hd := Hd) (Mo := Mo) hL (ra.lg ha) (i := i) (by omega) (by omega)
  have kb := t_kindAt (C := C) (Hd := Hd) (Mo := Mo) hL (rb.lg hb) (i := i) (by omega) (by omega)
  have la : lpA h a i = lpA g a i := by simp only [lpA, the]; rw [wa]
  have lb : lpA h b i = lpA g b i := by simp only [lpA, the]; rw [wb]
  rw [ta] at xa
  rw [tb] at xb
  rw [la] at ka
  rw [lb] at kb
  have fa : ∀ w, 0 ≤ w → w < 4 → h (lpA g a i + w) = g (lpA g a i + w) := fun w w0 w1 => ra.e _ (by simp only [lpA, the]; omega) (by simp only [lpA, the]; omega)
  have fb : ∀ w, 0 ≤ w → w < 4 → h (lpA g b i + w) = g (lpA g b i + w) := fun w w0 w1 => rb.e _ (by simp only [lpA, the]; omega) (by simp only [lpA, the]; omega)
  rw [fa 1 (by omega) (by omega)] at ka
  rw [fb 1 (by omega) (by omega)] at kb
  have a2 := fa 2 (by omega) (by omega)
  have a3 := fa 3 (by omega) (by omega)
  have b2 := fb 2 (by omega) (by omega)
  have b3 := fb 3 (by omega) (by omega)
  unfold EntA at ea eb
  unfold smA sameA
  simp only [lpA, the] at *
  have el : lowA g a b = max (g (244 * a + 4)) (g (244 * b + 4)) := rfl
  have et : topB g a b = min (g (244 * a + 4) + g (244 * a + 8)) (g (244 * b + 4) + g (244 * b + 8)) := rfl
  unfold sX4_isAlike
  rw [cV_nd hL a0 a1, xa, cl_some', cV_nd hL b0 b1, xb, cl_some']
  by_cases c0 : g (244 * a + 52 + 4 * (i - g (244 * a + 4) - 1)) = g (244 * b + 52 + 4 * (i - g (244 * b + 4) - 1))
  · rw [if_pos (congrArg iI c0), cV_nd hL a0 a1, ka, cl_some', cV_nd hL b0 b1, kb, cl_some']
    by_cases c1 : g (244 * a + 52 + 4 * (i - g (244 * a + 4) - 1) + 1) = g (244 * b + 52 + 4 * (i - g (244 * b + 4) - 1) + 1)
    · rw [if_pos (congrArg iI c1)]
      simp (disch := first | assumption | omega) only [z10, z00, if_true, if_false, iv_add, iv_sub, iv_mul, iv_le, iv_lt, iv_eq, iv_mx, iv_mn, bI_z, bI_o, rZ0, rZ1, rZb, cl_some', lt_eq, rm_eq, dv_eq, iv_01, iv_10, the, lastA, lpA, st_eq, st_ne, sh_addM, cV_cl, cV_nd, cV_mo, cV_lt, gR_t0, aR_nd, gR_c0, gR_c1, gR_c2, gR_c3, gR_c4, gR_c5, gR_c6, gR_c15, gR_c16, gI_c7, pI_c7, gI_c8, pI_c8, gI_c9, pI_c9, gI_c10, pI_c10, gI_c11, pI_c11, gI_c12, pI_c12, gI_c13, pI_c13, gI_c14, pI_c14, gN_9, gN_10, gN_11, gN_12, gN_13, gN_14, gN_15, gN_16, gN_17, gN_18, gN_19, gN_20, gN_21, gN_22, gN_23, pN_9, pN_10, pN_11, pN_12, pN_13, pN_14, pN_15, pN_16, pN_17, pN_18, pN_19, pN_20, pN_21, pN_22, pZ_0, pZ_1, gR_n0, aI_n0, sI_n0, gR_n1, aI_n1, sI_n1, gR_n2, aI_n2, sI_n2, gR_n3, aI_n3, sI_n3, gR_n4, aI_n4, sI_n4, gR_n5, aI_n5, sI_n5, gR_n6, aI_n6, sI_n6, gR_n7, aI_n7, sI_n7, gR_n8, aI_n8, sI_n8, aR_s, aI_s, sI_s, aR_h, aI_h, sI_h, aR_r, aI_r, sI_r, aI_c, sI_c, aI_l, sI_l, aI_ca, aI_ha, sI_ca, sI_ha, gI_mo, pI_mo, wa, wb, a2, a3, b2, b3]
      by_cases c2 : g (244 * a + 52 + 4 * (i - g (244 * a + 4) - 1) + 2) = g (244 * b + 52 + 4 * (i - g (244 * b + 4) - 1) + 2)
      · rw [if_pos c2]
        by_cases c3 : g (244 * a + 52 + 4 * (i - g (244 * a + 4) - 1) + 3) = g (244 * b + 52 + 4 * (i - g (244 * b + 4) - 1) + 3)
        · rw [if_pos c3, bI_t ⟨c0, c1, c2, c3⟩]
        · rw [if_neg c3, bI_f (fun q => c3 q.2.2.2)]
      · rw [if_neg c2, bI_f (fun q => c2 q.2.2.1)]
    · rw [if_neg (by rw [iv_eq (by omega) (by omega) (by omega) (by omega)]; exact c1), rZ0, bI_f (fun q => c1 q.2.1)]
  · rw [if_neg (by rw [iv_eq (by omega) (by omega) (by omega) (by omega)]; exact c0), rZ0, bI_f (fun q => c0 q.1)]
theorem t_matched_16 (hL : LyC B M) (rel : Rel h g) (I : InvS g hs FL R D) {a b : Int} (a0 : 0 ≤ a) (a1 : a < 7) (b0 : 0 ≤ b) (b1 : b < 7) : ∀ (j : Nat) (f : Prop) [Decidable f] (i : Int) (fu : Nat), topB g a b + 1 - i ≤ j → lowA g a b < i → i ≤ 1001 → j < fu →
    sX0_areMatched_16 fu (some (ndA B a)) (some (ndA B b)) (bI f) (iI i) (tl B h C Hd Mo M) = some (bC (fwP g a b f i), tl B h C Hd Mo M)
  | j, f, _, i, fu + 1, e1, e2, e4, e3 => by
    have el : lowA g a b = max (g (244 * a + 4)) (g (244 * b + 4)) := rfl
    have et : topB g a b = min (g (244 * a + 4) + g (244 * a + 8)) (g (244 * b + 4) + g (244 * b + 8)) := rfl
    have ha := I.lg a0 a1
    have hb := I.lg b0 b1
    have ra := rel.nd a a0 a1
    have rb := rel.nd b b0 b1
    have ba := ha.1
    have bb := hb.1
    have wa := ra.s 4 (by omega) (by omega)
    have wb := rb.s 4 (by omega) (by omega)
    have wa8 := ra.s 8 (by omega) (by omega)
    have wb8 := rb.s 8 (by omega) (by omega)
    have xa := t_last (h := h) (C := C) (Hd := Hd) (Mo := Mo) hL a0 a1
    have xb := t_last (h := h) (C := C) (Hd := Hd) (Mo := Mo) hL b0 b1
    rw [wa, wa8] at xa
    rw [wb, wb8] at xb
    show sX0_areMatched_16b (sX0_areMatched_16 fu) _ _ _ _ _ = _
    unfold sX0_areMatched_16b
    rw [cV_nd hL a0 a1, xa, cl_some', cV_nd hL b0 b1, xb, cl_some', iv_mn (by omega) (by omega) (by omega) (by omega)]
    by_cases c : topB g a b < i
    · rw [if_pos (by rw [iv_lt (by omega) (by omega) (by omega) (by omega)]; exact c), rZ1, bC_t]
      intro i' q1 q2
      omega
    · rw [if_neg (by rw [iv_lt (by omega) (by omega) (by omega) (by omega)]; exact c)]
      have ea := ha.2 i (by omega) (by omega)
      have eb := hb.2 i (by omega) (by omega)
      unfold EntA at ea eb
      have ta := ra.term ha (i := i) (by omega) (by omega)
      have tb := rb.term hb (i := i) (by omega) (by omega)
      have ta2 : termA g a i = g (lpA g a i) := if_neg (by show ¬ i = g (244 * a + 4); omega)
      have tb2 : termA g b i = g (lpA g b i) := if_neg (by show ¬ i = g (244 * b + 4); omega)
      rw [ta2] at ta
      rw [tb2] at tb
      have ya := t_termAt (C := C) (Hd := Hd) (Mo := Mo) hL (ra.lg ha) (i := i) (by omega) (by omega)
      have yb := t_termAt (C := C) (Hd := Hd) (Mo := Mo) hL (rb.lg hb) (i := i) (by omega) (by omega)
      rw [ta] at ya
      rw [tb] at yb
      have al := t_isAlike (C := C) (Hd := Hd) (Mo := Mo) hL rel I a0 a1 b0 b1 e2 (by omega)
      have step : ∀ (f2 : Prop) [Decidable f2], (f2 ↔ f ∧ smA g a b i) → sX0_areMatched_49 (sX0_areMatched_16 fu) (some (ndA B a)) (some (ndA B b)) (iI i) (bI f2) (tl B h C Hd Mo M) = some (bC (fwP g a b f i), tl B h C Hd Mo M) := by
        intro f2 _ hf2
        have ih : sX0_areMatched_16 fu (some (ndA B a)) (some (ndA B b)) (bI f2) (iI (i + 1)) (tl B h C Hd Mo M) = some (bC (fwP g a b f2 (i + 1)), tl B h C Hd Mo M) := by
          cases j with
          | zero => omega
          | succ j => exact t_matched_16 hL rel I a0 a1 b0 b1 j f2 (i + 1) fu (by omega) (by omega) (by omega) (by omega)
        generalize sX0_areMatched_16 fu = K at ih ⊢
        unfold sX0_areMatched_49 sX0_areMatched_69
        rw [cV_nd hL a0 a1, ya, cl_some', cV_nd hL b0 b1, yb, cl_some']
        simp only [lpA, the] at *
        have el : lowA g a b = max (g (244 * a + 4)) (g (244 * b + 4)) := rfl
        have et : topB g a b = min (g (244 * a + 4) + g (244 * a + 8)) (g (244 * b + 4) + g (244 * b + 8)) := rfl
        by_cases ct : g (244 * a + 52 + 4 * (i - g (244 * a + 4) - 1)) = g (244 * b + 52 + 4 * (i - g (244 * b + 4) - 1))
        · rw [if_pos (congrArg iI ct)]
          by_cases cf : f2
          · rw [if_neg (by rw [bI_z]; exact fun q => q cf), iv_add, ih]
            have cf' := hf2.mp cf
            refine congrArg (fun z => some (z, tl B h C Hd Mo M)) (bC_c ⟨fun q i' q1 q2 q3 => ?_, fun q i' q1 q2 q3 => ?_⟩)
            · by_cases d : i' = i
              · subst d
                exact ⟨cf'.1, fun j j0 j1 => by rw [show j = i' by omega]; exact cf'.2⟩
              · have := q i' (by omega) q2 q3
                refine ⟨cf'.1, fun j j0 j1 => ?_⟩
                by_cases d2 : j = i
                · rw [d2]; exact cf'.2
                · exact this.2 j (by omega) j1
            · exact ⟨cf, fun j j0 j1 => (q i' (by omega) q2 q3).2 j (by omega) j1⟩
          · rw [if_pos (by rw [bI_z]; exact cf), rZ0, bC_f]
            intro q
            have := q i (Int.le_refl _) (by omega) (by simp only [teA, lpA, the]; exact ct)
            exact cf (hf2.mpr ⟨this.1, this.2 i (Int.le_refl _) (Int.le_refl _)⟩)
        · rw [if_neg (by rw [iv_eq (by omega) (by omega) (by omega) (by omega)]; exact ct), iv_add, ih]
          refine congrArg (fun z => some (z, tl B h C Hd Mo M)) (bC_c ⟨fun q i' q1 q2 q3 => ?_, fun q i' q1 q2 q3 => ?_⟩)
          · by_cases d : i' = i
            · subst d
              exact absurd q3 ct
            · have := q i' (by omega) q2 q3
              have cf' := hf2.mp this.1
              refine ⟨cf'.1, fun j j0 j1 => ?_⟩
              by_cases d2 : j = i
              · rw [d2]; exact cf'.2
              · exact this.2 j (by omega) j1
          · have := q i' (by omega) q2 q3
            exact ⟨hf2.mpr ⟨this.1, this.2 i (Int.le_refl _) (by omega)⟩, fun j j0 j1 => this.2 j (by omega) j1⟩
      by_cases cf : f
      · rw [if_neg (by rw [bI_z]; exact fun q => q cf), cV_nd hL a0 a1, al, cl_some']
        by_cases cs : smA g a b i
        · rw [if_neg (by rw [bI_z]; exact fun q => q cs)]
          have := step True ⟨fun _ => ⟨cf, cs⟩, fun _ => trivial⟩
          rw [bI_t trivial] at this
          exact this
        · rw [if_pos (by rw [bI_z]; exact cs)]
          have := step False ⟨fun q => q.elim, fun q => cs q.2⟩
          rw [bI_f (fun q => q)] at this
          exact this
      · rw [if_pos (by rw [bI_z]; exact cf)]
        have := step False ⟨fun q => q.elim, fun q => cf q.1⟩
        rw [bI_f (fun q => q)] at this
        exact this
theorem t_areMatched (hL : LyC B M) (rel : Rel h g) (I : InvS g hs FL R D) {a b : Int} (a0 : 0 ≤ a) (a1 : a < 7) (b0 : 0 ≤ b) (b1 : b < 7) : sX0_areMatched (some (ndA B a)) (some (ndA B b)) (tl B h C Hd Mo M) = some (bC (matA g a b), tl B h C Hd Mo M) := by
  have el : lowA g a b = max (g (244 * a + 4)) (g (244 * b + 4)) := rfl
  have et : topB g a b = min (g (244 * a + 4) + g (244 * a + 8)) (g (244 * b + 4) + g (244 * b + 8)) := rfl
  have ba := (I.lg a0 a1).1
  have bb := (I.lg b0 b1).1
  have wa := (rel.nd a a0 a1).s 4 (by omega) (by omega)
  have wb := (rel.nd b b0 b1).s 4 (by omega) (by omega)
  have x := t_matched_16 (C := C) (Hd := Hd) (Mo := Mo) hL rel I a0 a1 b0 b1 1000 True (lowA g a b + 1) FU (by omega) (by omega) (by omega) (by unfold FU; omega)
  rw [bI_t trivial] at x
  unfold sX0_areMatched
  rw [gN_11 hL a0 a1, gN_11 hL b0 b1, wa, wb, iv_mx (by omega) (by omega) (by omega) (by omega), iv_add]
  exact x
theorem t_alike_29 (hL : LyC B M) (rel : Rel h g) (I : InvS g hs FL R D) {a b : Int} (a0 : 0 ≤ a) (a1 : a < 7) (b0 : 0 ≤ b) (b1 : b < 7) : ∀ (j : Nat) (k : Int) (fu : Nat), 8 - k = j → 0 ≤ k → j < fu →
    sX0_areAlike_29 fu (some (ndA B a)) (some (ndA B b)) (iI k) (tl B h C Hd Mo M) = some (bC (∀ x, k ≤ x → x < 8 → g (244 * a + (15 + x)) = g (244 * b + (15 + x))), tl B h C Hd Mo M)
  | 0, k, fu + 1, e1, e2, e3 => by
    simp (disch := first | assumption | omega) only [sX0_areAlike_29, sX0_areAlike_29b, z10, z00, if_true, if_false, iv_add, iv_sub, iv_mul, iv_le, iv_lt, iv_eq, iv_mx, iv_mn, bI_z, bI_o, rZ0, rZ1, rZb, cl_some', lt_eq, rm_eq, dv_eq, iv_01, iv_10, the, lastA, lpA, st_eq, st_ne, sh_addM, cV_cl, cV_nd, cV_mo, cV_lt, gR_t0, aR_nd, gR_c0, gR_c1, gR_c2, gR_c3, gR_c4, gR_c5, gR_c6, gR_c15, gR_c16, gI_c7, pI_c7, gI_c8, pI_c8, gI_c9, pI_c9, gI_c10, pI_c10, gI_c11, pI_c11, gI_c12, pI_c12, gI_c13, pI_c13, gI_c14, pI_c14, gN_9, gN_10, gN_11, gN_12, gN_13, gN_14, gN_15, gN_16, gN_17, gN_18, gN_19, gN_20, gN_21, gN_22, gN_23, pN_9, pN_10, pN_11, pN_12, pN_13, pN_14, pN_15, pN_16, pN_17, pN_18, pN_19, pN_20, pN_21, pN_22, pZ_0, pZ_1, gR_n0, aI_n0, sI_n0, gR_n1, aI_n1, sI_n1, gR_n2, aI_n2, sI_n2, gR_n3, aI_n3, sI_n3, gR_n4, aI_n4, sI_n4, gR_n5, aI_n5, sI_n5, gR_n6, aI_n6, sI_n6, gR_n7, aI_n7, sI_n7, gR_n8, aI_n8, sI_n8, aR_s, aI_s, sI_s, aR_h, aI_h, sI_h, aR_r, aI_r, sI_r, aI_c, sI_c, aI_l, sI_l, aI_ca, aI_ha, sI_ca, sI_ha, gI_mo, pI_mo]
    rw [if_pos (by omega), bC_t (fun x x0 x1 => by omega)]
  | j + 1, k, fu + 1, e1, e2, e3 => by
    have ih := t_alike_29 hL rel I a0 a1 b0 b1 j (k + 1) fu (by omega) (by omega) (by omega)
    have wa := (rel.nd a a0 a1).t (15 + k) (by omega) (by omega)
    have wb := (rel.nd b b0 b1).t (15 + k) (by omega) (by omega)
    have ka := (I.na a a0 a1).ky (244 * a + (15 + k)) (by omega) (by omega)
    have kb := (I.na b b0 b1).ky (244 * b + (15 + k)) (by omega) (by omega)
    show sX0_areAlike_29b (sX0_areAlike_29 fu) _ _ _ _ = _
    generalize sX0_areAlike_29 fu = K at ih ⊢
    unfold sX0_areAlike_29b
    rw [if_neg (by rw [iv_le (by omega) (by omega) (by omega) (by omega)]; omega), gR_n4 hL a0 a1, aI_n4 hL a0 a1 (by omega) (by omega), gR_n4 hL b0 b1, aI_n4 hL b0 b1 (by omega) (by omega), wa, wb]
    by_cases c : g (244 * a + (15 + k)) = g (244 * b + (15 + k))
    · rw [if_pos (congrArg iI c), iv_add, ih]
      refine congrArg (fun z => some (z, tl B h C Hd Mo M)) (bC_c ⟨fun q x x0 x1 => ?_, fun q x x0 x1 => q x (by omega) x1⟩)
      by_cases d : x = k
      · rw [d]; exact c
      · exact q x (by omega) x1
    · rw [if_neg (by rw [iv_eq (by omega) (by omega) (by omega) (by omega)]; exact c), rZ0, bC_f (fun q => c (q k (Int.le_refl _) (by omega)))]
theorem t_areAlike (hL : LyC B M) (rel : Rel h g) (I : InvS g hs FL R D) {a b : Int} (a0 : 0 ≤ a) (a1 : a < 7) (b0 : 0 ≤ b) (b1 : b < 7) : sX0_areAlike (some (ndA B a)) (some (ndA B b)) (tl B h C Hd Mo M) = some (bC (alkA g a b), tl B h C Hd Mo M) := by
  obtain ⟨⟨s1, s2⟩, _⟩ := I.na a a0 a1
  obtain ⟨⟨u1, u2⟩, _⟩ := I.na b b0 b1
  have hG := I.gl
  obtain ⟨_, _, _, _, _, _, _, _, _, _, _, _⟩ := hG
  have ra := rel.nd a a0 a1
  have rb := rel.nd b b0 b1
  have wa := ra.s 0 (by omega) (by omega)
  have wb := rb.s 0 (by omega) (by omega)
  have va := ra.s 9 (by omega) (by omega)
  have vb := rb.s 9 (by omega) (by omega)
  have x := t_alike_29 (C := C) (Hd := Hd) (Mo := Mo) hL rel I a0 a1 b0 b1 8 0 FU (by omega) (by omega) (by unfold FU; omega)
  unfold sX0_areAlike alkA
  rw [gN_23 hL a0 a1, wa]
  by_cases c0 : g (244 * a + 0) = 1
  · rw [if_neg (by rw [iv_eq (by omega) (by omega) (by omega) (by omega)]; omega), gN_23 hL b0 b1, wb]
    by_cases c1 : g (244 * b + 0) = 1
    · rw [if_neg (by rw [iv_eq (by omega) (by omega) (by omega) (by omega)]; omega), gN_17 hL a0 a1, gN_17 hL b0 b1, va, vb]
      by_cases c2 : g (244 * a + 9) = g (244 * b + 9)
      · rw [if_pos (congrArg iI c2), x]
        refine congrArg (fun z => some (z, tl B h C Hd Mo M)) (bC_c ⟨fun q => Or.inr (Or.inr (Or.inr q)), fun q => ?_⟩)
        rcases q with q | q | q | q
        · exact absurd c0 q
        · exact absurd c1 q
        · exact absurd c2 q
        · exact q
      · rw [if_neg (by rw [iv_eq (by omega) (by omega) (by omega) (by omega)]; exact c2), rZ1, bC_t (Or.inr (Or.inr (Or.inl c2)))]
    · rw [if_pos (by rw [iv_eq (by omega) (by omega) (by omega) (by omega)]; omega), rZ1, bC_t (Or.inr (Or.inl c1))]
  · rw [if_pos (by rw [iv_eq (by omega) (by omega) (by omega) (by omega)]; omega), rZ1, bC_t (Or.inl c0)]
end
