/-! DEPS: vs -/
/-! VT: TermLog takes what is due, ticks -/
section
variable {B : Nat} {h g C Hd Mo : Row} {M : Mem} {Λ : Law} {hs : His} {FL : Int → ELog} {R : Int} {D : DK}
/-- a sent message goes into what is handed -/
def cpHd (h Hd : Row) (i k : Int) : Row := fun x => if 0 ≤ x ∧ x < k then h (100000 + 32 * i + x) else Hd x
theorem t_cpH (hL : LyC B M) {i : Int} (i0 : 0 ≤ i) (i1 : i < 160) : ∀ (j : Nat) (k : Int) (f : Nat), 32 - k = j → 0 ≤ k → j < f →
    sX3_copies_2 f (some (B + 3 + i.toNat)) (some (B + 1184)) (iI k) (tl B h C (cpHd h Hd i k) Mo M) = some ((), tl B h C (cpHd h Hd i 32) Mo M)
  | 0, k, f + 1, e1, e2, e3 => by
    have e : k = 32 := by omega
    subst e
    show (if (mK M (B + 3 + i.toNat)).1 = 20 then (if Int32.ofNat (mK M (B + 3 + i.toNat)).2 ≤ iI 32 then some ((), tl B h C (cpHd h Hd i 32) Mo M) else _) else none) = _
    rw [(hL.ks.2 i.toNat (by omega)).2, if_pos rfl]
    exact if_pos (by decide)
  | j + 1, k, f + 1, e1, e2, e3 => by
    have ih := t_cpH hL i0 i1 j (k + 1) f (by omega) (by omega) (by omega)
    have s : st (cpHd h Hd i k) k (h (100000 + 32 * i + k)) = cpHd h Hd i (k + 1) := by
      funext x
      unfold st cpHd
      by_cases c1 : x = k
      · rw [if_pos c1, if_pos (by omega), c1]
      · rw [if_neg c1]
        by_cases c2 : 0 ≤ x ∧ x < k
        · rw [if_pos c2, if_pos (by omega)]
        · rw [if_neg c2, if_neg (by omega)]
    show sX3_copies_2b (sX3_copies_2 f) _ _ _ _ = _
    generalize sX3_copies_2 f = K at ih ⊢
    have a1 : ∀ {f : Int32 → Option (Unit × Mem)}, aL (tl B h C (cpHd h Hd i k) Mo M) (some (B + 3 + i.toNat)) 20 f = f (iI 32) := by
      intro f
      show (if (mK M (B + 3 + i.toNat)).1 = 20 then f (Int32.ofNat (mK M (B + 3 + i.toNat)).2) else none) = _
      rw [(hL.ks.2 i.toNat (by omega)).2, if_pos rfl]
      rfl
    simp (disch := first | assumption | omega) only [sX3_copies_2b, z10, z00, if_true, if_false, iv_add, iv_sub, iv_mul, iv_le, iv_lt, iv_eq, iv_mx, iv_mn, bI_z, bI_o, rZ0, rZ1, rZb, cl_some', lt_eq, rm_eq, dv_eq, iv_01, iv_10, the, lastA, lpA, st_eq, st_ne, sh_addM, cV_cl, cV_nd, cV_mo, cV_lt, gR_t0, aR_nd, gR_c0, gR_c1, gR_c2, gR_c3, gR_c4, gR_c5, gR_c6, gR_c15, gR_c16, gI_c7, pI_c7, gI_c8, pI_c8, gI_c9, pI_c9, gI_c10, pI_c10, gI_c11, pI_c11, gI_c12, pI_c12, gI_c13, pI_c13, gI_c14, pI_c14, gN_9, gN_10, gN_11, gN_12, gN_13, gN_14, gN_15, gN_16, gN_17, gN_18, gN_19, gN_20, gN_21, gN_22, gN_23, pN_9, pN_10, pN_11, pN_12, pN_13, pN_14, pN_15, pN_16, pN_17, pN_18, pN_19, pN_20, pN_21, pN_22, pZ_0, pZ_1, gR_n0, aI_n0, sI_n0, gR_n1, aI_n1, sI_n1, gR_n2, aI_n2, sI_n2, gR_n3, aI_n3, sI_n3, gR_n4, aI_n4, sI_n4, gR_n5, aI_n5, sI_n5, gR_n6, aI_n6, sI_n6, gR_n7, aI_n7, sI_n7, gR_n8, aI_n8, sI_n8, aR_s, aI_s, sI_s, aR_h, aI_h, sI_h, aR_r, aI_r, sI_r, aI_c, sI_c, aI_l, sI_l, aI_ca, aI_ha, sI_ca, sI_ha, gI_mo, pI_mo, a1]
    rw [if_neg (by omega), s]
    exact ih
/-- a row of the sent goes one down -/
def cpDn (h : Row) (i k : Int) : Row := fun x => if 100000 + 32 * i ≤ x ∧ x < 100000 + 32 * i + k then h (x + 32) else h x
theorem t_cpS (hL : LyC B M) {i : Int} (i0 : 0 ≤ i) (i1 : i + 1 < 160) : ∀ (j : Nat) (k : Int) (f : Nat), 32 - k = j → 0 ≤ k → j < f →
    sX3_copies_2 f (some (B + 3 + (i + 1).toNat)) (some (B + 3 + i.toNat)) (iI k) (tl B (cpDn h i k) C Hd Mo M) = some ((), tl B (cpDn h i 32) C Hd Mo M)
  | 0, k, f + 1, e1, e2, e3 => by
    have e : k = 32 := by omega
    subst e
    show (if (mK M (B + 3 + (i + 1).toNat)).1 = 20 then (if Int32.ofNat (mK M (B + 3 + (i + 1).toNat)).2 ≤ iI 32 then some ((), tl B (cpDn h i 32) C Hd Mo M) else _) else none) = _
    rw [(hL.ks.2 (i + 1).toNat (by omega)).2, if_pos rfl]
    exact if_pos (by decide)
  | j + 1, k, f + 1, e1, e2, e3 => by
    have ih := t_cpS hL i0 i1 j (k + 1) f (by omega) (by omega) (by omega)
    have o : cpDn h i k (100000 + 32 * (i + 1) + k) = h (100000 + 32 * (i + 1) + k) := if_neg (by omega)
    have s : st (cpDn h i k) (100000 + 32 * i + k) (h (100000 + 32 * (i + 1) + k)) = cpDn h i (k + 1) := by
      funext x
      unfold st cpDn
      by_cases c1 : x = 100000 + 32 * i + k
      · rw [if_pos c1, if_pos (by omega), c1]
        congr 1
        omega
      · rw [if_neg c1]
        by_cases c2 : 100000 + 32 * i ≤ x ∧ x < 100000 + 32 * i + k
        · rw [if_pos c2, if_pos (by omega)]
        · rw [if_neg c2, if_neg (by omega)]
    show sX3_copies_2b (sX3_copies_2 f) _ _ _ _ = _
    generalize sX3_copies_2 f = K at ih ⊢
    have a1 : ∀ {f : Int32 → Option (Unit × Mem)}, aL (tl B (cpDn h i k) C Hd Mo M) (some (B + 3 + (i + 1).toNat)) 20 f = f (iI 32) := by
      intro f
      show (if (mK M (B + 3 + (i + 1).toNat)).1 = 20 then f (Int32.ofNat (mK M (B + 3 + (i + 1).toNat)).2) else none) = _
      rw [(hL.ks.2 (i + 1).toNat (by omega)).2, if_pos rfl]
      rfl
    simp (disch := first | assumption | omega) only [sX3_copies_2b, z10, z00, if_true, if_false, iv_add, iv_sub, iv_mul, iv_le, iv_lt, iv_eq, iv_mx, iv_mn, bI_z, bI_o, rZ0, rZ1, rZb, cl_some', lt_eq, rm_eq, dv_eq, iv_01, iv_10, the, lastA, lpA, st_eq, st_ne, sh_addM, cV_cl, cV_nd, cV_mo, cV_lt, gR_t0, aR_nd, gR_c0, gR_c1, gR_c2, gR_c3, gR_c4, gR_c5, gR_c6, gR_c15, gR_c16, gI_c7, pI_c7, gI_c8, pI_c8, gI_c9, pI_c9, gI_c10, pI_c10, gI_c11, pI_c11, gI_c12, pI_c12, gI_c13, pI_c13, gI_c14, pI_c14, gN_9, gN_10, gN_11, gN_12, gN_13, gN_14, gN_15, gN_16, gN_17, gN_18, gN_19, gN_20, gN_21, gN_22, gN_23, pN_9, pN_10, pN_11, pN_12, pN_13, pN_14, pN_15, pN_16, pN_17, pN_18, pN_19, pN_20, pN_21, pN_22, pZ_0, pZ_1, gR_n0, aI_n0, sI_n0, gR_n1, aI_n1, sI_n1, gR_n2, aI_n2, sI_n2, gR_n3, aI_n3, sI_n3, gR_n4, aI_n4, sI_n4, gR_n5, aI_n5, sI_n5, gR_n6, aI_n6, sI_n6, gR_n7, aI_n7, sI_n7, gR_n8, aI_n8, sI_n8, aR_s, aI_s, sI_s, aR_h, aI_h, sI_h, aR_r, aI_r, sI_r, aI_c, sI_c, aI_l, sI_l, aI_ca, aI_ha, sI_ca, sI_ha, gI_mo, pI_mo, a1, o]
    rw [if_neg (by omega), s]
    exact ih
/-- the sent go down from a place on -/
def shDn (h : Row) (a k : Int) : Row := fun x => if 100000 + 32 * a ≤ x ∧ x < 100000 + 32 * k then h (x + 32) else h x
theorem t_due_54 (hL : LyC B M) {a e : Int} (a0 : 0 ≤ a) (ha : a ≤ e) (e9 : e < 160) (he : h 11133 = e) : ∀ (j : Nat) (k : Int) (f : Nat), e - k = j → a ≤ k → j < f →
    sX3_takesDue_54 f (some B) (iI k) (tl B (shDn h a k) C Hd Mo M) = some (iI 1, tl B (shDn h a e) C Hd Mo M)
  | 0, k, f + 1, e1, e2, e3 => by
    have q : k = e := by omega
    subst q
    have o : shDn h a k 11133 = h 11133 := if_neg (by omega)
    simp (disch := first | assumption | omega) only [sX3_takesDue_54, sX3_takesDue_54b, z10, z00, if_true, if_false, iv_add, iv_sub, iv_mul, iv_le, iv_lt, iv_eq, iv_mx, iv_mn, bI_z, bI_o, rZ0, rZ1, rZb, cl_some', lt_eq, rm_eq, dv_eq, iv_01, iv_10, the, lastA, lpA, st_eq, st_ne, sh_addM, cV_cl, cV_nd, cV_mo, cV_lt, gR_t0, aR_nd, gR_c0, gR_c1, gR_c2, gR_c3, gR_c4, gR_c5, gR_c6, gR_c15, gR_c16, gI_c7, pI_c7, gI_c8, pI_c8, gI_c9, pI_c9, gI_c10, pI_c10, gI_c11, pI_c11, gI_c12, pI_c12, gI_c13, pI_c13, gI_c14, pI_c14, gN_9, gN_10, gN_11, gN_12, gN_13, gN_14, gN_15, gN_16, gN_17, gN_18, gN_19, gN_20, gN_21, gN_22, gN_23, pN_9, pN_10, pN_11, pN_12, pN_13, pN_14, pN_15, pN_16, pN_17, pN_18, pN_19, pN_20, pN_21, pN_22, pZ_0, pZ_1, gR_n0, aI_n0, sI_n0, gR_n1, aI_n1, sI_n1, gR_n2, aI_n2, sI_n2, gR_n3, aI_n3, sI_n3, gR_n4, aI_n4, sI_n4, gR_n5, aI_n5, sI_n5, gR_n6, aI_n6, sI_n6, gR_n7, aI_n7, sI_n7, gR_n8, aI_n8, sI_n8, aR_s, aI_s, sI_s, aR_h, aI_h, sI_h, aR_r, aI_r, sI_r, aI_c, sI_c, aI_l, sI_l, aI_ca, aI_ha, sI_ca, sI_ha, gI_mo, pI_mo, o]
    rw [if_pos (by omega)]
  | j + 1, k, f + 1, e1, e2, e3 => by
    have ih := t_due_54 hL a0 ha e9 he j (k + 1) f (by omega) (by omega) (by omega)
    have o : shDn h a k 11133 = h 11133 := if_neg (by omega)
    have x1 := t_cpS (h := shDn h a k) (C := C) (Hd := Hd) (Mo := Mo) hL (i := k) (by omega) (by omega) 32 0 FU (by omega) (by omega) (by unfold FU; omega)
    have s0 : cpDn (shDn h a k) k 0 = shDn h a k := by
      funext x
      unfold cpDn
      rw [if_neg (by omega)]
    have s1 : cpDn (shDn h a k) k 32 = shDn h a (k + 1) := by
      funext x
      unfold cpDn
      by_cases c : 100000 + 32 * k ≤ x ∧ x < 100000 + 32 * k + 32
      · rw [if_pos c]
        unfold shDn
        rw [if_neg (by omega), if_pos (by omega)]
      · rw [if_neg c]
        unfold shDn
        by_cases d : 100000 + 32 * a ≤ x ∧ x < 100000 + 32 * k
        · rw [if_pos d, if_pos (by omega)]
        · rw [if_neg d, if_neg (by omega)]
    rw [s0, s1] at x1
    show sX3_takesDue_54b (sX3_takesDue_54 f) _ _ _ = _
    generalize sX3_takesDue_54 f = K at ih ⊢
    have cp : ∀ v0 v1 v2 σ, sX3_copies v0 v1 v2 σ = sX3_copies_2 FU v1 v2 (iI 0) σ := fun _ _ _ _ => rfl
    simp (disch := first | assumption | omega) only [sX3_takesDue_54b, z10, z00, if_true, if_false, iv_add, iv_sub, iv_mul, iv_le, iv_lt, iv_eq, iv_mx, iv_mn, bI_z, bI_o, rZ0, rZ1, rZb, cl_some', lt_eq, rm_eq, dv_eq, iv_01, iv_10, the, lastA, lpA, st_eq, st_ne, sh_addM, cV_cl, cV_nd, cV_mo, cV_lt, gR_t0, aR_nd, gR_c0, gR_c1, gR_c2, gR_c3, gR_c4, gR_c5, gR_c6, gR_c15, gR_c16, gI_c7, pI_c7, gI_c8, pI_c8, gI_c9, pI_c9, gI_c10, pI_c10, gI_c11, pI_c11, gI_c12, pI_c12, gI_c13, pI_c13, gI_c14, pI_c14, gN_9, gN_10, gN_11, gN_12, gN_13, gN_14, gN_15, gN_16, gN_17, gN_18, gN_19, gN_20, gN_21, gN_22, gN_23, pN_9, pN_10, pN_11, pN_12, pN_13, pN_14, pN_15, pN_16, pN_17, pN_18, pN_19, pN_20, pN_21, pN_22, pZ_0, pZ_1, gR_n0, aI_n0, sI_n0, gR_n1, aI_n1, sI_n1, gR_n2, aI_n2, sI_n2, gR_n3, aI_n3, sI_n3, gR_n4, aI_n4, sI_n4, gR_n5, aI_n5, sI_n5, gR_n6, aI_n6, sI_n6, gR_n7, aI_n7, sI_n7, gR_n8, aI_n8, sI_n8, aR_s, aI_s, sI_s, aR_h, aI_h, sI_h, aR_r, aI_r, sI_r, aI_c, sI_c, aI_l, sI_l, aI_ca, aI_ha, sI_ca, sI_ha, gI_mo, pI_mo, o, cp, x1]
    rw [if_neg (by omega)]
    exact ih
/-- TermLog's row when a message has gone out -/
def outH (h : Row) (m : Int) : Row := shDn (st h 11133 (h 11133 - 1)) m (h 11133 - 1)
theorem Rel.out (rel : Rel h g) (b : BdA g) {m : Int} (m0 : 0 ≤ m) (m1 : m < g 11133) : Rel (outH h m) (outG g m) := by
  obtain ⟨b1, hG⟩ := b
  obtain ⟨_, _, _, _, _, _, _, _, _, _, _, _⟩ := hG
  have e33 := rel.gl 11133 (by omega) (by omega)
  have oh : ∀ x, x < 100000 → ¬ x = 11133 → outH h m x = h x := fun x a c => by unfold outH shDn; rw [if_neg (by omega), st_ne c]
  have og : ∀ x, (x < 1708 ∨ 6028 ≤ x) → ¬ x = 11133 → outG g m x = g x := fun x a c => by unfold outG; rw [if_neg c, if_neg (by omega)]
  have oh33 : outH h m 11133 = g 11133 - 1 := by unfold outH shDn; rw [if_neg (by omega), st_eq, e33]
  have og33 : outG g m 11133 = g 11133 - 1 := if_pos rfl
  refine ⟨fun n n0 n1 => (rel.nd n n0 n1).keep (fun x _ _ => oh x (by omega) (by omega)) (fun x _ _ => og x (by omega) (by omega)) (b1 n n0 n1), fun i a c w w0 w1 => ?_, fun x a c => by rw [oh x (by omega) (by omega), og x (by omega) (by omega)]; exact rel.ld x a c, fun q a c => ?_, fun x a c => by rw [oh x (by omega) (by omega), og x (by omega) (by omega)]; exact rel.ct x a c, fun x a c => ?_, fun i a c => ?_⟩
  · rw [og _ (by omega) (by omega)] at c
    rw [oh _ (by omega) (by omega), og _ (by omega) (by omega)]
    exact rel.hl i a c w w0 w1
  · rw [og _ (by omega) (by omega)] at c
    obtain ⟨z1, z2, z3⟩ := rel.rd q a c
    refine ⟨fun w w0 w1 => by rw [oh _ (by omega) (by omega), og _ (by omega) (by omega)]; exact z1 w w0 w1, fun x => ?_, fun x => ?_⟩
    · rw [og _ (by omega) (by omega)] at x
      rw [oh _ (by omega) (by omega), og _ (by omega) (by omega)]; exact z2 x
    · rw [og _ (by omega) (by omega)] at x
      rw [oh _ (by omega) (by omega)]; exact z3 x
  · by_cases d : x = 11133
    · rw [d, oh33, og33]
    · rw [oh x (by omega) d, og x (by omega) d]; exact rel.gl x a c
  · rw [og33] at c
    by_cases d : i < m
    · obtain ⟨u1, u2⟩ := rel.ml i a (by omega)
      have q1 : ∀ f, 0 ≤ f → f < 32 → smg (outH h m) i f = smg h i f := by
        intro f f0 f1
        show outH h m (100000 + 32 * i + f) = h (100000 + 32 * i + f)
        unfold outH shDn
        rw [if_neg (by omega), st_ne (by omega)]
      have q2 : ∀ w, 0 ≤ w → w < 27 → msg (outG g m) i w = msg g i w := by
        intro w w0 w1
        show outG g m (1708 + 27 * i + w) = g (1708 + 27 * i + w)
        unfold outG
        rw [if_neg (by omega), if_neg (by omega)]
      exact ⟨MR_ext u1 (fun f f0 f1 _ => q1 f f0 f1) (fun w w0 w1 _ => q2 w w0 w1), by rw [q1 4 (by omega) (by omega), q2 4 (by omega) (by omega)]; exact u2⟩
    · obtain ⟨u1, u2⟩ := rel.ml (i + 1) (by omega) (by omega)
      have q1 : ∀ f, 0 ≤ f → f < 32 → smg (outH h m) i f = smg h (i + 1) f := by
        intro f f0 f1
        show outH h m (100000 + 32 * i + f) = h (100000 + 32 * (i + 1) + f)
        unfold outH shDn
        rw [if_pos (by omega), st_ne (by omega)]
        congr 1
        omega
      have q2 : ∀ w, 0 ≤ w → w < 27 → msg (outG g m) i w = msg g (i + 1) w := by
        intro w w0 w1
        show outG g m (1708 + 27 * i + w) = g (1708 + 27 * (i + 1) + w)
        unfold outG
        rw [if_neg (by omega), if_pos (by omega)]
        congr 1
        omega
      exact ⟨MR_ext u1 (fun f f0 f1 _ => q1 f f0 f1) (fun w w0 w1 _ => q2 w w0 w1), by rw [q1 4 (by omega) (by omega), q2 4 (by omega) (by omega)]; exact u2⟩
theorem t_due_2 (hL : LyC B M) (rel : Rel h g) (hG : GlA g) (hd : ∀ i, 0 ≤ i → i < g 11133 → 0 ≤ msg g i 4 ∧ msg g i 4 ≤ 20000) : ∀ (j : Nat) (m : Int) (f : Nat), g 11133 - m = j → 0 ≤ m → j < f →
    sX3_takesDue_2 f (some B) (iI m) (tl B h C Hd Mo M) = match dueF g j m with
      | none => some (iI 0, tl B h C Hd Mo M)
      | some k => some (iI 1, tl B (outH h k) C (cpHd h Hd k 32) Mo M)
  | 0, m, f + 1, e1, e2, e3 => by
    obtain ⟨_, _, _, _, _, _, _, _, _, _, _, _⟩ := hG
    have e33 := rel.gl 11133 (by omega) (by omega)
    simp (disch := first | assumption | omega) only [sX3_takesDue_2, sX3_takesDue_2b, z10, z00, if_true, if_false, iv_add, iv_sub, iv_mul, iv_le, iv_lt, iv_eq, iv_mx, iv_mn, bI_z, bI_o, rZ0, rZ1, rZb, cl_some', lt_eq, rm_eq, dv_eq, iv_01, iv_10, the, lastA, lpA, st_eq, st_ne, sh_addM, cV_cl, cV_nd, cV_mo, cV_lt, gR_t0, aR_nd, gR_c0, gR_c1, gR_c2, gR_c3, gR_c4, gR_c5, gR_c6, gR_c15, gR_c16, gI_c7, pI_c7, gI_c8, pI_c8, gI_c9, pI_c9, gI_c10, pI_c10, gI_c11, pI_c11, gI_c12, pI_c12, gI_c13, pI_c13, gI_c14, pI_c14, gN_9, gN_10, gN_11, gN_12, gN_13, gN_14, gN_15, gN_16, gN_17, gN_18, gN_19, gN_20, gN_21, gN_22, gN_23, pN_9, pN_10, pN_11, pN_12, pN_13, pN_14, pN_15, pN_16, pN_17, pN_18, pN_19, pN_20, pN_21, pN_22, pZ_0, pZ_1, gR_n0, aI_n0, sI_n0, gR_n1, aI_n1, sI_n1, gR_n2, aI_n2, sI_n2, gR_n3, aI_n3, sI_n3, gR_n4, aI_n4, sI_n4, gR_n5, aI_n5, sI_n5, gR_n6, aI_n6, sI_n6, gR_n7, aI_n7, sI_n7, gR_n8, aI_n8, sI_n8, aR_s, aI_s, sI_s, aR_h, aI_h, sI_h, aR_r, aI_r, sI_r, aI_c, sI_c, aI_l, sI_l, aI_ca, aI_ha, sI_ca, sI_ha, gI_mo, pI_mo, e33]
    rw [if_pos (by omega)]
    rfl
  | j + 1, m, f + 1, e1, e2, e3 => by
    have hG' := hG
    obtain ⟨_, _, _, _, _, _, _, _, _, _, _, _⟩ := hG
    have e33 := rel.gl 11133 (by omega) (by omega)
    have e31 := rel.gl 11131 (by omega) (by omega)
    have ih := t_due_2 hL rel hG' hd j (m + 1) f (by omega) (by omega) (by omega)
    have dd : 0 ≤ g (1708 + 27 * m + 4) ∧ g (1708 + 27 * m + 4) ≤ 20000 := hd m e2 (by omega)
    have e4 : h (100000 + 32 * m + 4) = g (1708 + 27 * m + 4) := (rel.ml m e2 (by omega)).2
    unfold dueF
    show sX3_takesDue_2b (sX3_takesDue_2 f) _ _ _ = _
    generalize sX3_takesDue_2 f = K at ih ⊢
    have x1 := t_cpH (h := h) (Hd := Hd) (C := C) (Mo := Mo) hL (i := m) e2 (by omega) 32 0 FU (by omega) (by omega) (by unfold FU; omega)
    have s0 : cpHd h Hd m 0 = Hd := by
      funext x
      unfold cpHd
      rw [if_neg (by omega)]
    rw [s0] at x1
    have x2 := t_due_54 (h := st h 11133 (h 11133 - 1)) (C := C) (Hd := cpHd h Hd m 32) (Mo := Mo) hL (a := m) (e := h 11133 - 1) e2 (by omega) (by omega) (st_eq _ _ _) (h 11133 - 1 - m).toNat m FU (by omega) (by omega) (by unfold FU; omega)
    have s1 : shDn (st h 11133 (h 11133 - 1)) m m = st h 11133 (h 11133 - 1) := by
      funext x
      unfold shDn
      rw [if_neg (by omega)]
    rw [s1] at x2
    have cp : ∀ v0 v1 v2 σ, sX3_copies v0 v1 v2 σ = sX3_copies_2 FU v1 v2 (iI 0) σ := fun _ _ _ _ => rfl
    rw [e33] at x2
    simp (disch := first | assumption | omega) only [sX3_takesDue_2b, z10, z00, if_true, if_false, iv_add, iv_sub, iv_mul, iv_le, iv_lt, iv_eq, iv_mx, iv_mn, bI_z, bI_o, rZ0, rZ1, rZb, cl_some', lt_eq, rm_eq, dv_eq, iv_01, iv_10, the, lastA, lpA, st_eq, st_ne, sh_addM, cV_cl, cV_nd, cV_mo, cV_lt, gR_t0, aR_nd, gR_c0, gR_c1, gR_c2, gR_c3, gR_c4, gR_c5, gR_c6, gR_c15, gR_c16, gI_c7, pI_c7, gI_c8, pI_c8, gI_c9, pI_c9, gI_c10, pI_c10, gI_c11, pI_c11, gI_c12, pI_c12, gI_c13, pI_c13, gI_c14, pI_c14, gN_9, gN_10, gN_11, gN_12, gN_13, gN_14, gN_15, gN_16, gN_17, gN_18, gN_19, gN_20, gN_21, gN_22, gN_23, pN_9, pN_10, pN_11, pN_12, pN_13, pN_14, pN_15, pN_16, pN_17, pN_18, pN_19, pN_20, pN_21, pN_22, pZ_0, pZ_1, gR_n0, aI_n0, sI_n0, gR_n1, aI_n1, sI_n1, gR_n2, aI_n2, sI_n2, gR_n3, aI_n3, sI_n3, gR_n4, aI_n4, sI_n4, gR_n5, aI_n5, sI_n5, gR_n6, aI_n6, sI_n6, gR_n7, aI_n7, sI_n7, gR_n8, aI_n8, sI_n8, aR_s, aI_s, sI_s, aR_h, aI_h, sI_h, aR_r, aI_r, sI_r, aI_c, sI_c, aI_l, sI_l, aI_ca, aI_ha, sI_ca, sI_ha, gI_mo, pI_mo, cp, e33, e31, e4, x1, x2]
    rw [if_neg (by omega)]
    by_cases c : g (1708 + 27 * m + 4) ≤ g 11131
    · rw [if_pos c, if_pos c]
      unfold outH
      rw [e33]
    · rw [if_neg c, if_neg c]
      exact ih
theorem t_takesDue (hL : LyC B M) (rel : Rel h g) (I : InvS g hs FL R D) :
    sX3_takesDue (some B) (tl B h C Hd Mo M) = match dueA g with
      | none => some (iI 0, tl B h C Hd Mo M)
      | some k => some (iI 1, tl B (outH h k) C (cpHd h Hd k 32) Mo M) := by
  have hG := I.gl
  obtain ⟨_, _, _, _, _, _, _, _, _, _, _, _⟩ := hG
  exact t_due_2 hL rel I.gl (fun i a b => ⟨(I.ml i a b).2.1, (I.ml i a b).2.2.1⟩) _ 0 FU (by omega) (by omega) (by unfold FU; omega)
theorem t_tick_26 (hL : LyC B M) (hΛ : LawL M Λ) : ∀ (j : Nat) (h g : Row) (hs : His) (FL : Int → ELog) (R n : Int) (C Mo : Row) (fu : Nat), Rel h g → InvS g hs FL R D → 7 - n = j → 0 ≤ n → R + j ≤ 1000000 → j < fu →
    ∃ h' C' Mo', sX3_tickGoes_26 fu (some B) (iI n) (tl B h C Hd Mo M) = some ((), tl B h' C' Hd Mo' M) ∧ Rel h' (beatF Λ j g n)
  | 0, h, g, hs, FL, R, n, C, Mo, fu + 1, rel, I, e1, e2, e3, e4 => by
    refine ⟨h, C, Mo, ?_, rel⟩
    simp (disch := first | assumption | omega) only [sX3_tickGoes_26, sX3_tickGoes_26b, z10, z00, if_true, if_false, iv_add, iv_sub, iv_mul, iv_le, iv_lt, iv_eq, iv_mx, iv_mn, bI_z, bI_o, rZ0, rZ1, rZb, cl_some', lt_eq, rm_eq, dv_eq, iv_01, iv_10, the, lastA, lpA, st_eq, st_ne, sh_addM, cV_cl, cV_nd, cV_mo, cV_lt, gR_t0, aR_nd, gR_c0, gR_c1, gR_c2, gR_c3, gR_c4, gR_c5, gR_c6, gR_c15, gR_c16, gI_c7, pI_c7, gI_c8, pI_c8, gI_c9, pI_c9, gI_c10, pI_c10, gI_c11, pI_c11, gI_c12, pI_c12, gI_c13, pI_c13, gI_c14, pI_c14, gN_9, gN_10, gN_11, gN_12, gN_13, gN_14, gN_15, gN_16, gN_17, gN_18, gN_19, gN_20, gN_21, gN_22, gN_23, pN_9, pN_10, pN_11, pN_12, pN_13, pN_14, pN_15, pN_16, pN_17, pN_18, pN_19, pN_20, pN_21, pN_22, pZ_0, pZ_1, gR_n0, aI_n0, sI_n0, gR_n1, aI_n1, sI_n1, gR_n2, aI_n2, sI_n2, gR_n3, aI_n3, sI_n3, gR_n4, aI_n4, sI_n4, gR_n5, aI_n5, sI_n5, gR_n6, aI_n6, sI_n6, gR_n7, aI_n7, sI_n7, gR_n8, aI_n8, sI_n8, aR_s, aI_s, sI_s, aR_h, aI_h, sI_h, aR_r, aI_r, sI_r, aI_c, sI_c, aI_l, sI_l, aI_ca, aI_ha, sI_ca, sI_ha, gI_mo, pI_mo]
    rw [if_pos (by omega)]
  | j + 1, h, g, hs, FL, R, n, C, Mo, fu + 1, rel, I, e1, e2, e3, e4 => by
    obtain ⟨⟨s1, s2⟩, _⟩ := I.na n e2 (by omega)
    have w0 := (rel.nd n e2 (by omega)).s 0 (by omega) (by omega)
    unfold beatF
    simp only [the]
    show ∃ h' C' Mo', sX3_tickGoes_26b (sX3_tickGoes_26 fu) _ _ _ = _ ∧ _
    by_cases c : g (244 * n + 0) = 1
    · rw [if_pos c]
      obtain ⟨h1, C1, M1, x1, r1⟩ := t_beats (C := C) (Hd := Hd) (Mo := Mo) hL hΛ rel I e2 (by omega) c (by omega)
      obtain ⟨hs2, FL2, G2, I2⟩ := I.beat (Λ := Λ) e2 (by omega) c (by omega)
      obtain ⟨h2, C2, M2, x2, r2⟩ := t_tick_26 hL hΛ j h1 _ hs2 FL2 (R + 1) (n + 1) C1 M1 fu r1 I2 (by omega) (by omega) (by omega) (by omega)
      refine ⟨h2, C2, M2, ?_, r2⟩
      generalize sX3_tickGoes_26 fu = K at x2 ⊢
      simp (disch := first | assumption | omega) only [sX3_tickGoes_26b, sX3_tickGoes_49, z10, z00, if_true, if_false, iv_add, iv_sub, iv_mul, iv_le, iv_lt, iv_eq, iv_mx, iv_mn, bI_z, bI_o, rZ0, rZ1, rZb, cl_some', lt_eq, rm_eq, dv_eq, iv_01, iv_10, the, lastA, lpA, st_eq, st_ne, sh_addM, cV_cl, cV_nd, cV_mo, cV_lt, gR_t0, aR_nd, gR_c0, gR_c1, gR_c2, gR_c3, gR_c4, gR_c5, gR_c6, gR_c15, gR_c16, gI_c7, pI_c7, gI_c8, pI_c8, gI_c9, pI_c9, gI_c10, pI_c10, gI_c11, pI_c11, gI_c12, pI_c12, gI_c13, pI_c13, gI_c14, pI_c14, gN_9, gN_10, gN_11, gN_12, gN_13, gN_14, gN_15, gN_16, gN_17, gN_18, gN_19, gN_20, gN_21, gN_22, gN_23, pN_9, pN_10, pN_11, pN_12, pN_13, pN_14, pN_15, pN_16, pN_17, pN_18, pN_19, pN_20, pN_21, pN_22, pZ_0, pZ_1, gR_n0, aI_n0, sI_n0, gR_n1, aI_n1, sI_n1, gR_n2, aI_n2, sI_n2, gR_n3, aI_n3, sI_n3, gR_n4, aI_n4, sI_n4, gR_n5, aI_n5, sI_n5, gR_n6, aI_n6, sI_n6, gR_n7, aI_n7, sI_n7, gR_n8, aI_n8, sI_n8, aR_s, aI_s, sI_s, aR_h, aI_h, sI_h, aR_r, aI_r, sI_r, aI_c, sI_c, aI_l, sI_l, aI_ca, aI_ha, sI_ca, sI_ha, gI_mo, pI_mo, w0, x1]
      rw [if_neg (by omega), if_neg (by omega)]
      exact x2
    · rw [if_neg c]
      obtain ⟨h2, C2, M2, x2, r2⟩ := t_tick_26 hL hΛ j h g hs FL R (n + 1) C Mo fu rel I (by omega) (by omega) (by omega) (by omega)
      refine ⟨h2, C2, M2, ?_, r2⟩
      generalize sX3_tickGoes_26 fu = K at x2 ⊢
      simp (disch := first | assumption | omega) only [sX3_tickGoes_26b, sX3_tickGoes_49, z10, z00, if_true, if_false, iv_add, iv_sub, iv_mul, iv_le, iv_lt, iv_eq, iv_mx, iv_mn, bI_z, bI_o, rZ0, rZ1, rZb, cl_some', lt_eq, rm_eq, dv_eq, iv_01, iv_10, the, lastA, lpA, st_eq, st_ne, sh_addM, cV_cl, cV_nd, cV_mo, cV_lt, gR_t0, aR_nd, gR_c0, gR_c1, gR_c2, gR_c3, gR_c4, gR_c5, gR_c6, gR_c15, gR_c16, gI_c7, pI_c7, gI_c8, pI_c8, gI_c9, pI_c9, gI_c10, pI_c10, gI_c11, pI_c11, gI_c12, pI_c12, gI_c13, pI_c13, gI_c14, pI_c14, gN_9, gN_10, gN_11, gN_12, gN_13, gN_14, gN_15, gN_16, gN_17, gN_18, gN_19, gN_20, gN_21, gN_22, gN_23, pN_9, pN_10, pN_11, pN_12, pN_13, pN_14, pN_15, pN_16, pN_17, pN_18, pN_19, pN_20, pN_21, pN_22, pZ_0, pZ_1, gR_n0, aI_n0, sI_n0, gR_n1, aI_n1, sI_n1, gR_n2, aI_n2, sI_n2, gR_n3, aI_n3, sI_n3, gR_n4, aI_n4, sI_n4, gR_n5, aI_n5, sI_n5, gR_n6, aI_n6, sI_n6, gR_n7, aI_n7, sI_n7, gR_n8, aI_n8, sI_n8, aR_s, aI_s, sI_s, aR_h, aI_h, sI_h, aR_r, aI_r, sI_r, aI_c, sI_c, aI_l, sI_l, aI_ca, aI_ha, sI_ca, sI_ha, gI_mo, pI_mo, w0]
      rw [if_neg (by omega), if_pos (by omega)]
      exact x2
theorem t_tick_10 (hL : LyC B M) (hΛ : LawL M Λ) : ∀ (j : Nat) (h g : Row) (hs : His) (FL : Int → ELog) (D : DK) (C Hd Mo : Row) (f fu : Nat), Rel h g → InvS g hs FL R D → D.2.1 ≤ j → R + 7 ≤ 1000000 → j < fu → j < f →
    ∃ h' C' Hd' Mo', sX3_tickGoes_10 fu (some B) (tl B h C Hd Mo M) = some ((), tl B h' C' Hd' Mo' M) ∧ Rel h' (beatF Λ 7 (handF Λ f g) 0) := by
  intro j
  have fin : ∀ (h g : Row) (hs : His) (FL : Int → ELog) (D : DK) (C Hd Mo : Row) (K : Option Nat → Mem → Option (Unit × Mem)), Rel h g → InvS g hs FL R D → R + 7 ≤ 1000000 → dueA g = none →
      ∃ h' C' Hd' Mo', sX3_tickGoes_10b K (some B) (tl B h C Hd Mo M) = some ((), tl B h' C' Hd' Mo' M) ∧ Rel h' (beatF Λ 7 g 0) := by
    intro h g hs FL D C Hd Mo K rel I hR hd
    have x1 := t_takesDue (C := C) (Hd := Hd) (Mo := Mo) hL rel I
    rw [hd] at x1
    simp only [] at x1
    obtain ⟨h2, C2, M2, x2, r2⟩ := t_tick_26 (Hd := Hd) hL hΛ 7 h g hs FL R 0 C Mo FU rel I (by omega) (by omega) (by omega) (by unfold FU; omega)
    refine ⟨h2, C2, Hd, M2, ?_, r2⟩
    simp (disch := first | assumption | omega) only [sX3_tickGoes_10b, z10, z00, if_true, if_false, iv_add, iv_sub, iv_mul, iv_le, iv_lt, iv_eq, iv_mx, iv_mn, bI_z, bI_o, rZ0, rZ1, rZb, cl_some', lt_eq, rm_eq, dv_eq, iv_01, iv_10, the, lastA, lpA, st_eq, st_ne, sh_addM, cV_cl, cV_nd, cV_mo, cV_lt, gR_t0, aR_nd, gR_c0, gR_c1, gR_c2, gR_c3, gR_c4, gR_c5, gR_c6, gR_c15, gR_c16, gI_c7, pI_c7, gI_c8, pI_c8, gI_c9, pI_c9, gI_c10, pI_c10, gI_c11, pI_c11, gI_c12, pI_c12, gI_c13, pI_c13, gI_c14, pI_c14, gN_9, gN_10, gN_11, gN_12, gN_13, gN_14, gN_15, gN_16, gN_17, gN_18, gN_19, gN_20, gN_21, gN_22, gN_23, pN_9, pN_10, pN_11, pN_12, pN_13, pN_14, pN_15, pN_16, pN_17, pN_18, pN_19, pN_20, pN_21, pN_22, pZ_0, pZ_1, gR_n0, aI_n0, sI_n0, gR_n1, aI_n1, sI_n1, gR_n2, aI_n2, sI_n2, gR_n3, aI_n3, sI_n3, gR_n4, aI_n4, sI_n4, gR_n5, aI_n5, sI_n5, gR_n6, aI_n6, sI_n6, gR_n7, aI_n7, sI_n7, gR_n8, aI_n8, sI_n8, aR_s, aI_s, sI_s, aR_h, aI_h, sI_h, aR_r, aI_r, sI_r, aI_c, sI_c, aI_l, sI_l, aI_ca, aI_ha, sI_ca, sI_ha, gI_mo, pI_mo, x1]
    exact x2
  induction j with
  | zero =>
    intro h g hs FL D C Hd Mo f fu rel I hK hR hfu hf
    obtain ⟨fu, rfl⟩ : ∃ k, fu = k + 1 := ⟨fu - 1, by omega⟩
    obtain ⟨f, rfl⟩ : ∃ k, f = k + 1 := ⟨f - 1, by omega⟩
    have hd : dueA g = none := by
      cases hdd : dueA g with
      | none => rfl
      | some m =>
        exfalso
        have := I.due hdd
        omega
    have e : handF Λ (f + 1) g = g := by
      unfold handF
      rw [hd]
    rw [e]
    exact fin h g hs FL D C Hd Mo _ rel I hR hd
  | succ j ih =>
    intro h g hs FL D C Hd Mo f fu rel I hK hR hfu hf
    obtain ⟨fu, rfl⟩ : ∃ k, fu = k + 1 := ⟨fu - 1, by omega⟩
    obtain ⟨f, rfl⟩ : ∃ k, f = k + 1 := ⟨f - 1, by omega⟩
    cases hd : dueA g with
    | none =>
      have e : handF Λ (f + 1) g = g := by
        unfold handF
        rw [hd]
      rw [e]
      exact fin h g hs FL D C Hd Mo _ rel I hR hd
    | some m =>
      obtain ⟨q0, q1, q2⟩ := I.due hd
      have e : handF Λ (f + 1) g = handF Λ f (handG Λ (outG g m) (clip (fun w => g (1708 + 27 * m + w)))) := by
        show (match dueA g with
          | none => g
          | some m => handF Λ f (handG Λ (outG g m) (clip (fun w => g (1708 + 27 * m + w))))) = _
        rw [hd]
      rw [e]
      have x1 := t_takesDue (C := C) (Hd := Hd) (Mo := Mo) hL rel I
      rw [hd] at x1
      simp only [] at x1
      have I1 := I.out (m := m) q0 q1 q2
      have r1 := rel.out I.bd q0 q1
      have hM := clip_MI (I.ml m q0 q1).1
      have hm : MR (cpHd h Hd m 32) (clip (msg g m)) := MR_ext (rel.ml m q0 q1).1 (fun f f0 f1 _ => if_pos ⟨f0, f1⟩) (fun w w0 w1 _ => if_pos ⟨w0, w1⟩)
      have e34 : outG g m 11134 = g 11134 := by
        have hG := I.gl
        obtain ⟨_, _, _, _, _, _, _, _, _, _, _, _⟩ := hG
        unfold outG
        rw [if_neg (by omega), if_neg (by omega)]
      rw [← e34] at hM
      obtain ⟨h2, C2, M2, x2, r2⟩ := t_isHanded (C := C) (Mo := Mo) hL hΛ r1 I1 hm hM
      obtain ⟨hs2, FL2, G2, I2⟩ := I1.hand (Λ := Λ) hM
      obtain ⟨h3, C3, Hd3, M3, x3, r3⟩ := ih h2 _ hs2 FL2 _ C2 (cpHd h Hd m 32) M2 f fu r2 I2 (by show D.2.1 - 1 ≤ _; omega) hR (by omega) (by omega)
      refine ⟨h3, C3, Hd3, M3, ?_, r3⟩
      show sX3_tickGoes_10b (sX3_tickGoes_10 fu) _ _ = _
      generalize sX3_tickGoes_10 fu = K at x3 ⊢
      simp (disch := first | assumption | omega) only [sX3_tickGoes_10b, z10, z00, if_true, if_false, iv_add, iv_sub, iv_mul, iv_le, iv_lt, iv_eq, iv_mx, iv_mn, bI_z, bI_o, rZ0, rZ1, rZb, cl_some', lt_eq, rm_eq, dv_eq, iv_01, iv_10, the, lastA, lpA, st_eq, st_ne, sh_addM, cV_cl, cV_nd, cV_mo, cV_lt, gR_t0, aR_nd, gR_c0, gR_c1, gR_c2, gR_c3, gR_c4, gR_c5, gR_c6, gR_c15, gR_c16, gI_c7, pI_c7, gI_c8, pI_c8, gI_c9, pI_c9, gI_c10, pI_c10, gI_c11, pI_c11, gI_c12, pI_c12, gI_c13, pI_c13, gI_c14, pI_c14, gN_9, gN_10, gN_11, gN_12, gN_13, gN_14, gN_15, gN_16, gN_17, gN_18, gN_19, gN_20, gN_21, gN_22, gN_23, pN_9, pN_10, pN_11, pN_12, pN_13, pN_14, pN_15, pN_16, pN_17, pN_18, pN_19, pN_20, pN_21, pN_22, pZ_0, pZ_1, gR_n0, aI_n0, sI_n0, gR_n1, aI_n1, sI_n1, gR_n2, aI_n2, sI_n2, gR_n3, aI_n3, sI_n3, gR_n4, aI_n4, sI_n4, gR_n5, aI_n5, sI_n5, gR_n6, aI_n6, sI_n6, gR_n7, aI_n7, sI_n7, gR_n8, aI_n8, sI_n8, aR_s, aI_s, sI_s, aR_h, aI_h, sI_h, aR_r, aI_r, sI_r, aI_c, sI_c, aI_l, sI_l, aI_ca, aI_ha, sI_ca, sI_ha, gI_mo, pI_mo, x1, x2]
      exact x3
theorem Rel.clock (rel : Rel h g) (b : BdA g) {p v : Int} (hp : p = 11131 ∨ p = 11138 ∨ p = 11137 ∨ p = 11136 ∨ p = 11132) : Rel (st h p v) (st g p v) := by
  refine rel.plain b (fun x y z => ?_) (fun x y => st_ne (by omega)) (fun x y z => st_ne (by omega))
  by_cases d : x = p
  · rw [d, st_eq, st_eq]
    exact Or.inr ⟨rfl, fun m m0 m1 => by omega, by omega, by omega, by omega, by omega⟩
  · exact Or.inl ⟨st_ne d, st_ne d⟩
theorem t_tickGoes (hL : LyC B M) (hΛ : LawL M Λ) (rel : Rel h g) (I : InvS g hs FL R D) (h9 : g 11131 < 9999) (hR : R + 7 ≤ 1000000) :
    ∃ h' C' Hd' Mo', sX3_tickGoes (some B) (tl B h C Hd Mo M) = some ((), tl B h' C' Hd' Mo' M) ∧ Rel h' (tickG Λ g) := by
  have hG := I.gl
  obtain ⟨_, _, _, _, _, _, _, _, _, _, _, _⟩ := hG
  have e31 := rel.gl 11131 (by omega) (by omega)
  have r1 := rel.clock I.bd (p := 11131) (v := g 11131 + 1) (Or.inl rfl)
  obtain ⟨h2, C2, Hd2, M2, x1, r2⟩ := t_tick_10 hL hΛ (g 11133).toNat _ _ hs FL _ C Hd Mo ((st g 11131 (g 11131 + 1) 11133).toNat + 1) FU r1 (I.clock h9) (by show g 11133 ≤ _; omega) hR (by unfold FU; omega) (by rw [st_ne (by omega)]; omega)
  refine ⟨h2, C2, Hd2, M2, ?_, r2⟩
  simp (disch := first | assumption | omega) only [sX3_tickGoes, z10, z00, if_true, if_false, iv_add, iv_sub, iv_mul, iv_le, iv_lt, iv_eq, iv_mx, iv_mn, bI_z, bI_o, rZ0, rZ1, rZb, cl_some', lt_eq, rm_eq, dv_eq, iv_01, iv_10, the, lastA, lpA, st_eq, st_ne, sh_addM, cV_cl, cV_nd, cV_mo, cV_lt, gR_t0, aR_nd, gR_c0, gR_c1, gR_c2, gR_c3, gR_c4, gR_c5, gR_c6, gR_c15, gR_c16, gI_c7, pI_c7, gI_c8, pI_c8, gI_c9, pI_c9, gI_c10, pI_c10, gI_c11, pI_c11, gI_c12, pI_c12, gI_c13, pI_c13, gI_c14, pI_c14, gN_9, gN_10, gN_11, gN_12, gN_13, gN_14, gN_15, gN_16, gN_17, gN_18, gN_19, gN_20, gN_21, gN_22, gN_23, pN_9, pN_10, pN_11, pN_12, pN_13, pN_14, pN_15, pN_16, pN_17, pN_18, pN_19, pN_20, pN_21, pN_22, pZ_0, pZ_1, gR_n0, aI_n0, sI_n0, gR_n1, aI_n1, sI_n1, gR_n2, aI_n2, sI_n2, gR_n3, aI_n3, sI_n3, gR_n4, aI_n4, sI_n4, gR_n5, aI_n5, sI_n5, gR_n6, aI_n6, sI_n6, gR_n7, aI_n7, sI_n7, gR_n8, aI_n8, sI_n8, aR_s, aI_s, sI_s, aR_h, aI_h, sI_h, aR_r, aI_r, sI_r, aI_c, sI_c, aI_l, sI_l, aI_ca, aI_ha, sI_ca, sI_ha, gI_mo, pI_mo, e31]
  exact x1
theorem t_goes_7 (hL : LyC B M) (hΛ : LawL M Λ) {v : Int} (hv : v ≤ 1000) : ∀ (j : Nat) (h g : Row) (hs : His) (FL : Int → ELog) (R : Int) (D : DK) (k : Int) (C Hd Mo : Row) (fu : Nat), Rel h g → InvS g hs FL R D → v - k = j → 0 ≤ k → R + 7 * j ≤ 1000000 → j < fu →
    ∃ h' C' Hd' Mo', sX3_goes_7 fu (some B) (iI v) (iI k) (tl B h C Hd Mo M) = some (some B, tl B h' C' Hd' Mo' M) ∧ Rel h' (ticksF Λ j g)
  | 0, h, g, hs, FL, R, D, k, C, Hd, Mo, fu + 1, rel, I, e1, e2, e3, e4 => by
    refine ⟨h, C, Hd, Mo, ?_, rel⟩
    simp (disch := first | assumption | omega) only [sX3_goes_7, sX3_goes_7b, z10, z00, if_true, if_false, iv_add, iv_sub, iv_mul, iv_le, iv_lt, iv_eq, iv_mx, iv_mn, bI_z, bI_o, rZ0, rZ1, rZb, cl_some', lt_eq, rm_eq, dv_eq, iv_01, iv_10, the, lastA, lpA, st_eq, st_ne, sh_addM, cV_cl, cV_nd, cV_mo, cV_lt, gR_t0, aR_nd, gR_c0, gR_c1, gR_c2, gR_c3, gR_c4, gR_c5, gR_c6, gR_c15, gR_c16, gI_c7, pI_c7, gI_c8, pI_c8, gI_c9, pI_c9, gI_c10, pI_c10, gI_c11, pI_c11, gI_c12, pI_c12, gI_c13, pI_c13, gI_c14, pI_c14, gN_9, gN_10, gN_11, gN_12, gN_13, gN_14, gN_15, gN_16, gN_17, gN_18, gN_19, gN_20, gN_21, gN_22, gN_23, pN_9, pN_10, pN_11, pN_12, pN_13, pN_14, pN_15, pN_16, pN_17, pN_18, pN_19, pN_20, pN_21, pN_22, pZ_0, pZ_1, gR_n0, aI_n0, sI_n0, gR_n1, aI_n1, sI_n1, gR_n2, aI_n2, sI_n2, gR_n3, aI_n3, sI_n3, gR_n4, aI_n4, sI_n4, gR_n5, aI_n5, sI_n5, gR_n6, aI_n6, sI_n6, gR_n7, aI_n7, sI_n7, gR_n8, aI_n8, sI_n8, aR_s, aI_s, sI_s, aR_h, aI_h, sI_h, aR_r, aI_r, sI_r, aI_c, sI_c, aI_l, sI_l, aI_ca, aI_ha, sI_ca, sI_ha, gI_mo, pI_mo]
    rw [if_pos (by omega)]
  | j + 1, h, g, hs, FL, R, D, k, C, Hd, Mo, fu + 1, rel, I, e1, e2, e3, e4 => by
    have hG := I.gl
    obtain ⟨_, _, _, _, _, _, _, _, _, _, _, _⟩ := hG
    have e31 := rel.gl 11131 (by omega) (by omega)
    unfold ticksF
    show ∃ h' C' Hd' Mo', sX3_goes_7b (sX3_goes_7 fu) _ _ _ _ = _ ∧ _
    by_cases c : g 11131 < 9999
    · rw [if_pos c]
      obtain ⟨h1, C1, Hd1, M1, x1, r1⟩ := t_tickGoes (C := C) (Hd := Hd) (Mo := Mo) hL hΛ rel I c (by omega)
      obtain ⟨K, hs2, FL2, G2, I2⟩ := I.tick (Λ := Λ) c (by omega)
      obtain ⟨h3, C3, Hd3, M3, x3, r3⟩ := t_goes_7 hL hΛ hv j _ _ hs2 FL2 (R + 7) _ (k + 1) C1 Hd1 M1 fu r1 I2 (by omega) (by omega) (by omega) (by omega)
      refine ⟨h3, C3, Hd3, M3, ?_, r3⟩
      generalize sX3_goes_7 fu = K at x3 ⊢
      simp (disch := first | assumption | omega) only [sX3_goes_7b, z10, z00, if_true, if_false, iv_add, iv_sub, iv_mul, iv_le, iv_lt, iv_eq, iv_mx, iv_mn, bI_z, bI_o, rZ0, rZ1, rZb, cl_some', lt_eq, rm_eq, dv_eq, iv_01, iv_10, the, lastA, lpA, st_eq, st_ne, sh_addM, cV_cl, cV_nd, cV_mo, cV_lt, gR_t0, aR_nd, gR_c0, gR_c1, gR_c2, gR_c3, gR_c4, gR_c5, gR_c6, gR_c15, gR_c16, gI_c7, pI_c7, gI_c8, pI_c8, gI_c9, pI_c9, gI_c10, pI_c10, gI_c11, pI_c11, gI_c12, pI_c12, gI_c13, pI_c13, gI_c14, pI_c14, gN_9, gN_10, gN_11, gN_12, gN_13, gN_14, gN_15, gN_16, gN_17, gN_18, gN_19, gN_20, gN_21, gN_22, gN_23, pN_9, pN_10, pN_11, pN_12, pN_13, pN_14, pN_15, pN_16, pN_17, pN_18, pN_19, pN_20, pN_21, pN_22, pZ_0, pZ_1, gR_n0, aI_n0, sI_n0, gR_n1, aI_n1, sI_n1, gR_n2, aI_n2, sI_n2, gR_n3, aI_n3, sI_n3, gR_n4, aI_n4, sI_n4, gR_n5, aI_n5, sI_n5, gR_n6, aI_n6, sI_n6, gR_n7, aI_n7, sI_n7, gR_n8, aI_n8, sI_n8, aR_s, aI_s, sI_s, aR_h, aI_h, sI_h, aR_r, aI_r, sI_r, aI_c, sI_c, aI_l, sI_l, aI_ca, aI_ha, sI_ca, sI_ha, gI_mo, pI_mo, e31, x1]
      rw [if_neg (by omega), if_neg (by omega)]
      exact x3
    · rw [if_neg c]
      have ef : ∀ f : Nat, ticksF Λ f g = g := by
        intro f
        induction f with
        | zero => rfl
        | succ f ih =>
          unfold ticksF
          rw [if_neg c]
          exact ih
      rw [ef]
      refine ⟨h, C, Hd, Mo, ?_, rel⟩
      generalize sX3_goes_7 fu = K
      simp (disch := first | assumption | omega) only [sX3_goes_7b, z10, z00, if_true, if_false, iv_add, iv_sub, iv_mul, iv_le, iv_lt, iv_eq, iv_mx, iv_mn, bI_z, bI_o, rZ0, rZ1, rZb, cl_some', lt_eq, rm_eq, dv_eq, iv_01, iv_10, the, lastA, lpA, st_eq, st_ne, sh_addM, cV_cl, cV_nd, cV_mo, cV_lt, gR_t0, aR_nd, gR_c0, gR_c1, gR_c2, gR_c3, gR_c4, gR_c5, gR_c6, gR_c15, gR_c16, gI_c7, pI_c7, gI_c8, pI_c8, gI_c9, pI_c9, gI_c10, pI_c10, gI_c11, pI_c11, gI_c12, pI_c12, gI_c13, pI_c13, gI_c14, pI_c14, gN_9, gN_10, gN_11, gN_12, gN_13, gN_14, gN_15, gN_16, gN_17, gN_18, gN_19, gN_20, gN_21, gN_22, gN_23, pN_9, pN_10, pN_11, pN_12, pN_13, pN_14, pN_15, pN_16, pN_17, pN_18, pN_19, pN_20, pN_21, pN_22, pZ_0, pZ_1, gR_n0, aI_n0, sI_n0, gR_n1, aI_n1, sI_n1, gR_n2, aI_n2, sI_n2, gR_n3, aI_n3, sI_n3, gR_n4, aI_n4, sI_n4, gR_n5, aI_n5, sI_n5, gR_n6, aI_n6, sI_n6, gR_n7, aI_n7, sI_n7, gR_n8, aI_n8, sI_n8, aR_s, aI_s, sI_s, aR_h, aI_h, sI_h, aR_r, aI_r, sI_r, aI_c, sI_c, aI_l, sI_l, aI_ca, aI_ha, sI_ca, sI_ha, gI_mo, pI_mo, e31]
      rw [if_neg (by omega), if_pos (by omega)]
theorem t_goesTicks0 {hs' : His} (hL : LyC B M) (hs : mI M B 13 = 0) (hΛ : LawL M Λ) (r1 : Rel (st h 11138 0) (st g 11138 0)) (I : InvS g hs' FL R D) {v : Int} (v0 : 0 ≤ v) (hv : v ≤ 1000) (hR : R + 7 * v ≤ 1000000) :
    ∃ h' C' Hd' Mo', sX3_goes (some B) (iI v) (tl B h C Hd Mo M) = some (some B, tl B h' C' Hd' Mo' M) ∧ Rel h' (ticksG Λ g v.toNat) := by
  obtain ⟨h2, C2, Hd2, M2, x1, r2⟩ := t_goes_7 hL hΛ hv v.toNat _ _ hs' FL R _ 0 C Hd Mo FU r1 I.anew (by omega) (by omega) (by omega) (by unfold FU; omega)
  refine ⟨h2, C2, Hd2, M2, ?_, r2⟩
  simp (disch := first | assumption | omega) only [sX3_goes, z10, z00, if_true, if_false, iv_add, iv_sub, iv_mul, iv_le, iv_lt, iv_eq, iv_mx, iv_mn, bI_z, bI_o, rZ0, rZ1, rZb, cl_some', lt_eq, rm_eq, dv_eq, iv_01, iv_10, the, lastA, lpA, st_eq, st_ne, sh_addM, cV_cl, cV_nd, cV_mo, cV_lt, gR_t0, aR_nd, gR_c0, gR_c1, gR_c2, gR_c3, gR_c4, gR_c5, gR_c6, gR_c15, gR_c16, gI_c7, pI_c7, gI_c8, pI_c8, gI_c9, pI_c9, gI_c10, pI_c10, gI_c11, pI_c11, gI_c12, pI_c12, gI_c13, pI_c13, gI_c14, pI_c14, gN_9, gN_10, gN_11, gN_12, gN_13, gN_14, gN_15, gN_16, gN_17, gN_18, gN_19, gN_20, gN_21, gN_22, gN_23, pN_9, pN_10, pN_11, pN_12, pN_13, pN_14, pN_15, pN_16, pN_17, pN_18, pN_19, pN_20, pN_21, pN_22, pZ_0, pZ_1, gR_n0, aI_n0, sI_n0, gR_n1, aI_n1, sI_n1, gR_n2, aI_n2, sI_n2, gR_n3, aI_n3, sI_n3, gR_n4, aI_n4, sI_n4, gR_n5, aI_n5, sI_n5, gR_n6, aI_n6, sI_n6, gR_n7, aI_n7, sI_n7, gR_n8, aI_n8, sI_n8, aR_s, aI_s, sI_s, aR_h, aI_h, sI_h, aR_r, aI_r, sI_r, aI_c, sI_c, aI_l, sI_l, aI_ca, aI_ha, sI_ca, sI_ha, gI_mo, pI_mo, pI_c13z]
  exact x1
theorem t_goesTicks {hs' : His} (hL : LyC B M) (hs : mI M B 13 = 0) (hΛ : LawL M Λ) (rel : Rel h g) (I : InvS g hs' FL R D) {v : Int} (v0 : 0 ≤ v) (hv : v ≤ 1000) (hR : R + 7 * v ≤ 1000000) :
    ∃ h' C' Hd' Mo', sX3_goes (some B) (iI v) (tl B h C Hd Mo M) = some (some B, tl B h' C' Hd' Mo' M) ∧ Rel h' (ticksG Λ g v.toNat) :=
  t_goesTicks0 hL hs hΛ (rel.clock I.bd (p := 11138) (v := 0) (by omega)) I v0 hv hR
end
