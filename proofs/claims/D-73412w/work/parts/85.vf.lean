/-! DEPS: ve -/
/-! VF: TermLog draws, sets timers, sends -/
theorem MR_ext {c c' m m' : Row} (r : MR c m) (e1 : ∀ f, 0 ≤ f → f < 32 → f ≠ 4 → c' f = c f) (e2 : ∀ w, 0 ≤ w → w < 27 → w ≠ 4 → m' w = m w) : MR c' m' := by
  obtain ⟨s, k0, k2, k3, k4, k5⟩ := r
  have a0 := e1 0 (by omega) (by omega) (by omega)
  have a1 := e1 1 (by omega) (by omega) (by omega)
  have a2 := e1 2 (by omega) (by omega) (by omega)
  have a3 := e1 3 (by omega) (by omega) (by omega)
  have a5 := e1 5 (by omega) (by omega) (by omega)
  have a6 := e1 6 (by omega) (by omega) (by omega)
  have a7 := e1 7 (by omega) (by omega) (by omega)
  have a8 := e1 8 (by omega) (by omega) (by omega)
  have a9 := e1 9 (by omega) (by omega) (by omega)
  have a10 := e1 10 (by omega) (by omega) (by omega)
  have a11 := e1 11 (by omega) (by omega) (by omega)
  have b0 := e2 0 (by omega) (by omega) (by omega)
  have b1 := e2 1 (by omega) (by omega) (by omega)
  have b2 := e2 2 (by omega) (by omega) (by omega)
  have b3 := e2 3 (by omega) (by omega) (by omega)
  have b5 := e2 5 (by omega) (by omega) (by omega)
  have b6 := e2 6 (by omega) (by omega) (by omega)
  have b7 := e2 7 (by omega) (by omega) (by omega)
  have b8 := e2 8 (by omega) (by omega) (by omega)
  have b9 := e2 9 (by omega) (by omega) (by omega)
  have b10 := e2 10 (by omega) (by omega) (by omega)
  refine ⟨by rw [a0, a1, a2, a3, a9, a5, b0, b1, b2, b3, b5, b6]; exact s, by rw [a6, b2, b7]; exact k0, ?_, by rw [a7, b2, b10]; exact k3, ?_, by rw [a6, b2, b10]; exact k5⟩
  · rw [a7, a8, b2, b8, b10, b5]
    intro c
    obtain ⟨u1, u2, u3⟩ := k2 c
    exact ⟨u1, u2, fun x x0 x9 x1 => by rw [e1 _ (by omega) (by omega) (by omega), e2 _ (by omega) (by omega) (by omega)]; exact u3 x x0 x9 x1⟩
  · rw [a10, a11, b2, b8, b9]
    intro c
    obtain ⟨u1, u2, u3⟩ := k4 c
    exact ⟨u1, u2, fun k k0 k1 => by rw [e1 _ (by omega) (by omega) (by omega), e2 _ (by omega) (by omega) (by omega)]; exact u3 k k0 k1⟩
/-- the bounds that a lifting needs -/
abbrev BdA (g : Row) : Prop := (∀ n, 0 ≤ n → n < 7 → g (244 * n + 8) ≤ 48) ∧ GlA g
theorem InvS.bd {g : Row} {hs : His} {FL : Int → ELog} {R : Int} {D : DK} (I : InvS g hs FL R D) : BdA g := ⟨fun n n0 n1 => by obtain ⟨⟨s1, s2⟩, _⟩ := I.na n n0 n1; omega, I.gl⟩
/-- places of no message, no condition change alike -/
theorem Rel.plain {h g h' g' : Row} (r : Rel h g) (b : BdA g) (P : ∀ x, x < 1708 ∨ 6028 ≤ x → x < 100000 → (h' x = h x ∧ g' x = g x) ∨ (h' x = g' x ∧ (∀ n, 0 ≤ n → n < 7 → x ≠ 244 * n + 8 ∧ x ≠ 244 * n + 0 ∧ x ≠ 244 * n + 3) ∧ (x < 11028 ∨ 11124 ≤ x) ∧ x ≠ 11133 ∧ x ≠ 11134 ∧ x ≠ 11135))
    (hm : ∀ x, 100000 ≤ x → h' x = h x) (hg : ∀ x, 1708 ≤ x → x < 6028 → g' x = g x) : Rel h' g' := by
  obtain ⟨b1, hG⟩ := b
  have key : ∀ x, (x < 1708 ∨ 6028 ≤ x) → x < 100000 → ¬ (∀ n, 0 ≤ n → n < 7 → x ≠ 244 * n + 8 ∧ x ≠ 244 * n + 0 ∧ x ≠ 244 * n + 3) ∨ (11028 ≤ x ∧ x < 11124) ∨ x = 11133 ∨ x = 11134 ∨ x = 11135 → h' x = h x ∧ g' x = g x := by
    intro x a c d
    rcases P x a c with q | ⟨q1, q2, q3, q4, q5, q6⟩
    · exact q
    · exfalso
      rcases d with d | d | d | d | d
      · exact d q2
      · omega
      · exact q4 d
      · exact q5 d
      · exact q6 d
  obtain ⟨_, _, _, _, _, _, _, _, _, _, _, _⟩ := hG
  refine r.upd (fun x a c => ?_) (fun n n0 n1 => ?_) b1 (key _ (by omega) (by omega) (by omega)).2 (by omega) (key _ (by omega) (by omega) (by omega)).2 (key _ (by omega) (by omega) (by omega)).2 (by omega) (by omega) (fun x a c => key x (by omega) (by omega) (by omega)) hm hg
  · rcases P x a c with q | q
    · exact Or.inl q
    · exact Or.inr q.1
  · have e8 := (key (244 * n + 8) (by omega) (by omega) (Or.inl (fun q => by have := q n n0 n1; omega))).2
    have e0 := (key (244 * n + 0) (by omega) (by omega) (Or.inl (fun q => by have := q n n0 n1; omega))).2
    have e3 := (key (244 * n + 3) (by omega) (by omega) (Or.inl (fun q => by have := q n n0 n1; omega))).2
    rw [e8, e0, e3]
    exact ⟨rfl, id, id⟩
section
variable {B : Nat} {h g C Hd Mo : Row} {M : Mem} {Λ : Law}
theorem Rel.draw (r : Rel h g) (b : BdA g) : Rel (drawG h) (drawG g) ∧ drawG h 11132 = drawG g 11132 := by
  have e : drawG h 11132 = drawG g 11132 := by
    unfold drawG
    rw [st_eq, st_eq, r.gl 11132 (by omega) (by omega)]
  refine ⟨r.plain b (fun x a c => ?_) (fun x a => st_ne (by omega)) (fun x a c => st_ne (by omega)), e⟩
  by_cases d : x = 11132
  · subst d
    exact Or.inr ⟨e, fun n n0 n1 => by omega, by omega, by omega, by omega, by omega⟩
  · exact Or.inl ⟨st_ne d, st_ne d⟩
theorem t_draw (hL : LyC B M) (h0 : 0 ≤ h 11132) (h1 : h 11132 < 65536) : sX3_draw (some B) (tl B h C Hd Mo M) = some (iI (drawG h 11132 % 10), tl B (drawG h) C Hd Mo M) := by
  have e : drawG h = st h 11132 ((25173 * h 11132 + 13849) % 65536) := rfl
  have e2 : drawG h 11132 = (25173 * h 11132 + 13849) % 65536 := st_eq _ _ _
  rw [e2]
  simp (disch := first | assumption | omega) only [sX3_draw, z10, z00, if_true, if_false, iv_add, iv_sub, iv_mul, iv_le, iv_lt, iv_eq, iv_mx, iv_mn, bI_z, bI_o, rZ0, rZ1, rZb, cl_some', lt_eq, rm_eq, dv_eq, iv_01, iv_10, the, lastA, lpA, st_eq, st_ne, sh_addM, cV_cl, cV_nd, cV_mo, cV_lt, gR_t0, aR_nd, gR_c0, gR_c1, gR_c2, gR_c3, gR_c4, gR_c5, gR_c6, gR_c15, gR_c16, gI_c7, pI_c7, gI_c8, pI_c8, gI_c9, pI_c9, gI_c10, pI_c10, gI_c11, pI_c11, gI_c12, pI_c12, gI_c13, pI_c13, gI_c14, pI_c14, gN_9, gN_10, gN_11, gN_12, gN_13, gN_14, gN_15, gN_16, gN_17, gN_18, gN_19, gN_20, gN_21, gN_22, gN_23, pN_9, pN_10, pN_11, pN_12, pN_13, pN_14, pN_15, pN_16, pN_17, pN_18, pN_19, pN_20, pN_21, pN_22, pZ_0, pZ_1, gR_n0, aI_n0, sI_n0, gR_n1, aI_n1, sI_n1, gR_n2, aI_n2, sI_n2, gR_n3, aI_n3, sI_n3, gR_n4, aI_n4, sI_n4, gR_n5, aI_n5, sI_n5, gR_n6, aI_n6, sI_n6, gR_n7, aI_n7, sI_n7, gR_n8, aI_n8, sI_n8, aR_s, aI_s, sI_s, aR_h, aI_h, sI_h, aR_r, aI_r, sI_r, aI_c, sI_c, aI_l, sI_l, aI_ca, aI_ha, sI_ca, sI_ha, gI_mo, pI_mo]
  rw [← e]
theorem t_of (hL : LyC B M) {a b c d : Int} (d0 : 0 ≤ d) (d1 : d ≤ 1000000) : sX2_of (some 1) (iI a) (iI b) (iI c) (iI d) (tl B h C Hd Mo M) = some (some 1, tl B h C Hd (st (st (st (st Mo 1 a) 2 b) 3 c) 4 (d % 100)) M) := by
  simp (disch := first | assumption | omega) only [sX2_of, z10, z00, if_true, if_false, iv_add, iv_sub, iv_mul, iv_le, iv_lt, iv_eq, iv_mx, iv_mn, bI_z, bI_o, rZ0, rZ1, rZb, cl_some', lt_eq, rm_eq, dv_eq, iv_01, iv_10, the, lastA, lpA, st_eq, st_ne, sh_addM, cV_cl, cV_nd, cV_mo, cV_lt, gR_t0, aR_nd, gR_c0, gR_c1, gR_c2, gR_c3, gR_c4, gR_c5, gR_c6, gR_c15, gR_c16, gI_c7, pI_c7, gI_c8, pI_c8, gI_c9, pI_c9, gI_c10, pI_c10, gI_c11, pI_c11, gI_c12, pI_c12, gI_c13, pI_c13, gI_c14, pI_c14, gN_9, gN_10, gN_11, gN_12, gN_13, gN_14, gN_15, gN_16, gN_17, gN_18, gN_19, gN_20, gN_21, gN_22, gN_23, pN_9, pN_10, pN_11, pN_12, pN_13, pN_14, pN_15, pN_16, pN_17, pN_18, pN_19, pN_20, pN_21, pN_22, pZ_0, pZ_1, gR_n0, aI_n0, sI_n0, gR_n1, aI_n1, sI_n1, gR_n2, aI_n2, sI_n2, gR_n3, aI_n3, sI_n3, gR_n4, aI_n4, sI_n4, gR_n5, aI_n5, sI_n5, gR_n6, aI_n6, sI_n6, gR_n7, aI_n7, sI_n7, gR_n8, aI_n8, sI_n8, aR_s, aI_s, sI_s, aR_h, aI_h, sI_h, aR_r, aI_r, sI_r, aI_c, sI_c, aI_l, sI_l, aI_ca, aI_ha, sI_ca, sI_ha, gI_mo, pI_mo]
  rfl
theorem t_on (hL : LyC B M) {a b c : Int} (d0 : 0 ≤ b) (d1 : b ≤ 1000000) : sX2_on (some 1) (iI a) (iI b) (iI c) (tl B h C Hd Mo M) = some (some 1, tl B h C Hd (st (st (st Mo 5 a) 6 (b % 100)) 7 c) M) := by
  simp (disch := first | assumption | omega) only [sX2_on, z10, z00, if_true, if_false, iv_add, iv_sub, iv_mul, iv_le, iv_lt, iv_eq, iv_mx, iv_mn, bI_z, bI_o, rZ0, rZ1, rZb, cl_some', lt_eq, rm_eq, dv_eq, iv_01, iv_10, the, lastA, lpA, st_eq, st_ne, sh_addM, cV_cl, cV_nd, cV_mo, cV_lt, gR_t0, aR_nd, gR_c0, gR_c1, gR_c2, gR_c3, gR_c4, gR_c5, gR_c6, gR_c15, gR_c16, gI_c7, pI_c7, gI_c8, pI_c8, gI_c9, pI_c9, gI_c10, pI_c10, gI_c11, pI_c11, gI_c12, pI_c12, gI_c13, pI_c13, gI_c14, pI_c14, gN_9, gN_10, gN_11, gN_12, gN_13, gN_14, gN_15, gN_16, gN_17, gN_18, gN_19, gN_20, gN_21, gN_22, gN_23, pN_9, pN_10, pN_11, pN_12, pN_13, pN_14, pN_15, pN_16, pN_17, pN_18, pN_19, pN_20, pN_21, pN_22, pZ_0, pZ_1, gR_n0, aI_n0, sI_n0, gR_n1, aI_n1, sI_n1, gR_n2, aI_n2, sI_n2, gR_n3, aI_n3, sI_n3, gR_n4, aI_n4, sI_n4, gR_n5, aI_n5, sI_n5, gR_n6, aI_n6, sI_n6, gR_n7, aI_n7, sI_n7, gR_n8, aI_n8, sI_n8, aR_s, aI_s, sI_s, aR_h, aI_h, sI_h, aR_r, aI_r, sI_r, aI_c, sI_c, aI_l, sI_l, aI_ca, aI_ha, sI_ca, sI_ha, gI_mo, pI_mo]
  rfl
/-- the moment holds the facts -/
theorem facts_mo {f t k T q s w : Int} (w0 : ∀ x, x = f ∨ True) : ∀ u, 0 ≤ u → u < 7 → (st (st (st (st (st (st (st Mo 1 f) 2 t) 3 k) 4 T) 5 q) 6 s) 7 w) (u + 1) = (if u = 0 then f else if u = 1 then t else if u = 2 then k else if u = 3 then T else if u = 4 then q else if u = 5 then s else w) := by
  intro u u0 u1
  unfold st
  rcases (show u = 0 ∨ u = 1 ∨ u = 2 ∨ u = 3 ∨ u = 4 ∨ u = 5 ∨ u = 6 by omega) with rfl | rfl | rfl | rfl | rfl | rfl | rfl <;> rfl
theorem tell_clamp {c no lo hi : Int} {F : Row} (h : lo ≤ hi) (h0 : -1000 ≤ lo) (h1 : hi ≤ 1000) (n0 : lo ≤ no) (n1 : no ≤ hi) : mxi (iI lo) (mni (iI hi) ((Λ c F).getD (iI no))) = iI (tellA Λ c lo hi no F) := by
  unfold tellA
  cases Λ c F with
  | none =>
    show mxi (iI lo) (mni (iI hi) (iI no)) = iI no
    rw [iv_mn (by omega) (by omega) (by omega) (by omega), iv_mx (by omega) (by omega) (by omega) (by omega)]
    congr 1
    omega
  | some v =>
    have r := iv_rg v
    have e : mxi (iI lo) (mni (iI hi) (iI v.toInt)) = iI (max lo (min hi v.toInt)) := by
      rw [iv_mn (by omega) (by omega) (by omega) (by omega), iv_mx (by omega) (by omega) (by omega) (by omega)]
    rw [iv_of] at e
    refine e.trans ?_
    congr 1
    show max lo (min hi v.toInt) = if v.toInt < lo then lo else if hi < v.toInt then hi else v.toInt
    split
    · omega
    · split <;> omega
theorem t_setsTimer (hL : LyC B M) (hΛ : LawL M Λ) (r : Rel h g) (b : BdA g) {n : Int} (n0 : 0 ≤ n) (n1 : n < 7) (t0 : 0 ≤ g (244 * n + 1)) (t1 : g (244 * n + 1) ≤ 999) :
    ∃ h' Mo', sX3_setsTimer (some B) (iI n) (tl B h C Hd Mo M) = some ((), tl B h' C Hd Mo' M) ∧ Rel h' (timerG Λ g n) := by
  obtain ⟨T, l1, l2, l3⟩ := hΛ
  have hG := b.2
  have d1 := r.draw b
  have gl := r.gl
  have e32 := gl 11132 (by omega) (by omega)
  have hd := drawGl hG
  obtain ⟨_, _, _, _, _, _, _, _, _, _, _, _⟩ := hG
  have et : drawG h (244 * n + 1) = g (244 * n + 1) := by
    unfold drawG
    rw [st_ne (by omega)]
    exact (r.nd n n0 n1).s 1 (by omega) (by omega)
  have e33 : drawG h 11133 = g 11133 := by unfold drawG; rw [st_ne (by omega)]; exact gl _ (by omega) (by omega)
  have e31 : drawG h 11131 = g 11131 := by unfold drawG; rw [st_ne (by omega)]; exact gl _ (by omega) (by omega)
  obtain ⟨w, hw⟩ : ∃ w, drawG g 11132 % 10 = w := ⟨_, rfl⟩
  have hww : 0 ≤ w ∧ w < 10 := by
    have := hd.2.2.1
    omega
  have y1 := t_draw (C := C) (Hd := Hd) (Mo := Mo) (h := h) hL (by omega) (by omega)
  rw [d1.2, hw] at y1
  have hF : ∀ u, 0 ≤ u → u < 7 → (st (st (st (st (st (st (st Mo 1 n) 2 n) 3 6) 4 (g (244 * n + 1) % 100)) 5 (g 11133)) 6 (g 11131 % 100)) 7 w) (u + 1) = factsA (drawG g) n n 6 u := by
    intro u u0 u1
    rw [facts_mo (fun _ => Or.inr trivial) u u0 u1]
    have q1 : drawG g (244 * n + 1) = g (244 * n + 1) := st_ne (by omega)
    have q2 : drawG g 11133 = g 11133 := st_ne (by omega)
    have q3 : drawG g 11131 = g 11131 := st_ne (by omega)
    unfold factsA
    simp only [the]
    rw [q1, q2, q3, hw]
  obtain ⟨Mo2, z1, z2⟩ := (l3 B (drawG h) C Hd _ (factsA (drawG g) n n 6) hL hF).1 101 8 (by omega) (by omega)
  have z3 := tell_clamp (Λ := Λ) (c := 101) (F := factsA (drawG g) n n 6) (no := 8) (lo := 4) (hi := 40) (by omega) (by omega) (by omega) (by omega) (by omega)
  have r1 := tellR Λ (c := 101) (lo := 4) (hi := 40) (wo := 8) (F := factsA (drawG g) n n 6) (by omega) (by omega) (by omega)
  have gR5 : ∀ {β : Type} {hh : Row} {mm : Row} (f : Option Nat → Option β), gR (tl B hh C Hd mm M) (some 0) 0 5 f = f (some T) := fun f => (if_pos hL.k0.1).trans (congrArg f l1)
  have cVT : ∀ {β : Type} {hh : Row} {mm : Row} (f : Option β), cV (tl B hh C Hd mm M) (some T) 4 f = f := fun f => if_pos l2
  refine ⟨st (drawG h) (244 * n + 10) (tellA Λ 101 4 40 8 (factsA (drawG g) n n 6) + w), Mo2, ?_, ?_⟩
  · simp (disch := first | assumption | omega) only [sX3_setsTimer, t_of, t_on, z10, z00, if_true, if_false, iv_add, iv_sub, iv_mul, iv_le, iv_lt, iv_eq, iv_mx, iv_mn, bI_z, bI_o, rZ0, rZ1, rZb, cl_some', lt_eq, rm_eq, dv_eq, iv_01, iv_10, the, lastA, lpA, st_eq, st_ne, sh_addM, cV_cl, cV_nd, cV_mo, cV_lt, gR_t0, aR_nd, gR_c0, gR_c1, gR_c2, gR_c3, gR_c4, gR_c5, gR_c6, gR_c15, gR_c16, gI_c7, pI_c7, gI_c8, pI_c8, gI_c9, pI_c9, gI_c10, pI_c10, gI_c11, pI_c11, gI_c12, pI_c12, gI_c13, pI_c13, gI_c14, pI_c14, gN_9, gN_10, gN_11, gN_12, gN_13, gN_14, gN_15, gN_16, gN_17, gN_18, gN_19, gN_20, gN_21, gN_22, gN_23, pN_9, pN_10, pN_11, pN_12, pN_13, pN_14, pN_15, pN_16, pN_17, pN_18, pN_19, pN_20, pN_21, pN_22, pZ_0, pZ_1, gR_n0, aI_n0, sI_n0, gR_n1, aI_n1, sI_n1, gR_n2, aI_n2, sI_n2, gR_n3, aI_n3, sI_n3, gR_n4, aI_n4, sI_n4, gR_n5, aI_n5, sI_n5, gR_n6, aI_n6, sI_n6, gR_n7, aI_n7, sI_n7, gR_n8, aI_n8, sI_n8, aR_s, aI_s, sI_s, aR_h, aI_h, sI_h, aR_r, aI_r, sI_r, aI_c, sI_c, aI_l, sI_l, aI_ca, aI_ha, sI_ca, sI_ha, gI_mo, pI_mo, y1, et, e33, e31, gR5, cVT, z2]
    rw [z3]
    simp (disch := first | assumption | omega) only [z10, z00, if_true, if_false, iv_add, iv_sub, iv_mul, iv_le, iv_lt, iv_eq, iv_mx, iv_mn, bI_z, bI_o, rZ0, rZ1, rZb, cl_some', lt_eq, rm_eq, dv_eq, iv_01, iv_10, the, lastA, lpA, st_eq, st_ne, sh_addM, cV_cl, cV_nd, cV_mo, cV_lt, gR_t0, aR_nd, gR_c0, gR_c1, gR_c2, gR_c3, gR_c4, gR_c5, gR_c6, gR_c15, gR_c16, gI_c7, pI_c7, gI_c8, pI_c8, gI_c9, pI_c9, gI_c10, pI_c10, gI_c11, pI_c11, gI_c12, pI_c12, gI_c13, pI_c13, gI_c14, pI_c14, gN_9, gN_10, gN_11, gN_12, gN_13, gN_14, gN_15, gN_16, gN_17, gN_18, gN_19, gN_20, gN_21, gN_22, gN_23, pN_9, pN_10, pN_11, pN_12, pN_13, pN_14, pN_15, pN_16, pN_17, pN_18, pN_19, pN_20, pN_21, pN_22, pZ_0, pZ_1, gR_n0, aI_n0, sI_n0, gR_n1, aI_n1, sI_n1, gR_n2, aI_n2, sI_n2, gR_n3, aI_n3, sI_n3, gR_n4, aI_n4, sI_n4, gR_n5, aI_n5, sI_n5, gR_n6, aI_n6, sI_n6, gR_n7, aI_n7, sI_n7, gR_n8, aI_n8, sI_n8, aR_s, aI_s, sI_s, aR_h, aI_h, sI_h, aR_r, aI_r, sI_r, aI_c, sI_c, aI_l, sI_l, aI_ca, aI_ha, sI_ca, sI_ha, gI_mo, pI_mo]
  · unfold timerG
    rw [hw]
    have bd : BdA (drawG g) := ⟨fun m m0 m1 => by unfold drawG; rw [st_ne (by omega)]; exact b.1 m m0 m1, hd⟩
    refine d1.1.plain bd (fun x a c => ?_) (fun x a => st_ne (by omega)) (fun x a c => st_ne (by omega))
    by_cases q : x = 244 * n + 10
    · rw [q, st_eq, st_eq]
      exact Or.inr ⟨rfl, fun m m0 m1 => by omega, by omega, by omega, by omega, by omega⟩
    · exact Or.inl ⟨st_ne q, st_ne q⟩
theorem t_isLost (hL : LyC B M) (h0 : 0 ≤ h 11137) (h1 : h 11137 ≤ 99999) : sX3_isLost (some B) (tl B h C Hd Mo M) = some ((), tl B (loseG h) C Hd Mo M) := by
  unfold loseG
  simp (disch := first | assumption | omega) only [sX3_isLost, z10, z00, if_true, if_false, iv_add, iv_sub, iv_mul, iv_le, iv_lt, iv_eq, iv_mx, iv_mn, bI_z, bI_o, rZ0, rZ1, rZb, cl_some', lt_eq, rm_eq, dv_eq, iv_01, iv_10, the, lastA, lpA, st_eq, st_ne, sh_addM, cV_cl, cV_nd, cV_mo, cV_lt, gR_t0, aR_nd, gR_c0, gR_c1, gR_c2, gR_c3, gR_c4, gR_c5, gR_c6, gR_c15, gR_c16, gI_c7, pI_c7, gI_c8, pI_c8, gI_c9, pI_c9, gI_c10, pI_c10, gI_c11, pI_c11, gI_c12, pI_c12, gI_c13, pI_c13, gI_c14, pI_c14, gN_9, gN_10, gN_11, gN_12, gN_13, gN_14, gN_15, gN_16, gN_17, gN_18, gN_19, gN_20, gN_21, gN_22, gN_23, pN_9, pN_10, pN_11, pN_12, pN_13, pN_14, pN_15, pN_16, pN_17, pN_18, pN_19, pN_20, pN_21, pN_22, pZ_0, pZ_1, gR_n0, aI_n0, sI_n0, gR_n1, aI_n1, sI_n1, gR_n2, aI_n2, sI_n2, gR_n3, aI_n3, sI_n3, gR_n4, aI_n4, sI_n4, gR_n5, aI_n5, sI_n5, gR_n6, aI_n6, sI_n6, gR_n7, aI_n7, sI_n7, gR_n8, aI_n8, sI_n8, aR_s, aI_s, sI_s, aR_h, aI_h, sI_h, aR_r, aI_r, sI_r, aI_c, sI_c, aI_l, sI_l, aI_ca, aI_ha, sI_ca, sI_ha, gI_mo, pI_mo]
theorem Rel.lose (r : Rel h g) (b : BdA g) : Rel (loseG h) (loseG g) := by
  refine r.plain b (fun x a c => ?_) (fun x a => st_ne (by omega)) (fun x a c => st_ne (by omega))
  by_cases d : x = 11137
  · subst d
    refine Or.inr ⟨?_, fun n n0 n1 => by omega, by omega, by omega, by omega, by omega⟩
    unfold loseG
    rw [st_eq, st_eq, r.gl 11137 (by omega) (by omega)]
  · exact Or.inl ⟨st_ne d, st_ne d⟩
/-- carried goes into the row of the sent -/
def cpC (h C : Row) (i k : Int) : Row := fun x => if 100000 + 32 * i ≤ x ∧ x < 100000 + 32 * i + k then C (x - (100000 + 32 * i)) else h x
theorem t_copC (hL : LyC B M) {i : Int} (i0 : 0 ≤ i) (i1 : i < 160) : ∀ (j : Nat) (k : Int) (f : Nat), 32 - k = j → 0 ≤ k → j < f →
    sX3_copies_2 f (some (B + 1183)) (some (B + 3 + i.toNat)) (iI k) (tl B (cpC h C i k) C Hd Mo M) = some ((), tl B (cpC h C i 32) C Hd Mo M)
  | 0, k, f + 1, e1, e2, e3 => by
    have e : k = 32 := by omega
    subst e
    show (if (mK M (B + 1183)).1 = 20 then (if Int32.ofNat (mK M (B + 1183)).2 ≤ iI 32 then some ((), tl B (cpC h C i 32) C Hd Mo M) else _) else none) = _
    rw [hL.kc.2.2.1, if_pos rfl]
    exact if_pos (by decide)
  | j + 1, k, f + 1, e1, e2, e3 => by
    have ih := t_copC hL i0 i1 j (k + 1) f (by omega) (by omega) (by omega)
    have s : st (cpC h C i k) (100000 + 32 * i + k) (C k) = cpC h C i (k + 1) := by
      funext x
      unfold st cpC
      by_cases c1 : x = 100000 + 32 * i + k
      · rw [if_pos c1, if_pos (by omega), c1]
        congr 1
        omega
      · rw [if_neg c1]
        by_cases c2 : 100000 + 32 * i ≤ x ∧ x < 100000 + 32 * i + k
        · rw [if_pos c2, if_pos (by omega)]
        · rw [if_neg c2, if_neg (by omega)]
    show sX3_copies_2b (sX3_copies_2 f) _ _ _ _ = _
    generalize sX3_copies_2 f = K at ih ⊢
    have a1 : ∀ {f : Int32 → Option (Unit × Mem)}, aL (tl B (cpC h C i k) C Hd Mo M) (some (B + 1183)) 20 f = f (iI 32) := by
      intro f
      show (if (mK M (B + 1183)).1 = 20 then f (Int32.ofNat (mK M (B + 1183)).2) else none) = _
      rw [hL.kc.2.2.1, if_pos rfl]
      rfl
    simp (disch := first | assumption | omega) only [sX3_copies_2b, z10, z00, if_true, if_false, iv_add, iv_sub, iv_mul, iv_le, iv_lt, iv_eq, iv_mx, iv_mn, bI_z, bI_o, rZ0, rZ1, rZb, cl_some', lt_eq, rm_eq, dv_eq, iv_01, iv_10, the, lastA, lpA, st_eq, st_ne, sh_addM, cV_cl, cV_nd, cV_mo, cV_lt, gR_t0, aR_nd, gR_c0, gR_c1, gR_c2, gR_c3, gR_c4, gR_c5, gR_c6, gR_c15, gR_c16, gI_c7, pI_c7, gI_c8, pI_c8, gI_c9, pI_c9, gI_c10, pI_c10, gI_c11, pI_c11, gI_c12, pI_c12, gI_c13, pI_c13, gI_c14, pI_c14, gN_9, gN_10, gN_11, gN_12, gN_13, gN_14, gN_15, gN_16, gN_17, gN_18, gN_19, gN_20, gN_21, gN_22, gN_23, pN_9, pN_10, pN_11, pN_12, pN_13, pN_14, pN_15, pN_16, pN_17, pN_18, pN_19, pN_20, pN_21, pN_22, pZ_0, pZ_1, gR_n0, aI_n0, sI_n0, gR_n1, aI_n1, sI_n1, gR_n2, aI_n2, sI_n2, gR_n3, aI_n3, sI_n3, gR_n4, aI_n4, sI_n4, gR_n5, aI_n5, sI_n5, gR_n6, aI_n6, sI_n6, gR_n7, aI_n7, sI_n7, gR_n8, aI_n8, sI_n8, aR_s, aI_s, sI_s, aR_h, aI_h, sI_h, aR_r, aI_r, sI_r, aI_c, sI_c, aI_l, sI_l, aI_ca, aI_ha, sI_ca, sI_ha, gI_mo, pI_mo, a1]
    rw [if_neg (by omega), s]
    exact ih
end
