/-! DEPS: yh -/
/-! YI: the twin reads conditions -/
/-- a piece is wanted; a piece has ended -/
noncomputable def cwQ (fu : Nat) (q : Row) (M : Mem) : Option (Int32 × Mem) := sX8_readsCondition_40 fu (some 3772) (pw q M)
noncomputable def dnQ (fu g : Nat) (q : Row) (M : Mem) : Option (Int32 × Mem) := sX8_readsCondition_92 (sX8_readsCondition_40 fu) g (some 3772) (pw q M)
noncomputable def enQ (ef fu g : Nat) (q : Row) (M : Mem) : Option (Int32 × Mem) := cl (sX8_endsPiece_0 ef (some 3772) (pw q M)) fun _ s => sX8_readsCondition_92 (sX8_readsCondition_40 fu) g (some 3772) s
def neG (q : Row) : Row := st (st (noteG q (1048576 * 10 + 0)) 13 (q 13 - 1)) 11 (q 11 - 1)
/-- a jump lands here -/
def landG (q : Row) (b : Int) : Row := st (st q (1000 + b) (1048576 * (q (1000 + b) / 1048576) + q 12)) 13 (q 13 - 1)
def jumpG (q : Row) (op : Int) : Row := st (noteG (pushG q (1048576 * op + q 12)) (1048576 * op + 0)) 7 (q 7 + 1)
section
variable {q : Row} {M : Mem}
theorem p_ends_go (hL : LPt M) (hq : PQ q) (h : topQ q = 10) {ef : Nat} : sX8_endsPiece_0 (ef + 1) (some 3772) (pw q M) = sX8_endsPiece_0 ef (some 3772) (pw (neG q) M) := by
  have c := hq.c
  have p := hq.p
  show sX8_endsPiece_0b (sX8_endsPiece_0 ef) _ _ = _
  generalize sX8_endsPiece_0 ef = K
  unfold sX8_endsPiece_0b neG
  have e13 : noteG q (1048576 * 10 + 0) 13 = q 13 := by unfold noteG; rw [st_ne (by omega), st_ne (by omega)]
  have e11 : noteG q (1048576 * 10 + 0) 11 = q 11 := by unfold noteG; rw [st_ne (by omega), st_ne (by omega)]
  rw [cV_p hL, p_waitTop hL hq, clq, if_pos (congrArg iI h), cV_p hL, p_notes hL c.1 (by omega), clq, gI_p13 hL, e13, iv_sub, pI_p13 hL, gI_p11 hL, st_ne (show ¬ (11 : Int) = 13 by omega), e11, iv_sub, pI_p11 hL]
theorem p_ends_no (hL : LPt M) (hq : PQ q) (h : topQ q ≠ 10) {ef : Nat} : sX8_endsPiece_0 (ef + 1) (some 3772) (pw q M) = some ((), pw q M) := by
  have r := topQ_r hq
  show sX8_endsPiece_0b (sX8_endsPiece_0 ef) _ _ = _
  generalize sX8_endsPiece_0 ef = K
  unfold sX8_endsPiece_0b
  rw [cV_p hL, p_waitTop hL hq, clq, if_neg (by rw [iv_eq (by omega) (by omega) (by omega) (by omega)]; exact h)]
theorem en_go (hL : LPt M) (hq : PQ q) (h : topQ q = 10) {ef fu g : Nat} : enQ (ef + 1) fu g q M = enQ ef fu g (neG q) M := by
  unfold enQ
  rw [p_ends_go hL hq h]
theorem en_no (hL : LPt M) (hq : PQ q) (h : topQ q ≠ 10) {ef fu g : Nat} : enQ (ef + 1) fu g q M = dnQ fu g q M := by
  unfold enQ dnQ
  rw [p_ends_no hL hq h, clq]
theorem p_land_22 (hL : LPt M) (hq : PQ q) (w1 : 1 ≤ q 13) {b op : Int} (hb : q (2000 + (q 13 - 1)) = 1048576 * op + b) (b0 : 0 ≤ b) (b1 : b < 260) (hc : 0 ≤ q (1000 + b)) (hc2 : q (1000 + b) ≤ 20000000) {K : Option Nat → Int32 → Mem → Option (Unit × Mem)} {x : Int32} : sX8_lands_22 K (some 3772) x (pw q M) = K (some 3772) x (pw (landG q b) M) := by
  have w := hq.w
  have p := hq.p
  have v := hq.v (q 13 - 1) (by omega) (by omega)
  unfold sX8_lands_22 landG
  have em : q (2000 + (q 13 - 1)) % 1048576 = b := by omega
  rw [gR_p17 hL, gI_p13 hL, iv_sub, aI_p3780 hL (by omega) (by omega), rm_eq _ v.1 (by omega) (by omega) (by omega), em, gR_p16 hL, gR_p16 hL, aI_p3779 hL b0 b1, dv_eq _ hc (by omega) (by omega) (by omega), gI_p12 hL, iv_mul, iv_add, sI_p3779 hL b0 b1, gI_p13 hL, st_ne (show ¬ (13 : Int) = 1000 + b by omega), iv_sub, pI_p13 hL]
theorem p_land_go (hL : LPt M) (hq : PQ q) (w1 : 1 ≤ q 13) {b all : Int} (ha : all = 0 ∨ all = 1) (h : topQ q = 11 ∨ (all = 1 ∧ topQ q = 12)) (hb : q (2000 + (q 13 - 1)) = 1048576 * topQ q + b) (b0 : 0 ≤ b) (b1 : b < 260) (hc : 0 ≤ q (1000 + b)) (hc2 : q (1000 + b) ≤ 20000000) {fu : Nat} : sX8_lands_0 (fu + 1) (some 3772) (iI all) (pw q M) = sX8_lands_0 fu (some 3772) (iI all) (pw (landG q b) M) := by
  have r := topQ_r hq
  show sX8_lands_0b (sX8_lands_0 fu) _ _ _ = _
  generalize sX8_lands_0 fu = K
  unfold sX8_lands_0b
  rw [cV_p hL, p_waitTop hL hq, clq]
  by_cases d : topQ q = 11
  · rw [if_pos (congrArg iI d), p_land_22 hL hq w1 hb b0 b1 hc hc2]
  · rw [if_neg (by rw [iv_eq (by omega) (by omega) (by omega) (by omega)]; exact d), if_neg (by rw [iv_eq (by omega) (by omega) (by omega) (by omega)]; omega), cV_p hL, p_waitTop hL hq, clq, if_pos (congrArg iI (show topQ q = 12 by omega)), p_land_22 hL hq w1 hb b0 b1 hc hc2]
theorem p_land_no (hL : LPt M) (hq : PQ q) {all : Int} (ha : all = 0 ∨ all = 1) (h : ¬ (topQ q = 11 ∨ (all = 1 ∧ topQ q = 12))) {fu : Nat} : sX8_lands_0 (fu + 1) (some 3772) (iI all) (pw q M) = some ((), pw q M) := by
  have r := topQ_r hq
  show sX8_lands_0b (sX8_lands_0 fu) _ _ _ = _
  generalize sX8_lands_0 fu = K
  unfold sX8_lands_0b
  rw [cV_p hL, p_waitTop hL hq, clq, if_neg (by rw [iv_eq (by omega) (by omega) (by omega) (by omega)]; exact fun x => h (Or.inl x))]
  by_cases d : all = 0
  · rw [if_pos (congrArg iI d)]
  · rw [if_neg (by rw [iv_eq (by omega) (by omega) (by omega) (by omega)]; exact d), cV_p hL, p_waitTop hL hq, clq, if_neg (by rw [iv_eq (by omega) (by omega) (by omega) (by omega)]; exact fun x => h (Or.inr ⟨by omega, x⟩))]
theorem p_jumps (hL : LPt M) (hq : PQ q) {op : Int} : sX8_jumps (some 3772) (iI op) (pw q M) = some ((), pw (jumpG q op) M) := by
  have c := hq.c
  have p := hq.p
  have w := hq.w
  unfold sX8_jumps jumpG
  have e12 : pushG q (1048576 * op + q 12) 12 = q 12 := by unfold pushG; rw [st_ne (by omega), st_ne (by omega)]
  have e7 : noteG (pushG q (1048576 * op + q 12)) (1048576 * op + 0) 7 = q 7 := by
    unfold noteG
    rw [e12, st_ne (by omega), st_ne (by omega)]
    unfold pushG
    rw [st_ne (by omega), st_ne (by omega)]
  have e13 : (st q (2000 + q 13) (1048576 * op + q 12)) 13 = q 13 := st_ne (by omega)
  rw [gR_p17 hL, gI_p13 hL, gI_p12 hL, iv_mul, iv_add, sI_p3780 hL (by omega) (by omega), gI_p13 hL, e13, iv_add, pI_p13 hL, cV_p hL]
  show cl (sX8_notes (some 3772) (iI op) (iI 0) (pw (pushG q (1048576 * op + q 12)) M)) _ = _
  rw [p_notes hL (by rw [e12]; omega) (by rw [e12]; omega), clq, gI_p7 hL, e7, iv_add, pI_p7 hL]
/-- pieces joined by and, the last join still waiting -/
def PendA (q : Row) (w c : Int) (x : CndV) : Prop := (q 13 = w ∧ RunS (cdQ q) c (q 12) (numV x)) ∨ ∃ b x1 x2, q 13 = w + 1 ∧ q (2000 + w) = 1048576 * 11 + b ∧ RunS (cdQ q) c b (numV x1) ∧ q (1000 + b) = 1048576 * 11 ∧ RunS (cdQ q) (b + 1) (q 12) (numV x2) ∧ x = andV x1 x2
/-- and by or -/
def PendO (q : Row) (w c : Int) (x : CndV) : Prop := PendA q w c x ∨ ∃ b x1 x2, q (2000 + w) = 1048576 * 12 + b ∧ RunS (cdQ q) c b (numV x1) ∧ q (1000 + b) = 1048576 * 12 ∧ PendA q (w + 1) (b + 1) x2 ∧ x = orV x1 x2
theorem PendA.hi {w c : Int} {x : CndV} (h : PendA q w c x) : w ≤ q 13 ∧ q 13 ≤ w + 1 ∧ c < q 12 := by
  rcases h with ⟨h1, h2⟩ | ⟨b, x1, x2, h1, h2, h3, h4, h5, h6⟩
  · have := h2.1; omega
  · have := h3.1; have := h5.1; omega
theorem PendO.hi {w c : Int} {x : CndV} (h : PendO q w c x) : w ≤ q 13 ∧ q 13 ≤ w + 2 ∧ c < q 12 := by
  rcases h with h | ⟨b, x1, x2, h1, h2, h3, h4, h5⟩
  · have := h.hi; omega
  · have := h4.hi; have := h2.1; omega
theorem top_at {w : Int} (h : q 13 = w + 1) (w0 : 0 ≤ w) : topQ q = q (2000 + w) / 1048576 := by
  unfold topQ
  rw [if_neg (by omega), show q 13 - 1 = w by omega]
/-- landing: the row after it -/
theorem land_run {w c b : Int} {x1 x2 : CndV} {isOr : Prop} [Decidable isOr] (hq : PQ q) (h13 : q 13 = w + 1) (w0 : 0 ≤ w) (c0 : 0 ≤ c) (hw : q (2000 + w) = 1048576 * (if isOr then 12 else 11) + b) (r1 : RunS (cdQ q) c b (numV x1)) (hb : q (1000 + b) = 1048576 * (if isOr then 12 else 11)) (r2 : RunS (cdQ q) (b + 1) (q 12) (numV x2)) :
    PQ (landG q b) ∧ landG q b 13 = w ∧ RunS (cdQ (landG q b)) c (q 12) (numV (if isOr then orV x1 x2 else andV x1 x2)) ∧ landG q b 12 = q 12 ∧ landG q b 7 = q 7 ∧ landG q b 11 = q 11 ∧ Kq c w q (landG q b) ∧ topQ q = (if isOr then 12 else 11) ∧ q (2000 + (q 13 - 1)) = 1048576 * topQ q + b ∧ 0 ≤ b ∧ b < 260 := by
  have l1 := r1.1
  have l2 := r2.1
  have p := hq.p
  have cc := hq.c
  have ww := hq.w
  have oo := hq.o
  have ne : ∀ x, ¬ x = 1000 + b → ¬ x = 13 → landG q b x = q x := fun x a d => by unfold landG; rw [st_ne d, st_ne a]
  have eb : landG q b (1000 + b) = 1048576 * (if isOr then 12 else 11) + q 12 := by
    unfold landG
    rw [st_ne (by omega), st_eq, hb]
    split <;> omega
  have e7 := ne 7 (by omega) (by omega)
  have e8 := ne 8 (by omega) (by omega)
  have e11 := ne 11 (by omega) (by omega)
  have e12 := ne 12 (by omega) (by omega)
  have e13 : landG q b 13 = w := by unfold landG; rw [st_eq]; omega
  have et := top_at h13 w0
  have et2 : topQ q = (if isOr then 12 else 11) := by rw [et, hw]; split <;> omega
  refine ⟨⟨by omega, by omega, by omega, by omega, fun i i0 i1 => ?_⟩, e13, ?_, e12, e7, e11, ⟨fun i i0 i1 => ne _ (by omega) (by omega), fun i i0 i1 => ne _ (by omega) (by omega), fun x h => ne _ (by omega) (by omega), e8, ne _ (by omega) (by omega), ne _ (by omega) (by omega)⟩, et2, ?_, by omega, by omega⟩
  · rw [ne _ (by omega) (by omega)]
    exact hq.v i i0 (by omega)
  · refine RunS.jmp (r1.ext (fun i i0 i1 => ne _ (by omega) (by omega))) (r2.ext (fun i i0 i1 => ne _ (by omega) (by omega))) ?_ (by omega) (by omega)
    show landG q b (1000 + b) = _
    rw [eb]
  · rw [show q 13 - 1 = w by omega, et2]
    exact hw
abbrev noJ (q : Row) (w lo : Int) : Prop := w = 0 ∨ ¬ (lo ≤ q (2000 + (w - 1)) / 1048576 ∧ q (2000 + (w - 1)) / 1048576 ≤ 12 ∧ 11 ≤ q (2000 + (w - 1)) / 1048576)
theorem Kq.noJ {c w lo : Int} {q q1 : Row} (k : Kq c w q q1) (b : noJ q w lo) (w0 : 0 ≤ w) : noJ q1 w lo := by
  rcases b with b | b
  · exact Or.inl b
  · by_cases z : w = 0
    · exact Or.inl z
    · refine Or.inr ?_
      rw [k.w (w - 1) (by omega) (by omega)]
      exact b
theorem p_landA (hL : LPt M) (hq : PQ q) {w c : Int} {x : CndV} (h : PendA q w c x) (w0 : 0 ≤ w) (c0 : 0 ≤ c) (b : w = 0 ∨ ¬ q (2000 + (w - 1)) / 1048576 = 11) :
    ∃ q', sX8_lands (some 3772) (iI 0) (pw q M) = some ((), pw q' M) ∧ PQ q' ∧ q' 13 = w ∧ RunS (cdQ q') c (q' 12) (numV x) ∧ q' 12 = q 12 ∧ q' 7 = q 7 ∧ q' 11 = q 11 ∧ Kq c w q q' := by
  obtain ⟨f, hf⟩ := FU6'
  have stop : ∀ (q1 : Row) (fu : Nat), PQ q1 → q1 13 = w → (w = 0 ∨ ¬ q1 (2000 + (w - 1)) / 1048576 = 11) → sX8_lands_0 (fu + 1) (some 3772) (iI 0) (pw q1 M) = some ((), pw q1 M) := by
    intro q1 fu hq1 e13 b1
    refine p_land_no hL hq1 (Or.inl rfl) (fun y => ?_)
    rcases y with y | y
    · unfold topQ at y
      by_cases z : q1 13 = 0
      · rw [if_pos z] at y; omega
      · rw [if_neg z, e13] at y
        rcases b1 with b1 | b1
        · omega
        · exact b1 y
    · omega
  unfold sX8_lands
  rw [hf]
  rcases h with ⟨h1, h2⟩ | ⟨b', x1, x2, h1, h2, h3, h4, h5, h6⟩
  · exact ⟨q, stop q (f + 4) hq h1 b, hq, h1, h2, rfl, rfl, rfl, Kq.rfl'⟩
  · obtain ⟨y1, y2, y3, y4, y5, y6, y7, y8, y9, y10, y11⟩ := land_run (isOr := False) hq h1 w0 c0 (by rw [if_neg id]; exact h2) h3 (by rw [if_neg id]; exact h4) h5
    rw [if_neg id] at y3 y8
    refine ⟨landG q b', ?_, y1, y2, by rw [y4, h6]; exact y3, y4, y5, y6, y7⟩
    rw [p_land_go hL hq (by omega) (Or.inl rfl) (Or.inl y8) y9 y10 y11 (by omega) (by omega)]
    refine stop _ (f + 3) y1 y2 ?_
    rcases b with b | b
    · exact Or.inl b
    · by_cases z : w = 0
      · exact Or.inl z
      · refine Or.inr ?_
        rw [y7.w (w - 1) (by omega) (by omega)]
        exact b
theorem p_landO (hL : LPt M) (hq : PQ q) {w c : Int} {x : CndV} (h : PendO q w c x) (w0 : 0 ≤ w) (c0 : 0 ≤ c) (b : w = 0 ∨ ¬ (q (2000 + (w - 1)) / 1048576 = 11 ∨ q (2000 + (w - 1)) / 1048576 = 12)) :
    ∃ q', sX8_lands (some 3772) (iI 1) (pw q M) = some ((), pw q' M) ∧ PQ q' ∧ q' 13 = w ∧ RunS (cdQ q') c (q' 12) (numV x) ∧ q' 12 = q 12 ∧ q' 7 = q 7 ∧ q' 11 = q 11 ∧ Kq c w q q' := by
  obtain ⟨f, hf⟩ := FU6'
  have stop : ∀ (q1 : Row) (fu : Nat), PQ q1 → q1 13 = w → (w = 0 ∨ ¬ (q1 (2000 + (w - 1)) / 1048576 = 11 ∨ q1 (2000 + (w - 1)) / 1048576 = 12)) → sX8_lands_0 (fu + 1) (some 3772) (iI 1) (pw q1 M) = some ((), pw q1 M) := by
    intro q1 fu hq1 e13 b1
    refine p_land_no hL hq1 (Or.inr rfl) (fun y => ?_)
    have : topQ q1 = 11 ∨ topQ q1 = 12 := by omega
    unfold topQ at this
    by_cases z : q1 13 = 0
    · rw [if_pos z] at this; omega
    · rw [if_neg z, e13] at this
      rcases b1 with b1 | b1
      · omega
      · exact b1 this
  have bk : ∀ {q1 : Row} {c1 : Int}, Kq c1 w q q1 → (w = 0 ∨ ¬ (q1 (2000 + (w - 1)) / 1048576 = 11 ∨ q1 (2000 + (w - 1)) / 1048576 = 12)) := by
    intro q1 c1 k
    rcases b with b | b
    · exact Or.inl b
    · by_cases z : w = 0
      · exact Or.inl z
      · refine Or.inr ?_
        rw [k.w (w - 1) (by omega) (by omega)]
        exact b
  unfold sX8_lands
  rw [hf]
  rcases h with (⟨h1, h2⟩ | ⟨b', x1, x2, h1, h2, h3, h4, h5, h6⟩) | ⟨b', x1, x2, g1, g2, g3, (⟨h1, h2⟩ | ⟨b2, x3, x4, h1, h2, h3, h4, h5, h6⟩), g5⟩
  · exact ⟨q, stop q (f + 4) hq h1 b, hq, h1, h2, rfl, rfl, rfl, Kq.rfl'⟩
  · obtain ⟨y1, y2, y3, y4, y5, y6, y7, y8, y9, y10, y11⟩ := land_run (isOr := False) hq h1 w0 c0 (by rw [if_neg id]; exact h2) h3 (by rw [if_neg id]; exact h4) h5
    rw [if_neg id] at y3 y8
    refine ⟨landG q b', ?_, y1, y2, by rw [y4, h6]; exact y3, y4, y5, y6, y7⟩
    rw [p_land_go hL hq (by omega) (Or.inr rfl) (Or.inl y8) y9 y10 y11 (by omega) (by omega)]
    exact stop _ (f + 3) y1 y2 (bk y7)
  · obtain ⟨y1, y2, y3, y4, y5, y6, y7, y8, y9, y10, y11⟩ := land_run (isOr := True) hq h1 w0 c0 (by rw [if_pos trivial]; exact g1) g2 (by rw [if_pos trivial]; exact g3) h2
    rw [if_pos trivial] at y3 y8
    refine ⟨landG q b', ?_, y1, y2, by rw [y4, g5]; exact y3, y4, y5, y6, y7⟩
    rw [p_land_go hL hq (by omega) (Or.inr rfl) (Or.inr ⟨rfl, y8⟩) y9 y10 y11 (by omega) (by omega)]
    exact stop _ (f + 3) y1 y2 (bk y7)
  · have lg := g2.1
    obtain ⟨y1, y2, y3, y4, y5, y6, y7, y8, y9, y10, y11⟩ := land_run (isOr := False) hq h1 (by omega) (by omega) (by rw [if_neg id]; exact h2) h3 (by rw [if_neg id]; exact h4) h5
    rw [if_neg id] at y3 y8
    have l3 := h3.1
    obtain ⟨z1, z2, z3, z4, z5, z6, z7, z8, z9, z10, z11⟩ := land_run (q := landG q b2) (w := w) (c := c) (b := b') (x1 := x1) (x2 := andV x3 x4) (isOr := True) y1 y2 w0 c0 (by rw [if_pos trivial, y7.w w w0 (by omega)]; exact g1) (y7.run g2 c0 (by omega)) (by rw [if_pos trivial, y7.c b' (by omega) (by omega)]; exact g3) (by rw [y4]; exact y3)
    rw [if_pos trivial] at z3 z8
    have kk : Kq c w q (landG (landG q b2) b') := (y7.le (by omega) (by omega)).thn z7
    refine ⟨landG (landG q b2) b', ?_, z1, z2, by rw [z4, g5, h6]; exact z3, by rw [z4, y4], by rw [z5, y5], by rw [z6, y6], kk⟩
    rw [p_land_go hL hq (by omega) (Or.inr rfl) (Or.inl y8) y9 y10 y11 (by omega) (by omega), p_land_go hL y1 (by omega) (Or.inr rfl) (Or.inr ⟨rfl, z8⟩) z9 z10 z11 (by rw [y7.c b' (by omega) (by omega)]; omega) (by rw [y7.c b' (by omega) (by omega)]; omega)]
    exact stop _ (f + 2) z1 z2 (bk kk)
end
