/-! DEPS: yk -/
/-! YL: the twin reads whole conditions -/
section
variable {M : Mem}
def shutG (q : Row) : Row := st (st (st q 13 (q 13 - 1)) 11 (q 11 - 1)) 7 (q 7 + 1)
theorem shut_f {q q3 : Row} (hq : PQ q) (hn : q 7 < q 8) (w1 : 1 ≤ q 13) (o1 : 1 ≤ q 11) (h : shutG q = q3) : PQ q3 ∧ q3 7 = q 7 + 1 ∧ q3 8 = q 8 ∧ q3 11 = q 11 - 1 ∧ q3 12 = q 12 ∧ q3 13 = q 13 - 1 ∧ Kq (q 12) (q 13) q q3 := by
  have p := hq.p
  have c := hq.c
  have ww := hq.w
  have o := hq.o
  have ne : ∀ x, ¬ x = 13 → ¬ x = 7 → ¬ x = 11 → q3 x = q x := fun x a b d => by rw [← h]; unfold shutG; rw [st_ne b, st_ne d, st_ne a]
  have b7 : q3 7 = q 7 + 1 := by rw [← h]; exact st_eq _ _ _
  have b11 : q3 11 = q 11 - 1 := by rw [← h]; unfold shutG; rw [st_ne (by omega), st_eq]
  have b13 : q3 13 = q 13 - 1 := by rw [← h]; unfold shutG; rw [st_ne (by omega), st_ne (by omega), st_eq]
  have b8 := ne 8 (by omega) (by omega) (by omega)
  have b12 := ne 12 (by omega) (by omega) (by omega)
  exact ⟨⟨by omega, by omega, by omega, by omega, fun i i0 i1 => by rw [ne _ (by omega) (by omega) (by omega)]; exact hq.v i i0 (by omega)⟩, b7, b8, b11, b12, b13, ⟨fun i i0 i1 => ne _ (by omega) (by omega) (by omega), fun i i0 i1 => ne _ (by omega) (by omega) (by omega), fun x h => ne _ (by omega) (by omega) (by omega), b8, ne _ (by omega) (by omega) (by omega), ne _ (by omega) (by omega) (by omega)⟩⟩
theorem dn_close (hL : LPt M) {q q2 : Row} {fu g : Nat} (hq : PQ q) (hc : hrA (tpA M) (q 8) (q 7) = 41) (hl : sX8_lands (some 3772) (iI 1) (pw q M) = some ((), pw q2 M)) (hq2 : PQ q2) (w1 : 1 ≤ q2 13) : dnQ fu (g + 1) q M = if shutG q2 13 = 0 then some (iI 1, pw (shutG q2) M) else enQ FU fu g (shutG q2) M := by
  have xh := p_hereQ (q := q) hL hq
  rw [hc] at xh
  have w2 := hq2.w
  have p2 := hq2.p
  have e13 : shutG q2 13 = q2 13 - 1 := by unfold shutG; rw [st_ne (by omega), st_ne (by omega), st_eq]
  unfold dnQ enQ
  show sX8_readsCondition_92b (sX8_readsCondition_40 fu) (sX8_readsCondition_92 (sX8_readsCondition_40 fu) g) _ _ = _
  generalize sX8_readsCondition_92 (sX8_readsCondition_40 fu) g = K2
  generalize sX8_readsCondition_40 fu = K
  unfold sX8_readsCondition_92b
  have es : st (st (st q2 13 (q2 13 - 1)) 11 (q2 11 - 1)) 7 (q2 7 + 1) = shutG q2 := rfl
  rw [cV_p hL, xh, clq, if_pos rfl, cV_p hL, hl, clq, gI_p13 hL, iv_sub, pI_p13 hL, gI_p11 hL, st_ne (show ¬ (11 : Int) = 13 by omega), iv_sub, pI_p11 hL, gI_p7 hL, st_ne (show ¬ (7 : Int) = 11 by omega), st_ne (show ¬ (7 : Int) = 13 by omega), iv_add, pI_p7 hL, es, gI_p13 hL]
  by_cases c : shutG q2 13 = 0
  · rw [if_pos (congrArg iI c), if_pos c, rZ1]
  · rw [if_neg (by rw [iv_eq (by omega) (by omega) (by omega) (by omega)]; exact c), if_neg c, cV_p hL]
    rfl
theorem dn_wrong (hL : LPt M) {q : Row} {fu g : Nat} (hq : PQ q) (c1 : hrA (tpA M) (q 8) (q 7) ≠ 41) (c2 : hrA (tpA M) (q 8) (q 7) ≠ 38) (c3 : hrA (tpA M) (q 8) (q 7) ≠ 124) : dnQ fu (g + 1) q M = some (iI 0, pw (st q 9 (-1000 * 1 - q 7)) M) := by
  have xh := p_hereQ (q := q) hL hq
  have r := hrA_r (M := M) (n := q 8) (p := q 7)
  have ne : ∀ a : Int, 0 ≤ a → a ≤ 200 → ¬ hrA (tpA M) (q 8) (q 7) = a → ¬ iI (hrA (tpA M) (q 8) (q 7)) = iI a := fun a a0 a1 x => by rw [iv_eq (by omega) (by omega) (by omega) (by omega)]; exact x
  unfold dnQ
  show sX8_readsCondition_92b (sX8_readsCondition_40 fu) (sX8_readsCondition_92 (sX8_readsCondition_40 fu) g) _ _ = _
  generalize sX8_readsCondition_92 (sX8_readsCondition_40 fu) g = K2
  generalize sX8_readsCondition_40 fu = K
  unfold sX8_readsCondition_92b
  rw [cV_p hL, xh, clq, if_neg (ne 41 (by omega) (by omega) c1), cV_p hL, xh, clq, if_neg (ne 38 (by omega) (by omega) c2), cV_p hL, xh, clq, if_neg (ne 124 (by omega) (by omega) c3), gI_p7 hL, cV_p hL, p_wrong hL, clq, rZ0]
/-- behind an open bracket: to its end -/
theorem p_inner (hL : LPt M) {n o : Int} {pc : Int → Res CndV} (hP : CndC M n o pc) {q1 : Row} {fu : Nat} (hq : PQ q1) (h8 : q1 8 = n) (h11 : q1 11 = o) (o1 : 1 ≤ o) (w1 : 1 ≤ q1 13) (h13 : q1 (2000 + (q1 13 - 1)) / 1048576 = 13) (hfu : n - q1 7 < fu) :
    (∀ x p', (match rChn (tpA M) n 124 orV (rChn (tpA M) n 38 andV pc) (q1 7) with
      | .inl y => (.inl y : Res CndV)
      | .inr (e, p') => if hrA (tpA M) n p' = 41 then .inr (e, p' + 1) else .inl (1, p')) = .inr (x, p') → ∃ fu' g' q', cwQ fu q1 M = (if q' 13 = 0 then some (iI 1, pw q' M) else enQ FU fu' g' q' M) ∧ PQ q' ∧ q' 7 = p' ∧ q1 7 < p' ∧ q' 11 = o - 1 ∧ q' 13 = q1 13 - 1 ∧ q' 12 - q1 12 ≤ p' - q1 7 ∧ RunS (cdQ q') (q1 12) (q' 12) (numV x) ∧ Kq (q1 12) (q1 13) q1 q' ∧ n - p' < fu' ∧ n - p' < g') ∧
    (∀ x pl, (match rChn (tpA M) n 124 orV (rChn (tpA M) n 38 andV pc) (q1 7) with
      | .inl y => (.inl y : Res CndV)
      | .inr (e, p') => if hrA (tpA M) n p' = 41 then .inr (e, p' + 1) else .inl (1, p')) = .inl (x, pl) → ∃ q', cwQ fu q1 M = some (iI 0, pw q' M) ∧ Bd q1 q' x pl) := by
  have cc := hq.c
  have ww := hq.w
  have I := p_or hL (p_and hL hP) hq h8 h11 w1 h13 hfu
  cases hr : rChn (tpA M) n 124 orV (rChn (tpA M) n 38 andV pc) (q1 7) with
  | inl y =>
    refine ⟨fun x p' h => (by cases h), fun x pl h => ?_⟩
    have h : (Sum.inl y : Res CndV) = .inl (x, pl) := by cases h; rfl
    exact I.2 x pl (by rw [hr]; exact h)
  | inr y =>
    obtain ⟨e, p2⟩ := y
    obtain ⟨fu', g', q2, y1, y2, y3, y4, y5, y6, y7, y8, y9, y10, y11⟩ := I.1 e p2 hr
    have y88 := y8.g.1
    have yp := y2.p
    obtain ⟨g1, hg⟩ : ∃ g1 : Nat, g' = g1 + 1 := ⟨g' - 1, by omega⟩
    subst hg
    show (∀ x p', (if hrA (tpA M) n p2 = 41 then (.inr (e, p2 + 1) : Res CndV) else .inl (1, p2)) = .inr (x, p') → _) ∧ (∀ x pl, (if hrA (tpA M) n p2 = 41 then (.inr (e, p2 + 1) : Res CndV) else .inl (1, p2)) = .inl (x, pl) → _)
    by_cases c : hrA (tpA M) n p2 = 41
    · rw [if_pos c]
      refine ⟨fun x p' h => ?_, fun x pl h => (by cases h)⟩
      cases h
      have hin := hr_in (T := tpA M) (n := n) (p := p2) (by omega)
      obtain ⟨q3, z1, z2, z3, z4, z5, z6, z7, z8⟩ := p_landO hL y2 y6 (by omega) cc.1 (Or.inr (by rw [y8.w (q1 13 - 1) (by omega) (by omega)]; omega))
      have z88 := z8.g.1
      have go := dn_close (fu := fu') (g := g1) hL y2 (by rw [y88, h8, y3]; exact c) z1 z2 (by omega)
      obtain ⟨s1, s2, s3, s4, s5, s6, s7⟩ := shut_f z2 (by omega) (by omega) (by omega) rfl
      have l4 := z4.1
      refine ⟨fu', g1, shutG q3, y1.trans go, s1, by omega, by omega, by omega, by omega, by omega, ?_, (y8.thn z8).thn (s7.le (by omega) (by omega)), by omega, by omega⟩
      rw [s5]
      exact s7.run z4 cc.1 (Int.le_refl _)
    · rw [if_neg c]
      refine ⟨fun x p' h => (by cases h), fun x pl h => ?_⟩
      cases h
      have go := dn_wrong (fu := fu') (g := g1) hL y2 (by rw [y88, h8, y3]; exact c) (by rw [y88, h8, y3]; exact y11.1) (by rw [y88, h8, y3]; exact y11.2)
      rw [y3] at go
      exact ⟨_, y1.trans go, y8.bd Bd.mk9⟩
theorem cw_open (hL : LPt M) {q : Row} {fu : Nat} (hq : PQ q) {ch w : Int} (hc : hrA (tpA M) (q 8) (q 7) = ch) (hw : (ch = 33 ∧ w = 10) ∨ (ch = 40 ∧ w = 13)) : cwQ (fu + 1) q M = if q 11 = 6 then some (iI 0, pw (st q 9 (-1000 * 5 - q 7)) M) else cwQ fu (openG q w) M := by
  have xh := p_hereQ (q := q) hL hq
  rw [hc] at xh
  have xo := p_opens (q := q) (w := w) hL hq
  have key : ∀ K, sX8_readsCondition_75 K (some 3772) (some 3772) (iI w) (pw q M) = if q 11 = 6 then some (iI 0, pw (st q 9 (-1000 * 5 - q 7)) M) else K (some 3772) (pw (openG q w) M) := by
    intro K
    unfold sX8_readsCondition_75
    rw [cV_p hL, xo]
    by_cases c : q 11 = 6
    · rw [if_pos c, if_pos c, clq, if_pos rfl, rZ0]
    · rw [if_neg c, if_neg c, clq, if_neg iv_01]
  unfold cwQ
  show sX8_readsCondition_40b (sX8_readsCondition_40 fu) _ _ = _
  generalize sX8_readsCondition_40 fu = K
  rw [← key K]
  unfold sX8_readsCondition_40b sX8_readsCondition_58
  rcases hw with ⟨rfl, rfl⟩ | ⟨rfl, rfl⟩
  · rw [cV_p hL, xh, clq, if_pos rfl, cV_p hL, xh, clq, if_pos rfl]
  · rw [cV_p hL, xh, clq, if_neg (by decide), cV_p hL, xh, clq, if_pos rfl, cV_p hL, xh, clq, if_neg (by decide)]
theorem p_pieceD (hL : LPt M) {n : Int} : ∀ (d : Nat) (o : Int), 7 ≤ d + o → 0 ≤ o → o ≤ 6 → CndC M n o (rPiece (tpA M) n d o)
  | 0, o, h, o0, o6 => by omega
  | d + 1, o, h, o0, o6 => by
    intro q fu hq h8 h11 hok hfu
    have p := hq.p
    have cc := hq.c
    have ww := hq.w
    have w1 := hok.1
    have r := hrA_r (M := M) (n := n) (p := q 7)
    obtain ⟨f1, hf1⟩ : ∃ f1 : Nat, fu = f1 + 1 := ⟨fu - 1, by omega⟩
    subst hf1
    unfold rPiece
    by_cases c33 : hrA (tpA M) n (q 7) = 33
    · rw [if_pos c33]
      have hin := hr_in (T := tpA M) (n := n) (p := q 7) (by omega)
      have go := cw_open (fu := f1) hL hq (ch := 33) (w := 10) (by rw [h8]; exact c33) (Or.inl ⟨rfl, rfl⟩)
      by_cases c6 : o = 6
      · rw [if_pos c6]
        rw [if_pos (by omega)] at go
        refine ⟨fun e' p' h => (by cases h), fun x' pl h => ?_⟩
        cases h
        exact ⟨_, go, Bd.mk9⟩
      · rw [if_neg c6]
        rw [if_neg (by omega)] at go
        obtain ⟨q1, hq1⟩ : ∃ q1, openG q 10 = q1 := ⟨_, rfl⟩
        obtain ⟨j1, j2, j3, j4, j5, j6, j7, j8⟩ := open_f hq (by omega) (by omega) (by omega) (by omega) hq1
        rw [hq1] at go
        have I := p_pieceD hL (n := n) d (o + 1) (by omega) (by omega) (by omega) q1 f1 j1 (by omega) (by omega) ⟨by omega, by rw [j6, show q 13 + 1 - 1 = q 13 by omega, j7]; omega⟩ (by omega)
        rw [j2] at I
        cases hr : rPiece (tpA M) n d (o + 1) (q 7 + 1) with
        | inl y =>
          refine ⟨fun e' p' h => (by cases h), fun x' pl h => ?_⟩
          have h : (Sum.inl y : Res CndV) = .inl (x', pl) := by cases h; rfl
          obtain ⟨q', y1, y2⟩ := I.2 x' pl (by rw [hr]; exact h)
          exact ⟨q', go.trans y1, j8.bd y2⟩
        | inr y =>
          obtain ⟨x2, p2⟩ := y
          refine ⟨fun e' p' h => ?_, fun x' pl h => (by cases h)⟩
          cases h
          obtain ⟨ef, fu', g', q2, y1, y2, y3, y4, y5, y6, y7, y8, y9, y10, y11, y12⟩ := I.1 x2 p2 hr
          have yp := y2.p
          have yc := y2.c
          have yw := y2.w
          have yo := y2.o
          have l8 := y8.1
          have et : topQ q2 = 10 := by
            rw [top_at (w := q 13) (by omega) (by omega), y9.w (q 13) (by omega) (by omega), j7]
            omega
          obtain ⟨ef1, hef⟩ : ∃ ef1 : Nat, ef = ef1 + 1 := ⟨ef - 1, by omega⟩
          subst hef
          rw [en_go hL y2 et] at y1
          obtain ⟨q3, hq3⟩ : ∃ q3, neG q2 = q3 := ⟨_, rfl⟩
          rw [hq3] at y1
          have ne3 : ∀ x, ¬ x = 1000 + q2 12 → ¬ x = 12 → ¬ x = 13 → ¬ x = 11 → q3 x = q2 x := fun x a b d e => by rw [← hq3]; unfold neG noteG; rw [st_ne e, st_ne d, st_ne b, st_ne a]
          have a12 : q3 12 = q2 12 + 1 := by rw [← hq3]; unfold neG noteG; rw [st_ne (by omega), st_ne (by omega), st_eq]
          have a13 : q3 13 = q2 13 - 1 := by rw [← hq3]; unfold neG; rw [st_ne (by omega), st_eq]
          have a11 : q3 11 = q2 11 - 1 := by rw [← hq3]; unfold neG; exact st_eq _ _ _
          have ac : q3 (1000 + q2 12) = 1048576 * 10 := by rw [← hq3]; unfold neG noteG; rw [st_ne (by omega), st_ne (by omega), st_ne (by omega), st_eq]; omega
          have a7 := ne3 7 (by omega) (by omega) (by omega) (by omega)
          have a8 := ne3 8 (by omega) (by omega) (by omega) (by omega)
          have k23 : Kq (q2 12) (q2 13) q2 q3 := ⟨fun i i0 i1 => ne3 _ (by omega) (by omega) (by omega) (by omega), fun i i0 i1 => ne3 _ (by omega) (by omega) (by omega) (by omega), fun x h => ne3 _ (by omega) (by omega) (by omega) (by omega), a8, ne3 _ (by omega) (by omega) (by omega) (by omega), ne3 _ (by omega) (by omega) (by omega) (by omega)⟩
          refine ⟨ef1, fu', g', q3, go.trans y1, ⟨by omega, by omega, by omega, by omega, fun i i0 i1 => by rw [ne3 _ (by omega) (by omega) (by omega) (by omega)]; exact y2.v i i0 (by omega)⟩, by omega, by omega, by omega, by omega, by omega, ?_, (j8.thn (y9.le (by omega) (by omega))).thn (k23.le (by omega) (by omega)), by omega, by omega, by omega⟩
          rw [a12, ← j5]
          exact RunS.not (k23.run y8 (by omega) (Int.le_refl _)) ac
    · rw [if_neg c33]
      by_cases c40 : hrA (tpA M) n (q 7) = 40
      · rw [if_pos c40]
        have hin := hr_in (T := tpA M) (n := n) (p := q 7) (by omega)
        have go := cw_open (fu := f1) hL hq (ch := 40) (w := 13) (by rw [h8]; exact c40) (Or.inr ⟨rfl, rfl⟩)
        unfold rCnd
        by_cases c6 : o = 6
        · rw [if_pos c6]
          rw [if_pos (by omega)] at go
          refine ⟨fun e' p' h => (by cases h), fun x' pl h => ?_⟩
          cases h
          exact ⟨_, go, Bd.mk9⟩
        · rw [if_neg c6]
          rw [if_neg (by omega)] at go
          obtain ⟨q1, hq1⟩ : ∃ q1, openG q 13 = q1 := ⟨_, rfl⟩
          obtain ⟨j1, j2, j3, j4, j5, j6, j7, j8⟩ := open_f hq (by omega) (by omega) (by omega) (by omega) hq1
          rw [hq1] at go
          have I := p_inner hL (p_pieceD hL (n := n) d (o + 1) (by omega) (by omega) (by omega)) (fu := f1) j1 (by omega) (by omega) (by omega) (by omega) (by rw [j6, show q 13 + 1 - 1 = q 13 by omega, j7]; omega) (by omega)
          rw [j2] at I
          refine ⟨fun x p' h => ?_, fun x pl h => ?_⟩
          · obtain ⟨fu', g', q2, y1, y2, y3, y4, y5, y6, y7, y8, y9, y10, y11⟩ := I.1 x p' h
            rw [if_neg (by omega)] at y1
            refine ⟨FU, fu', g', q2, go.trans y1, y2, y3, by omega, by omega, by omega, by omega, by rw [← j5]; exact y8, j8.thn (y9.le (by omega) (by omega)), y10, y11, by unfold FU; omega⟩
          · obtain ⟨q', y1, y2⟩ := I.2 x pl h
            exact ⟨q', go.trans y1, j8.bd y2⟩
      · rw [if_neg c40]
        exact p_cmp hL o0 o6 hq h8 h11 hok hfu c33 c40
/-- a whole condition is read -/
theorem p_readsCond (hL : LPt M) {n : Int} {q : Row} (hq : PQ q) (h8 : q 8 = n) :
    (hrA (tpA M) n (q 7) ≠ 40 → ∃ q', sX8_readsCondition (some 3772) (pw q M) = some (iI 0, pw q' M) ∧ Bd q q' 1 (q 7)) ∧
    (hrA (tpA M) n (q 7) = 40 → (∀ x p', rCnd (tpA M) n (rPiece (tpA M) n 7) 0 (q 7) = .inr (x, p') → ∃ q', sX8_readsCondition (some 3772) (pw q M) = some (iI 1, pw q' M) ∧ PQ q' ∧ q' 7 = p' ∧ q 7 < p' ∧ q' 12 - q 12 ≤ p' - q 7 ∧ RunS (cdQ q') (q 12) (q' 12) (numV x) ∧ Kq (q 12) 0 q q') ∧
      (∀ x pl, rCnd (tpA M) n (rPiece (tpA M) n 7) 0 (q 7) = .inl (x, pl) → ∃ q', sX8_readsCondition (some 3772) (pw q M) = some (iI 0, pw q' M) ∧ Bd q q' x pl)) := by
  have p := hq.p
  have cc := hq.c
  have ww := hq.w
  have oo := hq.o
  have r := hrA_r (M := M) (n := n) (p := q 7)
  have xh := p_hereQ (q := q) hL hq
  rw [h8] at xh
  refine ⟨fun c40 => ?_, fun c40 => ?_⟩
  · refine ⟨st q 9 (-1000 * 1 - q 7), ?_, Bd.mk9⟩
    unfold sX8_readsCondition
    rw [cV_p hL, xh, clq, if_neg (by rw [iv_eq (by omega) (by omega) (by omega) (by omega)]; exact c40), gI_p7 hL, cV_p hL, p_wrong hL, clq, rZ0]
  · have hin := hr_in (T := tpA M) (n := n) (p := q 7) (by omega)
    obtain ⟨q0, hq0⟩ : ∃ q0, st (st q 11 0) 13 0 = q0 := ⟨_, rfl⟩
    have ne : ∀ x, ¬ x = 11 → ¬ x = 13 → q0 x = q x := fun x a b => by rw [← hq0, st_ne b, st_ne a]
    have a13 : q0 13 = 0 := by rw [← hq0]; exact st_eq _ _ _
    have a11 : q0 11 = 0 := by rw [← hq0, st_ne (by omega), st_eq]
    have a7 := ne 7 (by omega) (by omega)
    have a8 := ne 8 (by omega) (by omega)
    have a12 := ne 12 (by omega) (by omega)
    have pq0 : PQ q0 := ⟨by omega, by omega, by omega, by omega, fun i i0 i1 => by omega⟩
    have k00 : Kq (q 12) 0 q q0 := ⟨fun i i0 i1 => ne _ (by omega) (by omega), fun i i0 i1 => by omega, fun x h => ne _ (by omega) (by omega), a8, ne _ (by omega) (by omega), ne _ (by omega) (by omega)⟩
    have xo := p_opens (q := q0) (w := 13) hL pq0
    rw [if_neg (by omega)] at xo
    obtain ⟨q1, hq1⟩ : ∃ q1, openG q0 13 = q1 := ⟨_, rfl⟩
    obtain ⟨j1, j2, j3, j4, j5, j6, j7, j8⟩ := open_f pq0 (by omega) (by omega) (by omega) (by omega) hq1
    have go : sX8_readsCondition (some 3772) (pw q M) = cwQ FU q1 M := by
      unfold sX8_readsCondition cwQ
      rw [cV_p hL, xh, clq, if_pos (congrArg iI c40), pI_p11 hL, pI_p13 hL, hq0, cV_p hL, xo, clq, if_neg iv_01, hq1]
    have I := p_inner hL (p_pieceD hL (n := n) 7 (0 + 1) (by omega) (by omega) (by omega)) (fu := FU) j1 (by omega) (by omega) (by omega) (by omega) (by rw [j6, show q0 13 + 1 - 1 = q0 13 by omega, j7]; omega) (by unfold FU; omega)
    rw [j2, a7] at I
    have k01 : Kq (q 12) 0 q q1 := k00.thn (j8.le (by omega) (by omega))
    unfold rCnd
    rw [if_neg (by omega)]
    refine ⟨fun x p' h => ?_, fun x pl h => ?_⟩
    · obtain ⟨fu', g', q2, y1, y2, y3, y4, y5, y6, y7, y8, y9, y10, y11⟩ := I.1 x p' h
      rw [if_pos (by omega)] at y1
      refine ⟨q2, go.trans y1, y2, y3, by omega, by omega, ?_, k01.thn (y9.le (by omega) (by omega))⟩
      rw [j5, a12] at y8
      exact y8
    · obtain ⟨q', y1, y2⟩ := I.2 x pl h
      exact ⟨q', go.trans y1, k01.bd y2⟩
end
