/-! DEPS: yg -/
/-! YH: the twin reads sums: the loops -/
theorem mul_sgn {c : Int} (h : mulA c ≠ -1) : sgnA c = mulA c ∧ 4 ≤ mulA c ∧ mulA c ≤ 6 ∧ 0 ≤ c := by
  unfold mulA sgnA at *
  by_cases a : c = 42
  · subst a; decide
  · by_cases b : c = 47
    · subst b; decide
    · by_cases d : c = 37
      · subst d; decide
      · rw [if_neg a, if_neg b, if_neg d] at h
        exact absurd rfl h
theorem add_sgn {c : Int} (h : addA c ≠ -1) : sgnA c = addA c ∧ (addA c = 2 ∨ addA c = 3) ∧ 0 ≤ c := by
  unfold addA sgnA at *
  by_cases a : c = 43
  · subst a; decide
  · by_cases b : c = 45
    · subst b; decide
    · rw [if_neg a, if_neg b] at h
      exact absurd rfl h
theorem no_sgn {c : Int} (h : addA c = -1) (h2 : mulA c = -1) : sgnA c = -1 := by
  unfold addA mulA sgnA at *
  by_cases a : c = 43
  · subst a; cases h
  · by_cases b : c = 45
    · subst b; cases h
    · by_cases d : c = 42
      · subst d; cases h2
      · by_cases e : c = 47
        · subst e; cases h2
        · by_cases f : c = 37
          · subst f; cases h2
          · rw [if_neg a, if_neg b, if_neg d, if_neg e, if_neg f]
theorem Kq.below {c w lo : Int} {q q1 : Row} (k : Kq c w q q1) (b : belowQ q w lo) (w0 : 0 ≤ w) : belowQ q1 w lo := by
  rcases b with b | b
  · exact Or.inl b
  · by_cases z : w = 0
    · exact Or.inl z
    · refine Or.inr ?_
      rw [k.w (w - 1) (by omega) (by omega)]
      exact b
section
variable {M : Mem}
/-- after closing, a sign waits -/
theorem p_signed {base : Int} {q q2 : Row} {fu : Nat} {s al : Int} (hL : LPt M) (hq : PQ q) (h7 : q 7 < q 8) (hs : sgnA (hrA (tpA M) (q 8) (q 7)) = s) (s2 : 2 ≤ s) (s6 : s ≤ 6) (hal : (4 ≤ s ∧ al = 0) ∨ (s < 4 ∧ al = 1))
    (hc : sX8_closesSums (some 3772) (iI al) (pw q M) = some ((), pw q2 M)) (hq2 : PQ q2) : lpQ base (fu + 1) q M = atQ base FU fu (st (pushG q2 (1048576 * s)) 7 (q2 7 + 1)) M := by
  have r := hrA_r (M := M) (n := q 8) (p := q 7)
  have xs := p_sign (c := hrA (tpA M) (q 8) (q 7)) (σ := pw q M) r.1 r.2
  rw [hs] at xs
  have p2 := hq2.p
  have w2 := hq2.w
  have key : ∀ K, sX8_readsSum_38 K (some 3772) (iI base) (iI s) (some 3772) (iI al) (pw q M) = cl (sX8_readsFactor_0 FU (some 3772) (pw (st (pushG q2 (1048576 * s)) 7 (q2 7 + 1)) M)) fun x t => if x = iI 0 then rZ (iI 0) t else K (some 3772) (iI base) t := by
    intro K
    unfold sX8_readsSum_38 sX8_readsSum_163
    have e7 : pushG q2 (1048576 * s) 7 = q2 7 := by unfold pushG; rw [st_ne (by omega), st_ne (by omega)]
    rw [cV_p hL, hc, clq, iv_mul, p_push hL (by omega) (by omega), gI_p7 hL, iv_add, pI_p7 hL, cV_p hL, e7]
    rfl
  unfold lpQ atQ
  show sX8_readsSum_14b (sX8_readsSum_14 fu) _ _ _ = _
  generalize sX8_readsSum_14 fu = K
  unfold sX8_readsSum_14b
  rw [cV_p hL, p_hereQ hL hq, clq, xs, clq, if_neg (by rw [iv_eq (by omega) (by omega) (by omega) (by omega)]; omega)]
  rcases hal with ⟨a, rfl⟩ | ⟨a, rfl⟩
  · rw [if_pos (by rw [iv_le (by omega) (by omega) (by omega) (by omega)]; exact a)]
    exact key K
  · rw [if_neg (by rw [iv_le (by omega) (by omega) (by omega) (by omega)]; omega)]
    exact key K
theorem p_prodL (hL : LPt M) {n o : Int} {fac : Int → Res SumV} (hF : FacC M n o fac) {base c w p0 : Int} (b0 : 0 ≤ base) (bw : base ≤ w) (c0 : 0 ≤ c) (cp : c ≤ p0) : ∀ (f : Nat) (e : SumV) (q : Row) (fu : Nat), PQ q → q 8 = n → q 11 = o → PendP q w c e → (q 12 - c) + (q 13 - w) ≤ q 7 - p0 → belowQ q w 4 → n - q 7 < f → n - q 7 < fu →
    SumOk M n base q (lpQ base fu q M) o PendP mulA c w p0 (rOps (tpA M) n mulA fac f e (q 7))
  | 0, e, q, fu, hq, h8, h11, hp, hw, hb, h1, h2 => by
    have := hq.p
    omega
  | f + 1, e, q, fu, hq, h8, h11, hp, hw, hb, h1, h2 => by
    have p := hq.p
    have cc := hq.c
    have ww := hq.w
    have hi := hp.hi
    unfold rOps
    by_cases cm : mulA (hrA (tpA M) n (q 7)) = -1
    · rw [if_pos cm]
      refine ⟨fun e' p' h => ?_, fun x pl h => (by cases h)⟩
      cases h
      exact ⟨fu, q, rfl, hq, rfl, Int.le_refl _, h11, hp, hw, Kq.rfl', h2, cm⟩
    · rw [if_neg cm]
      obtain ⟨m1, m2, m3, m4⟩ := mul_sgn cm
      have hin := hr_in (T := tpA M) (n := n) (p := q 7) m4
      obtain ⟨q2, z1, z2, z3, z4, z5, z6, z7, z8⟩ := p_closeP hL hq hp (by omega) c0 hb (by omega)
      obtain ⟨fu1, hfu1⟩ : ∃ fu1 : Nat, fu = fu1 + 1 := ⟨fu - 1, by omega⟩
      subst hfu1
      obtain ⟨s, hs⟩ : ∃ s, mulA (hrA (tpA M) n (q 7)) = s := ⟨_, rfl⟩
      rw [hs] at m1 m2 m3 ⊢
      have go := p_signed (base := base) (fu := fu1) (q := q) (s := s) (al := 0) hL hq (by omega) (by rw [h8]; exact m1) (by omega) m3 (Or.inl ⟨m2, rfl⟩) z1 z2
      have z88 := z8.g.1
      have pq4 := pushed_PQ (v := 1048576 * s) z2 (by omega) (by omega) (by omega)
      obtain ⟨q4, hq4⟩ : ∃ q4, st (pushG q2 (1048576 * s)) 7 (q2 7 + 1) = q4 := ⟨_, rfl⟩
      rw [hq4] at go pq4
      have ne : ∀ x, ¬ x = 2000 + q2 13 → ¬ x = 13 → ¬ x = 7 → q4 x = q2 x := fun x a b d => by rw [← hq4, st_ne d]; unfold pushG; rw [st_ne b, st_ne a]
      have a7 : q4 7 = q2 7 + 1 := by rw [← hq4]; exact st_eq _ _ _
      have a13 : q4 13 = q2 13 + 1 := by rw [← hq4, st_ne (by omega)]; exact st_eq _ _ _
      have aw : q4 (2000 + w) = 1048576 * s := by rw [← hq4, st_ne (by omega)]; unfold pushG; rw [st_ne (by omega), z3, st_eq]
      have a8 := ne 8 (by omega) (by omega) (by omega)
      have a11 := ne 11 (by omega) (by omega) (by omega)
      have zp := z2.p
      have zc := z2.c
      have zw := z2.w
      have a12 := ne 12 (by omega) (by omega) (by omega)
      have k4 : Kq (q2 12) w q2 q4 := ⟨fun i i0 i1 => ne _ (by omega) (by omega) (by omega), fun i i0 i1 => ne _ (by omega) (by omega) (by omega), fun x h => ne _ (by omega) (by omega) (by omega), a8, ne _ (by omega) (by omega) (by omega), ne _ (by omega) (by omega) (by omega)⟩
      have k04 : Kq c w q q4 := (z8.le (by omega) (Int.le_refl _)).thn (k4.le (by have := z4.1; omega) (Int.le_refl _))
      have I := hF base q4 FU fu1 pq4 (by omega) (by omega) b0 (by omega) (by unfold FU; omega) (by omega)
      rw [a7, z6] at I
      have l4 := z4.1
      cases hr : fac (q 7 + 1) with
      | inl x =>
        refine ⟨fun e' p' h => (by cases h), fun x' pl h => ?_⟩
        have h : (Sum.inl x : Res SumV) = .inl (x', pl) := h
        obtain ⟨q', y1, y2⟩ := I.2 x' pl (by rw [hr]; exact h)
        exact ⟨q', go.trans y1, k04.bd y2⟩
      | inr x =>
        obtain ⟨e2, p2⟩ := x
        obtain ⟨fu', q5, y1, y2, y3, y4, y5, y6, y7, y8, y9, y10⟩ := I.1 e2 p2 hr
        have yp := y2.p
        have yc := y2.c
        have yw := y2.w
        have k45 : Kq c w q4 q5 := y9.le (by omega) (by omega)
        have k05 := k04.thn k45
        have l8 := y8.1
        have P5 : PendP q5 w c (binV s e e2) := by
          refine Or.inr ⟨s, q4 12, e, e2, by omega, m2, m3, (y9.w w (by omega) (by omega)).trans aw, ?_, y8, rfl⟩
          rw [a12]
          exact y9.run (k4.run z4 c0 (Int.le_refl _)) c0 (by omega)
        have ih := p_prodL hL hF b0 bw c0 cp f (binV s e e2) q5 fu' y2 (k05.g.1.trans h8) (by omega) P5 (by omega) (k05.below hb (by omega)) (by omega) (by omega)
        rw [y3] at ih
        refine ⟨fun e' p' h => ?_, fun x' pl h => ?_⟩
        · obtain ⟨fu6, q6, u1, u2, u3, u4, u5, u6, u7, u8, u9, u10⟩ := ih.1 e' p' h
          exact ⟨fu6, q6, (go.trans y1).trans u1, u2, u3, by omega, u5, u6, u7, k05.thn u8, u9, u10⟩
        · obtain ⟨q6, u1, u2⟩ := ih.2 x' pl h
          exact ⟨q6, (go.trans y1).trans u1, k05.bd u2⟩
/-- products -/
def ProC (M : Mem) (n o : Int) (pro : Int → Res SumV) : Prop := ∀ (base : Int) (q : Row) (ff fu : Nat), PQ q → q 8 = n → q 11 = o → 0 ≤ base → base ≤ q 13 → belowQ q (q 13) 4 → n - q 7 < ff → n - q 7 < fu → SumOk M n base q (atQ base ff fu q M) o PendP mulA (q 12) (q 13) (q 7) (pro (q 7))
theorem p_prod (hL : LPt M) {n o : Int} {fac : Int → Res SumV} (hF : FacC M n o fac) : ProC M n o (rSeq (tpA M) n mulA fac) := by
  intro base q ff fu hq h8 h11 b0 b1 hb hff hfu
  have p := hq.p
  have cc := hq.c
  have ww := hq.w
  have I := hF base q ff fu hq h8 h11 b0 b1 hff hfu
  unfold rSeq
  cases hr : fac (q 7) with
  | inl x =>
    refine ⟨fun e' p' h => (by cases h), fun x' pl h => ?_⟩
    have h : (Sum.inl x : Res SumV) = .inl (x', pl) := h
    exact I.2 x' pl (by rw [hr]; exact h)
  | inr x =>
    obtain ⟨e, p2⟩ := x
    obtain ⟨fu', q5, y1, y2, y3, y4, y5, y6, y7, y8, y9, y10⟩ := I.1 e p2 hr
    have yp := y2.p
    have ih := p_prodL hL hF (base := base) (c := q 12) (w := q 13) (p0 := q 7) b0 b1 cc.1 cc.2 ((n - p2).toNat + 1) e q5 fu' y2 (y9.g.1.trans h8) y5 (Or.inl ⟨y6, y8⟩) (by omega) (y9.below hb (by omega)) (by omega) (by omega)
    rw [y3] at ih
    refine ⟨fun e' p' h => ?_, fun x' pl h => ?_⟩
    · obtain ⟨fu6, q6, u1, u2, u3, u4, u5, u6, u7, u8, u9, u10⟩ := ih.1 e' p' h
      exact ⟨fu6, q6, y1.trans u1, u2, u3, by omega, u5, u6, u7, y9.thn u8, u9, u10⟩
    · obtain ⟨q6, u1, u2⟩ := ih.2 x' pl h
      exact ⟨q6, y1.trans u1, y9.bd u2⟩
theorem p_sumL (hL : LPt M) {n o : Int} {pro : Int → Res SumV} (hF : ProC M n o pro) {base c w p0 : Int} (b0 : 0 ≤ base) (bw : base ≤ w) (c0 : 0 ≤ c) (cp : c ≤ p0) : ∀ (f : Nat) (e : SumV) (q : Row) (fu : Nat), PQ q → q 8 = n → q 11 = o → PendS q w c e → (q 12 - c) + (q 13 - w) ≤ q 7 - p0 → belowQ q w 2 → n - q 7 < f → n - q 7 < fu → mulA (hrA (tpA M) n (q 7)) = -1 →
    SumOk M n base q (lpQ base fu q M) o PendS sgnA c w p0 (rOps (tpA M) n addA pro f e (q 7))
  | 0, e, q, fu, hq, h8, h11, hp, hw, hb, h1, h2, hm => by
    have := hq.p
    omega
  | f + 1, e, q, fu, hq, h8, h11, hp, hw, hb, h1, h2, hm => by
    have p := hq.p
    have cc := hq.c
    have ww := hq.w
    have hi := hp.hi
    unfold rOps
    by_cases cm : addA (hrA (tpA M) n (q 7)) = -1
    · rw [if_pos cm]
      refine ⟨fun e' p' h => ?_, fun x pl h => (by cases h)⟩
      cases h
      exact ⟨fu, q, rfl, hq, rfl, Int.le_refl _, h11, hp, hw, Kq.rfl', h2, no_sgn cm hm⟩
    · rw [if_neg cm]
      obtain ⟨m1, m2, m4⟩ := add_sgn cm
      have hin := hr_in (T := tpA M) (n := n) (p := q 7) m4
      obtain ⟨q2, z1, z2, z3, z4, z5, z6, z7, z8⟩ := p_closeS hL hq hp (by omega) c0 hb (by omega)
      obtain ⟨fu1, hfu1⟩ : ∃ fu1 : Nat, fu = fu1 + 1 := ⟨fu - 1, by omega⟩
      subst hfu1
      obtain ⟨s, hs⟩ : ∃ s, addA (hrA (tpA M) n (q 7)) = s := ⟨_, rfl⟩
      rw [hs] at m1 m2 ⊢
      have go := p_signed (base := base) (fu := fu1) (q := q) (s := s) (al := 1) hL hq (by omega) (by rw [h8]; exact m1) (by omega) (by omega) (Or.inr ⟨by omega, rfl⟩) z1 z2
      have z88 := z8.g.1
      have pq4 := pushed_PQ (v := 1048576 * s) z2 (by omega) (by omega) (by omega)
      obtain ⟨q4, hq4⟩ : ∃ q4, st (pushG q2 (1048576 * s)) 7 (q2 7 + 1) = q4 := ⟨_, rfl⟩
      rw [hq4] at go pq4
      have ne : ∀ x, ¬ x = 2000 + q2 13 → ¬ x = 13 → ¬ x = 7 → q4 x = q2 x := fun x a b d => by rw [← hq4, st_ne d]; unfold pushG; rw [st_ne b, st_ne a]
      have a7 : q4 7 = q2 7 + 1 := by rw [← hq4]; exact st_eq _ _ _
      have a13 : q4 13 = q2 13 + 1 := by rw [← hq4, st_ne (by omega)]; exact st_eq _ _ _
      have aw : q4 (2000 + w) = 1048576 * s := by rw [← hq4, st_ne (by omega)]; unfold pushG; rw [st_ne (by omega), z3, st_eq]
      have a8 := ne 8 (by omega) (by omega) (by omega)
      have a11 := ne 11 (by omega) (by omega) (by omega)
      have zp := z2.p
      have zc := z2.c
      have zw := z2.w
      have a12 := ne 12 (by omega) (by omega) (by omega)
      have k4 : Kq (q2 12) w q2 q4 := ⟨fun i i0 i1 => ne _ (by omega) (by omega) (by omega), fun i i0 i1 => ne _ (by omega) (by omega) (by omega), fun x h => ne _ (by omega) (by omega) (by omega), a8, ne _ (by omega) (by omega) (by omega), ne _ (by omega) (by omega) (by omega)⟩
      have k04 : Kq c w q q4 := (z8.le (by omega) (Int.le_refl _)).thn (k4.le (by have := z4.1; omega) (Int.le_refl _))
      have I := hF base q4 FU fu1 pq4 (by omega) (by omega) b0 (by omega) (Or.inr (by rw [a13, z3, show w + 1 - 1 = w by omega, aw]; omega)) (by unfold FU; omega) (by omega)
      rw [a7, z6] at I
      have l4 := z4.1
      cases hr : pro (q 7 + 1) with
      | inl x =>
        refine ⟨fun e' p' h => (by cases h), fun x' pl h => ?_⟩
        have h : (Sum.inl x : Res SumV) = .inl (x', pl) := h
        obtain ⟨q', y1, y2⟩ := I.2 x' pl (by rw [hr]; exact h)
        exact ⟨q', go.trans y1, k04.bd y2⟩
      | inr x =>
        obtain ⟨e2, p2⟩ := x
        obtain ⟨fu', q5, y1, y2, y3, y4, y5, y6, y7, y8, y9, y10⟩ := I.1 e2 p2 hr
        have yp := y2.p
        have yc := y2.c
        have yw := y2.w
        have yh := y6.hi
        have k45 : Kq c w q4 q5 := y8.le (by omega) (by omega)
        have k05 := k04.thn k45
        have P5 : PendS q5 w c (binV s e e2) := by
          refine Or.inr ⟨s, q4 12, e, e2, m2, (y8.w w (by omega) (by omega)).trans aw, ?_, ?_, rfl⟩
          · rw [a12]
            exact y8.run (k4.run z4 c0 (Int.le_refl _)) c0 (by omega)
          · rw [show w + 1 = q4 13 by omega]
            exact y6
        have ih := p_sumL hL hF b0 bw c0 cp f (binV s e e2) q5 fu' y2 (k05.g.1.trans h8) (by omega) P5 (by omega) (k05.below hb (by omega)) (by omega) (by omega) (by rw [y3]; exact y10)
        rw [y3] at ih
        refine ⟨fun e' p' h => ?_, fun x' pl h => ?_⟩
        · obtain ⟨fu6, q6, u1, u2, u3, u4, u5, u6, u7, u8, u9, u10⟩ := ih.1 e' p' h
          exact ⟨fu6, q6, (go.trans y1).trans u1, u2, u3, by omega, u5, u6, u7, k05.thn u8, u9, u10⟩
        · obtain ⟨q6, u1, u2⟩ := ih.2 x' pl h
          exact ⟨q6, (go.trans y1).trans u1, k05.bd u2⟩
def SumC (M : Mem) (n o : Int) (sm : Int → Res SumV) : Prop := ∀ (base : Int) (q : Row) (ff fu : Nat), PQ q → q 8 = n → q 11 = o → 0 ≤ base → base ≤ q 13 → belowQ q (q 13) 2 → n - q 7 < ff → n - q 7 < fu → SumOk M n base q (atQ base ff fu q M) o PendS sgnA (q 12) (q 13) (q 7) (sm (q 7))
theorem p_sums (hL : LPt M) {n o : Int} {pro : Int → Res SumV} (hF : ProC M n o pro) : SumC M n o (rSeq (tpA M) n addA pro) := by
  intro base q ff fu hq h8 h11 b0 b1 hb hff hfu
  have p := hq.p
  have cc := hq.c
  have ww := hq.w
  have hb4 : belowQ q (q 13) 4 := by
    rcases hb with b | b
    · exact Or.inl b
    · exact Or.inr (by omega)
  have I := hF base q ff fu hq h8 h11 b0 b1 hb4 hff hfu
  unfold rSeq
  cases hr : pro (q 7) with
  | inl x =>
    refine ⟨fun e' p' h => (by cases h), fun x' pl h => ?_⟩
    have h : (Sum.inl x : Res SumV) = .inl (x', pl) := h
    exact I.2 x' pl (by rw [hr]; exact h)
  | inr x =>
    obtain ⟨e, p2⟩ := x
    obtain ⟨fu', q5, y1, y2, y3, y4, y5, y6, y7, y8, y9, y10⟩ := I.1 e p2 hr
    have yp := y2.p
    have ih := p_sumL hL hF (base := base) (c := q 12) (w := q 13) (p0 := q 7) b0 b1 cc.1 cc.2 ((n - p2).toNat + 1) e q5 fu' y2 (y8.g.1.trans h8) y5 (Or.inl y6) (by omega) (y8.below hb (by omega)) (by omega) (by omega) (by rw [y3]; exact y10)
    rw [y3] at ih
    refine ⟨fun e' p' h => ?_, fun x' pl h => ?_⟩
    · obtain ⟨fu6, q6, u1, u2, u3, u4, u5, u6, u7, u8, u9, u10⟩ := ih.1 e' p' h
      exact ⟨fu6, q6, y1.trans u1, u2, u3, by omega, u5, u6, u7, y8.thn u8, u9, u10⟩
    · obtain ⟨q6, u1, u2⟩ := ih.2 x' pl h
      exact ⟨q6, y1.trans u1, y8.bd u2⟩
theorem p_sumD (hL : LPt M) {n : Int} : ∀ (d : Nat) (o : Int), 7 ≤ d + o → 0 ≤ o → o ≤ 6 → SumC M n o (rSum (tpA M) n d o)
  | 0, o, h, o0, o6 => by omega
  | d + 1, o, h, o0, o6 => by
    have hF : FacC M n o (rFac (tpA M) n (rSum (tpA M) n d) o) := p_fac hL o6 (fun c6 base q ff fu hq h8 h11 b0 b1 hb hff hfu => p_sumD hL (n := n) d (o + 1) (by omega) (by omega) (by omega) base q ff fu hq h8 h11 b0 b1 hb hff hfu)
    exact p_sums hL (p_prod hL hF)
/-- a whole sum is read -/
theorem p_readsSum (hL : LPt M) {n o : Int} {q : Row} (hq : PQ q) (h8 : q 8 = n) (h11 : q 11 = o) (hb : belowQ q (q 13) 2) (o6 : o ≤ 6) :
    (∀ e p', rSum (tpA M) n 7 o (q 7) = .inr (e, p') → ∃ q', sX8_readsSum (some 3772) (pw q M) = some (iI 1, pw q' M) ∧ PQ q' ∧ q' 7 = p' ∧ q 7 ≤ p' ∧ q' 11 = o ∧ q' 13 = q 13 ∧ q' 12 - q 12 ≤ p' - q 7 ∧ RunS (cdQ q') (q 12) (q' 12) e ∧ Kq (q 12) (q 13) q q') ∧
    (∀ x pl, rSum (tpA M) n 7 o (q 7) = .inl (x, pl) → ∃ q', sX8_readsSum (some 3772) (pw q M) = some (iI 0, pw q' M) ∧ Bd q q' x pl) := by
  have p := hq.p
  have cc := hq.c
  have ww := hq.w
  have oo := hq.o
  have I := p_sumD hL (n := n) 7 o (by omega) (by omega) o6 (q 13) q FU FU hq h8 h11 ww.1 (Int.le_refl _) hb (by unfold FU; omega) (by unfold FU; omega)
  have top : sX8_readsSum (some 3772) (pw q M) = atQ (q 13) FU FU q M := by
    unfold sX8_readsSum atQ
    rw [gI_p13 hL, cV_p hL]
    rfl
  refine ⟨fun e p' h => ?_, fun x pl h => ?_⟩
  · obtain ⟨fu', q2, y1, y2, y3, y4, y5, y6, y7, y8, y9, y10⟩ := I.1 e p' h
    have yp := y2.p
    have yw := y2.w
    have hi := y6.hi
    obtain ⟨q3, z1, z2, z3, z4, z5, z6, z7, z8⟩ := p_closeS hL y2 y6 ww.1 cc.1 (y8.below hb ww.1) (by omega)
    have r2 := hrA_r (M := M) (n := n) (p := p')
    have xh2 := p_hereQ (q := q2) hL y2
    rw [y8.g.1, h8, y3] at xh2
    obtain ⟨f2, hf2⟩ : ∃ f2 : Nat, fu' = f2 + 1 := ⟨fu' - 1, by have := y8.g.1; omega⟩
    subst hf2
    have xs := p_sign (c := hrA (tpA M) n p') (σ := pw q2 M) r2.1 r2.2
    rw [y10] at xs
    have xop := p_hasOpen (q := q2) hL y2 (i := q 13) ww.1 (by omega)
    rw [bQ_f (fun ⟨k, k0, k1, k2⟩ => by
      obtain ⟨s, s0, s1, s2⟩ := y6.ops k k0 k1
      rw [s2] at k2
      omega)] at xop
    refine ⟨q3, ?_, z2, by omega, y4, by omega, z3, by omega, z4, y8.thn (z8.le (by omega) (Int.le_refl _))⟩
    rw [top, y1]
    unfold lpQ
    show sX8_readsSum_14b (sX8_readsSum_14 f2) _ _ _ = _
    generalize sX8_readsSum_14 f2 = K
    have fin : sX8_readsSum_138 (some 3772) (iI (q 13)) (pw q2 M) = some (iI 1, pw q3 M) := by
      unfold sX8_readsSum_138
      rw [cV_p hL, xop, clq, if_pos rfl, cV_p hL, z1, clq, rZ1]
    unfold sX8_readsSum_14b
    rw [cV_p hL, xh2, clq, xs, clq, if_pos rfl, cV_p hL, xh2, clq]
    by_cases c : hrA (tpA M) n p' = 93
    · rw [if_pos (congrArg iI c), cV_p hL, xop, clq, if_pos rfl]
      exact fin
    · rw [if_neg (by rw [iv_eq (by omega) (by omega) (by omega) (by omega)]; exact c)]
      exact fin
  · obtain ⟨q', y1, y2⟩ := I.2 x pl h
    exact ⟨q', top.trans y1, y2⟩
end
