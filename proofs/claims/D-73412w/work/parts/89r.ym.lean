/-! DEPS: yl -/
/-! YM: the twin reads clauses -/
/-- it went wrong in a clause -/
def Br (q q' : Row) (w pl : Int) : Prop :=
  (q' 9 = -1000 * w - pl) ∧
  (∀ x, 4000 ≤ x → q' x = q x) ∧
  (q' 15 = q 15)
theorem Br.f {q q' : Row} {w pl : Int} (self : Br q q' w pl) : q' 9 = -1000 * w - pl := self.1
theorem Br.x {q q' : Row} {w pl : Int} (self : Br q q' w pl) : ∀ x, 4000 ≤ x → q' x = q x := self.2.1
theorem Br.g {q q' : Row} {w pl : Int} (self : Br q q' w pl) : q' 15 = q 15 := self.2.2
def RuOk (q q' : Row) (k c hf p' : Int) (e : SumV) (x : CndV) : Prop :=
  (PQ q') ∧
  (q' 7 = p' ∧ q 7 < p' ∧ q' 8 = q 8 ∧ q' 14 = k + 1 ∧ q' 15 = q 15 ∧ k < 16) ∧
  (q' (3000 + k) = c ∧ q' (3100 + k) = q 12 ∧ q' (3200 + k) = hf ∧ q' (3300 + k) = q' 12) ∧
  (q 12 ≤ hf ∧ hf ≤ 250 ∧ (c = 100 ∨ c = 108 ∨ c = 101 ∨ c = 120)) ∧
  (c ≠ 120 → RunS (cdQ q') (q 12) hf e) ∧
  (RunS (cdQ q') hf (q' 12) (numV x)) ∧
  (∀ i, 0 ≤ i → i < q 12 → q' (1000 + i) = q (1000 + i)) ∧
  (∀ i, 0 ≤ i → i < k → q' (3000 + i) = q (3000 + i) ∧ q' (3100 + i) = q (3100 + i) ∧ q' (3200 + i) = q (3200 + i) ∧ q' (3300 + i) = q (3300 + i)) ∧
  (∀ x, 4000 ≤ x → q' x = q x)
theorem RuOk.pq {q q' : Row} {k c hf p' : Int} {e : SumV} {x : CndV} (self : RuOk q q' k c hf p' e x) : PQ q' := self.1
theorem RuOk.g {q q' : Row} {k c hf p' : Int} {e : SumV} {x : CndV} (self : RuOk q q' k c hf p' e x) : q' 7 = p' ∧ q 7 < p' ∧ q' 8 = q 8 ∧ q' 14 = k + 1 ∧ q' 15 = q 15 ∧ k < 16 := self.2.1
theorem RuOk.r {q q' : Row} {k c hf p' : Int} {e : SumV} {x : CndV} (self : RuOk q q' k c hf p' e x) : q' (3000 + k) = c ∧ q' (3100 + k) = q 12 ∧ q' (3200 + k) = hf ∧ q' (3300 + k) = q' 12 := self.2.2.1
theorem RuOk.h {q q' : Row} {k c hf p' : Int} {e : SumV} {x : CndV} (self : RuOk q q' k c hf p' e x) : q 12 ≤ hf ∧ hf ≤ 250 ∧ (c = 100 ∨ c = 108 ∨ c = 101 ∨ c = 120) := self.2.2.2.1
theorem RuOk.e {q q' : Row} {k c hf p' : Int} {e : SumV} {x : CndV} (self : RuOk q q' k c hf p' e x) : c ≠ 120 → RunS (cdQ q') (q 12) hf e := self.2.2.2.2.1
theorem RuOk.c {q q' : Row} {k c hf p' : Int} {e : SumV} {x : CndV} (self : RuOk q q' k c hf p' e x) : RunS (cdQ q') hf (q' 12) (numV x) := self.2.2.2.2.2.1
theorem RuOk.k {q q' : Row} {k c hf p' : Int} {e : SumV} {x : CndV} (self : RuOk q q' k c hf p' e x) : ∀ i, 0 ≤ i → i < q 12 → q' (1000 + i) = q (1000 + i) := self.2.2.2.2.2.2.1
theorem RuOk.o {q q' : Row} {k c hf p' : Int} {e : SumV} {x : CndV} (self : RuOk q q' k c hf p' e x) : ∀ i, 0 ≤ i → i < k → q' (3000 + i) = q (3000 + i) ∧ q' (3100 + i) = q (3100 + i) ∧ q' (3200 + i) = q (3200 + i) ∧ q' (3300 + i) = q (3300 + i) := self.2.2.2.2.2.2.2.1
theorem RuOk.x {q q' : Row} {k c hf p' : Int} {e : SumV} {x : CndV} (self : RuOk q q' k c hf p' e x) : ∀ x, 4000 ≤ x → q' x = q x := self.2.2.2.2.2.2.2.2
/-- what follows a condition -/
noncomputable def cl_t (G : Option (Int32 × Mem)) : Option (Int32 × Mem) := cl G fun x5 s6 => if x5 = (iI 0) then rZ (iI 0) s6 else
    gR s6 (some 3772) 6 21 fun x7 =>
    gI s6 (some 3772) 6 14 fun x8 =>
    gI s6 (some 3772) 6 12 fun x9 =>
    sI s6 x7 x8 x9 fun s10 =>
    gI s10 (some 3772) 6 14 fun x11 =>
    pI s10 (some 3772) 6 14 (x11 + (iI 1)) fun s12 =>
    rZ (iI 1) s12
section
variable {M : Mem}
/-- behind the sum -/
theorem p_tail (hL : LPt M) {n k c0 p0 : Int} {q : Row} (hq : PQ q) (h8 : q 8 = n) (h14 : q 14 = k) (k0 : 0 ≤ k) (k1 : k < 16) (hc0 : 0 ≤ c0) (hc1 : c0 ≤ q 12) {cl : Int} {e : SumV} (he : cl ≠ 120 → RunS (cdQ q) c0 (q 12) e) (hcl : cl = 100 ∨ cl = 108 ∨ cl = 101 ∨ cl = 120) (hr1 : q (3000 + k) = cl) (hr2 : q (3100 + k) = c0) :
    (∀ c e' x p', rTail (tpA M) n cl e (q 7) = .inr ((c, e', x), p') → c = cl ∧ e' = e ∧ ∃ q', sX8_readsRule_116 (some 3772) (pw q M) = some (iI 1, pw q' M) ∧ PQ q' ∧ q' 7 = p' ∧ q 7 < p' ∧ q' 8 = q 8 ∧ q' 14 = k + 1 ∧ q' 15 = q 15 ∧ q' (3000 + k) = cl ∧ q' (3100 + k) = c0 ∧ q' (3200 + k) = q 12 ∧ q' (3300 + k) = q' 12 ∧ (cl ≠ 120 → RunS (cdQ q') c0 (q 12) e) ∧ RunS (cdQ q') (q 12) (q' 12) (numV x) ∧ (∀ i, 0 ≤ i → i < q 12 → q' (1000 + i) = q (1000 + i)) ∧ (∀ i, 0 ≤ i → i < k → q' (3000 + i) = q (3000 + i) ∧ q' (3100 + i) = q (3100 + i) ∧ q' (3200 + i) = q (3200 + i) ∧ q' (3300 + i) = q (3300 + i)) ∧ ∀ x, 4000 ≤ x → q' x = q x) ∧
    (∀ w pl, rTail (tpA M) n cl e (q 7) = .inl (w, pl) → ∃ q', sX8_readsRule_116 (some 3772) (pw q M) = some (iI 0, pw q' M) ∧ Br q q' w pl) := by
  have p := hq.p
  have cc := hq.c
  have ww := hq.w
  have oo := hq.o
  obtain ⟨q1, hq1⟩ : ∃ q1, st q (3200 + k) (q 12) = q1 := ⟨_, rfl⟩
  have ne : ∀ x, ¬ x = 3200 + k → q1 x = q x := fun x a => by rw [← hq1, st_ne a]
  have ar : q1 (3200 + k) = q 12 := by rw [← hq1]; exact st_eq _ _ _
  have a7 := ne 7 (by omega)
  have a8 := ne 8 (by omega)
  have a12 := ne 12 (by omega)
  have a13 := ne 13 (by omega)
  have a11 := ne 11 (by omega)
  have pq1 : PQ q1 := ⟨by omega, by omega, by omega, by omega, fun i i0 i1 => by rw [ne _ (by omega)]; exact hq.v i i0 (by omega)⟩
  have I := p_readsCond hL pq1 (n := n) (by omega)
  rw [a7] at I
  have pre : ∀ G, sX8_readsCondition (some 3772) (pw q1 M) = G → sX8_readsRule_116 (some 3772) (pw q M) = cl_t G := by
    intro G hG
    unfold sX8_readsRule_116 cl_t
    rw [gR_p20 hL, gI_p14 hL, gI_p12 hL, h14, sI_p3783 hL k0 k1, hq1, cV_p hL, hG]
  unfold rTail
  by_cases c40 : hrA (tpA M) n (q 7) = 40
  · rw [if_pos c40]
    have I2 := I.2 c40
    cases hr : rCnd (tpA M) n (rPiece (tpA M) n 7) 0 (q 7) with
    | inl y =>
      refine ⟨fun c e' x p' h => (by cases h), fun w pl h => ?_⟩
      have h : (Sum.inl y : Res CndV) = .inl (w, pl) := by cases h; rfl
      obtain ⟨q', y1, y2⟩ := I2.2 w pl (by rw [hr]; exact h)
      refine ⟨q', ?_, ⟨y2.f, fun x hx => (y2.x x (by omega)).trans (ne _ (by omega)), y2.g.2.trans (ne _ (by omega))⟩⟩
      rw [pre _ y1]
      unfold cl_t
      rw [clq, if_pos rfl, rZ0]
    | inr y =>
      obtain ⟨x2, p2⟩ := y
      refine ⟨fun c e' x p' h => ?_, fun w pl h => (by cases h)⟩
      cases h
      refine ⟨rfl, rfl, ?_⟩
      obtain ⟨q2, y1, y2, y3, y4, y5, y6, y7⟩ := I2.1 x2 p2 hr
      have y14 := y7.g.2.1
      have y15 := y7.g.2.2
      have y8 := y7.g.1
      have yp := y2.p
      have yc := y2.c
      have yw := y2.w
      have yo := y2.o
      have e14 := ne 14 (by omega)
      have e15 := ne 15 (by omega)
      obtain ⟨q3, hq3⟩ : ∃ q3, st (st q2 (3300 + k) (q2 12)) 14 (k + 1) = q3 := ⟨_, rfl⟩
      have ne3 : ∀ x, ¬ x = 3300 + k → ¬ x = 14 → q3 x = q2 x := fun x a b => by rw [← hq3, st_ne b, st_ne a]
      have b14 : q3 14 = k + 1 := by rw [← hq3]; exact st_eq _ _ _
      have br : q3 (3300 + k) = q2 12 := by rw [← hq3, st_ne (by omega)]; exact st_eq _ _ _
      have b7 := ne3 7 (by omega) (by omega)
      have b8 := ne3 8 (by omega) (by omega)
      have b11 := ne3 11 (by omega) (by omega)
      have b12 := ne3 12 (by omega) (by omega)
      have b13 := ne3 13 (by omega) (by omega)
      have b15 := ne3 15 (by omega) (by omega)
      have l6 := y6.1
      refine ⟨q3, ?_, ⟨by omega, by omega, by omega, by omega, fun i i0 i1 => by rw [ne3 _ (by omega) (by omega)]; exact y2.v i i0 (by omega)⟩, by omega, y4 |> fun _ => by omega, by omega, b14, by omega, ?_, ?_, ?_, by rw [br, b12], ?_, ?_, ?_, ?_, ?_⟩
      · rw [pre _ y1]
        unfold cl_t
        have e2 : q2 14 = k := by omega
        rw [clq, if_neg iv_01, gR_p21 hL, gI_p14 hL, gI_p12 hL, e2, sI_p3784 hL k0 k1, gI_p14 hL, st_ne (show ¬ (14 : Int) = 3300 + k by omega), e2, iv_add, pI_p14 hL, rZ1, hq3]
      · rw [ne3 _ (by omega) (by omega), y7.x _ (by omega), ne _ (by omega)]; exact hr1
      · rw [ne3 _ (by omega) (by omega), y7.x _ (by omega), ne _ (by omega)]; exact hr2
      · rw [ne3 _ (by omega) (by omega), y7.x _ (by omega)]; exact ar
      · intro h120
        refine (he h120).ext (fun i i0 i1 => ?_)
        show q3 (1000 + i) = q (1000 + i)
        rw [ne3 _ (by omega) (by omega), y7.c i (by omega) (by omega), ne _ (by omega)]
      · rw [b12]
        rw [a12] at y6
        exact y6.ext (fun i i0 i1 => ne3 _ (by omega) (by omega))
      · intro i i0 i1
        rw [ne3 _ (by omega) (by omega), y7.c i (by omega) (by omega), ne _ (by omega)]
      · intro i i0 i1
        refine ⟨?_, ?_, ?_, ?_⟩ <;> rw [ne3 _ (by omega) (by omega), y7.x _ (by omega), ne _ (by omega)]
      · intro x hx
        rw [ne3 _ (by omega) (by omega), y7.x _ (by omega), ne _ (by omega)]
  · rw [if_neg c40]
    refine ⟨fun c e' x p' h => (by cases h), fun w pl h => ?_⟩
    cases h
    obtain ⟨q', y1, y2⟩ := I.1 c40
    refine ⟨q', ?_, ⟨y2.f, fun x hx => (y2.x x (by omega)).trans (ne _ (by omega)), y2.g.2.trans (ne _ (by omega))⟩⟩
    rw [pre _ y1]
    unfold cl_t
    rw [clq, if_pos rfl, rZ0]
theorem p_rule (hL : LPt M) {n k : Int} {q : Row} (p : 0 ≤ q 7 ∧ q 7 ≤ q 8 ∧ q 8 ≤ 240) (cc : 0 ≤ q 12 ∧ q 12 ≤ q 7) (h8 : q 8 = n) (h14 : q 14 = k) (k0 : 0 ≤ k) (k16 : k ≤ 16) :
    (∀ c e x p', rCls (tpA M) n k (q 7) = .inr ((c, e, x), p') → ∃ q' hf, sX8_readsRule (some 3772) (pw q M) = some (iI 1, pw q' M) ∧ RuOk q q' k c hf p' e x) ∧
    (∀ w pl, rCls (tpA M) n k (q 7) = .inl (w, pl) → ∃ q', sX8_readsRule (some 3772) (pw q M) = some (iI 0, pw q' M) ∧ Br q q' w pl) := by
  have r := hrA_r (M := M) (n := n) (p := q 7)
  have xh := p_here (q := q) hL p.1 (by omega) (by omega) (by omega)
  rw [h8] at xh
  have ne0 : ∀ a : Int, 0 ≤ a → a ≤ 200 → ¬ hrA (tpA M) n (q 7) = a → ¬ iI (hrA (tpA M) n (q 7)) = iI a := fun a a0 a1 x => by rw [iv_eq (by omega) (by omega) (by omega) (by omega)]; exact x
  unfold rCls
  by_cases hcl : hrA (tpA M) n (q 7) = 100 ∨ hrA (tpA M) n (q 7) = 108 ∨ hrA (tpA M) n (q 7) = 101 ∨ hrA (tpA M) n (q 7) = 120
  · rw [if_neg (fun x => x hcl)]
    obtain ⟨c, hc⟩ : ∃ c, hrA (tpA M) n (q 7) = c := ⟨_, rfl⟩
    rw [hc] at hcl xh r ne0 ⊢
    have pre : sX8_readsRule (some 3772) (pw q M) = sX8_readsRule_39 (some 3772) (iI c) (pw q M) := by
      unfold sX8_readsRule
      rw [cV_p hL, xh, clq]
      by_cases d1 : c = 100
      · rw [if_pos (congrArg iI d1)]
      · rw [if_neg (ne0 100 (by omega) (by omega) d1)]
        by_cases d2 : c = 108
        · rw [if_pos (congrArg iI d2)]
        · rw [if_neg (ne0 108 (by omega) (by omega) d2)]
          by_cases d3 : c = 101
          · rw [if_pos (congrArg iI d3)]
          · rw [if_neg (ne0 101 (by omega) (by omega) d3), if_pos (congrArg iI (show c = 120 by omega))]
    by_cases k6 : k = 16
    · rw [if_pos k6]
      refine ⟨fun c e x p' h => (by cases h), fun w pl h => ?_⟩
      cases h
      refine ⟨st q 9 (-1000 * 4 - q 7), ?_, ⟨st_eq _ _ _, fun x hx => st_ne (by omega), st_ne (by omega)⟩⟩
      rw [pre]
      unfold sX8_readsRule_39
      rw [gI_p14 hL, if_pos (congrArg iI (h14.trans k6)), gI_p7 hL, cV_p hL, p_wrong hL, clq, rZ0]
    · rw [if_neg k6]
      have hin := hr_in (T := tpA M) (n := n) (p := q 7) (by omega)
      obtain ⟨q1, hq1⟩ : ∃ q1, st (st (st (st (st q (3000 + k) c) 7 (q 7 + 1)) (3100 + k) (q 12)) 11 0) 13 0 = q1 := ⟨_, rfl⟩
      have ne : ∀ x, ¬ x = 3000 + k → ¬ x = 7 → ¬ x = 3100 + k → ¬ x = 11 → ¬ x = 13 → q1 x = q x := fun x a b d e f => by rw [← hq1, st_ne f, st_ne e, st_ne d, st_ne b, st_ne a]
      have a13 : q1 13 = 0 := by rw [← hq1]; exact st_eq _ _ _
      have a11 : q1 11 = 0 := by rw [← hq1, st_ne (by omega), st_eq]
      have a31 : q1 (3100 + k) = q 12 := by rw [← hq1, st_ne (by omega), st_ne (by omega), st_eq]
      have a7 : q1 7 = q 7 + 1 := by rw [← hq1, st_ne (by omega), st_ne (by omega), st_ne (by omega), st_eq]
      have a30 : q1 (3000 + k) = c := by rw [← hq1, st_ne (by omega), st_ne (by omega), st_ne (by omega), st_ne (by omega), st_eq]
      have a8 := ne 8 (by omega) (by omega) (by omega) (by omega) (by omega)
      have a12 := ne 12 (by omega) (by omega) (by omega) (by omega) (by omega)
      have a14 := ne 14 (by omega) (by omega) (by omega) (by omega) (by omega)
      have a15 := ne 15 (by omega) (by omega) (by omega) (by omega) (by omega)
      have pq1 : PQ q1 := ⟨by omega, by omega, by omega, by omega, fun i i0 i1 => by omega⟩
      have mid : sX8_readsRule_39 (some 3772) (iI c) (pw q M) = if c = 120 then sX8_readsRule_116 (some 3772) (pw q1 M) else cl (sX8_readsSum (some 3772) (pw q1 M)) fun x13 s14 => if x13 = (iI 0) then rZ (iI 0) s14 else sX8_readsRule_116 (some 3772) s14 := by
        unfold sX8_readsRule_39
        have e12 : st (st q (3000 + k) c) 7 (q 7 + 1) 12 = q 12 := by rw [st_ne (by omega), st_ne (by omega)]
        have e14 : st (st q (3000 + k) c) 7 (q 7 + 1) 14 = k := by rw [st_ne (by omega), st_ne (by omega)]; exact h14
        have e7 : st q (3000 + k) c 7 = q 7 := st_ne (by omega)
        rw [gI_p14 hL, if_neg (by rw [iv_eq (by omega) (by omega) (by omega) (by omega)]; omega), gR_p18 hL, gI_p14 hL, h14, sI_p3781 hL k0 (by omega), gI_p7 hL, e7, iv_add, pI_p7 hL, gR_p19 hL, gI_p14 hL, e14, gI_p12 hL, e12, sI_p3782 hL k0 (by omega), pI_p11 hL, pI_p13 hL, hq1]
        by_cases c120 : c = 120
        · rw [if_pos (congrArg iI c120), if_pos c120]
        · rw [if_neg (ne0 120 (by omega) (by omega) c120), if_neg c120, cV_p hL]
      by_cases c120 : c = 120
      · rw [if_pos c120]
        rw [if_pos c120] at mid
        have I := p_tail hL pq1 (n := n) (k := k) (c0 := q 12) (p0 := q 7) (cl := c) (e := fun _ => none) (by omega) (by omega) k0 (by omega) (by omega) (by omega) (fun x => absurd c120 x) hcl a30 a31
        rw [a7, c120] at I
        refine ⟨fun c' e x p' h => ?_, fun w pl h => ?_⟩
        · obtain ⟨u1, u2, q2, y1, y2, y3, y4, y5, y6, y7, y8, y9, y10, y11, y12, y13, y14, y15, y16⟩ := I.1 c' e x p' h
          refine ⟨q2, q 12, (pre.trans mid).trans y1, ⟨y2, ⟨y3, by omega, by omega, y6, by omega, by omega⟩, ⟨by rw [y8, u1], y9, by rw [y10, a12], y11⟩, ⟨by omega, by omega, by omega⟩, fun z => absurd u1 z, by rw [a12] at y13; exact y13, ?_, ?_, ?_⟩⟩
          · intro i i0 i1
            rw [y14 i i0 (by omega)]
            exact ne _ (by omega) (by omega) (by omega) (by omega) (by omega)
          · intro i i0 i1
            obtain ⟨v1, v2, v3, v4⟩ := y15 i i0 i1
            rw [v1, v2, v3, v4]
            exact ⟨ne _ (by omega) (by omega) (by omega) (by omega) (by omega), ne _ (by omega) (by omega) (by omega) (by omega) (by omega), ne _ (by omega) (by omega) (by omega) (by omega) (by omega), ne _ (by omega) (by omega) (by omega) (by omega) (by omega)⟩
          · intro z hz
            rw [y16 z hz]
            exact ne _ (by omega) (by omega) (by omega) (by omega) (by omega)
        · obtain ⟨q2, y1, y2⟩ := I.2 w pl h
          exact ⟨q2, (pre.trans mid).trans y1, ⟨y2.f, fun z hz => (y2.x z hz).trans (ne _ (by omega) (by omega) (by omega) (by omega) (by omega)), y2.g.trans a15⟩⟩
      · rw [if_neg c120]
        rw [if_neg c120] at mid
        have S := p_readsSum hL pq1 (n := n) (o := 0) (by omega) a11 (Or.inl a13) (by omega)
        rw [a7] at S
        cases hr : rSum (tpA M) n 7 0 (q 7 + 1) with
        | inl y =>
          refine ⟨fun c e' x p' h => (by cases h), fun w pl h => ?_⟩
          have h : (Sum.inl y : Res SumV) = .inl (w, pl) := by cases h; rfl
          obtain ⟨q', y1, y2⟩ := S.2 w pl (by rw [hr]; exact h)
          refine ⟨q', (pre.trans mid).trans ?_, ⟨y2.f, fun x hx => (y2.x x (by omega)).trans (ne _ (by omega) (by omega) (by omega) (by omega) (by omega)), y2.g.2.trans a15⟩⟩
          rw [y1, clq, if_pos rfl, rZ0]
        | inr y =>
          obtain ⟨e1, p1⟩ := y
          obtain ⟨q2, y1, y2, y3, y4, y5, y6, y7, y8, y9⟩ := S.1 e1 p1 hr
          have yg := y9.g
          have yc := y2.c
          have yp := y2.p
          have l8 := y8.1
          have mid2 : sX8_readsRule_39 (some 3772) (iI c) (pw q M) = sX8_readsRule_116 (some 3772) (pw q2 M) := by
            rw [mid, y1, clq, if_neg iv_01]
          have I := p_tail hL y2 (n := n) (k := k) (c0 := q 12) (p0 := q 7) (cl := c) (e := e1) (by omega) (by omega) k0 (by omega) (by omega) (by omega) (fun _ => by rw [a12] at y8; exact y8) hcl (by rw [y9.x _ (by omega)]; exact a30) (by rw [y9.x _ (by omega)]; exact a31)
          rw [y3] at I
          refine ⟨fun c' e x p' h => ?_, fun w pl h => ?_⟩
          · obtain ⟨u1, u2, q3, z1, z2, z3, z4, z5, z6, z7, z8, z9, z10, z11, z12, z13, z14, z15, z16⟩ := I.1 c' e x p' h
            refine ⟨q3, q2 12, (pre.trans mid2).trans z1, ⟨z2, ⟨z3, by omega, by omega, z6, by omega, by omega⟩, ⟨by rw [z8, u1], z9, z10, z11⟩, ⟨by omega, by omega, by omega⟩, fun _ => by rw [u2]; exact z12 c120, z13, ?_, ?_, ?_⟩⟩
            · intro i i0 i1
              rw [z14 i i0 (by omega), y9.c i i0 (by omega)]
              exact ne _ (by omega) (by omega) (by omega) (by omega) (by omega)
            · intro i i0 i1
              obtain ⟨v1, v2, v3, v4⟩ := z15 i i0 i1
              rw [v1, v2, v3, v4, y9.x _ (by omega), y9.x _ (by omega), y9.x _ (by omega), y9.x _ (by omega)]
              exact ⟨ne _ (by omega) (by omega) (by omega) (by omega) (by omega), ne _ (by omega) (by omega) (by omega) (by omega) (by omega), ne _ (by omega) (by omega) (by omega) (by omega) (by omega), ne _ (by omega) (by omega) (by omega) (by omega) (by omega)⟩
            · intro z hz
              rw [z16 z hz, y9.x _ (by omega)]
              exact ne _ (by omega) (by omega) (by omega) (by omega) (by omega)
          · obtain ⟨q3, z1, z2⟩ := I.2 w pl h
            exact ⟨q3, (pre.trans mid2).trans z1, ⟨z2.f, fun z hz => (z2.x z hz).trans ((y9.x z (by omega)).trans (ne _ (by omega) (by omega) (by omega) (by omega) (by omega))), z2.g.trans (by omega)⟩⟩
  · rw [if_pos hcl]
    refine ⟨fun c e x p' h => (by cases h), fun w pl h => ?_⟩
    cases h
    refine ⟨st q 9 (-1000 * 1 - q 7), ?_, ⟨st_eq _ _ _, fun x hx => st_ne (by omega), st_ne (by omega)⟩⟩
    unfold sX8_readsRule
    rw [cV_p hL, xh, clq, if_neg (ne0 100 (by omega) (by omega) (fun x => hcl (Or.inl x))), if_neg (ne0 108 (by omega) (by omega) (fun x => hcl (Or.inr (Or.inl x)))), if_neg (ne0 101 (by omega) (by omega) (fun x => hcl (Or.inr (Or.inr (Or.inl x))))), if_neg (ne0 120 (by omega) (by omega) (fun x => hcl (Or.inr (Or.inr (Or.inr x))))), gI_p7 hL, cV_p hL, p_wrong hL, clq, rZ0]
end
