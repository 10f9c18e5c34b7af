/-! DEPS: zi -/
/-! ZJ: the twin reads an item: the walk -/
section
variable {M : Mem}
theorem z_act (hL : LPt M) (hZ : LZ M) {fu : Nat} {s : Stk} {l : List Act} {q r : Row} {fr t : Int} (ac : AcR r l) (h38 : r 38 = (s.length : Int)) (sr : StR r s) (sc : StC l.length s) (h2 : s.length ≤ 2) (p0 : 0 ≤ q 7) (p1 : q 7 ≤ 500) (n0 : 0 ≤ q 8) (n1 : q 8 ≤ 240)
    (h39 : r 39 = fr) (h40 : r 40 = t) (t0 : 1 ≤ t) (t1 : t ≤ 9) (hc : ¬ hrA (tpA M) (q 8) (q 7) = 40) :
    OutI q M (sX8_readsAct_4 (fu + 1) (some 3772) (pw q (qw r M))) (match pAct (tpA M) (q 8) l fr t (q 7) with
      | .inl e => .inl e
      | .inr (l', p') => .inr (s, l', p')) := by
  have hr := hrA_r (M := M) (n := q 8) (p := q 7)
  have E40 : (iI (hrA (tpA M) (q 8) (q 7)) = iI 40) ↔ hrA (tpA M) (q 8) (q 7) = 40 := EI (by omega) (by omega) (by omega) (by omega)
  show OutI q M (sX8_readsAct_4b (sX8_readsAct_4 fu) (some 3772) (pw q (qw r M))) _
  generalize sX8_readsAct_4 fu = K
  unfold sX8_readsAct_4b pAct
  rw [cV_p (M := qw r M) hL, z_here hL p0 n1 (by omega) n0, clq, if_neg (fun z => hc (E40.mp z)), gI_z39 hL, gI_z40 hL, h39, h40, cV_p (M := qw r M) hL, z_here hL p0 n1 (by omega) n0, clq, z_isAct (by omega) (by omega), clq]
  by_cases a : isActA (hrA (tpA M) (q 8) (q 7))
  · have nb : ¬ bI (isActA (hrA (tpA M) (q 8) (q 7))) = iI 0 := by rw [bI_z]; exact fun z => z a
    have plt := hr_lt (T := tpA M) (n := q 8) (p := q 7) (by unfold isActA at a; omega)
    have c0 : 0 ≤ hrA (tpA M) (q 8) (q 7) := by unfold isActA at a; omega
    rw [if_neg nb, if_neg (fun z => z a), gI_p7 (M := qw r M) hL, iv_add, pI_p7 (M := qw r M) hL, cV_p (M := qw r M) hL]
    obtain ⟨q1, hq1⟩ : ∃ q1, q1 = st q 7 (q 7 + 1) := ⟨_, rfl⟩
    have f1 : Fq q q1 := by rw [hq1]; exact Fq.st (by omega)
    have k7 : q1 7 = q 7 + 1 := by rw [hq1]; exact st_eq _ _ _
    have k8 : q1 8 = q 8 := f1 8 (by omega) (by omega) (by omega)
    have nm := z_numbers (q := q1) (r := r) hL (by omega) (by omega) (by omega) (by omega) c0 hr.2
    rw [← hq1]
    rw [k7, k8] at nm
    unfold OutN at nm
    cases e : pNum (tpA M) (q 8) (hrA (tpA M) (q 8) (q 7)) (q 7 + 1) with
    | inl x =>
      rw [e] at nm
      obtain ⟨q', r', b1, b2, b3, b4⟩ := nm
      rw [b1, clq, if_pos rfl, rZ0]
      exact ⟨q', r', rfl, b2, f1.trans b3⟩
    | inr x =>
      rw [e] at nm
      obtain ⟨q', r', b1, b2, b3, b4, b5, b6, b7⟩ := nm
      have xc := pNum_c (show pNum (tpA M) (q 8) (hrA (tpA M) (q 8) (q 7)) (q 7 + 1) = .inr (x.1, x.2) from e)
      have fq := f1.trans b3
      have ac' : AcR r' l := ⟨by rw [b7 37 (by omega)]; exact ac.1, ac.2.1, fun i y hi hy => by
        rw [b7 _ (by omega), b7 _ (by omega), b7 _ (by omega), b7 _ (by omega)]; exact ac.2.2 i y hi hy⟩
      have h37 : r' 37 = (l.length : Int) := ac'.1
      have l200 := ac.2.1
      have El : (iI ((l.length : Int) + t) ≤ iI 200) = ((l.length : Int) + t ≤ 200) := iv_le (by omega) (by omega) (by omega) (by omega)
      rw [b1, clq, if_neg iv_01, gI_z37 hL, h37, iv_add]
      show OutI q M _ (match (if (l.length : Int) + t > 200 then Sum.inl (6, fr) else pRep (l ++ [x.1]) l.length t fr x.2 : ResP) with | .inl e => .inl e | .inr (l', p') => .inr (s, l', p'))
      by_cases g : (l.length : Int) + t > 200
      · rw [if_pos g, if_neg (by rw [El]; omega), cV_p (M := qw r' M) hL, z_wrong hL, clq, rZ0]
        exact ⟨_, _, rfl, st_eq _ _ _, fq.trans (Fq.st (by omega))⟩
      · rw [if_neg g, if_pos (by rw [El]; omega)]
        obtain ⟨ac4, fr4⟩ := z_lay (x := x.1) ac' (by omega) rfl
        have ln : (l ++ [x.1]).length = l.length + 1 := by rw [List.length_append]; rfl
        have lay : ∀ {β : Type} (f : Mem → Option β), (gR (pw q' (qw r' M)) (some 3772) 6 30 fun x14 => gI (pw q' (qw r' M)) (some 3772) 6 37 fun x15 => sI (pw q' (qw r' M)) x14 x15 (iI (hrA (tpA M) (q 8) (q 7))) fun s16 =>
          gR s16 (some 3772) 6 31 fun x17 => gI s16 (some 3772) 6 37 fun x18 => gI s16 (some 3772) 6 41 fun x19 => sI s16 x17 x18 x19 fun s20 =>
          gR s20 (some 3772) 6 32 fun x21 => gI s20 (some 3772) 6 37 fun x22 => gI s20 (some 3772) 6 42 fun x23 => sI s20 x21 x22 x23 fun s24 =>
          gR s24 (some 3772) 6 33 fun x25 => gI s24 (some 3772) 6 37 fun x26 => gI s24 (some 3772) 6 43 fun x27 => sI s24 x25 x26 x27 fun s28 =>
          gI s28 (some 3772) 6 37 fun x29 => pI s28 (some 3772) 6 37 (x29 + (iI 1)) fun s30 => f s30) = f (pw q' (qw (st (st (st (st (st r' (6000 + (l.length : Int)) x.1.1) (6300 + (l.length : Int)) x.1.2.1) (6600 + (l.length : Int)) x.1.2.2.1) (6900 + (l.length : Int)) x.1.2.2.2) 37 ((l.length : Int) + 1)) M)) := by
          intro β f
          rw [gR_z30 hL hZ, gI_z37 hL, h37, ← xc, sI_z3792 hZ (by omega) (by omega), gR_z31 hL hZ, gI_z37 hL, gI_z41 hL, st_ne (by omega), st_ne (by omega), h37, b4, sI_z3793 hZ (by omega) (by omega),
            gR_z32 hL hZ, gI_z37 hL, gI_z42 hL, st_ne (by omega), st_ne (by omega), st_ne (by omega), st_ne (by omega), h37, b5, sI_z3794 hZ (by omega) (by omega),
            gR_z33 hL hZ, gI_z37 hL, gI_z43 hL, st_ne (by omega), st_ne (by omega), st_ne (by omega), st_ne (by omega), st_ne (by omega), st_ne (by omega), h37, b6, sI_z3795 hZ (by omega) (by omega),
            gI_z37 hL, st_ne (by omega), st_ne (by omega), st_ne (by omega), st_ne (by omega), h37, iv_add, pI_z37 hL]
        rw [lay]
        obtain ⟨r4, hr4⟩ : ∃ r4, r4 = st (st (st (st (st r' (6000 + (l.length : Int)) x.1.1) (6300 + (l.length : Int)) x.1.2.1) (6600 + (l.length : Int)) x.1.2.2.1) (6900 + (l.length : Int)) x.1.2.2.2) 37 ((l.length : Int) + 1) := ⟨_, rfl⟩
        rw [← hr4] at ac4 fr4 ⊢
        have rp := z_repeats (q := q') (r := r4) (l := l ++ [x.1]) (s := l.length) (fr := fr) (p := x.2) hL hZ ac4 (by omega) t0 t1
        rw [gI_z37 hL, ac4.1, ln, iv_sub, show ((l.length + 1 : Nat) : Int) - 1 = (l.length : Int) by omega, cV_p (M := qw r4 M) hL]
        cases e2 : pRep (l ++ [x.1]) l.length t fr x.2 with
        | inl y =>
          rw [e2] at rp
          rw [rp, clq, if_pos rfl, rZ0]
          exact ⟨_, _, rfl, st_eq _ _ _, fq.trans (Fq.st (by omega))⟩
        | inr y =>
          rw [e2] at rp
          obtain ⟨y2, ll, r5, w1, w2, w3⟩ := rp
          rw [w1, clq, if_neg iv_01]
          have k5 : ∀ y, y ≠ 37 → (y < 41 ∨ 43 < y) → (y < 6000 ∨ 7200 ≤ y) → r5 y = r y := fun y a b c => by rw [w3 y a c, fr4 y a c, b7 y b]
          refine ⟨q', r5, rfl, ?_, fq, w2, by rw [k5 38 (by omega) (by omega) (by omega)]; exact h38, sr.up (fun k hk => ⟨k5 _ (by omega) (by omega) (by omega), k5 _ (by omega) (by omega) (by omega), k5 _ (by omega) (by omega) (by omega)⟩), sc.lt (by show l.length < y.1.length; omega), h2⟩
          show q' 7 = y.2
          rw [b2, y2]
  · rw [if_pos (by rw [bI_z]; exact a), if_pos a, gI_p7 (M := qw r M) hL, cV_p (M := qw r M) hL, z_wrong hL, clq, rZ0]
    exact ⟨_, _, rfl, st_eq _ _ _, Fq.st (by omega)⟩
end
