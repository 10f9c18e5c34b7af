/-! DEPS: ym -/
/-! YN: the twin reads a text -/
/-- the clauses read so far -/
def RulQ (q : Row) (l : List Cls) : Prop := q 14 = (l.length : Int) ∧ ∀ (i : Nat) (h : i < l.length), ∃ fr hf to : Int, q (3000 + i) = l[i].1 ∧ q (3100 + i) = fr ∧ q (3200 + i) = hf ∧ q (3300 + i) = to ∧ 0 ≤ fr ∧ fr ≤ hf ∧ hf ≤ 250 ∧ to ≤ q 12 ∧ (l[i].1 = 100 ∨ l[i].1 = 108 ∨ l[i].1 = 101 ∨ l[i].1 = 120) ∧ (l[i].1 ≠ 120 → RunS (cdQ q) fr hf l[i].2.1) ∧ RunS (cdQ q) hf to (numV l[i].2.2)
theorem iv_10' : ¬ iI 1 = iI 0 := iv_01
def u1M' (M : Mem) (a i : Nat) (v : Int32) : Mem := (up2 (mI M) a i v, M.2)
section
variable {M : Mem}
theorem RulQ.more {q q' : Row} {l : List Cls} {k c hf p' : Int} {e : SumV} {x : CndV} (r : RulQ q l) (hk : k = (l.length : Int)) (u : RuOk q q' k c hf p' e x) (c0 : 0 ≤ q 12) : RulQ q' (l ++ [(c, e, x)]) := by
  have lc := u.c.1
  have hh := u.h
  refine ⟨by rw [List.length_append]; show q' 14 = ((l.length + 1 : Nat) : Int); have := u.g.2.2.2.1; omega, fun i hi => ?_⟩
  have hi' : i < l.length + 1 := by rw [List.length_append] at hi; exact hi
  by_cases z : i < l.length
  · have eg : (l ++ [(c, e, x)])[i] = l[i] := List.getElem_append_left z
    rw [eg]
    obtain ⟨fr, hf, to, a1, a2, a3, a4, b1, b2, b3, b4, b5, r1, r2⟩ := r.2 i z
    obtain ⟨o1, o2, o3, o4⟩ := u.o i (by omega) (by omega)
    have l2 := r2.1
    exact ⟨fr, hf, to, by rw [o1]; exact a1, by rw [o2]; exact a2, by rw [o3]; exact a3, by rw [o4]; exact a4, b1, b2, b3, by omega, b5, fun n => (r1 n).ext (fun j j0 j1 => u.k j (by omega) (by omega)), r2.ext (fun j j0 j1 => u.k j (by omega) (by omega))⟩
  · have ei : i = l.length := by omega
    subst ei
    have eg : (l ++ [(c, e, x)])[l.length] = (c, e, x) := by
      rw [List.getElem_append_right (Nat.le_refl _)]
      simp
    rw [eg]
    obtain ⟨r1, r2, r3, r4⟩ := u.r
    rw [hk] at r1 r2 r3 r4
    exact ⟨q 12, hf, q' 12, r1, r2, r3, r4, c0, hh.1, hh.2.1, Int.le_refl _, hh.2.2, u.e, u.c⟩
theorem pI_6 {β : Type} {q : Row} (hL : LPt M) {v : Int} {f : Mem → Option β} : pI (pw q M) (some 3772) 6 6 (iI v) f = f (pw q (u1M' M 3772 6 (iI v))) := by
  refine (if_pos hL.1).trans (congrArg f (Prod.ext ?_ rfl))
  funext a j
  show up2 (pwI q (mI M)) 3772 6 (iI v) a j = pwI q (up2 (mI M) 3772 6 (iI v)) a j
  unfold up2 pwI
  by_cases c : a = 3772 ∧ j = 6
  · have : plP a j = none := by
      unfold plP
      rw [if_pos c.1, if_neg (by omega)]
    rw [if_pos c, this]
    exact (if_pos c).symm
  · rw [if_neg c]
    cases plP a j with
    | none => exact (if_neg c).symm
    | some x => rfl
theorem p_takes (hL : LPt M) {q : Row} {ch : Int} (p : 0 ≤ q 7 ∧ q 7 ≤ q 8 ∧ q 8 ≤ 240) (c0 : 0 ≤ ch) (c1 : ch ≤ 200) : sX8_takes (some 3772) (iI ch) (pw q M) = if hrA (tpA M) (q 8) (q 7) = ch then some (iI 1, pw (st q 7 (q 7 + 1)) M) else some (iI 0, pw (st q 9 (-1000 * 1 - q 7)) M) := by
  have r := hrA_r (M := M) (n := q 8) (p := q 7)
  unfold sX8_takes
  rw [cV_p hL, p_here hL p.1 (by omega) (by omega) (by omega), clq]
  by_cases c : hrA (tpA M) (q 8) (q 7) = ch
  · rw [if_pos (congrArg iI c), if_pos c, gI_p7 hL, iv_add, pI_p7 hL, rZ1]
  · rw [if_neg (by rw [iv_eq (by omega) (by omega) (by omega) (by omega)]; exact c), if_neg c, gI_p7 hL, cV_p hL, p_wrong hL, clq, rZ0]
theorem p_law_no {q : Row} {fu : Nat} : sX8_law_31 (fu + 1) (some 3772) (iI 0) (pw q M) = sX8_law_71 (some 3772) (iI 0) (pw q M) := by
  show sX8_law_31b (sX8_law_31 fu) _ _ _ = _
  unfold sX8_law_31b
  rw [if_pos rfl]
abbrev LawOk (M : Mem) (q : Row) (A : Option (Int32 × Mem)) (r : (Int × Int) ⊕ List Cls) : Prop :=
  (∀ l, r = .inr l → ∃ q', A = sX8_law_71 (some 3772) (iI 1) (pw q' M) ∧ (0 ≤ q' 12 ∧ q' 12 ≤ 240) ∧ RulQ q' l ∧ l.length ≤ 16 ∧ (∀ x, 4000 ≤ x → q' x = q x) ∧ q' 15 = q 15) ∧
  (∀ w pl, r = .inl (w, pl) → ∃ q', A = sX8_law_71 (some 3772) (iI 0) (pw q' M) ∧ Br q q' w pl)
theorem p_lawL (hL : LPt M) {n : Int} : ∀ (f : Nat) (l : List Cls) (q : Row) (fu : Nat), PQ q → q 8 = n → RulQ q l → l.length ≤ 16 → n - q 7 < f → n - q 7 + 1 < fu →
    LawOk M q (sX8_law_31 fu (some 3772) (iI 1) (pw q M)) (if q 7 < n then (if hrA (tpA M) n (q 7) = 59 then rText (tpA M) n f l (q 7 + 1) else .inl (1, q 7)) else .inr l)
  | 0, l, q, fu, hq, h8, hr, hl, h1, h2 => by
    have := hq.p
    omega
  | f + 1, l, q, fu, hq, h8, hr, hl, h1, h2 => by
    have p := hq.p
    have c := hq.c
    obtain ⟨f1, hf1⟩ : ∃ f1 : Nat, fu = f1 + 1 + 1 := ⟨fu - 2, by omega⟩
    subst hf1
    have tk := p_takes (q := q) (ch := 59) hL p (by omega) (by omega)
    rw [h8] at tk
    by_cases cn : q 7 < n
    · rw [if_pos cn]
      have go : sX8_law_31 (f1 + 1 + 1) (some 3772) (iI 1) (pw q M) = cl (sX8_takes (some 3772) (iI 59) (pw q M)) fun x3 s4 => if x3 = (iI 0) then sX8_law_31 (f1 + 1) (some 3772) (iI 0) s4 else cV s4 (some 3772) 6 <| cl (sX8_readsRule (some 3772) s4) fun x5 s6 => if x5 = (iI 0) then sX8_law_31 (f1 + 1) (some 3772) (iI 0) s6 else sX8_law_31 (f1 + 1) (some 3772) (iI 1) s6 := by
        show sX8_law_31b (sX8_law_31 (f1 + 1)) _ _ _ = _
        generalize sX8_law_31 (f1 + 1) = K
        unfold sX8_law_31b sX8_law_66 sX8_law_67
        rw [if_neg iv_10', gI_p7 hL, gI_p8 hL, if_neg (by rw [iv_le (by omega) (by omega) (by omega) (by omega)]; omega), cV_p hL]
      by_cases c59 : hrA (tpA M) n (q 7) = 59
      · rw [if_pos c59]
        rw [if_pos c59] at tk
        obtain ⟨q1, hq1⟩ : ∃ q1, st q 7 (q 7 + 1) = q1 := ⟨_, rfl⟩
        have ne : ∀ x, ¬ x = 7 → q1 x = q x := fun x a => by rw [← hq1, st_ne a]
        have a7 : q1 7 = q 7 + 1 := by rw [← hq1]; exact st_eq _ _ _
        have a8 := ne 8 (by omega)
        have a12 := ne 12 (by omega)
        have a14 := ne 14 (by omega)
        have R := p_rule hL (q := q1) (n := n) (k := (l.length : Int)) (by omega) (by omega) (by omega) (a14.trans hr.1) (by omega) (by omega)
        rw [a7] at R
        have rq1 : RulQ q1 l := ⟨a14.trans hr.1, fun i hi => by
          obtain ⟨fr, hf, to, b1, b2, b3, b4, b5, b6, b7, b8, b9, r1, r2⟩ := hr.2 i hi
          exact ⟨fr, hf, to, by rw [ne _ (by omega)]; exact b1, by rw [ne _ (by omega)]; exact b2, by rw [ne _ (by omega)]; exact b3, by rw [ne _ (by omega)]; exact b4, b5, b6, b7, by omega, b9, fun z => (r1 z).ext (fun j j0 j1 => ne _ (by omega)), r2.ext (fun j j0 j1 => by have := r2.1; exact ne _ (by omega))⟩⟩
        unfold rText
        cases hc : rCls (tpA M) n (l.length : Int) (q 7 + 1) with
        | inl y =>
          refine ⟨fun l' h => (by cases h), fun w pl h => ?_⟩
          have h : (Sum.inl y : Res Cls) = .inl (w, pl) := by cases h; rfl
          obtain ⟨q', y1, y2⟩ := R.2 w pl (by rw [hc]; exact h)
          refine ⟨q', ?_, ⟨y2.f, fun x hx => (y2.x x hx).trans (ne _ (by omega)), y2.g.trans (ne _ (by omega))⟩⟩
          rw [go, tk, clq, if_neg iv_01, cV_p hL, hq1, y1, clq, if_pos rfl, p_law_no]
        | inr y =>
          obtain ⟨⟨cc, ee, xx⟩, p2⟩ := y
          obtain ⟨q2, hf, y1, u⟩ := R.1 cc ee xx p2 hc
          have r2 := rq1.more rfl u (by omega)
          have u7 := u.g
          have ll : (l ++ [(cc, ee, xx)]).length ≤ 16 := by
            rw [List.length_append]
            show l.length + 1 ≤ 16
            omega
          have ih := p_lawL hL (n := n) f (l ++ [(cc, ee, xx)]) q2 (f1 + 1) u.pq (u.g.2.2.1.trans (a8.trans h8)) r2 ll (by omega) (by omega)
          rw [u.g.1] at ih
          have st2 : sX8_law_31 (f1 + 1 + 1) (some 3772) (iI 1) (pw q M) = sX8_law_31 (f1 + 1) (some 3772) (iI 1) (pw q2 M) := by
            rw [go, tk, clq, if_neg iv_01, cV_p hL, hq1, y1, clq, if_neg iv_01]
          refine ⟨fun l' h => ?_, fun w pl h => ?_⟩
          · obtain ⟨q', z1, z2, z3, z4, z5, z6⟩ := ih.1 l' h
            exact ⟨q', st2.trans z1, z2, z3, z4, fun x hx => (z5 x hx).trans ((u.x x hx).trans (ne _ (by omega))), z6.trans (u.g.2.2.2.2.1.trans (ne _ (by omega)))⟩
          · obtain ⟨q', z1, z2⟩ := ih.2 w pl h
            exact ⟨q', st2.trans z1, ⟨z2.f, fun x hx => (z2.x x hx).trans ((u.x x hx).trans (ne _ (by omega))), z2.g.trans (u.g.2.2.2.2.1.trans (ne _ (by omega)))⟩⟩
      · rw [if_neg c59]
        rw [if_neg c59] at tk
        refine ⟨fun l' h => (by cases h), fun w pl h => ?_⟩
        cases h
        refine ⟨st q 9 (-1000 * 1 - q 7), ?_, ⟨st_eq _ _ _, fun x hx => st_ne (by omega), st_ne (by omega)⟩⟩
        rw [go, tk, clq, if_pos rfl, p_law_no]
    · rw [if_neg cn]
      refine ⟨fun l' h => ?_, fun w pl h => (by cases h)⟩
      cases h
      refine ⟨q, ?_, by omega, hr, hl, fun x hx => rfl, rfl⟩
      show sX8_law_31b (sX8_law_31 (f1 + 1)) _ _ _ = _
      unfold sX8_law_31b
      rw [if_neg iv_10', gI_p7 hL, gI_p8 hL, if_pos (by rw [iv_le (by omega) (by omega) (by omega) (by omega)]; omega)]
end
