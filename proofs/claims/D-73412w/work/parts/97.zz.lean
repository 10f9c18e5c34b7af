/-! DEPS: zy -/
/-! ZZ: the twin takes a plan -/
def repZ (M : Mem) (p : Int) : Int := if 37 ≤ p ∧ p ≤ 43 then (mI M 3772 p.toNat).toInt else if 6000 ≤ p ∧ p < 6200 then (mI M 3792 (p - 6000).toNat).toInt else if 6300 ≤ p ∧ p < 6500 then (mI M 3793 (p - 6300).toNat).toInt else if 6600 ≤ p ∧ p < 6800 then (mI M 3794 (p - 6600).toNat).toInt
  else if 6900 ≤ p ∧ p < 7100 then (mI M 3795 (p - 6900).toNat).toInt else if 7200 ≤ p ∧ p < 7202 then (mI M 3796 (p - 7200).toNat).toInt else if 7210 ≤ p ∧ p < 7212 then (mI M 3797 (p - 7210).toNat).toInt else (mI M 3798 (p - 7220).toNat).toInt
theorem qw_rep (M : Mem) : ∃ r, qw r M = M := by
  refine ⟨repZ M, Prod.ext ?_ rfl⟩
  funext a j
  show qwI (repZ M) (mI M) a j = mI M a j
  unfold qwI
  cases e : plZ a j with
  | none => rfl
  | some p =>
    show iI (repZ M p) = _
    unfold repZ
    rcases plZ_c e with ⟨a1, a2, a3, a4⟩ | ⟨b, n, b1, b2, b3⟩
    · rw [if_pos (by omega), iv_of, a1, show p.toNat = j by omega]
    · rcases (bsZ_r b1).2.2 with r | r | r | r | r | r | r <;> (obtain ⟨r1, r2⟩ := r; cases r2)
      · rw [if_neg (by omega), if_pos (by omega), iv_of, r1, show (p - 6000).toNat = j by omega]
      · rw [if_neg (by omega), if_neg (by omega), if_pos (by omega), iv_of, r1, show (p - 6300).toNat = j by omega]
      · rw [if_neg (by omega), if_neg (by omega), if_neg (by omega), if_pos (by omega), iv_of, r1, show (p - 6600).toNat = j by omega]
      · rw [if_neg (by omega), if_neg (by omega), if_neg (by omega), if_neg (by omega), if_pos (by omega), iv_of, r1, show (p - 6900).toNat = j by omega]
      · rw [if_neg (by omega), if_neg (by omega), if_neg (by omega), if_neg (by omega), if_neg (by omega), if_pos (by omega), iv_of, r1, show (p - 7200).toNat = j by omega]
      · rw [if_neg (by omega), if_neg (by omega), if_neg (by omega), if_neg (by omega), if_neg (by omega), if_neg (by omega), if_pos (by omega), iv_of, r1, show (p - 7210).toNat = j by omega]
      · rw [if_neg (by omega), if_neg (by omega), if_neg (by omega), if_neg (by omega), if_neg (by omega), if_neg (by omega), if_neg (by omega), iv_of, r1, show (p - 7220).toNat = j by omega]
section
variable {σ σ' : Mem} {h k g gk : Row} {l : List Cls} {t b : Int} {T : Nat → Int32} {R : Int}
theorem m_run {la : List Act} : ∀ (xs : List Act) (σ : Mem) (g : Row) (R : Int) (i : Nat) (acc : Int) (fu : Nat), Stt σ → TSd σ g gk l t b T → GoodR R g → R + 7 * xs.length + 1400 ≤ 1000000 → PlanZ σ la → la.drop i = xs → i ≤ la.length → xs.length < fu → 0 ≤ acc → acc ≤ i →
    ∃ σ1, sX8_plan_89 fu (some 3772) (iI acc) (iI (i : Int)) σ = some (iI (acc + (runS (lawOf l) xs g).1), σ1) ∧ TSd σ1 (runS (lawOf l) xs g).2 gk l t b T ∧ Chg σ σ1 twP
  | xs, σ, g, R, i, acc, 0, S, W, H, hR, P, hd, hi, hf, c0, c1 => by omega
  | [], σ, g, R, i, acc, fu + 1, S, W, H, hR, P, hd, hi, hf, c0, c1 => by
    have l2 := P.l
    have hl : la.length - i = 0 := by rw [← List.length_drop, hd]; rfl
    refine ⟨σ, ?_, W, ⟨rfl, fun _ _ _ => rfl⟩⟩
    have k6 : (mK σ 3772).1 = 6 := S.lt.1.1
    show sX8_plan_89b (sX8_plan_89 fu) _ _ _ _ = _
    generalize sX8_plan_89 fu = K
    unfold sX8_plan_89b
    rw [gI_y k6, P.n, if_pos (by rw [iv_le (by omega) (by omega) (by omega) (by omega)]; omega)]
    show some (iI acc, σ) = some (iI (acc + 0), σ)
    rw [show acc + 0 = acc by omega]
  | x :: xs, σ, g, R, i, acc, fu + 1, S, W, H, hR, P, hd, hi, hf, c0, c1 => by
    have l2 := P.l
    have hl : la.length - i = xs.length + 1 := by rw [← List.length_drop, hd]; rfl
    have e1 : ((x :: xs).length : Int) = (xs.length : Int) + 1 := rfl
    have e2 : (x :: xs).length = xs.length + 1 := rfl
    have hx : la[i]? = some x := by
      have q : (la.drop i)[0]? = some x := by rw [hd]; rfl
      rw [List.getElem?_drop] at q
      exact q
    have hd2 : la.drop (i + 1) = xs := by
      rw [← List.drop_drop, hd]
      rfl
    obtain ⟨σ1, x1, W1, ch1⟩ := m_done S W H (by omega) P hx
    obtain ⟨v, hv⟩ : ∃ v, v = doneS (lawOf l) g (iI x.1) (iI x.2.1) (iI x.2.2.1) (iI x.2.2.2) := ⟨_, rfl⟩
    have G1 := good_done (Λ := lawOf l) (c := iI x.1) (a := iI x.2.1) (b := iI x.2.2.1) (v := iI x.2.2.2) H (by omega)
    rw [← hv] at x1 W1 G1
    have ih := fun acc => m_run xs σ1 v.2 (R + 7) (i + 1) acc fu (S.to ch1.1) W1 G1 (by omega) (P.to ch1) hd2 (by omega) (by omega)
    have ei : ((i + 1 : Nat) : Int) = (i : Int) + 1 := rfl
    have run : runS (lawOf l) (x :: xs) g = ((if v.1 = iI 0 then 0 else 1) + (runS (lawOf l) xs v.2).1, (runS (lawOf l) xs v.2).2) := by rw [hv]; rfl
    have k6 : (mK σ 3772).1 = 6 := S.lt.1.1
    rw [run]
    show ∃ σ1, sX8_plan_89b (sX8_plan_89 fu) _ _ _ _ = _ ∧ _
    generalize sX8_plan_89 fu = K at ih ⊢
    unfold sX8_plan_89b sX8_plan_111
    rw [gI_y k6, P.n, if_neg (by rw [iv_le (by omega) (by omega) (by omega) (by omega)]; omega), cV_y k6, x1, clw]
    by_cases z : v.1 = iI 0
    · obtain ⟨σ2, y1, y3, y4⟩ := ih acc c0 (by omega)
      refine ⟨σ2, ?_, y3, ch1.thn y4⟩
      rw [if_pos z, if_pos z, iv_add, ← ei, y1, show 0 + (runS (lawOf l) xs v.2).1 = (runS (lawOf l) xs v.2).1 by omega]
    · obtain ⟨σ2, y1, y3, y4⟩ := ih (acc + 1) (by omega) (by omega)
      refine ⟨σ2, ?_, y3, ch1.thn y4⟩
      rw [if_neg z, if_neg z, iv_add, iv_add, ← ei, y1, show acc + 1 + (runS (lawOf l) xs v.2).1 = acc + (1 + (runS (lawOf l) xs v.2).1) by omega]
theorem tpA_T (W : TSd σ g gk l t b T) : tpA σ = tpT T := by
  funext x
  unfold tpA tpT
  rw [W.tp]
theorem plP_in {a j : Nat} {p : Int} (h : plP a j = some p) : (a = 3772 ∧ 7 ≤ j ∧ j ≤ 15 ∧ p = j) ∨ (3779 ≤ a ∧ a ≤ 3789 ∧ 1000 ≤ p) := by
  rcases plP_c h with q | ⟨b, n, b1, b2, b3⟩
  · exact Or.inl q
  · have u := bsP_r b1
    refine Or.inr ⟨u.1, u.2.1, ?_⟩
    rcases u.2.2 with r | r | r | r | r | r | r | r | r | r | r <;> (obtain ⟨r1, r2⟩ := r; cases r2; omega)
theorem plZ_in {a j : Nat} {p : Int} (h : plZ a j = some p) : (a = 3772 ∧ 37 ≤ j ∧ j ≤ 43) ∨ (3792 ≤ a ∧ a ≤ 3798) := by
  rcases plZ_c h with ⟨a1, a2, a3, a4⟩ | ⟨b, n, b1, b2, b3⟩
  · exact Or.inl ⟨a1, a2, a3⟩
  · have u := bsZ_r b1
    exact Or.inr ⟨u.1, u.2.1⟩
/-- reading a plan leaves all but these -/
abbrev plW (a j : Nat) : Prop := (a = 3772 ∧ (j = 6 ∨ j = 7 ∨ j = 8 ∨ j = 9 ∨ j = 10 ∨ j = 12 ∨ j = 14 ∨ (37 ≤ j ∧ j ≤ 43))) ∨ (3792 ≤ a ∧ a ≤ 3798)
theorem m_plan (S : Stt σ) (W : TSd σ g gk l t b T) (H : GoodR R g) (hR : R + 2800 ≤ 1000000) (t0 : 0 ≤ t) (t1 : t ≤ 260) {n : Int} (n0 : -2147483648 ≤ n) (n1 : n ≤ 2147483647) :
    ∃ σ1, sX8_plan (some 3772) (iI n) σ = some (iI (planAns (lawOf l) (tpT T) t n g), σ1) ∧ TSd σ1 (planG (lawOf l) (tpT T) t n g) gk l (planTp (tpT T) t n) b T ∧ Chg σ σ1 (fun a j => 3772 ≤ a ∧ a < 3799) := by
  have k6 : (mK σ 3772).1 = 6 := S.lt.1.1
  have w1 : sX8_in (iI n) (iI 1) (iI 120) σ = some (bI (1 ≤ n ∧ n ≤ 120), σ) := m_in n0 n1 (by omega) (by omega) (by omega) (by omega)
  unfold sX8_plan
  rw [w1, clw]
  by_cases c : 1 ≤ n ∧ n ≤ 120
  · rw [if_neg (by rw [bI_z]; exact fun z => z c), gI_y k6, W.w6]
    by_cases d : n ≤ t
    · rw [if_pos (by rw [iv_le (by omega) (by omega) (by omega) (by omega)]; exact d), cV_y k6]
      have hr : planR (tpT T) t n = some (pPlan (tpT T) n) := by unfold planR; rw [if_pos c, if_pos d]
      have hL : LPt σ := S.lp
      have hZ : LZ σ := S.lz
      obtain ⟨q, hq⟩ := pw_rep σ
      obtain ⟨r, hr0⟩ := qw_rep σ
      obtain ⟨q1, hq1⟩ : ∃ q1, st (st (st (st q 7 0) 8 n) 12 0) 14 0 = q1 := ⟨_, rfl⟩
      have a7 : q1 7 = 0 := by rw [← hq1, st_ne (by omega), st_ne (by omega), st_ne (by omega), st_eq]
      have a8 : q1 8 = n := by rw [← hq1, st_ne (by omega), st_ne (by omega), st_eq]
      have ne : ∀ x, x ≠ 7 → x ≠ 8 → x ≠ 12 → x ≠ 14 → q1 x = q x := fun x x1 x2 x3 x4 => by rw [← hq1, st_ne x4, st_ne x3, st_ne x2, st_ne x1]
      have e0 : pw q (qw r σ) = σ := by rw [hr0]; exact hq
      have bt : sX8_beginsText (some 3772) (iI n) σ = some ((), pw q1 (qw r σ)) := by
        conv => lhs; rw [← e0]
        unfold sX8_beginsText
        rw [pI_p7 (M := qw r σ) hL, pI_p8 (M := qw r σ) hL, pI_p12 (M := qw r σ) hL, pI_p14 (M := qw r σ) hL, hq1]
      obtain ⟨r2, hr2⟩ : ∃ r2, r2 = st (st r 37 0) 38 0 := ⟨_, rfl⟩
      have b37 : r2 37 = 0 := by rw [hr2]; exact (st_ne (by omega)).trans (st_eq _ _ _)
      have b38 : r2 38 = 0 := by rw [hr2]; exact st_eq _ _ _
      rw [bt, clw, pI_z37 hL, pI_z38 hL, ← hr2, cV_p (M := qw r2 σ) hL]
      have FUe : FU = 999999 + 1 := rfl
      have step := z_step (M := σ) (q := q1) (r := r2) (s := []) (l := []) (fu := 999999) (f := n.toNat + 1) hL hZ ⟨b37, by show 0 ≤ 200; omega, fun i x hi _ => absurd hi (Nat.not_lt_zero i)⟩ b38 trivial trivial (by show 0 ≤ 2; omega) (by omega) (by omega) (by omega) (by omega)
        (fun s2 l2 q2 r2 y1 y2 y3 y4 y5 y6 y7 y8 => z_planL hL hZ _ _ s2 l2 q2 r2 y1 y2 y3 y4 y5 (by omega) y7 (by omega) (by omega) (by omega) (by omega))
      rw [← FUe] at step
      have run : tRun (tpA σ) (q1 8) (n.toNat + 2) [] [] (q1 7) = match tItem (tpA σ) (q1 8) 4 [] [] (q1 7) with
          | .inl e => .inl e
          | .inr (s', l', p') => match tPop (tpA σ) (q1 8) s' l' p' with
            | .inl e => .inl e
            | .inr (s2, l2, p2) => tRun (tpA σ) (q1 8) (n.toNat + 1) s2 l2 p2 := if_pos (Or.inl (by omega))
      have step : OutL q1 σ (cl (sX8_readsAct (some 3772) (pw q1 (qw r2 σ))) fun x1 s2 => sX8_plan_40 FU (some 3772) x1 s2) (tRun (tpA σ) (q1 8) (n.toNat + 2) [] [] (q1 7)) := by
        rw [run]
        exact step
      rw [a7, a8, plan_run c.1, tpA_T W] at step
      have FqW : ∀ q' r' : Row, Fq q1 q' → Chg σ (pw q' (qw r' σ)) plW := by
        intro q' r' f
        refine ⟨rfl, fun a j np => ?_⟩
        show pwI q' (qwI r' (mI σ)) a j = mI σ a j
        unfold plW at np
        unfold pwI
        cases e : plP a j with
        | some p =>
          have pi := plP_in e
          have : q' p = q p := by
            rw [f p (by omega) (by omega) (by omega)]
            exact ne p (by omega) (by omega) (by omega) (by omega)
          show iI (q' p) = _
          rw [this]
          have z : mI (pw q (qw r σ)) a j = iI (q p) := pw_at (M := qw r σ) e
          rw [← z, e0]
        | none =>
          show qwI r' (mI σ) a j = _
          unfold qwI
          cases e2 : plZ a j with
          | none => rfl
          | some p =>
            have := plZ_in e2
            omega
      -- the tape is done with
      have fin : ∀ q' r' : Row, Fq q1 q' → ∃ σ3 : Mem, σ3 = (up2 (mI (pw q' (qw r' σ))) 3772 6 (iI 0), σ.2) ∧ Chg σ σ3 plW ∧ TSd σ3 g gk l 0 b T ∧ mI σ3 3772 9 = iI (q' 9) := by
        intro q' r' f
        have f1 := FqW q' r' f
        obtain ⟨σ3, hσ3⟩ : ∃ σ3 : Mem, σ3 = (up2 (mI (pw q' (qw r' σ))) 3772 6 (iI 0), σ.2) := ⟨_, rfl⟩
        have i3 : ∀ a j, mI σ3 a j = if a = 3772 ∧ j = 6 then iI 0 else mI (pw q' (qw r' σ)) a j := fun a j => by rw [hσ3]; rfl
        have c3 : Chg σ σ3 plW := ⟨by rw [hσ3], fun a j np => by rw [i3, if_neg (by unfold plW at np; omega)]; exact f1.2 a j np⟩
        refine ⟨σ3, hσ3, c3, ⟨W.c.to (fun a j z => c3.2 a j (by unfold twP at z; unfold plW; omega)), fun hb j hj => (c3.2 3775 j (by unfold plW; omega)).trans (W.k hb j hj), W.tx.to ⟨c3.2 3772 15 (by unfold plW; omega), fun j => mP_2 c3.1 _ _⟩ (fun b h1 h2 => chg_sm c3 (fun j => by unfold plW; omega)), ?_, (c3.2 3772 44 (by unfold plW; omega)).trans W.w44, fun j => (c3.2 3778 j (by unfold plW; omega)).trans (W.tp j)⟩, ?_⟩
        · rw [i3, if_pos ⟨rfl, rfl⟩]
        · rw [i3, if_neg (by omega)]
          exact pw_at (M := qw r' σ) (show plP 3772 9 = some 9 from rfl)
      unfold planAns planG planTp
      rw [hr]
      unfold OutL at step
      cases e : pPlan (tpT T) n with
      | inl x =>
        rw [e] at step
        obtain ⟨q', r', y1, y2, y3⟩ := step
        obtain ⟨σ3, z1, z2, z3, z4⟩ := fin q' r' y3
        refine ⟨σ3, ?_, z3, z2.wk (fun a j z => by unfold plW at z; omega)⟩
        have k63 : (mK σ3 3772).1 = 6 := by rw [mK_2 z2.1]; exact k6
        rw [y1]
        unfold sX8_plan_70
        rw [pI_y (σ := pw q' (qw r' σ)) k6]
        show (if iI 0 = iI 0 then gI (up2 (mI (pw q' (qw r' σ))) 3772 6 (iI 0), σ.2) (some 3772) 6 9 (fun x2 => some (x2, (up2 (mI (pw q' (qw r' σ))) 3772 6 (iI 0), σ.2))) else sX8_plan_89 FU (some 3772) (iI 0) (iI 0) (up2 (mI (pw q' (qw r' σ))) 3772 6 (iI 0), σ.2)) = _
        rw [if_pos rfl, ← z1, gI_y k63, z4, y2]
      | inr la =>
        rw [e] at step
        obtain ⟨q', r', y1, y2, y3⟩ := step
        obtain ⟨σ3, z1, z2, z3, z4⟩ := fin q' r' y2
        have i3 : ∀ a j, mI σ3 a j = if a = 3772 ∧ j = 6 then iI 0 else mI (pw q' (qw r' σ)) a j := fun a j => by rw [z1]; rfl
        have PZ : PlanZ σ3 la := by
          obtain ⟨u1, u2, u3⟩ := y3
          refine ⟨?_, u2, fun i x hx => ?_⟩
          · rw [i3, if_neg (by omega), qw_at (p := 37) rfl, u1]
          · have il : i < la.length := (List.getElem?_eq_some_iff.mp hx).1
            obtain ⟨v1, v2, v3, v4⟩ := u3 i x il hx
            have pl : ∀ (a : Nat) (b0 : Int), bsZ a = some (b0, 200) → mI σ3 a i = iI (r' (b0 + i)) := fun a b0 hb => by
              have ar := bsZ_r hb
              rw [i3, if_neg (by omega)]
              refine qw_at ?_
              unfold plZ
              rw [if_neg (by omega), hb]
              exact if_pos (by show i < 200; omega)
            rw [pl 3792 6000 rfl, pl 3793 6300 rfl, pl 3794 6600 rfl, pl 3795 6900 rfl, v1, v2, v3, v4]
            exact ⟨rfl, rfl, rfl, rfl⟩
        have l2 := PZ.l
        obtain ⟨σ4, w1, w2, w3⟩ := m_run (la := la) la σ3 g R 0 0 FU (S.to z2.1) z3 H (by omega) PZ rfl (by omega) (by unfold FU; omega) (by omega) (by omega)
        have w1 : sX8_plan_89 FU (some 3772) (iI 0) (iI 0) σ3 = _ := w1
        refine ⟨σ4, ?_, w2, (z2.wk (fun a j z => by unfold plW at z; omega)).thn (w3.wk (fun a j z => by unfold twP at z; omega))⟩
        rw [y1]
        unfold sX8_plan_70
        rw [pI_y (σ := pw q' (qw r' σ)) k6]
        show (if iI 1 = iI 0 then _ else sX8_plan_89 FU (some 3772) (iI 0) (iI 0) (up2 (mI (pw q' (qw r' σ))) 3772 6 (iI 0), σ.2)) = _
        rw [if_neg iv_01, ← z1, w1, show 0 + (runS (lawOf l) la g).1 = (runS (lawOf l) la g).1 by omega]
    · have hr : planR (tpT T) t n = none := by unfold planR; rw [if_pos c, if_neg d]
      rw [if_neg (by rw [iv_le (by omega) (by omega) (by omega) (by omega)]; exact d)]
      unfold planAns planG planTp
      rw [hr]
      exact ⟨σ, rfl, W, ⟨rfl, fun _ _ _ => rfl⟩⟩
  · have hr : planR (tpT T) t n = none := by unfold planR; rw [if_neg c]
    rw [if_pos (by rw [bI_z]; exact c)]
    unfold planAns planG planTp
    rw [hr]
    exact ⟨σ, rfl, W, ⟨rfl, fun _ _ _ => rfl⟩⟩
end
