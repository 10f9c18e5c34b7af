/-! DEPS: yo -/
/-! YP: the twin takes a law: whole -/
section
variable {M : Mem} {g mi mn F : Row} {S : Nat → Int32}
theorem txt_ext {M' : Mem} {l : List Cls} (e2 : M'.2 = M.2) (h15 : mI M' 3772 15 = mI M 3772 15) (h : ∀ b j, 3785 ≤ b → b ≤ 3789 → mI M' b j = mI M b j) (t : TxtT M l) : TxtT M' l := by
  have eP : ∀ a k, mP M' a k = mP M a k := fun a k => by show M'.2.1 a k = M.2.1 a k; rw [e2]
  have eK : ∀ a, mK M' a = mK M a := fun a => by show M'.2.2.1 a = M.2.2.1 a; rw [e2]
  obtain ⟨⟨p1, p2, p3, p4, k1, k2, k3, k4⟩, a15, l16, c, ⟨c1, c2, c3, c4⟩, cl⟩ := t
  refine ⟨⟨by rw [eP]; exact p1, by rw [eP]; exact p2, by rw [eP]; exact p3, by rw [eP]; exact p4, by rw [eK]; exact k1, by rw [eK]; exact k2, by rw [eK]; exact k3, by rw [eK]; exact k4⟩, by rw [h15]; exact a15, l16, c, ⟨by rw [eP]; exact c1, by rw [eK]; exact c2, fun k hk => by rw [h _ _ (by omega) (by omega)]; exact c3 k hk, c4⟩, fun i hi => ?_⟩
  obtain ⟨fr, hf, to, a1, a2, a3, a4, r⟩ := cl i hi
  exact ⟨fr, hf, to, by rw [h _ _ (by omega) (by omega)]; exact a1, by rw [h _ _ (by omega) (by omega)]; exact a2, by rw [h _ _ (by omega) (by omega)]; exact a3, by rw [h _ _ (by omega) (by omega)]; exact a4, r⟩
theorem u1_tw {v : Int32} : u1M' (tw g mi mn F S M) 3772 6 v = tw g mi mn F S (u1M' M 3772 6 v) := by
  refine Prod.ext ?_ rfl
  funext a j
  show up2 (twI g mi mn F S (mI M)) 3772 6 v a j = twI g mi mn F S (up2 (mI M) 3772 6 v) a j
  have eu : ∀ I : Nat → Nat → Int32, up2 I 3772 6 v a j = if a = 3772 ∧ j = 6 then v else I a j := fun _ => rfl
  by_cases c : a = 3772 ∧ j = 6
  · rw [eu, if_pos c]
    unfold twI
    rw [if_neg (by omega), if_neg (by omega), if_neg (by omega), if_neg (by omega), if_neg (by omega), if_neg (by omega), eu, if_pos c]
  · rw [eu, if_neg c]
    unfold twI
    rw [eu, if_neg c]
theorem pw_u1 {q : Row} {v : Int32} {b j : Nat} : mI (pw q (u1M' M 3772 6 v)) b j = match plP b j with | some p => iI (q p) | none => if b = 3772 ∧ j = 6 then v else mI M b j := rfl
/-- a law's slots in the twin -/
abbrev lawSl (b j : Nat) : Prop := (b = 3772 ∧ 6 ≤ j ∧ j ≤ 15) ∨ (3779 ≤ b ∧ b ≤ 3789)
theorem pw_chg {q : Row} {v : Int32} {b j : Nat} (h : ¬ lawSl b j) : mI (pw q (u1M' M 3772 6 v)) b j = mI M b j := by
  rw [pw_u1]
  rw [plP_no (by unfold lawSl at h; omega)]
  exact if_neg (by unfold lawSl at h; omega)
theorem pw_6 {q : Row} {v : Int32} : mI (pw q (u1M' M 3772 6 v)) 3772 6 = v := by
  rw [pw_u1, plP_no (by omega)]
  exact if_pos ⟨rfl, rfl⟩
theorem pw_same {q q' : Row} {v : Int32} (hM : pw q M = M) (h15 : q' 15 = q 15) (hx : ∀ x, 4000 ≤ x → q' x = q x) {l : List Cls} (t : TxtT M l) : TxtT (pw q' (u1M' M 3772 6 v)) l := by
  have key : ∀ b j p, plP b j = some p → q' p = q p → mI (pw q' (u1M' M 3772 6 v)) b j = mI M b j := by
    intro b j p h e
    rw [pw_u1, h]
    show iI (q' p) = _
    have : mI M b j = iI (q p) := by
      conv => lhs; rw [← hM]
      exact pw_at h
    rw [this, e]
  refine txt_ext (M := M) (M' := pw q' (u1M' M 3772 6 v)) rfl (key 3772 15 15 rfl h15) (fun b j b0 b1 => ?_) t
  cases e : plP b j with
  | none =>
    rw [pw_u1, e]
    exact if_neg (by omega)
  | some p =>
    refine key b j p e (hx p ?_)
    rcases plP_c e with ⟨a1, a2, a3, a4⟩ | ⟨x, n, c1, c2, c3⟩
    · omega
    · rcases (bsP_r c1).2.2 with r | r | r | r | r | r | r | r | r | r | r <;> (obtain ⟨r1, r2⟩ := r; cases r2; omega)
theorem m_law (hT : LT M) (hLP : LPt M) {n t : Int} (n0 : -2147483648 ≤ n) (n1 : n ≤ 2147483647) (t0 : 0 ≤ t) (t1 : t ≤ 260) (hw : mI M 3772 6 = iI t) :
    ∃ M', sX8_law (some 3772) (iI n) (tw g mi mn F S M) = some (iI (lawAns (tpA M) t n), tw g mi mn F S M') ∧ M'.2 = M.2 ∧ (∀ b j, ¬ lawSl b j → mI M' b j = mI M b j) ∧ mI M' 3772 6 = iI (lawTp (tpA M) t n) ∧ ∀ l, TxtT M l → TxtT M' (lawNew (tpA M) t n l) := by
  have y1 : ∀ σ, sX8_in (iI n) (iI 1) (iI 240) σ = some (bI (1 ≤ n ∧ n ≤ 240), σ) := fun σ => m_in n0 n1 (by omega) (by omega) (by omega) (by omega)
  by_cases c : 1 ≤ n ∧ n ≤ 240
  · by_cases d : n ≤ t
    · obtain ⟨q, hM⟩ := pw_rep M
      have hN : LPt (tw g mi mn F S M) := hLP
      have hr : lawR (tpA M) t n = some (rText (tpA M) n (n.toNat + 1) [] 0) := by
        unfold lawR
        rw [if_pos c, if_pos d]
      obtain ⟨q1, hq1⟩ : ∃ q1, st (st (st (st q 7 0) 8 n) 12 0) 14 0 = q1 := ⟨_, rfl⟩
      have a7 : q1 7 = 0 := by rw [← hq1, st_ne (by omega), st_ne (by omega), st_ne (by omega), st_eq]
      have a8 : q1 8 = n := by rw [← hq1, st_ne (by omega), st_ne (by omega), st_eq]
      have a12 : q1 12 = 0 := by rw [← hq1, st_ne (by omega), st_eq]
      have a14 : q1 14 = 0 := by rw [← hq1, st_eq]
      have ne : ∀ x, 15 ≤ x → q1 x = q x := fun x hx => by rw [← hq1, st_ne (by omega), st_ne (by omega), st_ne (by omega), st_ne (by omega)]
      have start : sX8_law (some 3772) (iI n) (tw g mi mn F S M) = cl (sX8_readsRule (some 3772) (pw q1 (tw g mi mn F S M))) fun x5 s6 => sX8_law_31 FU (some 3772) x5 s6 := by
        unfold sX8_law
        rw [y1, clq, if_neg (by rw [bI_z]; exact fun x => x c), gI_tw hT (by omega), hw, if_pos (by rw [iv_le (by omega) (by omega) (by omega) (by omega)]; exact d)]
        have e0 : tw g mi mn F S M = pw q (tw g mi mn F S M) := by rw [pw_tw, hM]
        have cv : ∀ f : Option (Int32 × Mem), cV (tw g mi mn F S M) (some 3772) 6 f = f := fun f => if_pos hT.1.1
        rw [cv]
        have bt : sX8_beginsText (some 3772) (iI n) (tw g mi mn F S M) = some ((), pw q1 (tw g mi mn F S M)) := by
          conv => lhs; rw [e0]
          unfold sX8_beginsText
          rw [pI_p7 hN, pI_p8 hN, pI_p12 hN, pI_p14 hN, hq1]
        rw [bt, clq, cV_p hN]
      have tp : tpA (tw g mi mn F S M) = tpA M := tp_tw
      have R := p_rule hN (q := q1) (n := n) (k := 0) (by omega) (by omega) a8 a14 (by omega) (by omega)
      rw [a7, tp] at R
      obtain ⟨fF, hF⟩ := FU6'
      -- what the end of it does
      have bad : ∀ q' : Row, ∀ w pl, Br q1 q' w pl → sX8_law_71 (some 3772) (iI 0) (pw q' (tw g mi mn F S M)) = some (iI (-1000 * w - pl), tw g mi mn F S (pw q' (u1M' M 3772 6 (iI 0)))) := by
        intro q' w pl b
        unfold sX8_law_71
        rw [pI_6 hN, if_pos rfl, gI_p9 (M := u1M' (tw g mi mn F S M) 3772 6 (iI 0)) hN, b.f, u1_tw, pw_tw]
      have fin : ∀ (r : (Int × Int) ⊕ List Cls) (A : Option (Int32 × Mem)), LawOk (tw g mi mn F S M) q1 A r → sX8_law (some 3772) (iI n) (tw g mi mn F S M) = A → lawR (tpA M) t n = some r →
          ∃ M', sX8_law (some 3772) (iI n) (tw g mi mn F S M) = some (iI (lawAns (tpA M) t n), tw g mi mn F S M') ∧ M'.2 = M.2 ∧ (∀ b j, ¬ lawSl b j → mI M' b j = mI M b j) ∧ mI M' 3772 6 = iI (lawTp (tpA M) t n) ∧ ∀ l, TxtT M l → TxtT M' (lawNew (tpA M) t n l) := by
        intro r A hA hgo hr2
        cases r with
        | inl x =>
          obtain ⟨w, pl⟩ := x
          obtain ⟨q', z1, z2⟩ := hA.2 w pl rfl
          refine ⟨pw q' (u1M' M 3772 6 (iI 0)), ?_, rfl, fun b j h => pw_chg h, ?_, fun l tl => ?_⟩
          · rw [hgo, z1, bad q' w pl z2]
            unfold lawAns
            rw [hr2]
          · rw [pw_6]; unfold lawTp; rw [hr2]
          · unfold lawNew; rw [hr2]
            exact pw_same hM (z2.g.trans (ne 15 (by omega))) (fun x hx => (z2.x x hx).trans (ne x (by omega))) tl
        | inr l' =>
          obtain ⟨q', z1, z2, z3, z4, z5, z6⟩ := hA.1 l' rfl
          have hN2 : LPt (u1M' (tw g mi mn F S M) 3772 6 (iI 0)) := hLP
          have hN3 : LPt (u1M' M 3772 6 (iI 0)) := hLP
          obtain ⟨q2, u1, u2, u3, u4⟩ := p_copyC (M := u1M' (tw g mi mn F S M) 3772 6 (iI 0)) hN2 (m := q' 12) (by omega) (q' 12).toNat (st q' 15 (q' 14)) 0 FU (by omega) (by omega) (st_ne (by omega)) (by unfold FU; omega)
          have e14 : q2 14 = q' 14 := (u4 14 (by omega)).trans (st_ne (by omega))
          have l14 := z3.1
          obtain ⟨q3, v1, v2, v3, v4⟩ := p_copyR (M := u1M' (tw g mi mn F S M) 3772 6 (iI 0)) hN2 (k := q' 14) (by omega) (q' 14).toNat q2 0 FU (by omega) (by omega) e14 (by unfold FU; omega)
          have q15 : q3 15 = (l'.length : Int) := by rw [v4 15 (by omega), u4 15 (by omega), st_eq, l14]
          refine ⟨pw q3 (u1M' M 3772 6 (iI 0)), ?_, rfl, fun b j h => pw_chg h, ?_, fun l tl => ?_⟩
          · rw [hgo, z1]
            unfold sX8_law_71
            rw [pI_6 hN, if_neg iv_01, gI_p14 hN2, pI_p15 hN2, u1, v1, u1_tw, pw_tw, l14]
            unfold lawAns
            rw [hr2]
          · rw [pw_6]; unfold lawTp; rw [hr2]
          · unfold lawNew; rw [hr2]
            show TxtT _ l'
            refine pw_txt hN3 q15 z4 (q0 := q') z3 (by omega) (fun z z0 z9 => ?_) (fun z z0 z9 => ?_)
            · rw [v4 _ (by omega), u2 z z0 z9, st_ne (by omega)]
            · obtain ⟨k1, k2, k3, k4⟩ := v2 z z0 (by omega)
              rw [k1, k2, k3, k4, u4 _ (by omega), u4 _ (by omega), u4 _ (by omega), u4 _ (by omega)]
              exact ⟨st_ne (by omega), st_ne (by omega), st_ne (by omega), st_ne (by omega)⟩
      have unf : rText (tpA M) n (n.toNat + 1) [] 0 = match rCls (tpA M) n 0 0 with
          | .inl x => .inl x
          | .inr (c, p') => if p' < n then (if hrA (tpA M) n p' = 59 then rText (tpA M) n n.toNat ([] ++ [c]) (p' + 1) else .inl (1, p')) else .inr ([] ++ [c]) := rfl
      cases hc : rCls (tpA M) n 0 0 with
      | inl y =>
        obtain ⟨w, pl⟩ := y
        obtain ⟨q', y1', y2⟩ := R.2 w pl hc
        rw [unf, hc] at hr
        refine fin (.inl (w, pl)) (sX8_law_71 (some 3772) (iI 0) (pw q' (tw g mi mn F S M))) ⟨fun l h => (by cases h), fun w' pl' h => ?_⟩ ?_ hr
        · cases h
          exact ⟨q', rfl, y2⟩
        · rw [start, y1', clq, hF]
          exact p_law_no
      | inr y =>
        obtain ⟨⟨cc, ee, xx⟩, p2⟩ := y
        obtain ⟨q2, hf, y1', u⟩ := R.1 cc ee xx p2 hc
        rw [unf, hc] at hr
        have r0 : RulQ q1 [] := ⟨a14, fun i hi => absurd hi (Nat.not_lt_zero i)⟩
        have r2 := r0.more (k := 0) rfl u (by omega)
        have ug := u.g
        have upp := u.pq.p
        have L := p_lawL hN (n := n) n.toNat ([] ++ [(cc, ee, xx)]) q2 FU u.pq (by omega) r2 (by show 0 + 1 ≤ 16; omega) (by omega) (by unfold FU; omega)
        rw [ug.1, tp] at L
        refine fin _ (sX8_law_31 FU (some 3772) (iI 1) (pw q2 (tw g mi mn F S M))) ⟨fun l h => ?_, fun w' pl' h => ?_⟩ ?_ hr
        · obtain ⟨q', z1, z2, z3, z4, z5, z6⟩ := L.1 l h
          exact ⟨q', z1, z2, z3, z4, fun x hx => (z5 x hx).trans (u.x x hx), z6.trans ug.2.2.2.2.1⟩
        · obtain ⟨q', z1, z2⟩ := L.2 w' pl' h
          exact ⟨q', z1, ⟨z2.f, fun x hx => (z2.x x hx).trans (u.x x hx), z2.g.trans ug.2.2.2.2.1⟩⟩
        · rw [start, y1', clq]
    · have hr : lawR (tpA M) t n = none := by
        unfold lawR
        rw [if_pos c, if_neg d]
      refine ⟨M, ?_, rfl, fun b j _ => rfl, by unfold lawTp; rw [hr]; exact hw, fun l h => by unfold lawNew; rw [hr]; exact h⟩
      unfold sX8_law lawAns
      rw [y1, clq, if_neg (by rw [bI_z]; exact fun x => x c), gI_tw hT (by omega), hw, if_neg (by rw [iv_le (by omega) (by omega) (by omega) (by omega)]; exact d), hr]
  · have hr : lawR (tpA M) t n = none := by
      unfold lawR
      rw [if_neg c]
    refine ⟨M, ?_, rfl, fun b j _ => rfl, by unfold lawTp; rw [hr]; exact hw, fun l h => by unfold lawNew; rw [hr]; exact h⟩
    unfold sX8_law lawAns
    rw [y1, clq, if_pos (by rw [bI_z]; exact c), hr]
end
