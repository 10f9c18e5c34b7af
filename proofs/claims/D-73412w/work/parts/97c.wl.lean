/-! DEPS: wk yp -/
/-! WL: the world is asked; laws and plans -/
section
variable {σ σ' : Mem} {h k g gk : Row} {l : List Cls} {t b : Int} {T : Nat → Int32} {R R' : Int} {f0 f8 : Mem → Option (Int32 × Mem)}
/-- a question of both sides: nothing changes -/
theorem ask_w {v : Int32} (H : Wld σ h k g gk l t b T R)
    (hL : ∀ (N : Mem) (C Hd Mo : Row), LyC 2 N → mP N 0 1 = some 2 → f0 (tl 2 h C Hd Mo N) = some (v, tl 2 h C Hd Mo N))
    (hT : ∀ (N : Mem) (mi mn F : Row) (S : Nat → Int32), LT N → f8 (tw g mi mn F S N) = some (v, tw g mi mn F S N)) : Step σ R f0 f8 := by
  obtain ⟨C, Hd, Mo, s, e⟩ := H.L.c.rep (by omega)
  have x1 := hL (shM σ 2 s) C Hd Mo H.s.ly.1 H.s.p0.1
  rw [← e] at x1
  obtain ⟨mi, mn, F, S0, hm, e2⟩ := H.W.c
  have x2 := hT σ mi mn F S0 H.s.lt
  rw [← e2] at x2
  exact ⟨v, σ, σ, h, k, g, gk, l, t, b, T, x1, (cV_y H.s.lt.1.1).trans x2, H, by omega, by omega⟩
theorem w_nodeIs (H : Wld σ h k g gk l t b T R) {n w : Int} (n0 : -2147483648 ≤ n) (n1 : n ≤ 2147483647) (w0 : -2147483648 ≤ w) (w1 : w ≤ 2147483647) : Step σ R (fun s => sX0_nodeIs (some 0) (iI n) (iI w) s) (fun s => sX8_nodeIs (some 3772) (iI n) (iI w) s) := by
  obtain ⟨hs, FL, D, I, h9⟩ := id H.I
  exact ask_w H (fun N C Hd Mo y1 y2 => t_nodeIs y1 y2 H.r I n0 n1 w0 w1) (fun N mi mn F S y1 => m_nodeIs y1 I n0 n1 w0 w1)
theorem w_entryAt (H : Wld σ h k g gk l t b T R) {n i w : Int} (n0 : -2147483648 ≤ n) (n1 : n ≤ 2147483647) (i0 : -2147483648 ≤ i) (i1 : i ≤ 2147483647) (w0 : -2147483648 ≤ w) (w1 : w ≤ 2147483647) : Step σ R (fun s => sX0_entryAt (some 0) (iI n) (iI i) (iI w) s) (fun s => sX8_entryAt (some 3772) (iI n) (iI i) (iI w) s) := by
  obtain ⟨hs, FL, D, I, h9⟩ := id H.I
  exact ask_w H (fun N C Hd Mo y1 y2 => t_entryAt y1 y2 H.r I n0 n1 i0 i1 w0 w1) (fun N mi mn F S y1 => m_entryAt y1 I n0 n1 i0 i1 w0 w1)
theorem w_about (H : Wld σ h k g gk l t b T R) {n m w : Int} (n0 : -2147483648 ≤ n) (n1 : n ≤ 2147483647) (m0 : -2147483648 ≤ m) (m1 : m ≤ 2147483647) (w0 : -2147483648 ≤ w) (w1 : w ≤ 2147483647) : Step σ R (fun s => sX0_about (some 0) (iI n) (iI m) (iI w) s) (fun s => sX8_about (some 3772) (iI n) (iI m) (iI w) s) := by
  obtain ⟨hs, FL, D, I, h9⟩ := id H.I
  exact ask_w H (fun N C Hd Mo y1 y2 => t_about y1 y2 H.r I n0 n1 m0 m1 w0 w1) (fun N mi mn F S y1 => m_about y1 I n0 n1 m0 m1 w0 w1)
theorem w_message (H : Wld σ h k g gk l t b T R) {i w : Int} (i0 : -2147483648 ≤ i) (i1 : i ≤ 2147483647) (w0 : -2147483648 ≤ w) (w1 : w ≤ 2147483647) : Step σ R (fun s => sX0_message (some 0) (iI i) (iI w) s) (fun s => sX8_message (some 3772) (iI i) (iI w) s) := by
  obtain ⟨hs, FL, D, I, h9⟩ := id H.I
  exact ask_w H (fun N C Hd Mo y1 y2 => t_message y1 y2 H.r I i0 i1 w0 w1) (fun N mi mn F S y1 => m_message y1 I i0 i1 w0 w1)
theorem w_heldAt (H : Wld σ h k g gk l t b T R) {i w : Int} (i0 : -2147483648 ≤ i) (i1 : i ≤ 2147483647) (w0 : -2147483648 ≤ w) (w1 : w ≤ 2147483647) : Step σ R (fun s => sX0_heldAt (some 0) (iI i) (iI w) s) (fun s => sX8_heldAt (some 3772) (iI i) (iI w) s) := by
  obtain ⟨hs, FL, D, I, h9⟩ := id H.I
  exact ask_w H (fun N C Hd Mo y1 y2 => t_heldAt y1 y2 H.r I i0 i1 w0 w1) (fun N mi mn F S y1 => m_heldAt y1 I i0 i1 w0 w1)
theorem w_readIs (H : Wld σ h k g gk l t b T R) {i w : Int} (i0 : -2147483648 ≤ i) (i1 : i ≤ 2147483647) (w0 : -2147483648 ≤ w) (w1 : w ≤ 2147483647) : Step σ R (fun s => sX0_readIs (some 0) (iI i) (iI w) s) (fun s => sX8_readIs (some 3772) (iI i) (iI w) s) := by
  obtain ⟨hs, FL, D, I, h9⟩ := id H.I
  exact ask_w H (fun N C Hd Mo y1 y2 => t_readIs y1 y2 H.r I i0 i1 w0 w1) (fun N mi mn F S y1 => m_readIs y1 I i0 i1 w0 w1)
theorem w_broken (H : Wld σ h k g gk l t b T R) {w : Int} (w0 : -2147483648 ≤ w) (w1 : w ≤ 2147483647) : Step σ R (fun s => sX0_broken (some 0) (iI w) s) (fun s => sX8_broken (some 3772) (iI w) s) := by
  obtain ⟨hs, FL, D, I, h9⟩ := id H.I
  exact ask_w H (fun N C Hd Mo y1 y2 => t_broken y1 y2 H.r I w0 w1) (fun N mi mn F S y1 => m_broken y1 I w0 w1)
theorem w_couldWin (H : Wld σ h k g gk l t b T R) {n w : Int} (n0 : -2147483648 ≤ n) (n1 : n ≤ 2147483647) (w0 : -2147483648 ≤ w) (w1 : w ≤ 2147483647) : Step σ R (fun s => sX0_couldWin (some 0) (iI n) (iI w) s) (fun s => sX8_couldWin (some 3772) (iI n) (iI w) s) := by
  obtain ⟨hs, FL, D, I, h9⟩ := id H.I
  exact ask_w H (fun N C Hd Mo y1 y2 => t_couldWin y1 y2 H.r I n0 n1 w0 w1) (fun N mi mn F S y1 => m_couldWin y1 I n0 n1 w0 w1)
theorem w_majority (H : Wld σ h k g gk l t b T R) {n w : Int} (n0 : -2147483648 ≤ n) (n1 : n ≤ 2147483647) (w0 : -2147483648 ≤ w) (w1 : w ≤ 2147483647) : Step σ R (fun s => sX0_majority (some 0) (iI n) (iI w) s) (fun s => sX8_majority (some 3772) (iI n) (iI w) s) := by
  obtain ⟨hs, FL, D, I, h9⟩ := id H.I
  exact ask_w H (fun N C Hd Mo y1 y2 => t_majority y1 y2 H.r I n0 n1 w0 w1) (fun N mi mn F S y1 => m_majority y1 I n0 n1 w0 w1)
theorem w_leaderNow (H : Wld σ h k g gk l t b T R) : Step σ R (fun s => sX0_leaderNow (some 0) s) (fun s => sX8_leaderNow (some 3772) s) := by
  obtain ⟨hs, FL, D, I, h9⟩ := id H.I
  exact ask_w H (fun N C Hd Mo y1 y2 => t_leaderNow y1 y2 H.r I) (fun N mi mn F S y1 => m_leaderNow y1 I)
theorem t_keyLow {n k : Int} (c0 : -2147483648 ≤ n) (c1 : n ≤ 2147483647) (k0 : -2147483648 ≤ k) (k1 : k < 0) : sX0_keyOf (some 0) (iI n) (iI k) σ = some (iI (keyS g n k), σ) := by
  unfold keyS isNd sX0_keyOf
  obtain ⟨a10, e10, r10, s10, t10⟩ := iv_less (c := 10) k0 (show k ≤ 2147483647 by omega) (by omega) (by omega)
  have t10 := t10 8 (by omega)
  rw [t_isNode c0 c1, clw]
  by_cases d : 0 ≤ n ∧ n < 7
  · rw [if_neg (by rw [bI_z]; exact fun z => z d), if_neg (fun z => z d), t_in k0 (by omega) (by omega) (by omega), clw, if_pos (by rw [bI_z]; omega), e10, t_in r10 s10 (by omega) (by omega), clw, if_pos (by rw [bI_z, t10]; omega), if_pos (by omega)]
  · rw [if_pos (by rw [bI_z]; exact d), if_pos d]
theorem w_keyOf (H : Wld σ h k g gk l t b T R) {n m : Int} (n0 : -2147483648 ≤ n) (n1 : n ≤ 2147483647) (m0 : -2147483648 ≤ m) (m1 : m ≤ 2147483647) : Step σ R (fun s => sX0_keyOf (some 0) (iI n) (iI m) s) (fun s => sX8_keyOf (some 3772) (iI n) (iI m) s) := by
  obtain ⟨hs, FL, D, I, h9⟩ := id H.I
  refine ask_w H (fun N C Hd Mo y1 y2 => ?_) (fun N mi mn F S y1 => m_keyOf y1 I n0 n1 m0 m1)
  by_cases c : m < 0
  · exact t_keyLow n0 n1 m0 c
  · exact t_keyOf y1 y2 H.r I n0 n1 (by omega) m1
theorem w_count (H : Wld σ h k g gk l t b T R) {w : Int} (w0 : -2147483648 ≤ w) (w1 : w ≤ 2147483647) : Step σ R (fun s => sX0_count (some 0) (iI w) s) (fun s => sX8_count (some 3772) (iI w) s) := by
  obtain ⟨hs, FL, D, I, h9⟩ := id H.I
  have S := H.s
  have L := H.L
  obtain ⟨C, Hd, Mo, s, e⟩ := H.L.c.rep (by omega)
  have shc := sh_chg (N := σ) (B := 2) (s := s)
  obtain ⟨_, tx, q1, q2, q3, q4, q5, q6, q7⟩ := L.tx
  have x1 := t_count (h := h) (C := C) (Hd := Hd) (Mo := Mo) (M := shM σ 2 s) (T := tx) (cl := l.length) S.ly.1 S.p0.1 H.r I q1 q3 (by omega) (by omega) w0 w1 ((shc.2 0 6 (by omega)).trans L.w6) ((shc.2 tx 3 (by omega)).trans q7.1)
  rw [← e] at x1
  obtain ⟨mi, mn, F, S0, hm, e2⟩ := H.W.c
  have x2 := m_count (g := g) (mi := mi) (mn := mn) (F := F) (S := S0) (cl := l.length) S.lt I w0 w1 H.W.w6 H.W.tx.2.1
  rw [← e2] at x2
  exact ⟨_, σ, σ, h, k, g, gk, l, t, b, T, x1, (cV_y H.s.lt.1.1).trans x2, H, by omega, by omega⟩
/-! a law is taken -/
theorem lawTp_r {T0 : Int → Int} {t n : Int} (h : 0 ≤ t ∧ t ≤ 260) : 0 ≤ lawTp T0 t n ∧ lawTp T0 t n ≤ 260 := by
  unfold lawTp
  cases lawR T0 t n with
  | none => exact h
  | some x => exact ⟨Int.le_refl _, by show (0 : Int) ≤ 260; omega⟩
theorem w_law (H : Wld σ h k g gk l t b T R) (hz : mZ σ + 800 ≤ 1200000) (hy : mY σ + 2500 ≤ 5502250) {n : Int} (n0 : -2147483648 ≤ n) (n1 : n ≤ 2147483647) : Step σ R (fun s => sX0_law (some 0) (iI n) s) (fun s => sX8_law (some 3772) (iI n) s) := by
  have S := H.s
  have L := H.L
  have tr := H.tr
  obtain ⟨σ1, x1, e1, e6, z1, z2, y2, K2', txn⟩ := f_law (σ := σ) (n := n) (t := t) S.ly.1.k0.1 S.p0.2.2.2 S.kt.1 L.w6 tr.1 tr.2 S.zz hz hy S.k2 n0 n1
  have zz := S.zz
  have TT : tpL σ = tpT T := tpL_T L
  rw [TT] at x1 e6 txn
  have i : ∀ a j, a < mZ σ → (a ≠ 0 ∨ j ≠ 6) → mI σ1 a j = mI σ a j := fun a j h1 h2 => (e1 a h1).2.1 j h2
  have S1 : Stt σ1 := S.grow K2' z1 (fun b hb => ⟨(e1 b (by omega)).1, fun j hj => (e1 b (by omega)).2.2 j hj⟩)
  have L1 : LSd σ1 h k (lawNew (tpT T) t n l) (lawTp (tpT T) t n) b T := by
    obtain ⟨k1, y1⟩ := L.c1
    exact ⟨L.c.to (fun a j h1 h2 => i a j (by omega) (by omega)), ⟨k1, y1.to (fun a j h1 h2 => i a j (by omega) (by omega))⟩, L.c2.to (fun a j h1 h2 => i a j (by omega) (by omega)), txn l L.tx, e6, (i 0 7 (by omega) (by omega)).trans L.w7, fun j => (i 3767 j (by omega) (by omega)).trans (L.tp j)⟩
  have W1 : TSd σ1 g gk l t b T := H.W.to (fun b h1 h2 => ⟨(e1 b (by omega)).1, fun j => i b j (by omega) (by omega), fun j => (e1 b (by omega)).2.2 j (Or.inl (by omega))⟩)
  obtain ⟨mi, mn, F, S0, hm, e2⟩ := W1.c
  obtain ⟨M', x2, m1, m2, m3, m4⟩ := m_law (g := g) (mi := mi) (mn := mn) (F := F) (S := S0) (M := σ1) S1.lt S1.lp n0 n1 tr.1 tr.2 W1.w6
  have TA : tpA σ1 = tpT T := tpA_T W1
  rw [← e2, TA] at x2
  rw [TA] at m3 m4
  have c2 : Chg σ1 M' (fun a j => lawSl a j) := ⟨m1, fun a j n => m2 a j n⟩
  obtain ⟨c2', o2⟩ := tw_thru e2 c2 (fun a j z => by unfold lawSl at z; unfold twP; omega)
  obtain ⟨σ2, hσ2⟩ : ∃ σ2, σ2 = tw g mi mn F S0 M' := ⟨_, rfl⟩
  rw [← hσ2] at x2 c2' o2
  have zz2 := zy_chg c2'
  have W2 : TSd σ2 g gk (lawNew (tpT T) t n l) (lawTp (tpT T) t n) b T := by
    refine ⟨W1.c.to (fun a j z => c2'.2 a j (by unfold twP at z; unfold lawSl; omega)), fun hb j hj => (c2'.2 3775 j (by unfold lawSl; omega)).trans (W1.k hb j hj), (m4 l W1.tx).to ⟨o2 3772 15 (by unfold twP; omega), fun j => by rw [hσ2]; rfl⟩ (fun b h1 h2 => ⟨by rw [hσ2]; rfl, fun j => o2 b j (by unfold twP; omega), fun j => by rw [hσ2]; rfl⟩), (o2 3772 6 (by unfold twP; omega)).trans m3, (c2'.2 3772 44 (by unfold lawSl; omega)).trans W1.w44, fun j => (c2'.2 3778 j (by unfold lawSl; omega)).trans (W1.tp j)⟩
  exact ⟨_, σ1, σ2, h, k, g, gk, _, _, b, T, x1, (cV_y S1.lt.1.1).trans x2, ⟨S1.to c2'.1, L1.oth S1 (c2'.wk (fun a j z => by unfold lawSl at z; omega)), W2, H.r, H.I, H.kp, lawTp_r tr, H.br⟩, by omega, by omega⟩
/-! a plan is taken -/
theorem pRep_200 {l l' : List Act} {s : Nat} {t fr p p' : Int} (h : pRep l s t fr p = .inr (l', p')) (hs : s ≤ l.length) (t0 : 0 ≤ t) : l'.length ≤ 200 := by
  unfold pRep at h
  split at h
  · cases h
  · rename_i c
    cases h
    show (repL l s t.toNat).length ≤ 200
    rw [repL_len hs]
    obtain ⟨tn, rfl⟩ : ∃ tn : Nat, t = (tn : Int) := nn t0
    have mc : ((l.length : Int) - (s : Int)) * (tn : Int) = ((tn * (l.length - s) : Nat) : Int) := by
      rw [show ((l.length : Int) - (s : Int)) = ((l.length - s : Nat) : Int) by omega, Nat.mul_comm]
      exact (Int.natCast_mul _ _).symm
    rw [mc] at c
    show s + tn * (l.length - s) ≤ 200
    omega
theorem pOne_200 {T0 : Int → Int} {n : Int} {d : Nat} {l l' : List Act} {p p' : Int} (hp : p ≤ n) (h : pOne T0 n d l p = .inr (l', p')) : l'.length ≤ 200 := by
  rw [pOne_eq] at h
  have tm := pTm_r (T := T0) (n := n) (p := p)
  by_cases c : hrA T0 n (pSt T0 n p) = 40
  · rw [if_pos c] at h
    have lt := hr_lt (T := T0) (n := n) (p := pSt T0 n p) (by omega)
    cases e : pRndD T0 n d l (pSt T0 n p) with
    | inl x => rw [e] at h; cases h
    | inr x =>
      rw [e] at h
      have u := pRndD_up d l x.1 (pSt T0 n p) x.2 lt e
      exact pRep_200 h (by omega) (by omega)
  · rw [if_neg c] at h
    cases e : pActL T0 n l p (pTm T0 n p) (pSt T0 n p) with
    | inl x => rw [e] at h; cases h
    | inr x =>
      rw [e] at h
      have u := pActL_up (l' := x.1) (p' := x.2) e
      exact pRep_200 h (by omega) (by omega)
theorem pPlan_200 {T0 : Int → Int} {n : Int} (n0 : 0 ≤ n) {la : List Act} (h : pPlan T0 n = .inr la) : la.length ≤ 200 := by
  have al : ∀ (f : Nat) (l l' : List Act) (q q' : Int), q ≤ n → pAllL T0 n (pOne T0 n 2) f l q = .inr (l', q') → l'.length ≤ 200 := by
    intro f
    induction f with
    | zero => intro l l' q q' hq z; cases z
    | succ f ih =>
      intro l l' q q' hq z
      unfold pAllL at z
      cases e : pOne T0 n 2 l q with
      | inl x => rw [e] at z; cases z
      | inr x =>
        rw [e] at z
        have u := pOne_up 2 l x.1 q x.2 hq e
        have v := pOne_200 (l' := x.1) (p' := x.2) hq e
        simp only [] at z
        split at z
        · exact ih _ _ _ _ u.2 z
        · cases z; exact v
  unfold pPlan at h
  cases e : pAllL T0 n (pOne T0 n 2) (n.toNat + 1) [] 0 with
  | inl y => rw [e] at h; cases h
  | inr y =>
    rw [e] at h
    have v := al _ _ y.1 _ y.2 n0 e
    have h : (if y.2 < n then .inl (1, y.2) else .inr y.1 : (Int × Int) ⊕ List Act) = .inr la := h
    by_cases g : y.2 < n
    · rw [if_pos g] at h; cases h
    · rw [if_neg g] at h; cases h; exact v
theorem good_plan {Λ : Law} {T0 : Int → Int} {t n : Int} (H : GoodR R g) (hR : R + 1400 ≤ 1000000) : GoodR (R + 1400) (planG Λ T0 t n g) := by
  unfold planG
  cases e : planR T0 t n with
  | none => exact H.up (by omega) hR
  | some x =>
    cases x with
    | inl y => exact H.up (by omega) hR
    | inr la =>
      have l2 : la.length ≤ 200 := by
        unfold planR at e
        split at e
        · split at e
          · exact pPlan_200 (by omega) (Option.some.inj e)
          · cases e
        · cases e
      exact (good_run (Λ := Λ) la g R H (by omega)).up (by omega) hR
theorem planTp_r {T0 : Int → Int} {t n : Int} (h : 0 ≤ t ∧ t ≤ 260) : 0 ≤ planTp T0 t n ∧ planTp T0 t n ≤ 260 := by
  unfold planTp
  cases planR T0 t n with
  | none => exact h
  | some x => exact ⟨Int.le_refl _, by show (0 : Int) ≤ 260; omega⟩
theorem w_plan (H : Wld σ h k g gk l t b T R) (hR : R + 2800 ≤ 1000000) (hz : mZ σ + 800 ≤ 1200000) (hy : mY σ + 2500 ≤ 5502250) {n : Int} (n0 : -2147483648 ≤ n) (n1 : n ≤ 2147483647) : Step σ (R + 1400) (fun s => sX0_plan (some 0) (iI n) s) (fun s => sX8_plan (some 3772) (iI n) s) := by
  have S := H.s
  have tr := H.tr
  obtain ⟨σ1, h', x1, r1, L1, S1, sm, z1, y1⟩ := f_plan S H.L H.r H.I hR tr.1 tr.2 n0 n1 (by omega) (by omega)
  have W1 : TSd σ1 g gk l t b T := H.W.to sm
  obtain ⟨σ2, x2, W2, c2⟩ := m_plan S1 W1 H.I hR tr.1 tr.2 n0 n1
  have zz2 := zy_chg c2
  exact ⟨_, σ1, σ2, h', k, _, gk, l, _, b, T, x1, (cV_y S1.lt.1.1).trans x2, ⟨S1.to c2.1, L1.oth S1 c2, W2, r1, good_plan H.I (by omega), fun q => ⟨(H.kp q).1, (H.kp q).2.up (by omega) (by omega)⟩, planTp_r tr, H.br⟩, by omega, by omega⟩
end
