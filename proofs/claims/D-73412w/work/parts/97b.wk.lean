/-! DEPS: wj -/
/-! WK: the world keeps, is put back, is fed, checked -/
section
variable {σ σ' : Mem} {h k g gk : Row} {l : List Cls} {t b : Int} {T : Nat → Int32} {R R' : Int} {f0 f8 : Mem → Option (Int32 × Mem)}
theorem wM_chg {N : Mem} {s : Nat} {z : Int} : Chg N (wM N s z) (fun a j => a = 0 ∧ j = s) := ⟨rfl, fun a j q => if_neg q⟩
theorem wT_chg {N : Mem} {s : Nat} {z : Int} : Chg N (wT N s z) (fun a j => a = 3772 ∧ j = s) := ⟨rfl, fun a j q => if_neg q⟩
theorem wM_at {N : Mem} {s : Nat} {z : Int} : mI (wM N s z) 0 s = iI z := by
  show (if (0 : Nat) = 0 ∧ s = s then iI z else mI N 0 s) = iI z
  exact if_pos ⟨rfl, rfl⟩
theorem wT_at {N : Mem} {s : Nat} {z : Int} : mI (wT N s z) 3772 s = iI z := by
  show (if (3772 : Nat) = 3772 ∧ s = s then iI z else mI N 3772 s) = iI z
  exact if_pos ⟨rfl, rfl⟩
theorem bk_no {N : Mem} {a0 : Nat} {g0 : Row} {a j : Nat} (h : a ≠ a0) : mI (bkM N a0 g0) a j = mI N a j := if_neg (fun z => h z.1)
theorem w_keep (H : Wld σ h k g gk l t b T R) : Step σ R (fun s => sX0_keep (some 0) s) (fun s => sX8_keep (some 3772) s) := by
  obtain ⟨hs, FL, D, I, h9⟩ := id H.I
  have S := H.s
  have L := H.L
  have hG := I.gl
  obtain ⟨C, Hd, Mo, Ck, Hk, Mk, s, s', e⟩ := two (Or.inr rfl) L.c L.c2
  obtain ⟨k', Mk', x1, r1⟩ := t_keep (C := C) (Hd := Hd) (Mo := Mo) (k := k) (Ck := Ck) (Hk := Hk) (Mk := Mk) (djA (Or.inr rfl)) (M := shM (shM σ 2 s) 2512 s') S.ly.2.2 S.ly.1 S.p0.1 S.p0.2.2.1 H.r I
  rw [← e, tl_wM (by omega), tl_wM (by omega)] at x1
  obtain ⟨σ0, hσ0⟩ : ∃ σ0, σ0 = tl 2 h C Hd Mo (tl 2512 k' Ck Hk Mk' (shM (shM σ 2 s) 2512 s')) := ⟨_, rfl⟩
  rw [← hσ0] at x1
  have c0 : Chg σ σ0 (fun a j => (1 ≤ a ∧ a < 1257) ∨ (2512 ≤ a ∧ a < 3767)) := by
    rw [hσ0]
    exact two_chg (Or.inr rfl) (fun a j z => by omega)
  have c1 : Chg σ (wM σ0 7 1) (fun a j => (1 ≤ a ∧ a < 1257) ∨ (2512 ≤ a ∧ a < 3767) ∨ (a = 0 ∧ j = 7)) := (c0.wk (fun a j z => by omega)).thn (wM_chg.wk (fun a j z => by omega))
  obtain ⟨σ1, hσ1⟩ : ∃ σ1, σ1 = wM σ0 7 1 := ⟨_, rfl⟩
  rw [← hσ1] at x1 c1
  have S1 := S.to c1.1
  have z1 := zy_chg c1
  have w1 : Chg σ0 σ1 (fun a j => a = 0 ∧ j = 7) := by rw [hσ1]; exact wM_chg
  have L1 : LSd σ1 h k' l t 1 T := by
    obtain ⟨k1, y1⟩ := L.c1
    refine ⟨(CLv.of (σ := σ0) (by omega) hσ0).to (fun a j h1 h2 => w1.2 a j (by omega)), ⟨k1, y1.to (fun a j h1 h2 => c1.2 a j (by omega))⟩, ?_, L.tx.up S1.k2 (mP_2 c1.1 0 5) (by omega) (fun b hb h9 => chg_sm c1 (fun j => by omega)), (c1.2 0 6 (by omega)).trans L.w6, by rw [hσ1]; exact wM_at, fun j => (c1.2 3767 j (by omega)).trans (L.tp j)⟩
    have q : CLv 2512 k' σ0 := by rw [hσ0]; exact two_in (Or.inr rfl)
    exact q.to (fun a j h1 h2 => w1.2 a j (by omega))
  have W1 := H.W.oth (c1.wk (fun a j z => by omega))
  obtain ⟨mi, mn, F, S0, hm, e2⟩ := W1.c
  obtain ⟨_, _, _, _, _, _, _, _, _, _, _, _⟩ := hG
  have x2 := m_keep (g := g) (mi := mi) (mn := mn) (F := F) (S := S0) S1.lt S1.lt2 (by omega)
  rw [← e2] at x2
  obtain ⟨N, hN⟩ : ∃ N, N = bkM (wT σ1 44 1) 3775 g := ⟨_, rfl⟩
  rw [← hN] at x2
  have cN : Chg σ1 N (fun a j => (a = 3772 ∧ j = 44) ∨ a = 3775) := by
    rw [hN]
    exact (wT_chg.wk (fun a j z => Or.inl z)).thn ⟨rfl, fun a j n => if_neg (fun z => n (Or.inr z.1))⟩
  obtain ⟨σ2, hσ2⟩ : ∃ σ2, σ2 = tw g mi mn F S0 N := ⟨_, rfl⟩
  rw [← hσ2] at x2
  have no : ∀ a j, ¬ twP a j → mI σ2 a j = mI N a j := fun a j n => by
    rw [hσ2]
    exact tw_no n
  have c2 : Chg σ1 σ2 (fun a j => twP a j ∨ (a = 3772 ∧ j = 44) ∨ a = 3775) := ⟨by rw [hσ2]; exact cN.1, fun a j n => (no a j (fun z => n (Or.inl z))).trans (cN.2 a j (fun z => n (Or.inr z)))⟩
  have z2 := zy_chg c2
  have W2 : TSd σ2 g g l t 1 T := by
    refine ⟨TWv.of hm hσ2, fun _ j hj => ?_, W1.tx.to ⟨c2.2 3772 15 (by unfold twP; omega), fun j => mP_2 c2.1 _ _⟩ (fun b h1 h2 => chg_sm c2 (fun j => by unfold twP; omega)), (c2.2 3772 6 (by unfold twP; omega)).trans W1.w6, ?_, fun j => (c2.2 3778 j (by unfold twP; omega)).trans (W1.tp j)⟩
    · rw [no _ _ (by unfold twP; omega), hN]
      exact bk_at j hj
    · rw [no _ _ (by unfold twP; omega), hN]
      have q : mI (bkM (wT σ1 44 1) 3775 g) 3772 44 = mI (wT σ1 44 1) 3772 44 := bk_no (by omega)
      rw [q]
      exact wT_at
  exact ⟨_, σ1, σ2, h, k', g, g, l, t, 1, T, x1, (cV_y S1.lt.1.1).trans x2, ⟨S1.to c2.1, L1.oth S1 (c2.wk (fun a j z => by unfold twP at z; omega)), W2, H.r, H.I, fun _ => ⟨r1, H.I⟩, H.tr, Or.inr rfl⟩, by omega, by omega⟩
theorem w_undo (H : Wld σ h k g gk l t b T R) : Step σ R (fun s => sX0_undo (some 0) s) (fun s => sX8_undo (some 3772) s) := by
  obtain ⟨hs, FL, D, I, h9⟩ := id H.I
  have S := H.s
  have L := H.L
  have e38 := H.r.gl 11138 (by omega) (by omega)
  obtain ⟨C, Hd, Mo, Ck, Hk, Mk, s, s', e⟩ := two (Or.inr rfl) L.c L.c2
  have m7 : mI (shM (shM σ 2 s) 2512 s') 0 7 = iI b := ((sh_chg (N := shM σ 2 s) (B := 2512) (s := s')).2 0 7 (by omega)).trans (((sh_chg (N := σ) (B := 2) (s := s)).2 0 7 (by omega)).trans L.w7)
  have b7 : iI b = iI 0 ∨ iI b = iI 1 := by
    rcases H.br with q | q <;> rw [q]
    · exact Or.inl rfl
    · exact Or.inr rfl
  have b1 : iI b = iI 1 → b = 1 := fun q => by
    rcases H.br with z | z
    · rw [z] at q; exact absurd q iv_10
    · exact z
  have b0 : iI b = iI 0 → b = 0 := fun q => by
    rcases H.br with z | z
    · exact z
    · rw [z] at q; exact absurd q iv_01
  obtain ⟨hs2, FL2, D2, I2⟩ : ∃ hs2 FL2 D2, iI b = iI 1 → InvS gk hs2 FL2 R D2 := by
    rcases H.br with z | z
    · exact ⟨hs, FL, D, fun q => absurd (b1 q) (by omega)⟩
    · obtain ⟨hs2, FL2, D2, I2, _⟩ := (H.kp z).2
      exact ⟨hs2, FL2, D2, fun _ => I2⟩
  obtain ⟨h', x1, r1, r0⟩ := t_undo (C := C) (Hd := Hd) (Mo := Mo) (k := k) (Ck := Ck) (Hk := Hk) (Mk := Mk) (g := g) (gk := gk) (djA (Or.inr rfl)).sym (M := shM (shM σ 2 s) 2512 s') S.ly.2.2 S.ly.1 S.p0.1 S.p0.2.2.1 e38 (by rw [m7]; exact fun q => (H.kp (b1 q)).1) (by rw [m7]; exact I2) (by rw [m7]; exact b7)
  rw [← e, m7] at x1
  rw [m7] at r1 r0
  obtain ⟨σ1, hσ1⟩ : ∃ σ1, σ1 = tl 2 h' C Hd Mo (tl 2512 k Ck Hk Mk (shM (shM σ 2 s) 2512 s')) := ⟨_, rfl⟩
  rw [← hσ1] at x1
  have c1 : Chg σ σ1 (fun a j => (1 ≤ a ∧ a < 1257) ∨ (2512 ≤ a ∧ a < 3767)) := by
    rw [hσ1]
    exact two_chg (Or.inr rfl) (fun a j z => by omega)
  have S1 := S.to c1.1
  have z1 := zy_chg c1
  have L1 : LSd σ1 h' k l t b T := by
    obtain ⟨k1, y1⟩ := L.c1
    exact ⟨CLv.of (by omega) hσ1, ⟨k1, y1.to (fun a j h1 h2 => c1.2 a j (by omega))⟩, by rw [hσ1]; exact two_in (Or.inr rfl), L.tx.up S1.k2 (mP_2 c1.1 0 5) (by omega) (fun b hb h9 => chg_sm c1 (fun j => by omega)), (c1.2 0 6 (by omega)).trans L.w6, (c1.2 0 7 (by omega)).trans L.w7, fun j => (c1.2 3767 j (by omega)).trans (L.tp j)⟩
  have W1 := H.W.oth (c1.wk (fun a j z => by omega))
  obtain ⟨mi, mn, F, S0, hm, e2⟩ := W1.c
  have x2 := m_undo (g := g) (gk := gk) (mi := mi) (mn := mn) (F := F) (S := S0) S1.lt S1.lt2 (by rw [W1.w44]; exact b7) (by rw [W1.w44]; exact fun q => W1.k (b1 q))
  rw [← e2, W1.w44] at x2
  obtain ⟨g', hg'⟩ : ∃ g', g' = if iI b = iI 1 then st gk 11138 (g 11138) else g := ⟨_, rfl⟩
  rw [← hg'] at x2
  have rr : Rel h' g' ∧ GoodR R g' := by
    rcases b7 with q | q
    · have bb := b0 q
      rw [hg', if_neg (by rw [q]; exact iv_10), r0 q]
      exact ⟨H.r, H.I⟩
    · have bb := b1 q
      rw [hg', if_pos q]
      exact ⟨r1 q, (H.kp bb).2.held I.dd.2.1⟩
  obtain ⟨σ2, hσ2⟩ : ∃ σ2, σ2 = tw g' mi mn F S0 σ1 := ⟨_, rfl⟩
  rw [← hσ2] at x2
  have c2 : Chg σ1 σ2 twP := by
    have q := tw_chg (g := g) (g' := g') (mi := mi) (mn := mn) (F := F) (S := S0) (mi' := mi) (mn' := mn) (F' := F) (S' := S0) (N := σ1)
    rw [← e2, ← hσ2] at q
    exact q
  have z2 := zy_chg c2
  exact ⟨_, σ1, σ2, h', k, g', gk, l, t, b, T, x1, (cV_y S1.lt.1.1).trans x2, ⟨S1.to c2.1, L1.oth S1 (c2.wk (fun a j z => by unfold twP at z; omega)), W1.act hm hσ2 c2, rr.1, rr.2, H.kp, H.tr, H.br⟩, by omega, by omega⟩
/-! fed, checked -/
/-- TermLog's side with another tape -/
theorem LSd.tape {t' : Int} {T' : Nat → Int32} (S : Stt σ) (L : LSd σ h k l t b T) (c : Chg σ σ' (fun a j => a = 3767 ∨ (a = 0 ∧ j = 6))) (h6 : mI σ' 0 6 = iI t') (hT : ∀ j, mI σ' 3767 j = T' j) : LSd σ' h k l t' b T' := by
  have z := zy_chg c
  obtain ⟨k1, y1⟩ := L.c1
  exact ⟨L.c.to (fun a j h1 h2 => c.2 a j (by omega)), ⟨k1, y1.to (fun a j h1 h2 => c.2 a j (by omega))⟩, L.c2.to (fun a j h1 h2 => c.2 a j (by omega)), L.tx.up (S.to c.1).k2 (mP_2 c.1 0 5) (by omega) (fun b hb h9 => chg_sm c (fun j => by omega)), h6, (c.2 0 7 (by omega)).trans L.w7, hT⟩
theorem TSd.tape {t' : Int} {T' : Nat → Int32} (W : TSd σ g gk l t b T) (c : Chg σ σ' (fun a j => a = 3778 ∨ (a = 3772 ∧ j = 6))) (h6 : mI σ' 3772 6 = iI t') (hT : ∀ j, mI σ' 3778 j = T' j) : TSd σ' g gk l t' b T' :=
  ⟨W.c.to (fun a j z => c.2 a j (by unfold twP at z; omega)), fun hb j hj => (c.2 3775 j (by omega)).trans (W.k hb j hj), W.tx.to ⟨c.2 3772 15 (by omega), fun j => mP_2 c.1 _ _⟩ (fun b h1 h2 => chg_sm c (fun j => by omega)), h6, (c.2 3772 44 (by omega)).trans W.w44, hT⟩
/-- what changes behind a view -/
theorem tl_thru {C Hd Mo : Row} {s : Int32} {M' : Mem} {P : Nat → Nat → Prop} (e : σ = tl 2 h C Hd Mo (shM σ 2 s)) (c : Chg (shM σ 2 s) M' P) (hP : ∀ a j, P a j → a ≠ 1 ∧ (a < 2 ∨ 1257 ≤ a)) : Chg σ (tl 2 h C Hd Mo M') P ∧ ∀ a j, a ≠ 1 → (a < 2 ∨ 1257 ≤ a) → mI (tl 2 h C Hd Mo M') a j = mI M' a j := by
  have o : ∀ a j, a ≠ 1 → (a < 2 ∨ 1257 ≤ a) → mI (tl 2 h C Hd Mo M') a j = mI M' a j := fun a j h1 h2 => tl_out h1 (by omega)
  refine ⟨⟨c.1, fun a j n => ?_⟩, o⟩
  by_cases q : a = 1 ∨ (2 ≤ a ∧ a < 1257)
  · conv => rhs; rw [e]
    show tlI 2 h C Hd Mo (mI M') a j = tlI 2 h C Hd Mo (mI (shM σ 2 s)) a j
    by_cases c1 : a = 1
    · rw [c1, tl_one, tl_one]
    · rw [tl_in c1 (by omega), tl_in c1 (by omega), c.2 a j n, c.2 2 13 (fun z => by have := hP _ _ z; omega)]
  · rw [o a j (by omega) (by omega), c.2 a j n]
    exact if_neg (by omega)
theorem tw_thru {mi mn F : Row} {S : Nat → Int32} {M' : Mem} {P : Nat → Nat → Prop} (e : σ = tw g mi mn F S σ) (c : Chg σ M' P) (hP : ∀ a j, P a j → ¬ twP a j) : Chg σ (tw g mi mn F S M') P ∧ ∀ a j, ¬ twP a j → mI (tw g mi mn F S M') a j = mI M' a j := by
  have o : ∀ a j, ¬ twP a j → mI (tw g mi mn F S M') a j = mI M' a j := fun a j n => tw_no n
  refine ⟨⟨c.1, fun a j n => ?_⟩, o⟩
  by_cases q : twP a j
  · conv => rhs; rw [e]
    exact tw_in q
  · rw [o a j q]
    exact c.2 a j n
theorem w_feed (H : Wld σ h k g gk l t b T R) {x1 x2 x3 x4 x5 : Int32} : Step σ R (fun s => sX0_feed (some 0) x1 x2 x3 x4 x5 s) (fun s => sX8_feed (some 3772) x1 x2 x3 x4 x5 s) := by
  obtain ⟨hs, FL, D, I, h9⟩ := id H.I
  have S := H.s
  have L := H.L
  have tr := H.tr
  obtain ⟨C, Hd, Mo, s, e⟩ := L.c.rep (by omega)
  have shc := sh_chg (N := σ) (B := 2) (s := s)
  obtain ⟨M', y1, c1, u1, u2⟩ := t_feed (h := h) (C := C) (Hd := Hd) (Mo := Mo) (M := shM σ 2 s) (a := x1) (b := x2) (c := x3) (d := x4) (e := x5) S.ly.1 (by omega) S.p0.2.2.2 S.kt.1 tr.1 tr.2 ((shc.2 0 6 (by omega)).trans L.w6)
  rw [← e] at y1
  obtain ⟨c1', o1⟩ := tl_thru e c1 (fun a j z => by omega)
  obtain ⟨σ1, hσ1⟩ : ∃ σ1, σ1 = tl 2 h C Hd Mo M' := ⟨_, rfl⟩
  rw [← hσ1] at y1 c1' o1
  have S1 := S.to c1'.1
  have z1 := zy_chg c1'
  have W1 := H.W.oth (c1'.wk (fun a j z => by omega))
  obtain ⟨mi, mn, F, S0, hm, e2⟩ := W1.c
  obtain ⟨N', y2, c2, v1, v2⟩ := m_feed (g := g) (mi := mi) (mn := mn) (F := F) (S := S0) (a := x1) (b := x2) (c := x3) (d := x4) (e := x5) S1.lt S1.lp.2.1.1 S1.kt.2 tr.1 tr.2 W1.w6
  rw [← e2] at y2
  obtain ⟨c2', o2⟩ := tw_thru e2 c2 (fun a j z => by unfold twP; omega)
  obtain ⟨σ2, hσ2⟩ : ∃ σ2, σ2 = tw g mi mn F S0 N' := ⟨_, rfl⟩
  rw [← hσ2] at y2 c2' o2
  have z2 := zy_chg c2'
  have TL0 : mI (shM σ 2 s) 3767 = T := by funext j; exact (shc.2 3767 j (by omega)).trans (L.tp j)
  have TW0 : mI σ1 3778 = T := by funext j; exact W1.tp j
  by_cases q : t + 20 ≤ 260
  · obtain ⟨a1, a2⟩ := u1 q
    obtain ⟨b1, b2⟩ := v1 q
    rw [TL0] at a1
    rw [TW0] at b1
    have L1 : LSd σ1 h k l (t + 20) b (feedT T t x1 x2 x3 x4 x5) := L.tape S c1' ((o1 0 6 (by omega) (by omega)).trans a2) (fun j => (o1 3767 j (by omega) (by omega)).trans (congrFun a1 j))
    have W2 : TSd σ2 g gk l (t + 20) b (feedT T t x1 x2 x3 x4 x5) := W1.tape c2' ((o2 3772 6 (by unfold twP; omega)).trans b2) (fun j => (o2 3778 j (by unfold twP; omega)).trans (congrFun b1 j))
    exact ⟨_, σ1, σ2, h, k, g, gk, l, _, b, _, y1, (cV_y S1.lt.1.1).trans y2, ⟨S1.to c2'.1, L1.oth S1 (c2'.wk (fun a j z => by omega)), W2, H.r, H.I, H.kp, by omega, H.br⟩, by omega, by omega⟩
  · have q1 := u2 q
    have q2 := v2 q
    have L1 : LSd σ1 h k l t b T := L.tape S c1' ((o1 0 6 (by omega) (by omega)).trans (by rw [q1]; exact (shc.2 0 6 (by omega)).trans L.w6)) (fun j => (o1 3767 j (by omega) (by omega)).trans (by rw [q1]; exact congrFun TL0 j))
    have W2 : TSd σ2 g gk l t b T := W1.tape c2' ((o2 3772 6 (by unfold twP; omega)).trans (by rw [q2]; exact W1.w6)) (fun j => (o2 3778 j (by unfold twP; omega)).trans (by rw [q2]; exact W1.tp j))
    exact ⟨_, σ1, σ2, h, k, g, gk, l, _, b, _, y1, (cV_y S1.lt.1.1).trans y2, ⟨S1.to c2'.1, L1.oth S1 (c2'.wk (fun a j z => by omega)), W2, H.r, H.I, H.kp, H.tr, H.br⟩, by omega, by omega⟩
theorem w_check (H : Wld σ h k g gk l t b T R) {n : Int} (n0 : -2147483648 ≤ n) (n1 : n ≤ 2147483647) : Step σ R (fun s => sX0_check (some 0) (iI n) s) (fun s => sX8_check (some 3772) (iI n) s) := by
  obtain ⟨hs, FL, D, I, h9⟩ := id H.I
  have S := H.s
  have L := H.L
  have tr := H.tr
  obtain ⟨C, Hd, Mo, s, e⟩ := L.c.rep (by omega)
  have shc := sh_chg (N := σ) (B := 2) (s := s)
  have y1 := t_check (h := h) (C := C) (Hd := Hd) (Mo := Mo) (M := shM σ 2 s) S.ly.1 (by omega) S.p0.1 S.p0.2.2.2 S.kt.1 H.r I n0 n1 tr.1 tr.2 ((shc.2 0 6 (by omega)).trans L.w6)
  rw [← e] at y1
  have TL0 : mI (shM σ 2 s) 3767 = T := by funext j; exact (shc.2 3767 j (by omega)).trans (L.tp j)
  rw [TL0] at y1
  obtain ⟨t', ht'⟩ : ∃ t', t' = if 0 ≤ n ∧ n ≤ 8 ∧ n ≤ t then 0 else t := ⟨_, rfl⟩
  obtain ⟨M', hM'⟩ : ∃ M', M' = if 0 ≤ n ∧ n ≤ 8 ∧ n ≤ t then wM (shM σ 2 s) 6 0 else shM σ 2 s := ⟨_, rfl⟩
  rw [← hM'] at y1
  have c1 : Chg (shM σ 2 s) M' (fun a j => a = 0 ∧ j = 6) := by
    rw [hM']
    split
    · exact wM_chg
    · exact Chg.rfl'
  have m6 : mI M' 0 6 = iI t' := by
    rw [hM', ht']
    split
    · exact wM_at
    · exact (shc.2 0 6 (by omega)).trans L.w6
  obtain ⟨c1', o1⟩ := tl_thru e c1 (fun a j z => by omega)
  obtain ⟨σ1, hσ1⟩ : ∃ σ1, σ1 = tl 2 h C Hd Mo M' := ⟨_, rfl⟩
  rw [← hσ1] at y1 c1' o1
  have S1 := S.to c1'.1
  have z1 := zy_chg c1'
  have L1 : LSd σ1 h k l t' b T := L.tape S (c1'.wk (fun a j z => Or.inr z)) ((o1 0 6 (by omega) (by omega)).trans m6) (fun j => (c1'.2 3767 j (by omega)).trans (L.tp j))
  have W1 := H.W.oth (c1'.wk (fun a j z => by omega))
  obtain ⟨mi, mn, F, S0, hm, e2⟩ := W1.c
  have y2 := m_check (g := g) (mi := mi) (mn := mn) (F := F) (S := S0) S1.lt S1.lp.2.1.1 S1.kt.2 I n0 n1 tr.1 tr.2 W1.w6
  rw [← e2] at y2
  have TW0 : mI σ1 3778 = T := by funext j; exact W1.tp j
  rw [TW0] at y2
  obtain ⟨N', hN'⟩ : ∃ N', N' = if 0 ≤ n ∧ n ≤ 8 ∧ n ≤ t then wT σ1 6 0 else σ1 := ⟨_, rfl⟩
  rw [← hN'] at y2
  have c2 : Chg σ1 N' (fun a j => a = 3772 ∧ j = 6) := by
    rw [hN']
    split
    · exact wT_chg
    · exact Chg.rfl'
  have n6 : mI N' 3772 6 = iI t' := by
    rw [hN', ht']
    split
    · exact wT_at
    · exact W1.w6
  obtain ⟨c2', o2⟩ := tw_thru e2 c2 (fun a j z => by unfold twP; omega)
  obtain ⟨σ2, hσ2⟩ : ∃ σ2, σ2 = tw g mi mn F S0 N' := ⟨_, rfl⟩
  rw [← hσ2] at y2 c2' o2
  have z2 := zy_chg c2'
  have W2 : TSd σ2 g gk l t' b T := W1.tape (c2'.wk (fun a j z => Or.inr z)) ((o2 3772 6 (by unfold twP; omega)).trans n6) (fun j => (c2'.2 3778 j (by omega)).trans (W1.tp j))
  have tr' : 0 ≤ t' ∧ t' ≤ 260 := by rw [ht']; split <;> omega
  exact ⟨_, σ1, σ2, h, k, g, gk, l, t', b, T, y1, (cV_y S1.lt.1.1).trans y2, ⟨S1.to c2'.1, L1.oth S1 (c2'.wk (fun a j z => by omega)), W2, H.r, H.I, H.kp, tr', H.br⟩, by omega, by omega⟩
end
