/-! DEPS: zr -/
/-! ZS: TermLog's planner reads a plan: whole -/
section
variable {A : Nat} {M : Mem}
theorem k_all (hK : LK A M) {D d : Nat} (hO : ∀ r l, GdK r l d → OutK A M r (sX16_one D (some A) (kw A r M)) (bdK r d) (pOne (tpL M) (r 0) d l (r 5))) {r : Row} {l : List Act} (g : GdK r l d) :
    OutK A M r (sX16_all (D + 1) (some A) (kw A r M)) (bdK r d) (pAllL (tpL M) (r 0) (pOne (tpL M) (r 0) d) ((r 0).toNat + 1) l (r 5)) := by
  obtain ⟨g1, g2, g3, g4, g5, g6, g7, g8⟩ := id g
  show OutK A M r (sX16_all_0 (sX16_all D) (sX16_one D) (sX16_rounds D) (some A) (kw A r M)) _ _
  obtain ⟨f, hf⟩ := FU7'
  unfold sX16_all_0
  rw [cV_k hK, k_good hK (by omega) (by omega), clw, bI_t g1, hf]
  exact k_allL hK hO _ _ r l (by have : FU = 1000000 := rfl; omega) (by omega) g
theorem OutK.seq2 {r r1 : Row} {z : Option (Unit × Mem)} {b b2 m : Int} {res : ResP} {f : Mem → Option (Unit × Mem)} {F : List Act → Int → ResP} (h : OutK A M r1 z b res) (e10 : r1 0 = r 0) (hm : b + m ≤ b2)
    (hg : ∀ (r' : Row) (l' : List Act) (p' : Int), res = .inr (l', p') → r' 6 = 0 → r' 5 = p' → r' 0 = r1 0 → r' 9 = r1 9 → AcK r' l' → OutK A M r (f (kw A r' M)) b2 (F l' p'))
    (hb : ∀ r' : Row, 1 ≤ r' 6 → r' 6 ≤ 9 → 0 ≤ r' 5 → r' 5 ≤ b → r' 0 = r1 0 → BadO A M r' (f (kw A r' M)) m) : OutK A M r (cl z fun _ s => f s) b2 (thenR res F) := by
  unfold OutK at h
  cases res with
  | inl x =>
    obtain ⟨r', a, b', c, d, e, f1, g1, g2⟩ := h
    rw [a, clw]
    have q := hb r' (by omega) (by omega) e f1 d
    show OutK A M r _ b2 (.inl (x.1, x.2))
    exact q.out b' c (d.trans e10) e (by omega) ⟨g1, g2⟩
  | inr x =>
    obtain ⟨r', a, b', c, d, e, g⟩ := h
    rw [a, clw]
    exact hg r' x.1 x.2 rfl b' c d e g
/-- the end of rounds -/
theorem k_66 (hK : LK A M) {r : Row} {ra ro rr : Option Nat → Mem → Option (Unit × Mem)} : sX16_rounds_66 ra ro rr (some A) (kw A r M) = some ((), kw A (st (st r 5 (r 5 + 1)) 9 (r 9 - 1)) M) := by
  unfold sX16_rounds_66
  rw [gI_k5 hK, iv_add, pI_k5 hK, gI_k9 hK, st_ne (by omega), iv_sub, pI_k9 hK]
theorem k_66B (hK : LK A M) {r : Row} {ra ro rr : Option Nat → Mem → Option (Unit × Mem)} : BadO A M r (sX16_rounds_66 ra ro rr (some A) (kw A r M)) 1 := by
  refine ⟨_, k_66 hK, (st_ne (by omega)).trans (st_ne (by omega)), (st_ne (by omega)).trans (st_ne (by omega)), (st_ne (by omega)).trans (st_ne (by omega)), ?_, ?_⟩
  · rw [st_ne (by omega), st_eq]; omega
  · rw [st_ne (by omega), st_eq]; omega
/-- rounds where there may be none -/
theorem k_roundsNo (hK : LK A M) {D : Nat} {r : Row} {l : List Act} (g : GdK r l 0) (hp : r 5 < r 0) : OutK A M r (sX16_rounds (D + 2) (some A) (kw A r M)) (r 0 + 9) (pRndD (tpL M) (r 0) 0 l (r 5)) := by
  obtain ⟨g1, g2, g3, g4, g5, g6, g7, g8⟩ := id g
  show OutK A M r (sX16_rounds_0 (sX16_all (D + 1)) (sX16_one (D + 1)) (sX16_rounds (D + 1)) (some A) (kw A r M)) _ (.inl (5, r 5))
  have e9 : r 9 = 2 := by omega
  unfold sX16_rounds_0 sX16_rounds_17
  obtain ⟨r1, hr1⟩ : ∃ r1, r1 = st (st r 6 5) 7 (r 5) := ⟨_, rfl⟩
  have a6 : r1 6 = 5 := by rw [hr1]; exact (st_ne (by omega)).trans (st_eq _ _ _)
  have a7 : r1 7 = r 5 := by rw [hr1]; exact st_eq _ _ _
  have a5 : r1 5 = r 5 := by rw [hr1]; exact (st_ne (by omega)).trans (st_ne (by omega))
  have a0 : r1 0 = r 0 := by rw [hr1]; exact (st_ne (by omega)).trans (st_ne (by omega))
  rw [gI_k9 hK, e9, if_pos rfl, gI_k5 hK, cV_k hK, k_bad hK g1, clw, ← hr1, gI_k5 hK, iv_add, pI_k5 hK, gI_k9 hK, iv_add, pI_k9 hK, a5]
  obtain ⟨r2, hr2⟩ : ∃ r2, r2 = st (st r1 5 (r 5 + 1)) 9 (st r1 5 (r 5 + 1) 9 + 1) := ⟨_, rfl⟩
  have b6 : r2 6 = 5 := by rw [hr2]; exact (st_ne (by omega)).trans ((st_ne (by omega)).trans a6)
  have b7 : r2 7 = r 5 := by rw [hr2]; exact (st_ne (by omega)).trans ((st_ne (by omega)).trans a7)
  have b5 : r2 5 = r 5 + 1 := by rw [hr2]; exact (st_ne (by omega)).trans (st_eq _ _ _)
  have b0 : r2 0 = r 0 := by rw [hr2]; exact (st_ne (by omega)).trans ((st_ne (by omega)).trans a0)
  rw [← hr2, cV_k hK, k_allB hK (by omega) (by omega), clw, cV_k hK, k_good hK (by omega) (by omega), clw, if_pos (by rw [bI_z]; omega)]
  exact (k_66B (ra := sX16_all (D + 1)) (ro := sX16_one (D + 1)) (rr := sX16_rounds (D + 1)) hK).out b6 b7 b0 (by omega) (by omega)
theorem k_rounds (hK : LK A M) {D d : Nat} (hA : ∀ r l, GdK r l d → OutK A M r (sX16_all D (some A) (kw A r M)) (bdK r d) (pAllL (tpL M) (r 0) (pOne (tpL M) (r 0) d) ((r 0).toNat + 1) l (r 5))) {r : Row} {l : List Act} (g : GdK r l (d + 1)) (hp : r 5 < r 0) :
    OutK A M r (sX16_rounds (D + 1) (some A) (kw A r M)) (bdK r d + 1) (pRndD (tpL M) (r 0) (d + 1) l (r 5)) := by
  obtain ⟨g1, g2, g3, g4, g5, g6, g7, g8⟩ := id g
  show OutK A M r (sX16_rounds_0 (sX16_all D) (sX16_one D) (sX16_rounds D) (some A) (kw A r M)) _ _
  unfold sX16_rounds_0 sX16_rounds_17
  rw [gI_k9 hK, ifE (by omega) (by omega) (by omega) (by omega), if_neg (by omega), gI_k5 hK, iv_add, pI_k5 hK, gI_k9 hK, st_ne (by omega), iv_add, pI_k9 hK]
  obtain ⟨r1, hr1⟩ : ∃ r1, r1 = st (st r 5 (r 5 + 1)) 9 (r 9 + 1) := ⟨_, rfl⟩
  have a6 : r1 6 = 0 := by rw [hr1]; exact (st_ne (by omega)).trans ((st_ne (by omega)).trans g1)
  have a5 : r1 5 = r 5 + 1 := by rw [hr1]; exact (st_ne (by omega)).trans (st_eq _ _ _)
  have a0 : r1 0 = r 0 := by rw [hr1]; exact (st_ne (by omega)).trans (st_ne (by omega))
  have a9 : r1 9 = r 9 + 1 := by rw [hr1]; exact st_eq _ _ _
  have ac1 : AcK r1 l := g2.to (fun y hy => by rw [hr1]; exact (st_ne (by omega)).trans (st_ne (by omega)))
  have X := hA r1 l ⟨a6, ac1, by omega, by omega, by omega, by omega, by omega, by omega⟩
  rw [a0, a5] at X
  have bb : bdK r1 d = bdK r d := by show r1 0 + 10 + 3 * (d : Int) = r 0 + 10 + 3 * d; rw [a0]
  rw [bb] at X
  rw [← hr1, cV_k hK, pRndD_s]
  obtain ⟨F, hF⟩ : ∃ F : Mem → Option (Unit × Mem), F = fun s => cV s (some A) 13 (cl (sX16_isGood (some A) s) fun x6 s7 => if x6 = iI 0 then sX16_rounds_66 (sX16_all D) (sX16_one D) (sX16_rounds D) (some A) s7 else cV s7 (some A) 13 (cl (sX16_here (some A) s7) fun x8 s9 => if x8 = iI 41 then sX16_rounds_66 (sX16_all D) (sX16_one D) (sX16_rounds D) (some A) s9 else gI s9 (some A) 13 5 fun x10 => cV s9 (some A) 13 (cl (sX16_bad (some A) (iI 1) x10 s9) fun _ s11 => sX16_rounds_66 (sX16_all D) (sX16_one D) (sX16_rounds D) (some A) s11))) := ⟨_, rfl⟩
  have al : ∀ (f : Nat) (l l' : List Act) (q q' : Int), q ≤ r 0 → pAllL (tpL M) (r 0) (pOne (tpL M) (r 0) d) f l q = .inr (l', q') → q < q' ∧ q' ≤ r 0 := by
    intro f
    induction f with
    | zero => intro l l' q q' hq z; cases z
    | succ f ih =>
      intro l l' q q' hq z
      unfold pAllL at z
      cases e : pOne (tpL M) (r 0) d l q with
      | inl x => rw [e] at z; cases z
      | inr x =>
        rw [e] at z
        have u := pOne_up d l x.1 q x.2 hq e
        simp only [] at z
        split at z
        · have := ih _ _ _ _ u.2 z; omega
        · cases z; exact u
  have Y : OutK A M r (cl (sX16_all D (some A) (kw A r1 M)) fun _ s => F s) (bdK r d + 1) (thenR (pAllL (tpL M) (r 0) (pOne (tpL M) (r 0) d) ((r 0).toNat + 1) l (r 5 + 1)) (fun l' p2 => if hrA (tpL M) (r 0) p2 = 41 then .inr (l', p2 + 1) else .inl (1, p2))) := by
    refine OutK.seq2 (b := bdK r d) (m := 1) X a0 (by omega) ?_ ?_
    · intro r' l' p' e a b c e9 ac
      have u := al _ _ _ _ _ (by omega) e
      have h0r := h0K_r (M := M) (n := r 0) (p := p')
      have i41 := h0_is (M := M) (n := r 0) (p := p') (k := 41) (by omega)
      have c' : r' 0 = r 0 := c.trans a0
      rw [hF]
      show OutK A M r (cV (kw A r' M) (some A) 13 (cl (sX16_isGood (some A) (kw A r' M)) _)) _ _
      rw [cV_k hK, k_good hK (by omega) (by omega), clw, if_neg (by rw [bI_z]; omega), cV_k hK, k_here hK (by omega) (by omega) (by omega) (by omega), clw, b, c', ifE (by omega) (by omega) (by omega) (by omega)]
      by_cases c2 : hrA (tpL M) (r 0) p' = 41
      · rw [if_pos (i41.mpr c2), if_pos c2, k_66 hK]
        refine ⟨_, rfl, (st_ne (by omega)).trans ((st_ne (by omega)).trans a), ?_, (st_ne (by omega)).trans ((st_ne (by omega)).trans c'), ?_, ?_⟩
        · rw [st_ne (by omega), st_eq, b]
        · rw [st_eq]; omega
        · exact ac.to (fun y hy => (st_ne (by omega)).trans (st_ne (by omega)))
      · rw [if_neg (fun z => c2 (i41.mp z)), if_neg c2, gI_k5 hK, cV_k hK, k_bad hK a, clw, b]
        have e6 : st (st r' 6 1) 7 p' 6 = 1 := (st_ne (by omega)).trans (st_eq _ _ _)
        have e5 : st (st r' 6 1) 7 p' 5 = p' := (st_ne (by omega)).trans ((st_ne (by omega)).trans b)
        have e0 : st (st r' 6 1) 7 p' 0 = r' 0 := (st_ne (by omega)).trans (st_ne (by omega))
        exact (k_66B (ra := sX16_all D) (ro := sX16_one D) (rr := sX16_rounds D) hK).out e6 (st_eq _ _ _) (e0.trans c') (by omega) (by show _ ≤ r 0 + 10 + 3 * (d : Int) + 1; omega)
    · intro r' a b c e9 e0
      rw [hF]
      show BadO A M r' (cV (kw A r' M) (some A) 13 (cl (sX16_isGood (some A) (kw A r' M)) _)) _
      rw [cV_k hK, k_good hK (by omega) b, clw, if_pos (by rw [bI_z]; omega)]
      exact k_66B hK
  rw [hF] at Y
  exact Y
/-- one item, whatever rounds do -/
theorem k_oneR (hK : LK A M) {D d : Nat} (hR : ∀ r l, GdK r l d → r 5 < r 0 → OutK A M r (sX16_rounds D (some A) (kw A r M)) (r 0 + 9 + 3 * d) (pRndD (tpL M) (r 0) d l (r 5))) {r : Row} {l : List Act} (g : GdK r l d) :
    OutK A M r (sX16_one (D + 1) (some A) (kw A r M)) (bdK r d) (pOne (tpL M) (r 0) d l (r 5)) := by
  obtain ⟨g1, g2, g3, g4, g5, g6, g7, g8⟩ := id g
  have hr := hrL_r (M := M) (n := r 0) (p := r 5)
  have h0r := h0K_r (M := M) (n := r 0) (p := r 5)
  have h0h := h0_hr (M := M) (n := r 0) (p := r 5)
  have ps := pSt_n (T := tpL M) (n := r 0) (p := r 5) g5
  have ps0 := pSt_le (T := tpL M) (n := r 0) (p := r 5)
  have tm := pTm_r (T := tpL M) (n := r 0) (p := r 5)
  -- after the times
  have after : ∀ r1 : Row, r1 5 = pSt (tpL M) (r 0) (r 5) → (∀ y, y ≠ 5 → r1 y = r y) → OutK A M r (sX16_one_50 (sX16_all D) (sX16_one D) (sX16_rounds D) (some A) (iI (r 5)) (iI (pTm (tpL M) (r 0) (r 5))) (kw A r1 M)) (bdK r d) (pOne (tpL M) (r 0) d l (r 5)) := by
    intro r1 e5 ek
    have a6 : r1 6 = 0 := (ek 6 (by omega)).trans g1
    have a0 : r1 0 = r 0 := ek 0 (by omega)
    have a9 : r1 9 = r 9 := ek 9 (by omega)
    have ac1 : AcK r1 l := g2.to (fun y hy => ek y (by omega))
    have hr1 := hrL_r (M := M) (n := r 0) (p := r1 5)
    have h0r1 := h0K_r (M := M) (n := r 0) (p := r1 5)
    have i40 := h0_is (M := M) (n := r 0) (p := r1 5) (k := 40) (by omega)
    have seq : ∀ (z : Option (Unit × Mem)) (res : ResP), OutK A M r1 z (r 0 + 9 + 3 * d) res → (∀ l' p', res = .inr (l', p') → l.length < l'.length ∧ 0 ≤ p' ∧ p' ≤ r 0) →
        OutK A M r1 (cl z fun _ s => sX16_one_77 (sX16_all D) (sX16_one D) (sX16_rounds D) (some A) (iI (r 5)) (iI (pTm (tpL M) (r 0) (r 5))) (iI (l.length : Int)) s) (bdK r d) (thenR res (fun l' p2 => pRep l' l.length (pTm (tpL M) (r 0) (r 5)) (r 5) p2)) := by
      intro z res hz hl
      refine OutK.seq (b := r 0 + 9 + 3 * d) (m := 1) hz (by show _ ≤ r 0 + 10 + 3 * (d : Int); omega) ?_ ?_
      · intro r' l' p' e a b c e9 ac
        obtain ⟨u1, u2, u3⟩ := hl l' p' e
        have q := k77G (ra := sX16_all D) (ro := sX16_one D) (rr := sX16_rounds D) (fr := r 5) (bnd := bdK r d) hK a ac u1 tm.1 tm.2 (by omega) (by show _ ≤ r 0 + 10 + 3 * (d : Int); omega)
        rw [b] at q
        exact q
      · intro r' a b c e9 e0
        rw [k77B hK a b]
        exact BadO.me.up (m1 := 0) rfl rfl rfl (by omega) (by omega) (by omega)
    rw [pOne_eq]
    unfold sX16_one_50
    rw [gI_k8 hK, ac1.1, cV_k hK, k_here hK (by omega) (by omega) (by omega) (by omega), clw, a0, ifE (by omega) (by omega) (by omega) (by omega)]
    by_cases c : hrA (tpL M) (r 0) (pSt (tpL M) (r 0) (r 5)) = 40
    · have c' : hrA (tpL M) (r 0) (r1 5) = 40 := by rw [e5]; exact c
      have lt := hr_lt (T := tpL M) (n := r 0) (p := r1 5) (by omega)
      rw [if_pos (i40.mpr c'), if_pos c, cV_k hK]
      have X := hR r1 l ⟨a6, ac1, by omega, by omega, by omega, by omega, by omega, g8⟩ (by omega)
      rw [a0, e5] at X
      have Y := seq _ _ X (fun l' p' e => by
        have u := pRndD_up d l l' _ p' (by omega) e
        exact ⟨u.1, by omega, u.2.2⟩)
      exact Y.up a0 a9 (Int.le_refl _)
    · have c' : ¬ hrA (tpL M) (r 0) (r1 5) = 40 := by rw [e5]; exact c
      rw [if_neg (fun z => c' (i40.mp z)), if_neg c, cV_k hK]
      have X := k_act (fr := r 5) (bnd := r 0 + 9 + 3 * d) hK a6 ac1 tm.1 tm.2 (by omega) (by omega) (by omega) (by omega) (by omega)
      rw [a0, e5] at X
      have Y := seq _ _ X (fun l' p' e => by
        have u := pActL_up e
        exact ⟨u.2.2, by omega, u.2.1⟩)
      exact Y.up a0 a9 (Int.le_refl _)
  show OutK A M r (sX16_one_0 (sX16_all D) (sX16_one D) (sX16_rounds D) (some A) (kw A r M)) _ _
  have E50 : (iI (h0A (tpL M) (r 0) (r 5)) < iI 50) = (h0A (tpL M) (r 0) (r 5) < 50) := iv_lt (by omega) (by omega) (by omega) (by omega)
  have E57 : (iI 57 < iI (h0A (tpL M) (r 0) (r 5))) = (57 < h0A (tpL M) (r 0) (r 5)) := iv_lt (by omega) (by omega) (by omega) (by omega)
  have one : (¬ (50 ≤ hrA (tpL M) (r 0) (r 5) ∧ hrA (tpL M) (r 0) (r 5) ≤ 57)) → OutK A M r (sX16_one_33 (sX16_all D) (sX16_one D) (sX16_rounds D) (some A) (iI (r 5)) (kw A r M)) (bdK r d) (pOne (tpL M) (r 0) d l (r 5)) := by
    intro c
    have t1 : pTm (tpL M) (r 0) (r 5) = 1 := if_neg c
    have s1 : pSt (tpL M) (r 0) (r 5) = r 5 := if_neg c
    have q := after r s1.symm (fun _ _ => rfl)
    rw [t1] at q
    unfold sX16_one_33 sX16_one_34
    rw [if_pos (by rw [iv_le (by omega) (by omega) (by omega) (by omega)]; omega)]
    exact q
  unfold sX16_one_0
  rw [gI_k5 hK, cV_k hK, k_here hK (by omega) (by omega) (by omega) (by omega), clw]
  by_cases c1 : h0A (tpL M) (r 0) (r 5) < 50
  · rw [if_pos (by rw [E50]; exact c1)]
    exact one (by rw [h0h] at c1; split at c1 <;> omega)
  · rw [if_neg (by rw [E50]; exact c1), cV_k hK, k_here hK (by omega) (by omega) (by omega) (by omega), clw]
    by_cases c2 : 57 < h0A (tpL M) (r 0) (r 5)
    · rw [if_pos (by rw [E57]; exact c2)]
      exact one (by rw [h0h] at c2; split at c2 <;> omega)
    · rw [if_neg (by rw [E57]; exact c2), cV_k hK, k_here hK (by omega) (by omega) (by omega) (by omega), clw, iv_sub]
      have eh : h0A (tpL M) (r 0) (r 5) = hrA (tpL M) (r 0) (r 5) := by
        rw [h0h] at c1 ⊢
        split at c1
        · omega
        · exact if_neg (by assumption)
      have cc : 50 ≤ hrA (tpL M) (r 0) (r 5) ∧ hrA (tpL M) (r 0) (r 5) ≤ 57 := by omega
      have t1 : pTm (tpL M) (r 0) (r 5) = h0A (tpL M) (r 0) (r 5) - 48 := by rw [eh]; exact if_pos cc
      have s1 : pSt (tpL M) (r 0) (r 5) = r 5 + 1 := if_pos cc
      unfold sX16_one_34
      rw [if_neg (by rw [iv_le (by omega) (by omega) (by omega) (by omega)]; omega), gI_k5 hK, iv_add, pI_k5 hK, ← t1]
      exact after _ (by rw [st_eq, s1]) (fun y hy => st_ne hy)
theorem k_one (hK : LK A M) : ∀ (d D : Nat), 3 * d + 3 ≤ D → ∀ (r : Row) (l : List Act), GdK r l d → OutK A M r (sX16_one D (some A) (kw A r M)) (bdK r d) (pOne (tpL M) (r 0) d l (r 5))
  | 0, D, hD, r, l, g => by
    obtain ⟨E, rfl⟩ : ∃ E, D = E + 3 := ⟨D - 3, by omega⟩
    exact k_oneR (D := E + 2) hK (fun r l g hp => by
      have q := k_roundsNo (D := E) hK g hp
      exact q.up rfl rfl (by omega)) g
  | d + 1, D, hD, r, l, g => by
    obtain ⟨E, rfl⟩ : ∃ E, D = E + 3 := ⟨D - 3, by omega⟩
    refine k_oneR (D := E + 2) hK (fun r l g hp => ?_) g
    have q := k_rounds (D := E + 1) hK (fun r l g => k_all (D := E) hK (fun r l g => k_one hK d E (by omega) r l g) g) g hp
    exact q.up rfl rfl (by show r 0 + 10 + 3 * (d : Int) + 1 ≤ r 0 + 9 + 3 * ((d + 1 : Nat) : Int); omega)
/-- the whole: what reads tells -/
def OutRd (A : Nat) (M : Mem) (z : Option (Int32 × Mem)) (res : (Int × Int) ⊕ List Act) : Prop := match res with
    | .inl x => ∃ r', z = some (iI (-1000 * x.1 - x.2), kw A r' M) ∧ 1 ≤ x.1 ∧ x.1 ≤ 9
    | .inr l => ∃ r', z = some (iI (l.length : Int), kw A r' M) ∧ AcK r' l
theorem k_reads (hK : LK A M) {r : Row} (g : GdK r [] 2) (h5 : r 5 = 0) : OutRd A M (sX16_reads (some A) (kw A r M)) (pPlan (tpL M) (r 0)) := by
  obtain ⟨g1, g2, g3, g4, g5, g6, g7, g8⟩ := id g
  have X := k_all (D := 39) hK (fun r l g => k_one hK 2 39 (by omega) r l g) g
  rw [h5] at X
  have bad : ∀ (r' : Row), 1 ≤ r' 6 → r' 6 ≤ 9 → sX16_reads_31 (some A) (kw A r' M) = some (iI (-1000 * r' 6 - r' 7), kw A r' M) := by
    intro r' a b
    unfold sX16_reads_31
    rw [cV_k hK, k_good hK (by omega) b, clw, if_pos (by rw [bI_z]; omega), gI_k6 hK, gI_k7 hK, iv_mul, iv_sub]
  unfold pPlan sX16_reads
  rw [cV_k hK]
  unfold OutK at X
  cases e : pAllL (tpL M) (r 0) (pOne (tpL M) (r 0) 2) ((r 0).toNat + 1) [] 0 with
  | inl x =>
    rw [e] at X
    obtain ⟨r', a, b, c, d, e1, f1, g1', g2'⟩ := X
    refine ⟨r', ?_, g1', g2'⟩
    rw [a, clw, cV_k hK, k_good hK (by omega) (by omega), clw, if_pos (by rw [bI_z]; omega), bad r' (by omega) (by omega), b, c]
  | inr x =>
    rw [e] at X
    obtain ⟨r', a, b, c, d, e1, ac⟩ := X
    have en := pAll_end _ [] x.1 _ x.2 (by omega) e
    have E1 : (iI (r 0) ≤ iI x.2) = (r 0 ≤ x.2) := by
      have up : 0 ≤ x.2 := by
        have u : ∀ (f : Nat) (l l' : List Act) (q q' : Int), q ≤ r 0 → pAllL (tpL M) (r 0) (pOne (tpL M) (r 0) 2) f l q = .inr (l', q') → q ≤ q' := by
          intro f
          induction f with
          | zero => intro l l' q q' hq z; cases z
          | succ f ih =>
            intro l l' q q' hq z
            unfold pAllL at z
            cases e : pOne (tpL M) (r 0) 2 l q with
            | inl x => rw [e] at z; cases z
            | inr x =>
              rw [e] at z
              have u := pOne_up 2 l x.1 q x.2 hq e
              simp only [] at z
              split at z
              · have := ih _ _ _ _ u.2 z; omega
              · cases z; omega
        exact u _ _ x.1 _ x.2 (by omega) e
      exact iv_le (by omega) (by omega) (by omega) (by omega)
    show OutRd A M _ (if x.2 < r 0 then .inl (1, x.2) else .inr x.1)
    rw [a, clw, cV_k hK, k_good hK (by omega) (by omega), clw, if_neg (by rw [bI_z]; omega), gI_k5 hK, gI_k0 hK, c, d]
    by_cases q : x.2 < r 0
    · rw [if_pos q, if_neg (by rw [E1]; omega), gI_k5 hK, cV_k hK, k_bad hK b, clw]
      have b6 : st (st r' 6 1) 7 (r' 5) 6 = 1 := (st_ne (by omega)).trans (st_eq _ _ _)
      have b7 : st (st r' 6 1) 7 (r' 5) 7 = x.2 := by rw [st_eq]; exact c
      rw [c] at b6 b7 ⊢
      refine ⟨st (st r' 6 1) 7 x.2, ?_, by show 1 ≤ (1 : Int); omega, by show (1 : Int) ≤ 9; omega⟩
      rw [bad _ (by omega) (by omega), b6, b7]
    · rw [if_neg q, if_pos (by rw [E1]; omega)]
      refine ⟨r', ?_, ac⟩
      unfold sX16_reads_31
      rw [cV_k hK, k_good hK (by omega) (by omega), clw, if_neg (by rw [bI_z]; omega), gI_k8 hK, ac.1]
end
