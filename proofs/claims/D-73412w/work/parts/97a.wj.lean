/-! DEPS: zz -/
/-! WJ: the world's calls that do more -/
/-- a call of both sides, from one world to another -/
def Step (σ : Mem) (R' : Int) (f0 f8 : Mem → Option (Int32 × Mem)) : Prop :=
  ∃ v σ1 σ2 h k g gk l t b T, f0 σ = some (v, σ1) ∧ cV σ1 (some 3772) 6 (f8 σ1) = some (v, σ2) ∧ Wld σ2 h k g gk l t b T R' ∧ mZ σ2 ≤ mZ σ + 800 ∧ mY σ2 ≤ mY σ + 2500
section
variable {σ σ' : Mem} {h k g gk : Row} {l : List Cls} {t b : Int} {T : Nat → Int32} {R R' : Int} {f0 f8 : Mem → Option (Int32 × Mem)}
theorem zy_chg {P : Nat → Nat → Prop} (c : Chg σ σ' P) : mZ σ' = mZ σ ∧ mY σ' = mY σ := ⟨by show σ'.2.2.2.1 = σ.2.2.2.1; rw [c.1], by show σ'.2.2.2.2 = σ.2.2.2.2; rw [c.1]⟩
theorem Wld.up (H : Wld σ h k g gk l t b T R) (hR : R ≤ R') (h9 : R' ≤ 1000000) : Wld σ h k g gk l t b T R' := ⟨H.s, H.L, H.W, H.r, H.I.up hR h9, fun q => ⟨(H.kp q).1, (H.kp q).2.up hR h9⟩, H.tr, H.br⟩
theorem Acts.step {P : Int32 → Prop} (A : Acts σ k gk l t b T R f0 f8 P) (hR : R ≤ R') (h9 : R' ≤ 1000000) : Step σ R' f0 f8 := by
  obtain ⟨v, σ1, σ2, h', g', a1, a2, a3, a4, a5⟩ := A
  have z := zy_chg a4
  exact ⟨v, σ1, σ2, h', k, g', gk, l, t, b, T, a1, a2, a5.up hR h9, by omega, by omega⟩
theorem LSd.st8 (L : LSd σ h k l t b T) (v : Int) : LSd σ (st h 11138 v) k l t b T := ⟨L.c.v38 v, L.c1, L.c2, L.tx, L.w6, L.w7, L.tp⟩
/-! ticks -/
theorem w_ticks (H : Wld σ h k g gk l t b T R) (hR : R + 1400 ≤ 1000000) {v : Int} (c0 : -2147483648 ≤ v) (c1 : v ≤ 2147483647) : Step σ (R + 1400) (fun s => sX0_ticks (some 0) (iI v) s) (fun s => sX8_ticks (some 3772) (iI v) s) := by
  obtain ⟨hs, FL, D, I, h9⟩ := id H.I
  have S := H.s
  have L := H.L
  have r := H.r
  have hG := I.gl
  obtain ⟨_, _, _, _, _, _, _, _, _, _, _, _⟩ := hG
  have e31 := r.gl 11131 (by omega) (by omega)
  have fin : ∀ (y : Int32) (σ1 : Mem) (h' : Row), sX0_ticks (some 0) (iI v) σ = some (iI (ticksS (lawOf l) g v).1, σ1) → Rel h' (ticksS (lawOf l) g v).2 → LSd σ1 h' k l t b T → Chg σ σ1 tchL → GoodR (R + 1400) (ticksS (lawOf l) g v).2 → Step σ (R + 1400) (fun s => sX0_ticks (some 0) (iI v) s) (fun s => sX8_ticks (some 3772) (iI v) s) := by
    intro y σ1 h' x1 r1 L1 ch1 G1
    have S1 := S.to ch1.1
    have W1 := H.W.oth (ch1.wk (fun a j z => by unfold tchL at z; omega))
    obtain ⟨σ2, x2, W2, ch2⟩ := actT_w (f8 := fun s => sX8_ticks (some 3772) (iI v) s) S1 W1 (fun N mi mn F S y1 y2 y3 => by
      obtain ⟨mi', mn', F', S', y4, x⟩ := m_ticks (mn := mn) (F := F) (S := S) y1 y2 I y3 c0 c1 hR
      exact ⟨mi', mn', F', S', y4, x⟩)
    have z1 := zy_chg ch1
    have z2 := zy_chg ch2
    exact ⟨_, σ1, σ2, h', k, _, gk, l, t, b, T, x1, (cV_y S1.lt.1.1).trans x2, ⟨S1.to ch2.1, L1.oth S1 (ch2.wk (fun a j z => by unfold twP at z; omega)), W2, r1, G1, fun q => ⟨(H.kp q).1, (H.kp q).2.up (by omega) hR⟩, H.tr, H.br⟩, by omega, by omega⟩
  by_cases d : 1 ≤ v ∧ v ≤ 200
  · have eS : ticksS (lawOf l) g v = (ticksG (lawOf l) g v.toNat 11138, ticksG (lawOf l) g v.toNat) := by unfold ticksS; rw [if_pos d]
    obtain ⟨u, C, Hd, Mo, e⟩ := L.c.rep0 (by omega)
    have r0 := r.clock I.bd (p := 11138) (v := 0) (by omega)
    have ss : st (st h 11138 u) 11138 0 = st h 11138 0 := by
      funext x
      unfold st
      split <;> rfl
    have tx0 : ∀ z, TxtL (tkM (shM σ 2 0) z) l := fun z => txt_chg S L.tx ((sh_chg.wk (fun a j q => by omega)).thn (tk_chg.wk (fun a j q => by omega)))
    obtain ⟨h1, C1, Hd1, Mo1, x1, r1⟩ := t_ticksR (h := st h 11138 u) (C := C) (Hd := Hd) (Mo := Mo) (g := g) (M := shM σ 2 0) (Λ := lawOf l) S.ly.1 sh_share S.p0.1 (fun z => (tx0 z).law) (by rw [st_ne (by omega)]; exact e31) (by rw [ss]; exact r0) I d hR
    rw [← e] at x1
    obtain ⟨σ1, hσ1⟩ : ∃ σ1, σ1 = tl 2 h1 C1 Hd1 Mo1 (tkM (shM σ 2 0) (tkZ g)) := ⟨_, rfl⟩
    rw [← hσ1] at x1
    have ch : Chg σ σ1 tchL := by
      refine ⟨by rw [hσ1]; rfl, fun a j n => ?_⟩
      rw [hσ1]
      show tlI 2 h1 C1 Hd1 Mo1 _ a j = _
      unfold tchL at n
      rw [tl_out (by omega) (by omega)]
      show (if a = 0 ∧ j = 8 then _ else if a = 2 ∧ j = 13 then _ else mI σ a j) = _
      rw [if_neg (by omega), if_neg (by omega)]
    have G0 := good_ticksF (Λ := lawOf l) v.toNat _ R (H.I.held (v := 0) (by omega)) (by omega)
    exact fin 0 σ1 h1 (by rw [eS]; exact x1) (by rw [eS]; exact r1) (L.act S hσ1 ch) ch (by rw [eS]; exact G0.up (by omega) hR)
  · have eS : ticksS (lawOf l) g v = (-1, g) := by unfold ticksS; rw [if_neg d]
    refine fin 0 σ h ?_ (by rw [eS]; exact r) L ⟨rfl, fun _ _ _ => rfl⟩ (by rw [eS]; exact H.I.up (by omega) hR)
    rw [eS]
    unfold sX0_ticks
    rw [t_within c0 c1 (by omega) (by omega) (by omega) (by omega), clw, if_pos (by rw [bI_z]; exact d)]
/-! copies: the cluster at A beside the first -/
theorem two {A : Nat} {k1 : Row} (hA : A = 1257 ∨ A = 2512) (x : CLv 2 h σ) (y : CLv A k1 σ) : ∃ (C Hd Mo Ck Hk Mk : Row) (s s' : Int32), σ = tl 2 h C Hd Mo (tl A k1 Ck Hk Mk (shM (shM σ 2 s) A s')) := by
  obtain ⟨C, Hd, Mo, s, e⟩ := x.rep (by omega)
  have y2 : CLv A k1 (shM σ 2 s) := y.to (fun a j h1 h2 => if_neg (by omega))
  obtain ⟨Ck, Hk, Mk, s', e2⟩ := y2.rep (by omega)
  exact ⟨C, Hd, Mo, Ck, Hk, Mk, s, s', by rw [← e2]; exact e⟩
theorem two0 {A : Nat} {k1 : Row} (hA : A = 1257 ∨ A = 2512) (x : CLv 2 h σ) (y : CLv A k1 σ) : ∃ (C Hd Mo k2 Ck Hk Mk : Row) (s : Int32), σ = tl 2 h C Hd Mo (tl A k2 Ck Hk Mk (shM (shM σ 2 s) A 0)) := by
  obtain ⟨C, Hd, Mo, s, e⟩ := x.rep (by omega)
  have y2 : CLv A k1 (shM σ 2 s) := y.to (fun a j h1 h2 => if_neg (by omega))
  obtain ⟨v, Ck, Hk, Mk, e2⟩ := y2.rep0 (by omega)
  exact ⟨C, Hd, Mo, st k1 11138 v, Ck, Hk, Mk, s, by rw [← e2]; exact e⟩
theorem djA {A : Nat} (hA : A = 1257 ∨ A = 2512) : Dj A 2 := Or.inr (by omega)
theorem tl_chg0 {B : Nat} {h C Hd Mo : Row} {N : Mem} (b2 : 2 ≤ B) : Chg N (tl B h C Hd Mo N) (fun a j => a = 1 ∨ (B ≤ a ∧ a < B + 1255)) := ⟨rfl, fun a j q => by
  show tlI B h C Hd Mo (mI N) a j = mI N a j
  rw [tl_out (by omega) (by omega)]⟩
theorem two_chg {A : Nat} {h C Hd Mo k Ck Hk Mk : Row} {s s' : Int32} {P : Nat → Nat → Prop} (hA : A = 1257 ∨ A = 2512) (hP : ∀ a j, (1 ≤ a ∧ a < 1257) ∨ (A ≤ a ∧ a < A + 1255) → P a j) : Chg σ (tl 2 h C Hd Mo (tl A k Ck Hk Mk (shM (shM σ 2 s) A s'))) P :=
  ((sh_chg (N := σ) (B := 2) (s := s)).wk (fun a j z => hP a j (by omega))).thn (((sh_chg (N := shM σ 2 s) (B := A) (s := s')).wk (fun a j z => hP a j (by omega))).thn (((tl_chg0 (B := A) (by omega)).wk (fun a j z => hP a j (by omega))).thn ((tl_chg0 (B := 2) (by omega)).wk (fun a j z => hP a j (by omega)))))
/-- the clusters behind it -/
theorem two_in {A : Nat} {h C Hd Mo k Ck Hk Mk : Row} {N : Mem} (hA : A = 1257 ∨ A = 2512) : CLv A k (tl 2 h C Hd Mo (tl A k Ck Hk Mk N)) := by
  refine (CLv.of (σ := tl A k Ck Hk Mk N) (by omega) rfl).to (fun a j h1 h2 => ?_)
  exact (tl_chg0 (B := 2) (by omega)).2 a j (by omega)
/-- TermLog's side behind tried and till -/
theorem LSd.then {k' C Hd Mo Ck Hk Mk : Row} {s : Int32} (S : Stt σ) (L : LSd σ h k l t b T) (e : σ' = tl 2 h C Hd Mo (tl 1257 k' Ck Hk Mk (shM (shM σ 2 s) 1257 0))) : LSd σ' h k l t b T ∧ Chg σ σ' (fun a j => 1 ≤ a ∧ a < 2512) := by
  have ch : Chg σ σ' (fun a j => 1 ≤ a ∧ a < 2512) := by
    rw [e]
    exact two_chg (Or.inl rfl) (fun a j z => by omega)
  have z := zy_chg ch
  exact ⟨⟨CLv.of (by omega) e, ⟨k', by rw [e]; exact two_in (Or.inl rfl)⟩, L.c2.to (fun a j h1 h2 => ch.2 a j (by omega)), L.tx.up (S.to ch.1).k2 (mP_2 ch.1 0 5) (by omega) (fun b hb h9 => chg_sm ch (fun j => by omega)), (ch.2 0 6 (by omega)).trans L.w6, (ch.2 0 7 (by omega)).trans L.w7, fun j => (ch.2 3767 j (by omega)).trans (L.tp j)⟩, ch⟩
/-- the twin's side behind tried and till -/
theorem TSd.then {mi mn F : Row} {S0 : Nat → Int32} {y : Int} {M' : Mem} (W : TSd σ g gk l t b T) (hm : clip mi = mi) (hM : M' = σ ∨ M' = bkM σ 3774 g) (e : σ' = tw (st g 11138 y) mi mn F S0 M') : TSd σ' (st g 11138 y) gk l t b T ∧ Chg σ σ' (fun a j => twP a j ∨ a = 3774) := by
  have c0 : Chg σ M' (fun a j => a = 3774) := by
    rcases hM with q | q
    · rw [q]; exact ⟨rfl, fun _ _ _ => rfl⟩
    · rw [q]; exact ⟨rfl, fun a j n => if_neg (fun z => n z.1)⟩
  have ch : Chg σ σ' (fun a j => twP a j ∨ a = 3774) := by
    refine ⟨by rw [e]; exact c0.1, fun a j n => ?_⟩
    rw [e]
    show twI (st g 11138 y) mi mn F S0 (mI M') a j = _
    rw [tw_no (fun z => n (Or.inl z))]
    exact c0.2 a j (fun z => n (Or.inr z))
  refine ⟨⟨TWv.of hm e, fun hb j hj => (ch.2 3775 j (by unfold twP; omega)).trans (W.k hb j hj), W.tx.to ⟨ch.2 3772 15 (by unfold twP; omega), fun j => mP_2 ch.1 _ _⟩ (fun b h1 h2 => chg_sm ch (fun j => by unfold twP; omega)), (ch.2 3772 6 (by unfold twP; omega)).trans W.w6, (ch.2 3772 44 (by unfold twP; omega)).trans W.w44, fun j => (ch.2 3778 j (by unfold twP; omega)).trans (W.tp j)⟩, ch⟩
theorem txtT_bk (S : Stt σ) (W : TSd σ g gk l t b T) : LawT (bkM σ 3774 g) (lawOf l) := by
  have c0 : Chg σ (bkM σ 3774 g) (fun a j => a = 3774) := ⟨rfl, fun a j n => if_neg (fun z => n z.1)⟩
  have t : TxtT (bkM σ 3774 g) l := W.tx.to ⟨c0.2 3772 15 (by omega), fun j => rfl⟩ (fun b h1 h2 => chg_sm c0 (fun j => by omega))
  exact t.law (lt_2 c0.1 S.lt)
theorem w_then (H : Wld σ h k g gk l t b T R) {y : Int} {v : Int32} {σ1 σ2 : Mem} (hy : 0 ≤ y) (x1 : f0 σ = some (v, σ1)) (x2 : f8 σ1 = some (v, σ2)) (L1 : LSd σ1 h k l t b T) (c1 : Chg σ σ1 (fun a j => 1 ≤ a ∧ a < 2512)) (W2 : TSd σ2 (st g 11138 y) gk l t b T) (c2 : Chg σ1 σ2 (fun a j => twP a j ∨ a = 3774)) : Step σ R f0 f8 := by
  obtain ⟨hs, FL, D, I, h9⟩ := id H.I
  have S1 := H.s.to c1.1
  have z1 := zy_chg c1
  have z2 := zy_chg c2
  have L2 := L1.oth S1 (c2.wk (fun a j z => by unfold twP at z; omega))
  exact ⟨v, σ1, σ2, _, k, _, gk, l, t, b, T, x1, (cV_y S1.lt.1.1).trans x2, ⟨S1.to c2.1, L2.st8 y, W2, H.r.clock I.bd (by omega), H.I.held hy, H.kp, H.tr, H.br⟩, by omega, by omega⟩
theorem tx_tl {A : Nat} {C Hd Mo : Row} {s s' : Int32} (S : Stt σ) (L : LSd σ h k l t b T) (hA : A = 1257 ∨ A = 2512) : TxtL (tl 2 h C Hd Mo (shM (shM σ 2 s) A s')) l :=
  txt_chg S L.tx (((sh_chg (N := σ) (B := 2) (s := s)).wk (fun a j z => by omega)).thn (((sh_chg (N := shM σ 2 s) (B := A) (s := s')).wk (fun a j z => by omega)).thn ((tl_chg0 (B := 2) (by omega)).wk (fun a j z => by omega))))
theorem w_tried (H : Wld σ h k g gk l t b T R) (hR : R + 1400 ≤ 1000000) {v w : Int} (c0 : -2147483648 ≤ v) (c1 : v ≤ 2147483647) (d0 : -2147483648 ≤ w) (d1 : w ≤ 2147483647) : Step σ R (fun s => sX0_tried (some 0) (iI v) (iI w) s) (fun s => sX8_tried (some 3772) (iI v) (iI w) s) := by
  obtain ⟨hs, FL, D, I, h9⟩ := id H.I
  have S := H.s
  obtain ⟨k1, y1⟩ := H.L.c1
  obtain ⟨C, Hd, Mo, k2, Ck, Hk, Mk, s, e⟩ := two0 (Or.inl rfl) H.L.c y1
  have tx := tx_tl (s := s) (s' := 0) (C := C) (Hd := Hd) (Mo := Mo) (A := 1257) S H.L (Or.inl rfl)
  obtain ⟨k', Ck', Hk', Mo', Mk', x1⟩ := t_tried (k := k2) (Ck := Ck) (Hk := Hk) (Mk := Mk) (C := C) (Hd := Hd) (Mo := Mo) (djA (Or.inl rfl)) (M := shM (shM σ 2 s) 1257 0) S.ly.2.1 S.ly.1 S.p0.1 S.p0.2.1 sh_share tx.law H.r I c0 c1 d0 d1 hR
  rw [← e] at x1
  obtain ⟨σ1, hσ1⟩ : ∃ σ1, σ1 = tl 2 h C Hd Mo' (tl 1257 k' Ck' Hk' Mk' (shM (shM σ 2 s) 1257 0)) := ⟨_, rfl⟩
  rw [← hσ1] at x1
  obtain ⟨L1, c1'⟩ := H.L.then S hσ1
  have S1 := S.to c1'.1
  have W1 := H.W.oth (c1'.wk (fun a j z => by omega))
  obtain ⟨mi, mn, F, S0, hm, e2⟩ := W1.c
  obtain ⟨mi', mn', F', S', y, M', q0, q1, q2, x2⟩ := m_tried (mi := mi) (mn := mn) (F := F) (S := S0) S1.lt S1.lt2 (txtT_bk S1 W1) I hm c0 c1 d0 d1 hR
  rw [← e2] at x2
  obtain ⟨W2, c2⟩ := W1.then q1 q2 rfl
  exact w_then H q0 x1 x2 L1 c1' W2 c2
theorem w_till (H : Wld σ h k g gk l t b T R) (hR : R + 1400 ≤ 1000000) {v w : Int} (c0 : -2147483648 ≤ v) (c1 : v ≤ 2147483647) (d0 : -2147483648 ≤ w) (d1 : w ≤ 2147483647) : Step σ R (fun s => sX0_till (some 0) (iI v) (iI w) s) (fun s => sX8_till (some 3772) (iI v) (iI w) s) := by
  obtain ⟨hs, FL, D, I, h9⟩ := id H.I
  have S := H.s
  obtain ⟨k1, y1⟩ := H.L.c1
  obtain ⟨C, Hd, Mo, k2, Ck, Hk, Mk, s, e⟩ := two0 (Or.inl rfl) H.L.c y1
  have tx := tx_tl (s := s) (s' := 0) (C := C) (Hd := Hd) (Mo := Mo) (A := 1257) S H.L (Or.inl rfl)
  have tx2 : ∀ s2, TxtL (shM (tl 2 h C Hd Mo (shM (shM σ 2 s) 1257 0)) 1257 s2) l := fun s2 => tx.up S.k2 rfl (Nat.le_refl _) (fun b hb h9 => ⟨rfl, fun j => if_neg (by omega), fun _ => rfl⟩)
  obtain ⟨k', Ck', Hk', Mo', Mk', x1⟩ := t_till (k := k2) (Ck := Ck) (Hk := Hk) (Mk := Mk) (C := C) (Hd := Hd) (Mo := Mo) (djA (Or.inl rfl)) (M := shM (shM σ 2 s) 1257 0) S.ly.2.1 S.ly.1 S.p0.1 S.p0.2.1 sh_share (fun s2 => (tx2 s2).law) H.r I h9 c0 c1 d0 d1 hR
  rw [← e] at x1
  obtain ⟨σ1, hσ1⟩ : ∃ σ1, σ1 = tl 2 h C Hd Mo' (tl 1257 k' Ck' Hk' Mk' (shM (shM σ 2 s) 1257 0)) := ⟨_, rfl⟩
  rw [← hσ1] at x1
  obtain ⟨L1, c1'⟩ := H.L.then S hσ1
  have S1 := S.to c1'.1
  have W1 := H.W.oth (c1'.wk (fun a j z => by omega))
  obtain ⟨mi, mn, F, S0, hm, e2⟩ := W1.c
  obtain ⟨mi', mn', F', S', y, M', q0, q1, q2, x2⟩ := m_till (mi := mi) (mn := mn) (F := F) (S := S0) S1.lt S1.lt2 (txtT_bk S1 W1) I hm h9 c0 c1 d0 d1 hR
  rw [← e2] at x2
  obtain ⟨W2, c2⟩ := W1.then q1 q2 rfl
  exact w_then H q0 x1 x2 L1 c1' W2 c2
end
