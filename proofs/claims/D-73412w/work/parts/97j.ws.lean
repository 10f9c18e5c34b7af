/-! DEPS: wr -/
/-! WS: what is made at the start: the twin; the world at the start -/
theorem tw_zero {σ : Mem} (hz : ∀ a j, 3772 ≤ a → a < 3799 → mI σ a j = if a = 3773 ∧ j = 11132 then iI 1 else 0) : σ = tw g00 (fun _ => 0) (fun _ => 0) (fun _ => 0) (fun _ => 0) σ := by
  refine Prod.ext ?_ rfl
  funext a j
  show mI σ a j = twI g00 (fun _ => 0) (fun _ => 0) (fun _ => 0) (fun _ => 0) (mI σ) a j
  by_cases c : twP a j
  · have c' := c
    unfold twP at c'
    rw [hz a j (by omega) (by omega)]
    unfold twI
    by_cases c1 : a = 3773 ∧ j < 11138
    · rw [if_pos c1]
      unfold g00
      by_cases c2 : j = 11132
      · rw [if_pos ⟨c1.1, c2⟩, if_pos (by omega)]
      · rw [if_neg (fun z => c2 z.2), if_neg (by omega)]; rfl
    · rw [if_neg (by omega), if_neg c1]
      split
      · rfl
      split
      · rfl
      split
      · rfl
      split
      · rfl
      split
      · rfl
      · omega
  · exact (tw_no c).symm
theorem start_world (sn : Nat) (xs : Nat → Int32) : ∃ (σ : Mem) (h g : Row), sL_law sn xs mem0 = sL_law_18 sn xs FU (some 0) (some 3772) (iI 0) σ ∧ Wld σ h k00 g g [] 0 0 (fun _ => 0) 1 ∧ mZ σ ≤ 3799 ∧ mY σ ≤ 1000000 := by
  obtain ⟨s, h', C, Hd, Mo, N, x1, M, e1, r1, zr⟩ := f_make
  have zs := M.z
  have ys := M.y
  obtain ⟨d0, hd0⟩ : ∃ d0, d0 = mNew s 6 45 := ⟨_, rfl⟩
  have n0 : Ny s d0 (fun b _ => b = 3772) 45 := by rw [hd0]; exact aln
  have z0 : mZ d0 = 3773 := by rw [hd0]; show mZ s + 1 = 3773; omega
  have o0 : (mK d0 3772).1 = 6 := by rw [hd0, al_k, if_pos (by omega)]
  have y0 := n0.y
  have t0 : ∀ b, (mK d0 b).1 = 2 → b = 2 ∨ b = 1257 ∨ b = 2512 := fun b hb => by
    rw [hd0, al_k] at hb
    by_cases e : b = mZ s
    · rw [if_pos e] at hb
      exact absurd hb (by show ¬ (6 : Nat) = 2; omega)
    · rw [if_neg e] at hb
      exact M.k2 b hb
  obtain ⟨d1, x2, C1⟩ := f_twin (σ := d0) (N := 3772) o0 z0 (by omega) (by omega) (fun s => rfl)
  have z1 : mZ d1 = 3799 := C1.z
  have nx := C1.x
  have ny : Ny s d1 (fun b _ => b = 3772) (45 + 11138 * 26) := n0.trans nx.ny
  have yy := ny.y
  have sm : ∀ b, b < 3772 → smC s d1 b := fun b hb => ⟨ny.k b (by omega), fun j => (ny.i b j).2 (Or.inl (by omega)), fun j => ny.p b j (by omega) (by omega)⟩
  have iz : ∀ b j, 3772 ≤ b → b < 3799 → mI d1 b j = 0 := fun b j h1 h2 => (ny.i b j).1 (by omega) (by omega)
  have f := C1.f
  obtain ⟨d2, hd2⟩ : ∃ d2 : Mem, d2 = (up2 (mI d1) 3773 11132 (iI 1), d1.2) := ⟨_, rfl⟩
  have e2 : d2.2 = d1.2 := by rw [hd2]
  have i2 : ∀ a j, mI d2 a j = if a = 3773 ∧ j = 11132 then iI 1 else mI d1 a j := fun a j => by rw [hd2]; rfl
  have L1 : LT d1 := ⟨⟨C1.o, (f 0 (by omega)).1, (f 3 (by omega)).1, (f 4 (by omega)).1, (f 17 (by omega)).1, (f 18 (by omega)).1⟩, (f 0 (by omega)).2, (f 3 (by omega)).2, (f 4 (by omega)).2, (f 17 (by omega)).2, (f 18 (by omega)).2⟩
  have nyF := ny.wk (Q := fun _ _ => False) (fun b j hb z => by omega) (Nat.le_refl _)
  have S1 : Stt d1 := by
    refine ⟨L1, ⟨(f 1 (by omega)).1, (f 2 (by omega)).1, (f 1 (by omega)).2, (f 2 (by omega)).2⟩, ?_, ?_, ⟨M.ly.1.nx nyF (fun b j z => z.elim) (by omega), M.ly.2.1.nx nyF (fun b j z => z.elim) (by omega), M.ly.2.2.nx nyF (fun b j z => z.elim) (by omega)⟩, ?_, ⟨by rw [(sm 3767 (by omega)).1]; exact M.kt, (f 5 (by omega)).2⟩, fun b hb => t0 b (nx.n b hb), by omega⟩
    · exact ⟨C1.o, ⟨(f 5 (by omega)).1, (f 6 (by omega)).1, (f 7 (by omega)).1, (f 8 (by omega)).1, (f 9 (by omega)).1, (f 10 (by omega)).1, (f 11 (by omega)).1, (f 12 (by omega)).1, (f 13 (by omega)).1, (f 14 (by omega)).1, (f 15 (by omega)).1, (f 16 (by omega)).1⟩, (f 5 (by omega)).2, (f 6 (by omega)).2, (f 7 (by omega)).2, (f 8 (by omega)).2, (f 9 (by omega)).2, (f 10 (by omega)).2, (f 11 (by omega)).2, (f 12 (by omega)).2, (f 13 (by omega)).2, (f 14 (by omega)).2, (f 15 (by omega)).2, (f 16 (by omega)).2⟩
    · exact ⟨⟨(f 19 (by omega)).1, (f 20 (by omega)).1, (f 21 (by omega)).1, (f 22 (by omega)).1, (f 23 (by omega)).1, (f 24 (by omega)).1, (f 25 (by omega)).1⟩, (f 19 (by omega)).2, (f 20 (by omega)).2, (f 21 (by omega)).2, (f 22 (by omega)).2, (f 23 (by omega)).2, (f 24 (by omega)).2, (f 25 (by omega)).2⟩
    · have q := (sm 0 (by omega)).2.2
      rw [q, q, q, q]
      exact M.p0
  have S2 : Stt d2 := S1.to e2
  have tx2 : TxtT d2 [] := by
    have K := fun b => mK_2 e2 b
    have Pp := fun b j => mP_2 e2 b j
    refine ⟨⟨by rw [Pp]; exact (f 13 (by omega)).1, by rw [Pp]; exact (f 14 (by omega)).1, by rw [Pp]; exact (f 15 (by omega)).1, by rw [Pp]; exact (f 16 (by omega)).1, by rw [K]; exact (f 13 (by omega)).2, by rw [K]; exact (f 14 (by omega)).2, by rw [K]; exact (f 15 (by omega)).2, by rw [K]; exact (f 16 (by omega)).2⟩, ?_, by show 0 ≤ 16; omega, fun _ => 0, ⟨by rw [Pp]; exact (f 12 (by omega)).1, by rw [K]; exact (f 12 (by omega)).2, fun k hk => ?_, fun k => by show (0 : Int) ≤ 2147483647; omega⟩, fun i hi => absurd hi (Nat.not_lt_zero i)⟩
    · rw [i2, if_neg (by omega), iz _ _ (by omega) (by omega)]; rfl
    · rw [i2, if_neg (by omega), iz _ _ (by omega) (by omega)]; rfl
  have er := tw_zero (σ := d2) (fun a j h1 h2 => by rw [i2, iz a j h1 h2])
  obtain ⟨F', S', xf⟩ := m_founds (g := g00) (mi := fun _ => 0) (mn := fun _ => 0) (F := fun _ => 0) (S := fun _ => 0) (c := 7) S2.lt (tx2.law S2.lt) (by unfold g00; rw [if_pos rfl]; omega) (fun x hx => if_neg (by omega))
  rw [← er] at xf
  obtain ⟨d3, hd3⟩ : ∃ d3, d3 = tw (foundG (lawOf []) g00 7) (fun _ => 0) (fun _ => 0) F' S' d2 := ⟨_, rfl⟩
  rw [← hd3] at xf
  have c3 : Chg d2 d3 twP := by
    rw [hd3]
    refine ⟨rfl, fun a j n => ?_⟩
    show twI (foundG (lawOf []) g00 7) (fun _ => 0) (fun _ => 0) F' S' (mI d2) a j = mI d2 a j
    exact tw_no n
  have c13 : Chg d1 d3 twP := ⟨c3.1.trans e2, fun a j n => by rw [c3.2 a j n, i2, if_neg (by unfold twP at n; omega)]⟩
  have sm3 : ∀ b, b < 3772 → smC s d3 b := fun b hb => by
    have q := sm b hb
    have r := chg_sm c13 (b := b) (fun j => by unfold twP; omega)
    exact ⟨r.1.trans q.1, fun j => (r.2.1 j).trans (q.2.1 j), fun j => (r.2.2 j).trans (q.2.2 j)⟩
  have zr3 : ∀ a j, (a = 0 ∨ 1257 ≤ a) → a < 3772 → mI d3 a j = 0 := fun a j h1 h2 => by rw [(sm3 a h2).2.1]; exact zr a j h1
  have S3 : Stt d3 := S1.to c13.1
  have zz3 := zy_chg c13
  have I := InvS.found (Λ := lawOf []) (g := g00) (R := 1) (c := 7) (by omega) (by omega) (by unfold g00; rw [if_pos rfl]; omega) (by unfold g00; rw [if_neg (by omega)]; omega) (by omega)
  have q31 := I.dd.2.2
  have q31 : foundG (lawOf []) g00 7 11131 = 0 := q31
  have GD : GoodR 1 (foundG (lawOf []) g00 7) := ⟨_, _, _, I, by omega⟩
  refine ⟨d3, h', foundG (lawOf []) g00 7, ?_, ⟨S3, ⟨?_, ⟨k00, CLv.zero (fun a j h1 h2 => zr3 a j (by omega) (by omega))⟩, CLv.zero (fun a j h1 h2 => zr3 a j (by omega) (by omega)), ?_, ?_, ?_, fun j => zr3 _ _ (by omega) (by omega)⟩, ⟨TWv.of (by funext w; unfold clip; split <;> rfl) hd3, fun hb => absurd hb (by omega), ?_, ?_, ?_, fun j => ?_⟩, r1, GD, fun hb => absurd hb (by omega), by omega, Or.inl rfl⟩, by omega, by omega⟩
  · unfold sL_law
    have zm : mZ mem0 = 0 := rfl
    have k6 : (mK d1 3772).1 = 6 := C1.o
    have k62 : (mK d2 3772).1 = 6 := by rw [mK_2 e2]; exact k6
    have ea : ∀ G : Mem → Option (Unit × Mem), sI d1 (some 3773) (iI 11132) (iI 1) G = G d2 := by
      intro G
      rw [sI_x (σ := d1) (n := 11138) (f 0 (by omega)).2 (by omega) (by omega) (by omega), hd2]
      rfl
    have x2 : sX8_init (some 3772) d0 = gR d1 (some 3772) 6 0 (fun x79 => sI d1 x79 (iI 11132) (iI 1) fun s80 => cV s80 (some 3772) 6 (cl (sX8_founds (some 3772) (iI 7) s80) fun _ s81 => some ((), s81))) := x2
    have p0 : mP d1 3772 0 = some 3773 := (f 0 (by omega)).1
    rw [nO_y (by show 0 + 1 ≤ 1200000; omega) (by show 0 + 9 ≤ 5502250; omega), zm, cI_y, x1, clw, nO_y (by omega) (by omega), ← hd0, zs, cI_y, x2, gR_y k6, p0, ea, cV_y k62, xf, clw, clw]
  · exact (CLv.of (by omega) e1).to (fun a j h1 h2 => (sm3 a (by omega)).2.1 j)
  · exact M.tx.up S3.k2 ((sm3 0 (by omega)).2.2 5) (by omega) (fun b hb h9 => sm3 b (by omega))
  · rw [zr3 _ _ (by omega) (by omega)]; rfl
  · rw [zr3 _ _ (by omega) (by omega)]; rfl
  · exact tx2.to ⟨c3.2 _ _ (by unfold twP; omega), fun j => mP_2 c3.1 _ _⟩ (fun b h1 h2 => chg_sm c3 (fun j => by unfold twP; omega))
  · rw [c13.2 _ _ (by unfold twP; omega), iz _ _ (by omega) (by omega)]; rfl
  · rw [c13.2 _ _ (by unfold twP; omega), iz _ _ (by omega) (by omega)]; rfl
  · rw [c13.2 _ _ (by unfold twP; omega), iz _ _ (by omega) (by omega)]
