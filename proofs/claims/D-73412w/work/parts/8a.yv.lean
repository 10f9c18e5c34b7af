/-! DEPS: yu -/
/-! YV: TermLog reads conditions: whole -/
section
variable {rd : Nat} {n : Int} {T : Int → Int} {rc ri rq : Option Nat → Mem → Option (Option Nat × Mem)}
theorem f_pieces {rdf : Int → Res CndV} {k : Nat} {o : Int} (hf : ∀ (σ : Mem) (p : Int), RE rd n T σ → 0 ≤ p → p ≤ n → Room σ (3 * (n - p) + 4) → OutR rd n (mZ σ) σ o p 2 4 2 (VC k (mZ σ)) B0 (ri (some rd) (rdM rd p o 0 0 σ)) (rdf p))
    {σ : Mem} {p : Int} (h : RE rd n T σ) (p0 : 0 ≤ p) (p1 : p ≤ n) (hr : Room σ (3 * (n - p) + 5)) : OutR rd n (mZ σ) σ o p 1 5 2 (VC (k + 1) (mZ σ)) B0 (sX9_pieces_0 rc ri rq (some rd) (rdM rd p o 0 0 σ)) (rChn T n 38 andV rdf p) := by
  have b2 := h.2.1
  have hr0 : Room σ 1 := ⟨by have := hr.1; omega, by have := hr.2; omega⟩
  have h1 : RE rd n T (mNew σ 10 3) := (grow_new (k := 10) (m := 3) (Nat.le_refl (mZ σ)) (by omega)).re h b2
  have q := pi_read (rc := rc) (ri := ri) (rq := rq) hf h p0 p1 ⟨by have := hr.1; omega, by have := hr.2; omega⟩ (sX9_pieces_0 rc ri rq (some rd) (rdM rd p o 0 0 σ)) (by
    intro r σ3 p' o' ft pl e kx
    unfold sX9_pieces_0
    rw [nO_r b2 hr0 (by omega), cV_r h1, e, clw, cI_y, f_init13 (by omega) kx, clw])
  unfold OutR
  cases e8 : rChn T n 38 andV rdf p with
  | inl x =>
    rw [e8] at q
    obtain ⟨σ', p', o', i1, i2, i3, i4, i5, i6, i7, i8, i9⟩ := q
    exact ⟨_, σ', p', o', i1, i2.le (by omega), i3, i4, i5, i6, i7, i8, trivial⟩
  | inr x =>
    rw [e8] at q
    obtain ⟨σ', i1, i2, i3, i4, i5, i6⟩ := q
    exact ⟨_, σ', i1, i2.le (by omega), i3, i4, mZ σ, rfl, i5⟩
theorem f_cond {pc : Int → Int → Res CndV} {k : Nat} {o : Int} (hf : o ≤ 5 → ∀ (σ : Mem) (p : Int), RE rd n T σ → 0 ≤ p → p ≤ n → Room σ (3 * (n - p) + 5) → OutR rd n (mZ σ) σ (o + 1) p 1 5 2 (VC k (mZ σ)) B0 (rq (some rd) (rdM rd p (o + 1) 0 0 σ)) (rChn T n 38 andV (pc (o + 1)) p))
    {σ : Mem} {p : Int} (h : RE rd n T σ) (p0 : 0 ≤ p) (p1 : p < n) (o0 : 0 ≤ o) (o1 : o ≤ 6) (hr : Room σ (3 * (n - p) + 4)) : OutR rd n (mZ σ) σ o p 2 4 2 (V10 (k + 1) (mZ σ)) B10 (sX9_condition_0 rc ri rq (some rd) (rdM rd p o 0 0 σ)) (rCnd T n pc o p) := by
  have b2 := h.2.1
  have b5 := h.2.2.2.2.1
  have hr0 : Room σ 1 := ⟨by have := hr.1; omega, by have := hr.2; omega⟩
  have h1 : RE rd n T (mNew σ 10 3) := (grow_new (k := 10) (m := 3) (Nat.le_refl (mZ σ)) (by omega)).re h b2
  obtain ⟨fu, hfu⟩ : ∃ u, FU = u + 1 := ⟨999999, by unfold FU; omega⟩
  unfold sX9_condition_0 rCnd sX9_condition_27
  rw [cV_r h, f_opens h o0 o1, clw]
  by_cases d : o = 6
  · rw [if_pos d, if_pos d, cV_r h, f_good1 h (by omega) (by omega), clw, if_pos rfl, hfu, co_exit h (by omega) (by omega), f_c80b h (by omega) (by omega)]
    exact ⟨none, σ, p + 1, _, rfl, Grow.rfl'.le (by omega), by omega, by omega, by show (1 : Int) ≤ 5; omega, by show (5 : Int) ≤ 5; omega, p0, by show p ≤ n; omega, Or.inl rfl⟩
  · rw [if_neg d, if_neg d, cV_r h, f_good0 h, clw, if_neg iv_01]
    have q := co_read (rc := rc) (ri := ri) (rq := rq) (hf (by omega)) h (p := p + 1) (by omega) (by omega) ⟨by have := hr.1; omega, by have := hr.2; omega⟩ (nO (rdM rd (p + 1) (o + 1) 0 0 σ) 10 3 fun x4 s5 => cV s5 (some rd) 7 <| cl (rq (some rd) s5) fun x6 s7 => cI s7 x4 <| cl (sX13_init x4 x6 (iI 1) s7) fun _ s8 => sX9_condition_30 rc ri rq FU (some rd) x4 x4 s8) (by
      intro r σ3 p' o' ft pl e kx
      rw [nO_r b2 hr0 (by omega), cV_r h1, e, clw, cI_y, f_init13 (by omega) kx, clw])
    have nt : ∀ X : Option (Option Nat × Mem), X = (nO (rdM rd (p + 1) (o + 1) 0 0 σ) 10 3 fun x4 s5 => cV s5 (some rd) 7 <| cl (rq (some rd) s5) fun x6 s7 => cI s7 x4 <| cl (sX13_init x4 x6 (iI 1) s7) fun _ s8 => sX9_condition_30 rc ri rq FU (some rd) x4 x4 s8) →
        OutR rd n (mZ σ) σ o p 2 4 2 (V10 (k + 1) (mZ σ)) B10 X (match rChn T n 124 orV (rChn T n 38 andV (pc (o + 1))) (p + 1) with
    | .inl x => .inl x
    | .inr (e, p') => if hrA T n p' = 41 then .inr (e, p' + 1) else .inl (1, p')) := by
      intro X hX
      rw [← hX] at q
      cases e8 : rChn T n 124 orV (rChn T n 38 andV (pc (o + 1))) (p + 1) with
      | inl x =>
        rw [e8] at q
        obtain ⟨σ', p', o', i1, i2, i3, i4, i5, i6, i7, i8, i9⟩ := q
        have h' := i2.re h b2
        refine ⟨some (mZ σ), σ', p', o' - 1, ?_, i2.le (by omega), i3, i4, i5, i6, i7, i8, Or.inr ⟨_, rfl, i9⟩⟩
        rw [i1, f_c80b h' i5 i6]
      | inr x =>
        rw [e8] at q
        obtain ⟨σ', i1, i2, i3, i4, i5, i6⟩ := q
        have h' := i2.re h b2
        rw [i1, f_c80g h' (by omega) (by omega)]
        show OutR rd n (mZ σ) σ o p 2 4 2 (V10 (k + 1) (mZ σ)) B10 _ (if hrA T n x.2 = 41 then .inr (x.1, x.2 + 1) else .inl (1, x.2))
        by_cases g : hrA T n x.2 = 41
        · have hq := h0_in (c := 41) (by omega) g
          rw [if_pos g, if_pos g, show o + 1 - 1 = o by omega]
          exact ⟨_, σ', rfl, i2.le (by show 3 * (x.2 - (p + 1)) - (1 - 1) ≤ 3 * (x.2 + 1 - p) - 2; omega), by show p ≤ x.2 + 1; omega, by show x.2 + 1 ≤ n; omega, _, rfl, i5, i6⟩
        · rw [if_neg g, if_neg g]
          exact ⟨_, σ', x.2 + 1, _, rfl, i2.le (by omega), by omega, by omega, by show (1 : Int) ≤ 1; omega, by show (1 : Int) ≤ 5; omega, by show 0 ≤ x.2; omega, i4, Or.inr ⟨_, rfl, i6⟩⟩
    exact nt _ rfl
theorem f_init15 {σ : Mem} {p o ft pl : Int} {x : Nat} (hx : x ≠ rd) (k : (mK σ x).1 = 12) {c : Int32} {r1 r2 : Option Nat} : sX15_init (some x) r1 c r2 (rdM rd p o ft pl σ) = some ((), rdM rd p o ft pl (up2 (mI σ) x 2 c, up2 (up2 (mP σ) x 0 r1) x 1 r2, σ.2.2)) := by
  unfold sX15_init sX12_init
  rw [cI_y, cI_y, clw, pR_ro k, pI_ro (σ := (mI σ, up2 (mP σ) x 0 r1, σ.2.2)) hx k, pR_ro (σ := (up2 (mI σ) x 2 c, up2 (mP σ) x 0 r1, σ.2.2)) k]
theorem grow15 {σ σ3 : Mem} {cc : Int} {c : Int32} {r1 r2 : Option Nat} {x : Nat} (g : Grow x σ σ3 cc) : Grow x σ (up2 (mI σ3) x 2 c, up2 (up2 (mP σ3) x 0 r1) x 1 r2, σ3.2.2) cc := by
  refine ⟨fun b hb => ?_, g.2⟩
  obtain ⟨u1, u2, u3⟩ := g.1 b hb
  refine ⟨u1, fun j => ?_, fun j => ?_⟩
  · show (if b = x ∧ j = 2 then _ else mI σ3 b j) = _
    rw [if_neg (by omega)]; exact u2 j
  · show (if b = x ∧ j = 1 then _ else if b = x ∧ j = 0 then _ else mP σ3 b j) = _
    rw [if_neg (by omega), if_neg (by omega)]; exact u3 j
theorem k12 {σ : Mem} : (mK (mNew σ 12 3) (mZ σ)).1 = 12 := by show (if mZ σ = mZ σ then (12, 3) else _ : Nat × Nat).1 = 12; rw [if_pos rfl]
/-- a compare after a fault -/
theorem f_98b {σ : Mem} {p o ft pl : Int} (h : RE rd n T σ) (hr : Room σ 1) (c1 : 1 ≤ ft) (c2 : ft ≤ 5) {v2 : Option Nat} {c : Int32} : ∃ σ', sX9_piece_98 rc ri rq (some rd) v2 c (rdM rd p o ft pl σ) = some (some (mZ σ), rdM rd (p + 1) o ft pl σ') ∧ Grow (mZ σ) σ σ' 1 := by
  have b2 := h.2.1
  have g1 : Grow (mZ σ) σ (mNew σ 12 3) 1 := grow_new (Nat.le_refl _) (by omega)
  have h1 := g1.re h b2
  refine ⟨_, ?_, grow15 (c := c) (r1 := v2) (r2 := none) g1⟩
  · unfold sX9_piece_98 sX9_piece_129
    rw [gI_r2 h, iv_add, pI_r2 h, nO_r b2 hr (by omega), cV_r h1, f_good1 h1 c1 c2, clw, if_pos rfl, cI_y, f_init15 (by omega) k12, clw]
theorem f_cmp {σ : Mem} {o p : Int} (h : RE rd n T σ) (p0 : 0 ≤ p) (p1 : p ≤ n) (o0 : 0 ≤ o) (o1 : o ≤ 6) (hr : Room σ (3 * (n - p) + 4)) (c33 : ¬ hrA T n p = 33) (c40 : ¬ hrA T n p = 40) : OutR rd n (mZ σ) σ o p 2 4 2 (VC 0 (mZ σ)) B0 (sX9_piece_0 rc ri rq (some rd) (rdM rd p o 0 0 σ)) (rCmp T n o p) := by
  obtain ⟨b1, b2, b3, b4, b5, b6, b7, b8, b9, b10, b11⟩ := id h
  have q := f_sum40 o0 o1 h p0 p1 ⟨by have := hr.1; omega, by have := hr.2; omega⟩
  unfold OutR at q
  unfold sX9_piece_0 rCmp
  rw [cV_r h, f_here h p0 (by omega), clw, if_neg (fun z => c33 ((E1c h (by omega) (by omega)).mp z)), if_neg (fun z => c40 ((E1c h (by omega) (by omega)).mp z)), cV_r h]
  cases e : rSum T n 7 o p with
  | inl x =>
    rw [e] at q
    obtain ⟨r, σ', p', o', a1, a2, a3, a4, a5, a6, a7, a8, a9⟩ := q
    have h' := a2.re h b2
    have zz := a2.2
    have hr1 : Room σ' 1 := ⟨by have := hr.1; omega, by have := hr.2; omega⟩
    obtain ⟨σ2, e2, g2⟩ := f_98b (rc := rc) (ri := ri) (rq := rq) (p := p') (o := o') (pl := x.2) h' hr1 a5 a6 (v2 := r) (c := iI (h0A T n p'))
    rw [a1, clw, cV_r h', f_here h' a3 (by omega), clw]
    have all : (if iI (h0A T n p') = iI 60 then sX9_piece_98 rc ri rq (some rd) r (iI (h0A T n p')) (rdM rd p' o' x.1 x.2 σ')
      else if iI (h0A T n p') = iI 62 then sX9_piece_98 rc ri rq (some rd) r (iI (h0A T n p')) (rdM rd p' o' x.1 x.2 σ')
      else if iI (h0A T n p') = iI 61 then sX9_piece_98 rc ri rq (some rd) r (iI (h0A T n p')) (rdM rd p' o' x.1 x.2 σ')
      else gI (rdM rd p' o' x.1 x.2 σ') (some rd) 7 2 fun x7 => cV (rdM rd p' o' x.1 x.2 σ') (some rd) 7 <| cl (sX9_bad (some rd) (iI 1) x7 (rdM rd p' o' x.1 x.2 σ')) fun _ s8 => sX9_piece_98 rc ri rq (some rd) r (iI (h0A T n p')) s8) = sX9_piece_98 rc ri rq (some rd) r (iI (h0A T n p')) (rdM rd p' o' x.1 x.2 σ') := by
      split
      · rfl
      · split
        · rfl
        · split
          · rfl
          · rw [gI_r2 h', cV_r h', f_bad1 h' a5 a6, clw]
    rw [all, e2]
    exact ⟨_, σ2, p' + 1, o', rfl, (a2.trans (g2.dn a2.2.1)).le (by omega), by omega, by omega, a5, a6, a7, a8, trivial⟩
  | inr x =>
    rw [e] at q
    obtain ⟨r, σ1, a1, a2, a3, a4, ⟨a, ra, a5, a6⟩⟩ := q
    subst ra
    have h1 := a2.re h b2
    have zz := a2.2
    have b2' := h1.2.1
    have hr1 : Room σ1 1 := ⟨by have := hr.1; omega, by have := hr.2; omega⟩
    have r0 := h0_r (p := x.2) h1
    rw [a1, clw, cV_r h1, f_here h1 (by omega) (by omega), clw]
    show OutR rd n (mZ σ) σ o p 2 4 2 (VC 0 (mZ σ)) B0 _ (if cmpA (hrA T n x.2) = -1 then .inl (1, x.2) else match rSum T n 7 o (x.2 + 1) with
      | .inl x => .inl x
      | .inr (e2, p2) => .inr (cmpV (cmpA (hrA T n x.2)) x.1 e2, p2))
    by_cases c : cmpA (hrA T n x.2) = -1
    · obtain ⟨σ2, e2, g2⟩ := f_98b (rc := rc) (ri := ri) (rq := rq) (p := x.2) (o := o) (ft := 1) (pl := x.2) h1 hr1 (by omega) (by omega) (v2 := some a) (c := iI (h0A T n x.2))
      have n3 : ¬ hrA T n x.2 = 60 ∧ ¬ hrA T n x.2 = 62 ∧ ¬ hrA T n x.2 = 61 := by unfold cmpA at c; omega
      rw [if_pos c, if_neg (fun z => n3.1 ((E1c h1 (by omega) (by omega)).mp z)), if_neg (fun z => n3.2.1 ((E1c h1 (by omega) (by omega)).mp z)), if_neg (fun z => n3.2.2 ((E1c h1 (by omega) (by omega)).mp z)), gI_r2 h1, cV_r h1, f_bad0 h1, clw, e2]
      exact ⟨_, σ2, x.2 + 1, o, rfl, (a2.trans (g2.dn a2.2.1)).le (by omega), by omega, by omega, by show (1 : Int) ≤ 1; omega, by show (1 : Int) ≤ 5; omega, by show 0 ≤ x.2; omega, a4, trivial⟩
    · have n3 : hrA T n x.2 = 60 ∨ hrA T n x.2 = 62 ∨ hrA T n x.2 = 61 := by unfold cmpA at c; omega
      have hp : x.2 < n := h0_in (c := hrA T n x.2) (by omega) rfl
      have eh : h0A T n x.2 = hrA T n x.2 := by unfold h0A hrA; rw [if_pos hp, if_pos hp]
      rw [if_neg c]
      have all : (if iI (h0A T n x.2) = iI 60 then sX9_piece_98 rc ri rq (some rd) (some a) (iI (h0A T n x.2)) (rdM rd x.2 o 0 0 σ1)
        else if iI (h0A T n x.2) = iI 62 then sX9_piece_98 rc ri rq (some rd) (some a) (iI (h0A T n x.2)) (rdM rd x.2 o 0 0 σ1)
        else if iI (h0A T n x.2) = iI 61 then sX9_piece_98 rc ri rq (some rd) (some a) (iI (h0A T n x.2)) (rdM rd x.2 o 0 0 σ1)
        else gI (rdM rd x.2 o 0 0 σ1) (some rd) 7 2 fun x7 => cV (rdM rd x.2 o 0 0 σ1) (some rd) 7 <| cl (sX9_bad (some rd) (iI 1) x7 (rdM rd x.2 o 0 0 σ1)) fun _ s8 => sX9_piece_98 rc ri rq (some rd) (some a) (iI (h0A T n x.2)) s8) = sX9_piece_98 rc ri rq (some rd) (some a) (iI (h0A T n x.2)) (rdM rd x.2 o 0 0 σ1) := by
        rcases n3 with z | z | z
        · exact if_pos ((E1c h1 (by omega) (by omega)).mpr z)
        · refine (if_neg (fun w => ?_)).trans (if_pos ((E1c h1 (by omega) (by omega)).mpr z))
          have := (E1c h1 (by omega) (by omega)).mp w
          omega
        · refine (if_neg (fun w => ?_)).trans ((if_neg (fun w => ?_)).trans (if_pos ((E1c h1 (by omega) (by omega)).mpr z)))
          · have := (E1c h1 (by omega) (by omega)).mp w
            omega
          · have := (E1c h1 (by omega) (by omega)).mp w
            omega
      rw [all]
      have g2 : Grow (mZ σ1) σ1 (mNew σ1 12 3) 1 := grow_new (Nat.le_refl _) (by omega)
      have h2 := g2.re h1 b2'
      have zn : mZ (mNew σ1 12 3) = mZ σ1 + 1 := rfl
      have hr2 : Room (mNew σ1 12 3) (3 * (n - (x.2 + 1)) + 3) := by
        constructor
        · have := hr.1
          show ((mZ σ1 + 1 : Nat) : Int) + _ ≤ _
          omega
        · have := hr.2
          show ((mY σ1 + 3 : Nat) : Int) + _ ≤ _
          omega
      have q2 := f_sum40 o0 o1 h2 (p := x.2 + 1) (by omega) (by omega) hr2
      unfold sX9_piece_98 sX9_piece_129
      rw [gI_r2 h1, iv_add, pI_r2 h1, nO_r b2' hr1 (by omega), cV_r h2, f_good0 h2, clw, if_neg iv_01, cV_r h2]
      unfold OutR at q2
      have prep : ∀ (σ3 : Mem) (cc : Int), Grow (mZ (mNew σ1 12 3)) (mNew σ1 12 3) σ3 cc → (mK σ3 (mZ σ1)).1 = 12 := by
        intro σ3 cc g
        rw [(g.1 (mZ σ1) (by omega)).1]
        exact k12
      cases e9 : rSum T n 7 o (x.2 + 1) with
      | inl y =>
        rw [e9] at q2
        obtain ⟨r, σ3, p', o', d1, d2, d3, d4, d5, d6, d7, d8, d9⟩ := q2
        have kx := prep σ3 _ d2
        have g3 := grow15 (c := iI (h0A T n x.2)) (r1 := some a) (r2 := r) (g2.trans (d2.dn (lo' := mZ σ1) (by omega)))
        rw [d1, clw, cI_y, f_init15 (by omega) kx, clw]
        exact ⟨_, _, p', o', rfl, (a2.trans (g3.dn a2.2.1)).le (by omega), d3, by omega, d5, d6, d7, d8, trivial⟩
      | inr y =>
        rw [e9] at q2
        obtain ⟨r, σ3, d1, d2, d3, d4, ⟨a', ra, d5, d6⟩⟩ := q2
        subst ra
        have kx := prep σ3 _ d2
        have g3 := grow15 (c := iI (h0A T n x.2)) (r1 := some a) (r2 := some a') (g2.trans (d2.dn (lo' := mZ σ1) (by omega)))
        obtain ⟨N, hN⟩ : ∃ N : Mem, N = (up2 (mI σ3) (mZ σ1) 2 (iI (h0A T n x.2)), up2 (up2 (mP σ3) (mZ σ1) 0 (some a)) (mZ σ1) 1 (some a'), σ3.2.2) := ⟨_, rfl⟩
        rw [d1, clw, cI_y, f_init15 (by omega) kx, clw]
        rw [← hN] at g3 ⊢
        have NI : ∀ b j, mI N b j = if b = mZ σ1 ∧ j = 2 then iI (h0A T n x.2) else mI σ3 b j := fun b j => by rw [hN]; rfl
        have NP : ∀ b j, mP N b j = if b = mZ σ1 ∧ j = 1 then some a' else if b = mZ σ1 ∧ j = 0 then some a else mP σ3 b j := fun b j => by rw [hN]; rfl
        have NK : mK N = mK σ3 := by rw [hN]
        have NZ : mZ N = mZ σ3 := by rw [hN]
        have z3 := d2.2.1
        have u1 : SumD 14 (mZ σ) N a x.1 := a5.up (fun b b0 b1 => g3.1 b b1) (by omega)
        have u2 : SumD 14 (mZ σ1 + 1) N a' y.1 := d5.up (fun b b0 b1 => ⟨by rw [NK], fun j => by rw [NI, if_neg (by omega)], fun j => by rw [NP, if_neg (by omega), if_neg (by omega)]⟩) (by omega)
        refine ⟨_, N, rfl, (a2.trans (g3.dn a2.2.1)).le (by show 3 * (x.2 - p) - 0 + (1 + (3 * (y.2 - (x.2 + 1)) - 0)) ≤ 3 * (y.2 - p) - 2; omega), by show p ≤ y.2; omega, d4, mZ σ1, rfl, ?_⟩
        refine cnd_cmp (k := 14) u1 (u2.lo (by omega) (by omega) (by omega)) (by omega) (by omega) (by rw [NK]; exact kx) ?_ ?_ ?_ c (by omega)
        · rw [NP, if_neg (by omega), if_pos ⟨rfl, rfl⟩]
        · rw [NP, if_pos ⟨rfl, rfl⟩]
        · rw [NI, if_pos ⟨rfl, rfl⟩, eh]
end
