/-! DEPS: yz -/
/-! ZA: TermLog takes a law: whole -/
theorem rdN_K2 {σ : Mem} {n : Int} (k2 : K2M σ) : K2M (rdN n σ) := by
  intro b hb
  have hb : (if b = mZ σ then (7, 7) else if b = mZ σ + 1 then (4, 4) else if b = mZ σ + 2 then (20, 16) else if b = mZ σ + 3 then (24, 16) else if b = mZ σ + 4 then (25, 16) else mK σ b : Nat × Nat).1 = 2 := hb
  by_cases c0 : b = mZ σ
  · rw [if_pos c0] at hb; exact absurd hb (by decide)
  rw [if_neg c0] at hb
  by_cases c1 : b = mZ σ + 1
  · rw [if_pos c1] at hb; exact absurd hb (by decide)
  rw [if_neg c1] at hb
  by_cases c2 : b = mZ σ + 2
  · rw [if_pos c2] at hb; exact absurd hb (by decide)
  rw [if_neg c2] at hb
  by_cases c3 : b = mZ σ + 3
  · rw [if_pos c3] at hb; exact absurd hb (by decide)
  rw [if_neg c3] at hb
  by_cases c4 : b = mZ σ + 4
  · rw [if_pos c4] at hb; exact absurd hb (by decide)
  rw [if_neg c4] at hb
  exact k2 b hb
theorem rdN_TS {σ : Mem} {n : Int} : TS (mZ σ) (mZ σ + 1) (rdN n σ) := by
  have P : ∀ b j, mP (rdN n σ) b j = if b = mZ σ then (if j = 1 then some (mZ σ + 1) else if j = 6 then some 0 else none) else if b = mZ σ + 1 then (if j = 0 then some (mZ σ + 2) else if j = 1 then some (mZ σ + 3) else if j = 2 then some (mZ σ + 4) else none) else if mZ σ ≤ b ∧ b < mZ σ + 5 then none else mP σ b j := fun b j => rfl
  refine ⟨by rw [P, if_pos rfl, if_pos rfl], by omega, by rw [rdN_k1], ⟨by rw [P, if_neg (by omega), if_pos rfl, if_pos rfl], by rw [P, if_neg (by omega), if_pos rfl, if_neg (by omega), if_pos rfl], by rw [P, if_neg (by omega), if_pos rfl, if_neg (by omega), if_neg (by omega), if_pos rfl]⟩, ⟨rdN_k2, rdN_k3, rdN_k4⟩, ?_⟩
  show mZ σ + 1 + 4 ≤ mZ σ + 5
  omega
theorem rdN_TL {σ : Mem} {n : Int} : TL (mZ σ + 1) (rdN n σ) [] := by
  refine ⟨?_, by show 0 ≤ 16; omega, fun i hi => absurd hi (by show ¬ i < 0; omega)⟩
  show (if mZ σ + 1 = mZ σ ∧ 3 = 0 then iI n else if mZ σ ≤ mZ σ + 1 ∧ mZ σ + 1 < mZ σ + 5 then 0 else mI σ (mZ σ + 1) 3) = _
  rw [if_neg (by omega), if_pos (by omega)]
  rfl
theorem f_law {σ : Mem} {n t : Int} (k0 : (mK σ 0).1 = 0) (p4 : mP σ 0 4 = some 3767) (kt : mK σ 3767 = (21, 260)) (h6 : mI σ 0 6 = iI t) (t0 : 0 ≤ t) (t1 : t ≤ 260) (z0 : 3799 ≤ mZ σ) (hz : mZ σ + 800 ≤ 1200000) (hy : mY σ + 2500 ≤ 5502250) (k2 : K2M σ) (n0 : -2147483648 ≤ n) (n1 : n ≤ 2147483647) :
    ∃ σ', sX0_law (some 0) (iI n) σ = some (iI (lawAns (tpL σ) t n), σ') ∧ (∀ b, b < mZ σ → mK σ' b = mK σ b ∧ (∀ j, (b ≠ 0 ∨ j ≠ 6) → mI σ' b j = mI σ b j) ∧ ∀ j, (b ≠ 0 ∨ j ≠ 5) → mP σ' b j = mP σ b j) ∧ mI σ' 0 6 = iI (lawTp (tpL σ) t n)
      ∧ mZ σ ≤ mZ σ' ∧ mZ σ' ≤ mZ σ + 800 ∧ mY σ' ≤ mY σ + 2500 ∧ K2M σ' ∧ ∀ l, TxtL σ l → TxtL σ' (lawNew (tpL σ) t n l) := by
  have w1 : sX0_within (iI n) (iI 1) (iI 240) σ = some (bI (1 ≤ n ∧ n ≤ 240), σ) := t_within n0 n1 (by omega) (by omega) (by omega) (by omega)
  have same : lawR (tpL σ) t n = none → lawAns (tpL σ) t n = -1 ∧ lawTp (tpL σ) t n = t ∧ ∀ l, lawNew (tpL σ) t n l = l := by
    intro e
    unfold lawAns lawTp lawNew
    rw [e]
    exact ⟨rfl, rfl, fun _ => rfl⟩
  by_cases c : 1 ≤ n ∧ n ≤ 240
  · have nb : ¬ bI (1 ≤ n ∧ n ≤ 240) = iI 0 := by rw [bI_z]; exact fun z => z c
    have En : (iI n ≤ iI t) = (n ≤ t) := iv_le (by omega) (by omega) (by omega) (by omega)
    by_cases d : n ≤ t
    · obtain ⟨N0, hN0⟩ : ∃ N0 : Mem, N0 = (up2 (mI σ) 0 6 (iI 0), σ.2) := ⟨_, rfl⟩
      have zN : mZ N0 = mZ σ := by rw [hN0]
      have yN : mY N0 = mY σ := by rw [hN0]
      have kN : mK N0 = mK σ := by rw [hN0]
      have pN : mP N0 = mP σ := by rw [hN0]
      have iN : ∀ b j, mI N0 b j = if b = 0 ∧ j = 6 then iI 0 else mI σ b j := fun b j => by rw [hN0]; rfl
      have lo : ∀ b, b < mZ σ → mK (rdN n N0) b = mK σ b ∧ (∀ j, mI (rdN n N0) b j = if b = 0 ∧ j = 6 then iI 0 else mI σ b j) ∧ ∀ j, mP (rdN n N0) b j = mP σ b j := fun b hb => by
        obtain ⟨q1, q2, q3⟩ := rdN_lo (σ := N0) (n := n) (b := b) (by omega)
        exact ⟨by rw [q1, kN], fun j => by rw [q2, iN], fun j => by rw [q3, pN]⟩
      have K2N : K2M (rdN n N0) := rdN_K2 (by intro b hb; rw [kN] at hb; exact k2 b hb)
      have hTS : TS (mZ N0) (mZ N0 + 1) (rdN n N0) := rdN_TS
      have hTL : TL (mZ N0 + 1) (rdN n N0) [] := rdN_TL
      have zW : mZ (rdN n N0) = mZ N0 + 5 := rfl
      have yW : mY (rdN n N0) = mY N0 + 59 := rfl
      have hRE : RE (mZ N0) n (tpL σ) (rdN n N0) := by
        refine ⟨by rw [rdN_k0], by omega, by omega, if_pos ⟨rfl, rfl⟩, c, ?_, by rw [(lo 0 (by omega)).1]; exact k0, by rw [(lo 0 (by omega)).2.2]; exact p4, by rw [(lo 3767 (by omega)).1]; exact kt, fun i i0 i1 => ?_, fun i => and255 _⟩
        · show (if mZ N0 = mZ N0 then (if 6 = 1 then some (mZ N0 + 1) else if 6 = 6 then some 0 else none) else _) = _
          rw [if_pos rfl, if_neg (by omega), if_pos rfl]
        · rw [(lo 3767 (by omega)).2.1, if_neg (by omega)]
          exact (iv_of _).symm
      obtain ⟨rd, hrd⟩ : ∃ rd, rd = mZ N0 := ⟨_, rfl⟩
      have start : sX0_law (some 0) (iI n) σ = cl (sX9_read_2 FU (some rd) (iI 1) (rdN n N0)) fun x8 s9 => if x8 < (iI 0) then some (x8, s9) else gR s9 (some rd) 7 1 fun x10 => pR s9 (some 0) 0 5 x10 fun s11 => some (x8, s11) := by
        have k7 : (mK (rdN n N0) rd).1 = 7 := by rw [hrd, rdN_k0]
        unfold sX0_law
        rw [w1, clw, if_neg nb, gI_y k0, h6, if_pos (by rw [En]; exact d), pI_y k0, ← hN0, nO_y (by omega) (by omega), cI_y, f_init9 (by omega) (by omega), clw, ← hrd, cV_y k7]
        rfl
      have q := f_read (n.toNat + 1) FU (rdN n N0) 0 0 [] hRE hTS hTL (by omega) (by omega) (by omega) (by unfold FU; omega) ⟨by omega, by omega⟩
      have er : rdN n N0 = rdM rd 0 0 0 0 (rdN n N0) := by rw [hrd]; exact rdN_rd
      rw [← hrd] at q hRE hTS hTL zW
      rw [← er] at q
      have hr : lawR (tpL σ) t n = some (rText (tpL σ) n (n.toNat + 1) [] 0) := by
        unfold lawR
        rw [if_pos c, if_pos d]
      rw [start]
      unfold OutX at q
      -- what stays
      have stay : ∀ (σ2 : Mem) (cc p' o' ft pl : Int), Grow (rd + 1) (rdN n N0) σ2 cc → ∀ b, b < mZ σ → mK (rdM rd p' o' ft pl σ2) b = mK σ b ∧ (∀ j, mI (rdM rd p' o' ft pl σ2) b j = if b = 0 ∧ j = 6 then iI 0 else mI σ b j) ∧ ∀ j, mP (rdM rd p' o' ft pl σ2) b j = mP σ b j := by
        intro σ2 cc p' o' ft pl g b hb
        obtain ⟨u1, u2, u3⟩ := g.1 b (by omega)
        obtain ⟨v1, v2, v3⟩ := lo b hb
        refine ⟨by show mK σ2 b = _; rw [u1, v1], fun j => ?_, fun j => by show mP σ2 b j = _; rw [u3, v3]⟩
        show (if b = rd ∧ 2 ≤ j ∧ j ≤ 5 then _ else mI σ2 b j) = _
        rw [if_neg (by omega), u2, v2]
      cases e : rText (tpL σ) n (n.toNat + 1) [] 0 with
      | inl x =>
        rw [e] at q hr
        obtain ⟨σ2, p', o', ft, pl, a1, a2, a3, a4, a5, a6⟩ := q
        have zz := a2.2
        have st := stay σ2 _ p' o' ft pl a2
        have E8 : (iI (-1000 * x.1 - x.2) < iI 0) = (-1000 * x.1 - x.2 < 0) := iv_lt (by omega) (by omega) (by omega) (by omega)
        have z2 : mZ (rdM rd p' o' ft pl σ2) = mZ σ2 := rfl
        have y2 : mY (rdM rd p' o' ft pl σ2) = mY σ2 := rfl
        have K2' : K2M (rdM rd p' o' ft pl σ2) := fun b hb => K2N b (a2.2.2.2.2 b hb)
        refine ⟨rdM rd p' o' ft pl σ2, ?_, fun b hb => ⟨(st b hb).1, fun j hj => ?_, fun j _ => (st b hb).2.2 j⟩, ?_, by omega, by omega, by omega, K2', fun l hl => ?_⟩
        · rw [a1, clw, if_pos (by rw [E8]; omega)]
          unfold lawAns
          rw [hr]
        · rw [(st b hb).2.1, if_neg (by omega)]
        · rw [(st 0 (by omega)).2.1, if_pos ⟨rfl, rfl⟩]
          unfold lawTp
          rw [hr]
        · have ln : lawNew (tpL σ) t n l = l := by unfold lawNew; rw [hr]
          rw [ln]
          refine hl.up K2' ((st 0 (by omega)).2.2 5) (by omega) (fun b hb hb2 => ⟨(st b hb2).1, fun j => ?_, (st b hb2).2.2⟩)
          rw [(st b hb2).2.1, if_neg (by omega)]
      | inr l' =>
        rw [e] at q hr
        obtain ⟨σ2, p', o', a1, a2, a3, a4⟩ := q
        have zz := a2.2
        have st := stay σ2 _ p' o' 0 0 a2
        obtain ⟨s1, s2, s3, s4, s5, s6⟩ := a3
        have l16 := a4.2.1
        have E8 : (iI (l'.length : Int) < iI 0) = ((l'.length : Int) < 0) := iv_lt (by omega) (by omega) (by omega) (by omega)
        have hR2 := a2.re hRE (by omega)
        obtain ⟨Q, hQ⟩ : ∃ Q : Mem, Q = (mI (rdM rd p' o' 0 0 σ2), up2 (mP σ2) 0 5 (some (rd + 1)), σ2.2.2) := ⟨_, rfl⟩
        have QI : mI Q = mI (rdM rd p' o' 0 0 σ2) := by rw [hQ]
        have QP : ∀ b j, mP Q b j = if b = 0 ∧ j = 5 then some (rd + 1) else mP σ2 b j := fun b j => by rw [hQ]; rfl
        have QK : mK Q = mK σ2 := by rw [hQ]
        have QZ : mZ Q = mZ σ2 := by rw [hQ]
        have QY : mY Q = mY σ2 := by rw [hQ]
        have K2' : K2M Q := fun b hb => K2N b (a2.2.2.2.2 b (by rw [QK] at hb; exact hb))
        have kz : (mK (rdM rd p' o' 0 0 σ2) 0).1 = 0 := by rw [(st 0 (by omega)).1]; exact k0
        refine ⟨Q, ?_, fun b hb => ⟨by rw [QK]; exact (st b hb).1, fun j hj => ?_, fun j hj => ?_⟩, ?_, by omega, by omega, by omega, K2', fun l hl => ?_⟩
        · rw [a1, clw, if_neg (by rw [E8]; omega), gR_r hR2, s1, pR_y kz]
          unfold lawAns
          rw [hr, hQ]
          rfl
        · rw [QI, (st b hb).2.1, if_neg (by omega)]
        · rw [QP, if_neg (by omega)]; exact (st b hb).2.2 j
        · rw [QI, (st 0 (by omega)).2.1, if_pos ⟨rfl, rfl⟩]
          unfold lawTp
          rw [hr]
        · have ln : lawNew (tpL σ) t n l = l' := by unfold lawNew; rw [hr]
          rw [ln]
          have ag : ∀ b, rd + 1 ≤ b → b < mZ σ2 → mK Q b = mK σ2 b ∧ (∀ j, mI Q b j = mI σ2 b j) ∧ ∀ j, mP Q b j = mP σ2 b j := fun b b0 b1 => by
            refine ⟨by rw [QK], fun j => ?_, fun j => by rw [QP, if_neg (by omega)]⟩
            rw [QI]
            exact if_neg (by omega)
          refine ⟨K2', rd + 1, by rw [QP, if_pos ⟨rfl, rfl⟩], Or.inl (by omega), by rw [QK]; exact s3, ⟨by rw [QP, if_neg (by omega)]; exact s4.1, by rw [QP, if_neg (by omega)]; exact s4.2.1, by rw [QP, if_neg (by omega)]; exact s4.2.2⟩, ⟨by rw [QK]; exact s5.1, by rw [QK]; exact s5.2.1, by rw [QK]; exact s5.2.2⟩, by omega, a4.up ag (by omega) s6⟩
    · have hr : lawR (tpL σ) t n = none := by unfold lawR; rw [if_pos c, if_neg d]
      obtain ⟨q1, q2, q3⟩ := same hr
      refine ⟨σ, ?_, fun b _ => ⟨rfl, fun _ _ => rfl, fun _ _ => rfl⟩, by rw [q2]; exact h6, Nat.le_refl _, by omega, by omega, k2, fun l hl => by rw [q3]; exact hl⟩
      unfold sX0_law
      rw [w1, clw, if_neg nb, gI_y k0, h6, if_neg (by rw [En]; exact d), q1]
  · have hr : lawR (tpL σ) t n = none := by unfold lawR; rw [if_neg c]
    obtain ⟨q1, q2, q3⟩ := same hr
    refine ⟨σ, ?_, fun b _ => ⟨rfl, fun _ _ => rfl, fun _ _ => rfl⟩, by rw [q2]; exact h6, Nat.le_refl _, by omega, by omega, k2, fun l hl => by rw [q3]; exact hl⟩
    unfold sX0_law
    rw [w1, clw, if_pos (by rw [bI_z]; exact c), q1]
