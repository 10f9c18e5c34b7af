/-! DEPS: zw -/
/-! ZX: TermLog takes a plan -/
/-- the planner, new behind σ -/
def plN (n : Int) (σ : Mem) : Mem := (fun b j => if b = mZ σ ∧ j = 0 then iI n else if mZ σ ≤ b ∧ b < mZ σ + 5 then 0 else mI σ b j,
  fun b j => if b = mZ σ then (if j = 1 then some (mZ σ + 1) else if j = 2 then some (mZ σ + 2) else if j = 3 then some (mZ σ + 3) else if j = 4 then some (mZ σ + 4) else if j = 10 then some 0 else none) else if mZ σ ≤ b ∧ b < mZ σ + 5 then none else mP σ b j,
  fun b => if b = mZ σ then (13, 11) else if mZ σ < b ∧ b < mZ σ + 5 then (20, 200) else mK σ b, mZ σ + 5, mY σ + 811)
section
variable {σ : Mem} {n : Int}
theorem nA_2 {β : Type} {k : Nat} (hz : mZ σ + 1 ≤ 1200000) (hy : mY σ + 200 ≤ 5502250) {f : Option Nat → Mem → Option β} : nA σ k (iI 200) f = f (some (mZ σ)) (mNew σ k 200) := by
  have i16 : ix (iI 200) = 200 := by decide
  unfold nA
  rw [i16, if_pos ⟨⟨by decide, by decide⟩, hz, hy⟩]
theorem f_init16 (hz : mZ σ + 5 ≤ 1200000) (hy : mY σ + 811 ≤ 5502250) : sX16_init (some (mZ σ)) (some 0) (iI n) (mNew σ 13 11) = some ((), plN n σ) := by
  have u1 : ∀ (K : Nat → Nat × Nat) (a : Nat) (v : Nat × Nat), up1 K a v a = v := fun K a v => if_pos rfl
  have u1n : ∀ (K : Nat → Nat × Nat) (a b : Nat) (v : Nat × Nat), b ≠ a → up1 K a v b = K b := fun K a b v h => if_neg h
  obtain ⟨s1, hs1⟩ : ∃ s1 : Mem, s1 = (mI (mNew σ 13 11), up2 (mP (mNew σ 13 11)) (mZ σ) 10 (some 0), (mNew σ 13 11).2.2) := ⟨_, rfl⟩
  have z1 : mZ s1 = mZ σ + 1 := by rw [hs1]; rfl
  have y1 : mY s1 = mY σ + 11 := by rw [hs1]; rfl
  have k1 : mK s1 = up1 (mK σ) (mZ σ) (13, 11) := by rw [hs1]; rfl
  have kr : (mK (mNew σ 13 11) (mZ σ)).1 = 13 := by show (up1 (mK σ) (mZ σ) (13, 11) (mZ σ)).1 = 13; rw [u1]
  have kk1 : (mK s1 (mZ σ)).1 = 13 := by rw [k1, u1]
  unfold sX16_init
  rw [pR_y kr, ← hs1, cI_y]
  have zr : ∀ {α : Type} (F : Nat → Nat → α) (a : Nat) (v : α) (b j : Nat), zr2 F a v b j = if b = a then v else F b j := fun F a v b j => rfl
  have up : ∀ {α : Type} (F : Nat → Nat → α) (a k : Nat) (v : α) (b j : Nat), up2 F a k v b j = if b = a ∧ j = k then v else F b j := fun F a k v b j => rfl
  have I1 : ∀ b j, mI s1 b j = if b = mZ σ then 0 else mI σ b j := fun b j => by rw [hs1]; rfl
  have P1 : ∀ b j, mP s1 b j = if b = mZ σ ∧ j = 10 then some 0 else if b = mZ σ then none else mP σ b j := fun b j => by rw [hs1]; rfl
  obtain ⟨s2, hs2⟩ : ∃ s2 : Mem, s2 = mNew s1 20 200 := ⟨_, rfl⟩
  have k2 : mK s2 = up1 (mK s1) (mZ σ + 1) (20, 200) := by rw [hs2]; show up1 (mK s1) (mZ s1) (20, 200) = _; rw [z1]
  have kk2 : (mK s2 (mZ σ)).1 = 13 := by rw [k2, u1n _ _ _ _ (by omega)]; exact kk1
  rw [nA_2 (by omega) (by omega), ← hs2, z1, pR_y kk2]
  obtain ⟨s3, hs3⟩ : ∃ s3 : Mem, s3 = (mI s2, up2 (mP s2) (mZ σ) 1 (some (mZ σ + 1)), s2.2.2) := ⟨_, rfl⟩
  have z3 : mZ s3 = mZ σ + 2 := by rw [hs3, hs2]; show mZ s1 + 1 = _; omega
  have y3 : mY s3 = mY σ + 211 := by rw [hs3, hs2]; show mY s1 + 200 = _; omega
  have k3 : mK s3 = mK s2 := by rw [hs3]
  have kk3 : (mK s3 (mZ σ)).1 = 13 := by rw [k3]; exact kk2
  have I2 : ∀ b j, mI s2 b j = if b = mZ σ + 1 then 0 else mI s1 b j := fun b j => by rw [hs2]; show zr2 (mI s1) (mZ s1) 0 b j = _; rw [z1]; rfl
  have I3 : ∀ b j, mI s3 b j = mI s2 b j := fun b j => by rw [hs3]
  have P2 : ∀ b j, mP s2 b j = if b = mZ σ + 1 then none else mP s1 b j := fun b j => by rw [hs2]; show zr2 (mP s1) (mZ s1) none b j = _; rw [z1]; rfl
  have P3 : ∀ b j, mP s3 b j = if b = mZ σ ∧ j = 1 then some (mZ σ + 1) else mP s2 b j := fun b j => by rw [hs3]; rfl
  rw [← hs3]
  obtain ⟨s4, hs4⟩ : ∃ s4 : Mem, s4 = mNew s3 20 200 := ⟨_, rfl⟩
  have k4 : mK s4 = up1 (mK s3) (mZ σ + 2) (20, 200) := by rw [hs4]; show up1 (mK s3) (mZ s3) (20, 200) = _; rw [z3]
  have kk4 : (mK s4 (mZ σ)).1 = 13 := by rw [k4, u1n _ _ _ _ (by omega)]; exact kk3
  rw [nA_2 (by omega) (by omega), ← hs4, z3, pR_y kk4]
  obtain ⟨s5, hs5⟩ : ∃ s5 : Mem, s5 = (mI s4, up2 (mP s4) (mZ σ) 2 (some (mZ σ + 2)), s4.2.2) := ⟨_, rfl⟩
  have z5 : mZ s5 = mZ σ + 3 := by rw [hs5, hs4]; show mZ s3 + 1 = _; omega
  have y5 : mY s5 = mY σ + 411 := by rw [hs5, hs4]; show mY s3 + 200 = _; omega
  have k5 : mK s5 = mK s4 := by rw [hs5]
  have kk5 : (mK s5 (mZ σ)).1 = 13 := by rw [k5]; exact kk4
  have I4 : ∀ b j, mI s4 b j = if b = mZ σ + 2 then 0 else mI s3 b j := fun b j => by rw [hs4]; show zr2 (mI s3) (mZ s3) 0 b j = _; rw [z3]; rfl
  have I5 : ∀ b j, mI s5 b j = mI s4 b j := fun b j => by rw [hs5]
  have P4 : ∀ b j, mP s4 b j = if b = mZ σ + 2 then none else mP s3 b j := fun b j => by rw [hs4]; show zr2 (mP s3) (mZ s3) none b j = _; rw [z3]; rfl
  have P5 : ∀ b j, mP s5 b j = if b = mZ σ ∧ j = 2 then some (mZ σ + 2) else mP s4 b j := fun b j => by rw [hs5]; rfl
  rw [← hs5]
  obtain ⟨s6, hs6⟩ : ∃ s6 : Mem, s6 = mNew s5 20 200 := ⟨_, rfl⟩
  have k6 : mK s6 = up1 (mK s5) (mZ σ + 3) (20, 200) := by rw [hs6]; show up1 (mK s5) (mZ s5) (20, 200) = _; rw [z5]
  have kk6 : (mK s6 (mZ σ)).1 = 13 := by rw [k6, u1n _ _ _ _ (by omega)]; exact kk5
  rw [nA_2 (by omega) (by omega), ← hs6, z5, pR_y kk6]
  obtain ⟨s7, hs7⟩ : ∃ s7 : Mem, s7 = (mI s6, up2 (mP s6) (mZ σ) 3 (some (mZ σ + 3)), s6.2.2) := ⟨_, rfl⟩
  have z7 : mZ s7 = mZ σ + 4 := by rw [hs7, hs6]; show mZ s5 + 1 = _; omega
  have y7 : mY s7 = mY σ + 611 := by rw [hs7, hs6]; show mY s5 + 200 = _; omega
  have k7 : mK s7 = mK s6 := by rw [hs7]
  have kk7 : (mK s7 (mZ σ)).1 = 13 := by rw [k7]; exact kk6
  have I6 : ∀ b j, mI s6 b j = if b = mZ σ + 3 then 0 else mI s5 b j := fun b j => by rw [hs6]; show zr2 (mI s5) (mZ s5) 0 b j = _; rw [z5]; rfl
  have I7 : ∀ b j, mI s7 b j = mI s6 b j := fun b j => by rw [hs7]
  have P6 : ∀ b j, mP s6 b j = if b = mZ σ + 3 then none else mP s5 b j := fun b j => by rw [hs6]; show zr2 (mP s5) (mZ s5) none b j = _; rw [z5]; rfl
  have P7 : ∀ b j, mP s7 b j = if b = mZ σ ∧ j = 3 then some (mZ σ + 3) else mP s6 b j := fun b j => by rw [hs7]; rfl
  rw [← hs7]
  obtain ⟨s8, hs8⟩ : ∃ s8 : Mem, s8 = mNew s7 20 200 := ⟨_, rfl⟩
  have k8 : mK s8 = up1 (mK s7) (mZ σ + 4) (20, 200) := by rw [hs8]; show up1 (mK s7) (mZ s7) (20, 200) = _; rw [z7]
  have kk8 : (mK s8 (mZ σ)).1 = 13 := by rw [k8, u1n _ _ _ _ (by omega)]; exact kk7
  rw [nA_2 (by omega) (by omega), ← hs8, z7, pR_y kk8]
  obtain ⟨s9, hs9⟩ : ∃ s9 : Mem, s9 = (mI s8, up2 (mP s8) (mZ σ) 4 (some (mZ σ + 4)), s8.2.2) := ⟨_, rfl⟩
  have z9 : mZ s9 = mZ σ + 5 := by rw [hs9, hs8]; show mZ s7 + 1 = _; omega
  have y9 : mY s9 = mY σ + 811 := by rw [hs9, hs8]; show mY s7 + 200 = _; omega
  have k9 : mK s9 = mK s8 := by rw [hs9]
  have kk9 : (mK s9 (mZ σ)).1 = 13 := by rw [k9]; exact kk8
  have I8 : ∀ b j, mI s8 b j = if b = mZ σ + 4 then 0 else mI s7 b j := fun b j => by rw [hs8]; show zr2 (mI s7) (mZ s7) 0 b j = _; rw [z7]; rfl
  have I9 : ∀ b j, mI s9 b j = mI s8 b j := fun b j => by rw [hs9]
  have P8 : ∀ b j, mP s8 b j = if b = mZ σ + 4 then none else mP s7 b j := fun b j => by rw [hs8]; show zr2 (mP s7) (mZ s7) none b j = _; rw [z7]; rfl
  have P9 : ∀ b j, mP s9 b j = if b = mZ σ ∧ j = 4 then some (mZ σ + 4) else mP s8 b j := fun b j => by rw [hs9]; rfl
  rw [← hs9]
  rw [pI_y kk9]
  refine congrArg (fun s => some ((), s)) (Prod.ext ?_ (Prod.ext ?_ (Prod.ext ?_ (Prod.ext ?_ ?_))))
  · funext b j
    show (if b = mZ σ ∧ j = 0 then iI n else mI s9 b j) = if b = mZ σ ∧ j = 0 then iI n else if mZ σ ≤ b ∧ b < mZ σ + 5 then 0 else mI σ b j
    by_cases c : b = mZ σ ∧ j = 0
    · rw [if_pos c, if_pos c]
    · rw [if_neg c, if_neg c, I9, I8, I7, I6, I5, I4, I3, I2, I1]
      by_cases d : mZ σ ≤ b ∧ b < mZ σ + 5
      · rw [if_pos d]
        repeat' split
        all_goals first | rfl | omega
      · rw [if_neg d, if_neg (by omega), if_neg (by omega), if_neg (by omega), if_neg (by omega), if_neg (by omega)]
  · funext b j
    show mP s9 b j = if b = mZ σ then (if j = 1 then some (mZ σ + 1) else if j = 2 then some (mZ σ + 2) else if j = 3 then some (mZ σ + 3) else if j = 4 then some (mZ σ + 4) else if j = 10 then some 0 else none) else if mZ σ ≤ b ∧ b < mZ σ + 5 then none else mP σ b j
    by_cases d : b = mZ σ
    · subst d
      rw [P9, P8, if_neg (show ¬ mZ σ = mZ σ + 4 by omega), P7, P6, if_neg (show ¬ mZ σ = mZ σ + 3 by omega), P5, P4, if_neg (show ¬ mZ σ = mZ σ + 2 by omega), P3, P2, if_neg (show ¬ mZ σ = mZ σ + 1 by omega), P1]
      simp only [true_and, if_true]
      repeat' split
      all_goals first | rfl | omega
    · rw [if_neg d, P9, if_neg (show ¬ (b = mZ σ ∧ j = 4) from fun z => d z.1), P8, P7, if_neg (show ¬ (b = mZ σ ∧ j = 3) from fun z => d z.1), P6, P5, if_neg (show ¬ (b = mZ σ ∧ j = 2) from fun z => d z.1), P4, P3, if_neg (show ¬ (b = mZ σ ∧ j = 1) from fun z => d z.1), P2, P1, if_neg (show ¬ (b = mZ σ ∧ j = 10) from fun z => d z.1), if_neg d]
      by_cases e : mZ σ ≤ b ∧ b < mZ σ + 5
      · rw [if_pos e]
        repeat' split
        all_goals first | rfl | omega
      · rw [if_neg e, if_neg (by omega), if_neg (by omega), if_neg (by omega), if_neg (by omega)]
  · funext b
    show mK s9 b = if b = mZ σ then (13, 11) else if mZ σ < b ∧ b < mZ σ + 5 then (20, 200) else mK σ b
    have U : ∀ (K : Nat → Nat × Nat) (a : Nat) (v : Nat × Nat), up1 K a v b = if b = a then v else K b := fun K a v => rfl
    rw [k9, k8, U, k7, k6, U, k5, k4, U, k3, k2, U, k1, U]
    repeat' split
    all_goals first | rfl | omega
  · exact z9
  · exact y9
theorem plN_lo {b : Nat} (hb : b < mZ σ) : smC σ (plN n σ) b := by
  refine ⟨?_, fun j => ?_, fun j => ?_⟩
  · show (if b = mZ σ then _ else if mZ σ < b ∧ b < mZ σ + 5 then _ else mK σ b) = _
    rw [if_neg (by omega), if_neg (by omega)]
  · show (if b = mZ σ ∧ j = 0 then _ else if mZ σ ≤ b ∧ b < mZ σ + 5 then _ else mI σ b j) = _
    rw [if_neg (by omega), if_neg (by omega)]
  · show (if b = mZ σ then _ else if mZ σ ≤ b ∧ b < mZ σ + 5 then _ else mP σ b j) = _
    rw [if_neg (by omega), if_neg (by omega)]
theorem plN_K2 (k2 : K2M σ) : K2M (plN n σ) := by
  intro b hb
  have hb : (if b = mZ σ then (13, 11) else if mZ σ < b ∧ b < mZ σ + 5 then (20, 200) else mK σ b : Nat × Nat).1 = 2 := hb
  by_cases c0 : b = mZ σ
  · rw [if_pos c0] at hb; exact absurd hb (by decide)
  rw [if_neg c0] at hb
  by_cases c1 : mZ σ < b ∧ b < mZ σ + 5
  · rw [if_pos c1] at hb; exact absurd hb (by decide)
  rw [if_neg c1] at hb
  exact k2 b hb
/-- the new planner's memory -/
theorem plN_LK (z0 : 3799 ≤ mZ σ) (k0 : (mK σ 0).1 = 0) (p4 : mP σ 0 4 = some 3767) (kt : mK σ 3767 = (21, 260)) : LK (mZ σ) (plN n σ) := by
  have P : ∀ j, mP (plN n σ) (mZ σ) j = if j = 1 then some (mZ σ + 1) else if j = 2 then some (mZ σ + 2) else if j = 3 then some (mZ σ + 3) else if j = 4 then some (mZ σ + 4) else if j = 10 then some 0 else none := fun j => if_pos rfl
  refine ⟨⟨?_, z0, P 1, P 2, P 3, P 4, P 10⟩, fun o o1 o4 => ?_, by rw [(plN_lo (by omega)).1]; exact k0, by rw [(plN_lo (by omega)).2.2]; exact p4, by rw [(plN_lo (by omega)).1]; exact kt⟩
  · show (if mZ σ = mZ σ then (13, 11) else _ : Nat × Nat).1 = 13
    rw [if_pos rfl]
  · show (if mZ σ + o = mZ σ then _ else if mZ σ < mZ σ + o ∧ mZ σ + o < mZ σ + 5 then (20, 200) else _ : Nat × Nat) = _
    rw [if_neg (by omega), if_pos (by omega)]
theorem plN_kw : plN n σ = kw (mZ σ) (fun x => if x = 0 then n else 0) (plN n σ) := by
  refine Prod.ext ?_ rfl
  funext b j
  show mI (plN n σ) b j = kwI (mZ σ) (fun x => if x = 0 then n else 0) (mI (plN n σ)) b j
  unfold kwI
  cases e : plK (mZ σ) b j with
  | none => rfl
  | some p =>
    show (if b = mZ σ ∧ j = 0 then iI n else if mZ σ ≤ b ∧ b < mZ σ + 5 then 0 else mI σ b j) = iI (if p = 0 then n else 0)
    rcases plK_c e with ⟨a1, a2, a3⟩ | ⟨a1, a2, a3, a4⟩
    · by_cases c : j = 0
      · rw [if_pos ⟨a1, c⟩, if_pos (by omega)]
      · rw [if_neg (by omega), if_pos (by omega), if_neg (by omega)]
        rfl
    · rw [if_neg (by omega), if_pos (by omega), if_neg (by omega)]
      rfl
end
