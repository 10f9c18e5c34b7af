/-! DEPS: yy yo vu -/
/-! YZ: TermLog takes a law -/
/-- other cells may change -/
theorem TxtL.up {M M' : Mem} {l : List Cls} (h : TxtL M l) (k2 : K2M M') (p5 : mP M' 0 5 = mP M 0 5) (hz : mZ M ≤ mZ M') (g : ∀ b, ((3768 ≤ b ∧ b ≤ 3771) ∨ 3799 ≤ b) → b < mZ M → mK M' b = mK M b ∧ (∀ j, mI M' b j = mI M b j) ∧ ∀ j, mP M' b j = mP M b j) : TxtL M' l := by
  obtain ⟨_, tx, q5, lo, k, ⟨r1, r2, r3⟩, ⟨a1, a2, a3⟩, z4, t⟩ := h
  rcases lo with lo | ⟨lo, le⟩
  · refine ⟨k2, tx, by rw [p5]; exact q5, Or.inl lo, by rw [(g tx (by omega) (by omega)).1]; exact k, ⟨by rw [(g tx (by omega) (by omega)).2.2]; exact r1, by rw [(g tx (by omega) (by omega)).2.2]; exact r2, by rw [(g tx (by omega) (by omega)).2.2]; exact r3⟩, ⟨by rw [(g _ (by omega) (by omega)).1]; exact a1, by rw [(g _ (by omega) (by omega)).1]; exact a2, by rw [(g _ (by omega) (by omega)).1]; exact a3⟩, by omega, t.up (fun b b0 b1 => g b (by omega) b1) hz z4⟩
  · subst lo
    subst le
    refine ⟨k2, 3768, by rw [p5]; exact q5, Or.inr ⟨rfl, rfl⟩, by rw [(g _ (by omega) (by omega)).1]; exact k, ⟨by rw [(g _ (by omega) (by omega)).2.2]; exact r1, by rw [(g _ (by omega) (by omega)).2.2]; exact r2, by rw [(g _ (by omega) (by omega)).2.2]; exact r3⟩, ⟨by rw [(g _ (by omega) (by omega)).1]; exact a1, by rw [(g _ (by omega) (by omega)).1]; exact a2, by rw [(g _ (by omega) (by omega)).1]; exact a3⟩, by omega, ?_⟩
    exact ⟨by rw [(g 3768 (by omega) (by omega)).2.1]; exact t.1, t.2.1, fun i hi => absurd hi (by show ¬ i < 0; omega)⟩
/-- the letters of TermLog's tape -/
def tpL (M : Mem) (x : Int) : Int := (mI M 3767 x.toNat &&& iI 255).toInt
/-- the reader and its text, new behind σ -/
def rdN (n : Int) (σ : Mem) : Mem := (fun b j => if b = mZ σ ∧ j = 0 then iI n else if mZ σ ≤ b ∧ b < mZ σ + 5 then 0 else mI σ b j,
  fun b j => if b = mZ σ then (if j = 1 then some (mZ σ + 1) else if j = 6 then some 0 else none) else if b = mZ σ + 1 then (if j = 0 then some (mZ σ + 2) else if j = 1 then some (mZ σ + 3) else if j = 2 then some (mZ σ + 4) else none) else if mZ σ ≤ b ∧ b < mZ σ + 5 then none else mP σ b j,
  fun b => if b = mZ σ then (7, 7) else if b = mZ σ + 1 then (4, 4) else if b = mZ σ + 2 then (20, 16) else if b = mZ σ + 3 then (24, 16) else if b = mZ σ + 4 then (25, 16) else mK σ b, mZ σ + 5, mY σ + 59)
section
variable {σ : Mem} {n : Int}
theorem rdN_lo {b : Nat} (hb : b < mZ σ) : mK (rdN n σ) b = mK σ b ∧ (∀ j, mI (rdN n σ) b j = mI σ b j) ∧ ∀ j, mP (rdN n σ) b j = mP σ b j := by
  refine ⟨?_, fun j => ?_, fun j => ?_⟩
  · show (if b = mZ σ then _ else if b = mZ σ + 1 then _ else if b = mZ σ + 2 then _ else if b = mZ σ + 3 then _ else if b = mZ σ + 4 then _ else mK σ b) = _
    rw [if_neg (by omega), if_neg (by omega), if_neg (by omega), if_neg (by omega), if_neg (by omega)]
  · show (if b = mZ σ ∧ j = 0 then _ else if mZ σ ≤ b ∧ b < mZ σ + 5 then _ else mI σ b j) = _
    rw [if_neg (by omega), if_neg (by omega)]
  · show (if b = mZ σ then _ else if b = mZ σ + 1 then _ else if mZ σ ≤ b ∧ b < mZ σ + 5 then _ else mP σ b j) = _
    rw [if_neg (by omega), if_neg (by omega), if_neg (by omega)]
theorem rdN_k0 : mK (rdN n σ) (mZ σ) = (7, 7) := if_pos rfl
theorem rdN_k1 : mK (rdN n σ) (mZ σ + 1) = (4, 4) := (if_neg (by omega)).trans (if_pos rfl)
theorem rdN_k2 : mK (rdN n σ) (mZ σ + 2) = (20, 16) := (if_neg (by omega)).trans ((if_neg (by omega)).trans (if_pos rfl))
theorem rdN_k3 : mK (rdN n σ) (mZ σ + 3) = (24, 16) := (if_neg (by omega)).trans ((if_neg (by omega)).trans ((if_neg (by omega)).trans (if_pos rfl)))
theorem rdN_k4 : mK (rdN n σ) (mZ σ + 4) = (25, 16) := (if_neg (by omega)).trans ((if_neg (by omega)).trans ((if_neg (by omega)).trans ((if_neg (by omega)).trans (if_pos rfl))))
theorem rdN_rd : rdN n σ = rdM (mZ σ) 0 0 0 0 (rdN n σ) := by
  refine Prod.ext ?_ rfl
  funext b j
  show mI (rdN n σ) b j = if b = mZ σ ∧ 2 ≤ j ∧ j ≤ 5 then iI (if j = 2 then 0 else if j = 3 then 0 else if j = 4 then 0 else 0) else mI (rdN n σ) b j
  by_cases c : b = mZ σ ∧ 2 ≤ j ∧ j ≤ 5
  · rw [if_pos c]
    show (if b = mZ σ ∧ j = 0 then _ else if mZ σ ≤ b ∧ b < mZ σ + 5 then _ else mI σ b j) = _
    rw [if_neg (by omega), if_pos (by omega)]
    split
    · rfl
    · split
      · rfl
      · split <;> rfl
  · rw [if_neg c]
theorem nA_y {β : Type} {k : Nat} (hz : mZ σ + 1 ≤ 1200000) (hy : mY σ + 16 ≤ 5502250) {f : Option Nat → Mem → Option β} : nA σ k (iI 16) f = f (some (mZ σ)) (mNew σ k 16) := by
  have i16 : ix (iI 16) = 16 := by decide
  unfold nA
  rw [i16, if_pos ⟨⟨by decide, by decide⟩, hz, hy⟩]
theorem nO_y {β : Type} {k m : Nat} (hz : mZ σ + 1 ≤ 1200000) (hy : mY σ + m ≤ 5502250) {f : Option Nat → Mem → Option β} : nO σ k m f = f (some (mZ σ)) (mNew σ k m) := if_pos ⟨hz, hy⟩
theorem f_init9 (hz : mZ σ + 5 ≤ 1200000) (hy : mY σ + 59 ≤ 5502250) : sX9_init (some (mZ σ)) (some 0) (iI n) (mNew σ 7 7) = some ((), rdN n σ) := by
  obtain ⟨s1, hs1⟩ : ∃ s1 : Mem, s1 = (mI (mNew σ 7 7), up2 (mP (mNew σ 7 7)) (mZ σ) 6 (some 0), (mNew σ 7 7).2.2) := ⟨_, rfl⟩
  have z1 : mZ s1 = mZ σ + 1 := by rw [hs1]; rfl
  have y1 : mY s1 = mY σ + 7 := by rw [hs1]; rfl
  have k1 : mK s1 = up1 (mK σ) (mZ σ) (7, 7) := by rw [hs1]; rfl
  have u1 : ∀ (K : Nat → Nat × Nat) (a : Nat) (v : Nat × Nat), up1 K a v a = v := fun K a v => if_pos rfl
  have u1n : ∀ (K : Nat → Nat × Nat) (a b : Nat) (v : Nat × Nat), b ≠ a → up1 K a v b = K b := fun K a b v h => if_neg h
  have kr : (mK (mNew σ 7 7) (mZ σ)).1 = 7 := by show (up1 (mK σ) (mZ σ) (7, 7) (mZ σ)).1 = 7; rw [u1]
  unfold sX9_init sX5_init
  rw [pR_y kr, ← hs1, cI_y, nO_y (by omega) (by omega), cI_y, cI_y, z1]
  obtain ⟨s2, hs2⟩ : ∃ s2 : Mem, s2 = mNew s1 4 4 := ⟨_, rfl⟩
  have z2 : mZ s2 = mZ σ + 2 := by rw [hs2]; show mZ s1 + 1 = _; omega
  have y2 : mY s2 = mY σ + 11 := by rw [hs2]; show mY s1 + 4 = _; omega
  have k2 : mK s2 = up1 (mK s1) (mZ σ + 1) (4, 4) := by rw [hs2]; show up1 (mK s1) (mZ s1) (4, 4) = _; rw [z1]
  rw [← hs2, nA_y (by omega) (by omega), z2]
  obtain ⟨s3, hs3⟩ : ∃ s3 : Mem, s3 = mNew s2 20 16 := ⟨_, rfl⟩
  have k3 : mK s3 = up1 (mK s2) (mZ σ + 2) (20, 16) := by rw [hs3]; show up1 (mK s2) (mZ s2) (20, 16) = _; rw [z2]
  rw [← hs3, pR_y (by rw [k3, u1n _ _ _ _ (by omega), k2, u1])]
  obtain ⟨s4, hs4⟩ : ∃ s4 : Mem, s4 = (mI s3, up2 (mP s3) (mZ σ + 1) 0 (some (mZ σ + 2)), s3.2.2) := ⟨_, rfl⟩
  have z4 : mZ s4 = mZ σ + 3 := by rw [hs4, hs3]; show mZ s2 + 1 = _; omega
  have y4 : mY s4 = mY σ + 27 := by rw [hs4, hs3]; show mY s2 + 16 = _; omega
  have k4 : mK s4 = mK s3 := by rw [hs4]
  rw [← hs4, nA_y (by omega) (by omega), z4]
  obtain ⟨s5, hs5⟩ : ∃ s5 : Mem, s5 = mNew s4 24 16 := ⟨_, rfl⟩
  have k5 : mK s5 = up1 (mK s4) (mZ σ + 3) (24, 16) := by rw [hs5]; show up1 (mK s4) (mZ s4) (24, 16) = _; rw [z4]
  rw [← hs5, pR_y (by rw [k5, u1n _ _ _ _ (by omega), k4, k3, u1n _ _ _ _ (by omega), k2, u1])]
  obtain ⟨s6, hs6⟩ : ∃ s6 : Mem, s6 = (mI s5, up2 (mP s5) (mZ σ + 1) 1 (some (mZ σ + 3)), s5.2.2) := ⟨_, rfl⟩
  have z6 : mZ s6 = mZ σ + 4 := by rw [hs6, hs5]; show mZ s4 + 1 = _; omega
  have y6 : mY s6 = mY σ + 43 := by rw [hs6, hs5]; show mY s4 + 16 = _; omega
  have k6 : mK s6 = mK s5 := by rw [hs6]
  rw [← hs6, nA_y (by omega) (by omega), z6]
  obtain ⟨s7, hs7⟩ : ∃ s7 : Mem, s7 = mNew s6 25 16 := ⟨_, rfl⟩
  have k7 : mK s7 = up1 (mK s6) (mZ σ + 4) (25, 16) := by rw [hs7]; show up1 (mK s6) (mZ s6) (25, 16) = _; rw [z6]
  rw [← hs7, pR_y (by rw [k7, u1n _ _ _ _ (by omega), k6, k5, u1n _ _ _ _ (by omega), k4, k3, u1n _ _ _ _ (by omega), k2, u1]), clw]
  obtain ⟨s8, hs8⟩ : ∃ s8 : Mem, s8 = (mI s7, up2 (mP s7) (mZ σ + 1) 2 (some (mZ σ + 4)), s7.2.2) := ⟨_, rfl⟩
  have k8 : mK s8 = mK s7 := by rw [hs8]
  have kz : (mK s8 (mZ σ)).1 = 7 := by rw [k8, k7, u1n _ _ _ _ (by omega), k6, k5, u1n _ _ _ _ (by omega), k4, k3, u1n _ _ _ _ (by omega), k2, u1n _ _ _ _ (by omega), k1, u1]
  rw [← hs8, pR_y kz, pI_y (σ := (mI s8, up2 (mP s8) (mZ σ) 1 (some (mZ σ + 1)), s8.2.2)) kz]
  have zr : ∀ {α : Type} (F : Nat → Nat → α) (a : Nat) (v : α) (b j : Nat), zr2 F a v b j = if b = a then v else F b j := fun F a v b j => rfl
  have up : ∀ {α : Type} (F : Nat → Nat → α) (a k : Nat) (v : α) (b j : Nat), up2 F a k v b j = if b = a ∧ j = k then v else F b j := fun F a k v b j => rfl
  have I1 : ∀ b j, mI s1 b j = if b = mZ σ then 0 else mI σ b j := fun b j => by rw [hs1]; rfl
  have I2 : ∀ b j, mI s2 b j = if b = mZ σ + 1 then 0 else mI s1 b j := fun b j => by rw [hs2]; show zr2 (mI s1) (mZ s1) 0 b j = _; rw [z1]; rfl
  have I3 : ∀ b j, mI s3 b j = if b = mZ σ + 2 then 0 else mI s2 b j := fun b j => by rw [hs3]; show zr2 (mI s2) (mZ s2) 0 b j = _; rw [z2]; rfl
  have I4 : ∀ b j, mI s4 b j = mI s3 b j := fun b j => by rw [hs4]
  have I5 : ∀ b j, mI s5 b j = if b = mZ σ + 3 then 0 else mI s4 b j := fun b j => by rw [hs5]; show zr2 (mI s4) (mZ s4) 0 b j = _; rw [z4]; rfl
  have I6 : ∀ b j, mI s6 b j = mI s5 b j := fun b j => by rw [hs6]
  have I7 : ∀ b j, mI s7 b j = if b = mZ σ + 4 then 0 else mI s6 b j := fun b j => by rw [hs7]; show zr2 (mI s6) (mZ s6) 0 b j = _; rw [z6]; rfl
  have I8 : ∀ b j, mI s8 b j = mI s7 b j := fun b j => by rw [hs8]
  have P1 : ∀ b j, mP s1 b j = if b = mZ σ ∧ j = 6 then some 0 else if b = mZ σ then none else mP σ b j := fun b j => by rw [hs1]; rfl
  have P2 : ∀ b j, mP s2 b j = if b = mZ σ + 1 then none else mP s1 b j := fun b j => by rw [hs2]; show zr2 (mP s1) (mZ s1) none b j = _; rw [z1]; rfl
  have P3 : ∀ b j, mP s3 b j = if b = mZ σ + 2 then none else mP s2 b j := fun b j => by rw [hs3]; show zr2 (mP s2) (mZ s2) none b j = _; rw [z2]; rfl
  have P4 : ∀ b j, mP s4 b j = if b = mZ σ + 1 ∧ j = 0 then some (mZ σ + 2) else mP s3 b j := fun b j => by rw [hs4]; rfl
  have P5 : ∀ b j, mP s5 b j = if b = mZ σ + 3 then none else mP s4 b j := fun b j => by rw [hs5]; show zr2 (mP s4) (mZ s4) none b j = _; rw [z4]; rfl
  have P6 : ∀ b j, mP s6 b j = if b = mZ σ + 1 ∧ j = 1 then some (mZ σ + 3) else mP s5 b j := fun b j => by rw [hs6]; rfl
  have P7 : ∀ b j, mP s7 b j = if b = mZ σ + 4 then none else mP s6 b j := fun b j => by rw [hs7]; show zr2 (mP s6) (mZ s6) none b j = _; rw [z6]; rfl
  have P8 : ∀ b j, mP s8 b j = if b = mZ σ + 1 ∧ j = 2 then some (mZ σ + 4) else mP s7 b j := fun b j => by rw [hs8]; rfl
  have Z8 : mZ s8 = mZ σ + 5 := by rw [hs8, hs7]; show mZ s6 + 1 = _; omega
  have Y8 : mY s8 = mY σ + 59 := by rw [hs8, hs7]; show mY s6 + 16 = _; omega
  refine congrArg (fun s => some ((), s)) (Prod.ext ?_ (Prod.ext ?_ (Prod.ext ?_ (Prod.ext ?_ ?_))))
  · funext b j
    show (if b = mZ σ ∧ j = 0 then iI n else mI s8 b j) = if b = mZ σ ∧ j = 0 then iI n else if mZ σ ≤ b ∧ b < mZ σ + 5 then 0 else mI σ b j
    by_cases c : b = mZ σ ∧ j = 0
    · rw [if_pos c, if_pos c]
    · rw [if_neg c, if_neg c, I8, I7, I6, I5, I4, I3, I2, I1]
      by_cases d : mZ σ ≤ b ∧ b < mZ σ + 5
      · rw [if_pos d]
        repeat' split
        all_goals first | rfl | omega
      · rw [if_neg d, if_neg (by omega), if_neg (by omega), if_neg (by omega), if_neg (by omega), if_neg (by omega)]
  · funext b j
    show (if b = mZ σ ∧ j = 1 then some (mZ σ + 1) else mP s8 b j) = if b = mZ σ then (if j = 1 then some (mZ σ + 1) else if j = 6 then some 0 else none) else if b = mZ σ + 1 then (if j = 0 then some (mZ σ + 2) else if j = 1 then some (mZ σ + 3) else if j = 2 then some (mZ σ + 4) else none) else if mZ σ ≤ b ∧ b < mZ σ + 5 then none else mP σ b j
    rw [P8, P7, P6, P5, P4, P3, P2, P1]
    repeat' split
    all_goals first | rfl | omega
  · funext b
    show mK s8 b = if b = mZ σ then (7, 7) else if b = mZ σ + 1 then (4, 4) else if b = mZ σ + 2 then (20, 16) else if b = mZ σ + 3 then (24, 16) else if b = mZ σ + 4 then (25, 16) else mK σ b
    have U : ∀ (K : Nat → Nat × Nat) (a : Nat) (v : Nat × Nat), up1 K a v b = if b = a then v else K b := fun K a v => rfl
    rw [k8, k7, U, k6, k5, U, k4, k3, U, k2, U, k1, U]
    repeat' split
    all_goals first | rfl | omega
  · exact Z8
  · exact Y8
end
