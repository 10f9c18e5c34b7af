/-! DEPS: yr -/
/-! YS: TermLog's reader: its small steps -/
/-- the reader's place, how deep, its fault and where -/
def rdM (rd : Nat) (p o ft pl : Int) (σ : Mem) : Mem := (fun b j => if b = rd ∧ 2 ≤ j ∧ j ≤ 5 then iI (if j = 2 then p else if j = 3 then o else if j = 4 then ft else pl) else mI σ b j, σ.2)
/-- the reader rd reads n letters T -/
def RE (rd : Nat) (n : Int) (T : Int → Int) (σ : Mem) : Prop := (mK σ rd).1 = 7 ∧ rd < mZ σ ∧ 3799 ≤ rd ∧ mI σ rd 0 = iI n ∧ (1 ≤ n ∧ n ≤ 240) ∧ mP σ rd 6 = some 0 ∧ (mK σ 0).1 = 0 ∧ mP σ 0 4 = some 3767 ∧ mK σ 3767 = (21, 260) ∧ (∀ i : Int, 0 ≤ i → i < n → mI σ 3767 i.toNat &&& iI 255 = iI (T i)) ∧ ∀ i, 0 ≤ T i ∧ T i ≤ 255
/-- σ' is σ and more cells: at most c, of three slots; what lies below lo is as it was -/
def Grow (lo : Nat) (σ σ' : Mem) (c : Int) : Prop := (∀ b, b < lo → mK σ' b = mK σ b ∧ (∀ j, mI σ' b j = mI σ b j) ∧ ∀ j, mP σ' b j = mP σ b j) ∧ mZ σ ≤ mZ σ' ∧ (mZ σ' : Int) ≤ mZ σ + c ∧ (mY σ' : Int) ≤ mY σ + 3 * c ∧ ∀ b, (mK σ' b).1 = 2 → (mK σ b).1 = 2
def Room (σ : Mem) (c : Int) : Prop := (mZ σ : Int) + c ≤ 1200000 ∧ (mY σ : Int) + 3 * c ≤ 5502250
theorem Grow.rfl' {lo : Nat} {σ : Mem} : Grow lo σ σ 0 := ⟨fun b _ => ⟨rfl, fun _ => rfl, fun _ => rfl⟩, Nat.le_refl _, by omega, by omega, fun _ h => h⟩
theorem Grow.le {lo : Nat} {σ σ' : Mem} {c c' : Int} (h : Grow lo σ σ' c) (hc : c ≤ c') : Grow lo σ σ' c' := ⟨h.1, h.2.1, by have := h.2.2.1; omega, by have := h.2.2.2.1; omega, h.2.2.2.2⟩
theorem Grow.dn {lo lo' : Nat} {σ σ' : Mem} {c : Int} (h : Grow lo σ σ' c) (hc : lo' ≤ lo) : Grow lo' σ σ' c := ⟨fun b hb => h.1 b (by omega), h.2⟩
theorem Grow.trans {lo : Nat} {σ σ' σ'' : Mem} {c c' : Int} (h : Grow lo σ σ' c) (h' : Grow lo σ' σ'' c') : Grow lo σ σ'' (c + c') := by
  obtain ⟨a1, a2, a3, a4, a5⟩ := h
  obtain ⟨b1, b2, b3, b4, b5⟩ := h'
  exact ⟨fun b hb => ⟨(b1 b hb).1.trans (a1 b hb).1, fun j => ((b1 b hb).2.1 j).trans ((a1 b hb).2.1 j), fun j => ((b1 b hb).2.2 j).trans ((a1 b hb).2.2 j)⟩, by omega, by omega, by omega, fun b hb => a5 b (b5 b hb)⟩
theorem grow_new {lo k m : Nat} {σ : Mem} (h : lo ≤ mZ σ) (hm : m ≤ 3) (hk : k ≠ 2 := by omega) : Grow lo σ (mNew σ k m) 1 := by
  refine ⟨fun b hb => ⟨if_neg (by omega), fun j => if_neg (by omega), fun j => if_neg (by omega)⟩, ?_, ?_, ?_, ?_⟩
  · show mZ σ ≤ mZ σ + 1; omega
  · show ((mZ σ + 1 : Nat) : Int) ≤ _; omega
  · show ((mY σ + m : Nat) : Int) ≤ _; omega
  · intro b hb
    have hb : (if b = mZ σ then (k, m) else mK σ b : Nat × Nat).1 = 2 := hb
    by_cases c : b = mZ σ
    · rw [if_pos c] at hb; exact absurd hb hk
    · rw [if_neg c] at hb; exact hb
theorem grow_I {lo a s : Nat} {v : Int32} {σ : Mem} (h : lo ≤ a) : Grow lo σ (up2 (mI σ) a s v, σ.2) 0 := ⟨fun b hb => ⟨rfl, fun j => if_neg (by omega), fun j => rfl⟩, Nat.le_refl _, by show (mZ σ : Int) ≤ _; omega, by show (mY σ : Int) ≤ _; omega, fun _ h => h⟩
theorem grow_P {lo a s : Nat} {v : Option Nat} {σ : Mem} (h : lo ≤ a) : Grow lo σ (mI σ, up2 (mP σ) a s v, σ.2.2) 0 := ⟨fun b hb => ⟨rfl, fun j => rfl, fun j => if_neg (by omega)⟩, Nat.le_refl _, by show (mZ σ : Int) ≤ _; omega, by show (mY σ : Int) ≤ _; omega, fun _ h => h⟩
theorem Grow.re {rd lo : Nat} {n c : Int} {T : Int → Int} {σ σ' : Mem} (g : Grow lo σ σ' c) (h : RE rd n T σ) (hl : rd < lo) : RE rd n T σ' := by
  obtain ⟨a1, a2, a3, a4, a5, a6, a7, a8, a9, a10, a11⟩ := h
  obtain ⟨g1, g2, g3, g4⟩ := g
  refine ⟨by rw [(g1 rd hl).1]; exact a1, by omega, a3, by rw [(g1 rd hl).2.1]; exact a4, a5, by rw [(g1 rd hl).2.2]; exact a6, by rw [(g1 0 (by omega)).1]; exact a7, by rw [(g1 0 (by omega)).2.2]; exact a8, by rw [(g1 3767 (by omega)).1]; exact a9, fun i i0 i1 => by rw [(g1 3767 (by omega)).2.1]; exact a10 i i0 i1, a11⟩
/-- the letter at a place; behind the end: 0 -/
def h0A (T : Int → Int) (n p : Int) : Int := if p < n then T p else 0
section
variable {β : Type} {rd : Nat} {n : Int} {T : Int → Int} {σ : Mem} {p o ft pl : Int}
theorem cV_r (h : RE rd n T σ) {f : Option β} : cV (rdM rd p o ft pl σ) (some rd) 7 f = f := cV_y (σ := rdM rd p o ft pl σ) h.1
theorem gI_r0 (h : RE rd n T σ) {f : Int32 → Option β} : gI (rdM rd p o ft pl σ) (some rd) 7 0 f = f (iI n) := by
  rw [gI_y (σ := rdM rd p o ft pl σ) h.1]
  refine congrArg f ?_
  show (if rd = rd ∧ 2 ≤ 0 ∧ 0 ≤ 5 then _ else mI σ rd 0) = _
  rw [if_neg (by omega)]
  exact h.2.2.2.1
theorem gI_r2 (h : RE rd n T σ) {f : Int32 → Option β} : gI (rdM rd p o ft pl σ) (some rd) 7 2 f = f (iI p) := by
  rw [gI_y (σ := rdM rd p o ft pl σ) h.1]
  exact congrArg f (if_pos ⟨rfl, by omega, by omega⟩)
theorem gI_r3 (h : RE rd n T σ) {f : Int32 → Option β} : gI (rdM rd p o ft pl σ) (some rd) 7 3 f = f (iI o) := by
  rw [gI_y (σ := rdM rd p o ft pl σ) h.1]
  exact congrArg f (if_pos ⟨rfl, by omega, by omega⟩)
theorem gI_r4 (h : RE rd n T σ) {f : Int32 → Option β} : gI (rdM rd p o ft pl σ) (some rd) 7 4 f = f (iI ft) := by
  rw [gI_y (σ := rdM rd p o ft pl σ) h.1]
  exact congrArg f (if_pos ⟨rfl, by omega, by omega⟩)
theorem gI_r5 (h : RE rd n T σ) {f : Int32 → Option β} : gI (rdM rd p o ft pl σ) (some rd) 7 5 f = f (iI pl) := by
  rw [gI_y (σ := rdM rd p o ft pl σ) h.1]
  exact congrArg f (if_pos ⟨rfl, by omega, by omega⟩)
theorem gR_r {k : Nat} (h : RE rd n T σ) {f : Option Nat → Option β} : gR (rdM rd p o ft pl σ) (some rd) 7 k f = f (mP σ rd k) := gR_y (σ := rdM rd p o ft pl σ) h.1
theorem pI_r2 (h : RE rd n T σ) {v : Int} {f : Mem → Option β} : pI (rdM rd p o ft pl σ) (some rd) 7 2 (iI v) f = f (rdM rd v o ft pl σ) := by
  rw [pI_y (σ := rdM rd p o ft pl σ) h.1]
  refine congrArg f (Prod.ext ?_ rfl)
  funext b j
  show (if b = rd ∧ j = 2 then iI v else if b = rd ∧ 2 ≤ j ∧ j ≤ 5 then iI (if j = 2 then p else if j = 3 then o else if j = 4 then ft else pl) else mI σ b j) = if b = rd ∧ 2 ≤ j ∧ j ≤ 5 then iI (if j = 2 then v else if j = 3 then o else if j = 4 then ft else pl) else mI σ b j
  by_cases c : b = rd ∧ j = 2
  · rw [if_pos c, if_pos (by omega), if_pos c.2]
  · rw [if_neg c]
    by_cases d : b = rd ∧ 2 ≤ j ∧ j ≤ 5
    · rw [if_pos d, if_pos d]
      have c2 : ¬ j = 2 := fun z => c ⟨d.1, z⟩
      rw [if_neg c2, if_neg c2]
    · rw [if_neg d, if_neg d]
theorem pI_r3 (h : RE rd n T σ) {v : Int} {f : Mem → Option β} : pI (rdM rd p o ft pl σ) (some rd) 7 3 (iI v) f = f (rdM rd p v ft pl σ) := by
  rw [pI_y (σ := rdM rd p o ft pl σ) h.1]
  refine congrArg f (Prod.ext ?_ rfl)
  funext b j
  show (if b = rd ∧ j = 3 then iI v else if b = rd ∧ 2 ≤ j ∧ j ≤ 5 then iI (if j = 2 then p else if j = 3 then o else if j = 4 then ft else pl) else mI σ b j) = if b = rd ∧ 2 ≤ j ∧ j ≤ 5 then iI (if j = 2 then p else if j = 3 then v else if j = 4 then ft else pl) else mI σ b j
  by_cases c : b = rd ∧ j = 3
  · rw [if_pos c, if_pos (by omega), if_neg (by omega), if_pos c.2]
  · rw [if_neg c]
    by_cases d : b = rd ∧ 2 ≤ j ∧ j ≤ 5
    · rw [if_pos d, if_pos d]
      refine congrArg iI ?_
      split
      · rfl
      · have c2 : ¬ j = 3 := fun z => c ⟨d.1, z⟩
        rw [if_neg c2, if_neg c2]
    · rw [if_neg d, if_neg d]
theorem pI_r4 (h : RE rd n T σ) {v : Int} {f : Mem → Option β} : pI (rdM rd p o ft pl σ) (some rd) 7 4 (iI v) f = f (rdM rd p o v pl σ) := by
  rw [pI_y (σ := rdM rd p o ft pl σ) h.1]
  refine congrArg f (Prod.ext ?_ rfl)
  funext b j
  show (if b = rd ∧ j = 4 then iI v else if b = rd ∧ 2 ≤ j ∧ j ≤ 5 then iI (if j = 2 then p else if j = 3 then o else if j = 4 then ft else pl) else mI σ b j) = if b = rd ∧ 2 ≤ j ∧ j ≤ 5 then iI (if j = 2 then p else if j = 3 then o else if j = 4 then v else pl) else mI σ b j
  by_cases c : b = rd ∧ j = 4
  · rw [if_pos c, if_pos (by omega), if_neg (by omega), if_neg (by omega), if_pos c.2]
  · rw [if_neg c]
    by_cases d : b = rd ∧ 2 ≤ j ∧ j ≤ 5
    · rw [if_pos d, if_pos d]
      refine congrArg iI ?_
      split
      · rfl
      · split
        · rfl
        · have c2 : ¬ j = 4 := fun z => c ⟨d.1, z⟩
          rw [if_neg c2, if_neg c2]
    · rw [if_neg d, if_neg d]
theorem pI_r5 (h : RE rd n T σ) {v : Int} {f : Mem → Option β} : pI (rdM rd p o ft pl σ) (some rd) 7 5 (iI v) f = f (rdM rd p o ft v σ) := by
  rw [pI_y (σ := rdM rd p o ft pl σ) h.1]
  refine congrArg f (Prod.ext ?_ rfl)
  funext b j
  show (if b = rd ∧ j = 5 then iI v else if b = rd ∧ 2 ≤ j ∧ j ≤ 5 then iI (if j = 2 then p else if j = 3 then o else if j = 4 then ft else pl) else mI σ b j) = if b = rd ∧ 2 ≤ j ∧ j ≤ 5 then iI (if j = 2 then p else if j = 3 then o else if j = 4 then ft else v) else mI σ b j
  by_cases c : b = rd ∧ j = 5
  · rw [if_pos c, if_pos (by omega), if_neg (by omega), if_neg (by omega), if_neg (by omega)]
  · rw [if_neg c]
    by_cases d : b = rd ∧ 2 ≤ j ∧ j ≤ 5
    · rw [if_pos d, if_pos d]
      refine congrArg iI ?_
      split
      · rfl
      · split
        · rfl
        · have c2 : j = 4 := by have := fun z => c ⟨d.1, z⟩; omega
          rw [if_pos c2, if_pos c2]
    · rw [if_neg d, if_neg d]
/-- another cell is written -/
theorem pI_ro {a ci s : Nat} {v : Int32} (ha : a ≠ rd) (hk : (mK σ a).1 = ci) {f : Mem → Option β} : pI (rdM rd p o ft pl σ) (some a) ci s v f = f (rdM rd p o ft pl (up2 (mI σ) a s v, σ.2)) := by
  rw [pI_y (σ := rdM rd p o ft pl σ) hk]
  refine congrArg f (Prod.ext ?_ rfl)
  funext b j
  show (if b = a ∧ j = s then v else if b = rd ∧ 2 ≤ j ∧ j ≤ 5 then _ else mI σ b j) = if b = rd ∧ 2 ≤ j ∧ j ≤ 5 then _ else if b = a ∧ j = s then v else mI σ b j
  by_cases c : b = a ∧ j = s
  · rw [if_pos c, if_neg (by omega), if_pos c]
  · rw [if_neg c, if_neg c]
theorem pR_ro {a ci s : Nat} {v : Option Nat} (hk : (mK σ a).1 = ci) {f : Mem → Option β} : pR (rdM rd p o ft pl σ) (some a) ci s v f = f (rdM rd p o ft pl (mI σ, up2 (mP σ) a s v, σ.2.2)) := pR_y (σ := rdM rd p o ft pl σ) hk
theorem gR_ro {a ci s : Nat} (hk : (mK σ a).1 = ci) {f : Option Nat → Option β} : gR (rdM rd p o ft pl σ) (some a) ci s f = f (mP σ a s) := gR_y (σ := rdM rd p o ft pl σ) hk
theorem gI_ro {a ci s : Nat} (ha : a ≠ rd) (hk : (mK σ a).1 = ci) {f : Int32 → Option β} : gI (rdM rd p o ft pl σ) (some a) ci s f = f (mI σ a s) := by
  rw [gI_y (σ := rdM rd p o ft pl σ) hk]
  refine congrArg f (if_neg (by omega))
theorem nO_r {k m : Nat} (hr : rd < mZ σ) (h : Room σ 1) (hm : m ≤ 3) {f : Option Nat → Mem → Option β} : nO (rdM rd p o ft pl σ) k m f = f (some (mZ σ)) (rdM rd p o ft pl (mNew σ k m)) := by
  obtain ⟨h1, h2⟩ := h
  have c : mZ (rdM rd p o ft pl σ) + 1 ≤ 1200000 ∧ mY (rdM rd p o ft pl σ) + m ≤ 5502250 := by
    constructor
    · show mZ σ + 1 ≤ 1200000; omega
    · show mY σ + m ≤ 5502250; omega
  refine (if_pos c).trans ?_
  show f (some (mZ σ)) (mNew (rdM rd p o ft pl σ) k m) = _
  refine congrArg (f (some (mZ σ))) (Prod.ext ?_ rfl)
  funext b j
  show (if b = mZ σ then 0 else if b = rd ∧ 2 ≤ j ∧ j ≤ 5 then _ else mI σ b j) = if b = rd ∧ 2 ≤ j ∧ j ≤ 5 then _ else if b = mZ σ then 0 else mI σ b j
  by_cases d : b = mZ σ
  · rw [if_pos d, if_neg (by omega), if_pos d]
  · rw [if_neg d, if_neg d]
theorem h0_r (h : RE rd n T σ) : 0 ≤ h0A T n p ∧ h0A T n p ≤ 255 := by
  have := h.2.2.2.2.2.2.2.2.2.2 p
  unfold h0A
  split <;> omega
theorem h0_eq {c : Int} (hc : 1 ≤ c) : (h0A T n p = c) ↔ (hrA T n p = c) := by
  unfold h0A hrA
  split
  · exact Iff.rfl
  · omega
theorem h0_in {c : Int} (hc : 1 ≤ c) (h : hrA T n p = c) : p < n := by
  unfold hrA at h
  split at h
  · assumption
  · omega
theorem f_here (h : RE rd n T σ) (p0 : 0 ≤ p) (p1 : p ≤ 100000) : sX9_here (some rd) (rdM rd p o ft pl σ) = some (iI (h0A T n p), rdM rd p o ft pl σ) := by
  obtain ⟨a1, a2, a3, a4, a5, a6, a7, a8, a9, a10, a11⟩ := id h
  unfold sX9_here h0A
  rw [gI_r2 h, gI_r0 h]
  have E : (iI n ≤ iI p) = (n ≤ p) := iv_le (by omega) (by omega) (by omega) (by omega)
  by_cases c : n ≤ p
  · rw [if_pos (by rw [E]; exact c), if_neg (by omega)]
  · rw [if_neg (by rw [E]; exact c), if_pos (by omega), gR_r h, a6, gR_ro a7, a8, gI_r2 h]
    have k : (mK (rdM rd p o ft pl σ) 3767).1 = 21 ∧ inR (iI p) (mK (rdM rd p o ft pl σ) 3767).2 := by
      show (mK σ 3767).1 = 21 ∧ inR (iI p) (mK σ 3767).2
      rw [a9, iv_in (by omega) (by omega)]
      exact ⟨rfl, by omega, by show p < ((260 : Nat) : Int); omega⟩
    refine (if_pos k).trans ?_
    rw [iv_ix p0 (by omega)]
    show some ((if 3767 = rd ∧ 2 ≤ p.toNat ∧ p.toNat ≤ 5 then _ else mI σ 3767 p.toNat) &&& iI 255, _) = _
    rw [if_neg (by omega), a10 p p0 (by omega)]
theorem f_good0 (h : RE rd n T σ) : sX9_isGood (some rd) (rdM rd p o 0 pl σ) = some (iI 1, rdM rd p o 0 pl σ) := by
  unfold sX9_isGood
  rw [gI_r4 h, if_pos rfl, rZ1]
theorem f_good1 (h : RE rd n T σ) (c1 : 1 ≤ ft) (c2 : ft ≤ 5) : sX9_isGood (some rd) (rdM rd p o ft pl σ) = some (iI 0, rdM rd p o ft pl σ) := by
  unfold sX9_isGood
  rw [gI_r4 h, if_neg (by rw [iv_eq (by omega) (by omega) (by omega) (by omega)]; omega), rZ0]
theorem f_bad0 (h : RE rd n T σ) {e w : Int} : sX9_bad (some rd) (iI e) (iI w) (rdM rd p o 0 pl σ) = some ((), rdM rd p o e w σ) := by
  unfold sX9_bad
  rw [gI_r4 h, if_pos (by decide), pI_r4 h, pI_r5 h]
theorem f_bad1 (h : RE rd n T σ) {e w : Int32} (c1 : 1 ≤ ft) (c2 : ft ≤ 5) : sX9_bad (some rd) e w (rdM rd p o ft pl σ) = some ((), rdM rd p o ft pl σ) := by
  unfold sX9_bad
  rw [gI_r4 h, if_neg (by rw [iv_le (by omega) (by omega) (by omega) (by omega)]; omega)]
theorem f_must (h : RE rd n T σ) (p0 : 0 ≤ p) (p1 : p ≤ 100000) {c : Int} (c0 : 1 ≤ c) (c1 : c ≤ 255) : sX9_must (some rd) (iI c) (rdM rd p o 0 0 σ) = some ((), if hrA T n p = c then rdM rd (p + 1) o 0 0 σ else rdM rd (p + 1) o 1 p σ) := by
  have r := h0_r (p := p) h
  unfold sX9_must sX9_must_17
  have E : (iI (h0A T n p) = iI c) = (h0A T n p = c) := iv_eq (by omega) (by omega) (by omega) (by omega)
  rw [cV_r h, f_here h p0 p1, clw]
  by_cases q : hrA T n p = c
  · rw [if_pos (by rw [E]; exact (h0_eq c0).mpr q), if_pos q, gI_r2 h, iv_add, pI_r2 h]
  · rw [if_neg (by rw [E]; exact fun z => q ((h0_eq c0).mp z)), if_neg q, gI_r2 h, cV_r h, f_bad0 h, clw, gI_r2 h, iv_add, pI_r2 h]
theorem f_opens (h : RE rd n T σ) (o0 : 0 ≤ o) (o1 : o ≤ 6) : sX9_opens (some rd) (rdM rd p o 0 0 σ) = some ((), if o = 6 then rdM rd (p + 1) 7 5 p σ else rdM rd (p + 1) (o + 1) 0 0 σ) := by
  unfold sX9_opens sX9_opens_18
  have E : (iI o = iI 6) = (o = 6) := iv_eq (by omega) (by omega) (by omega) (by omega)
  rw [gI_r3 h]
  by_cases q : o = 6
  · rw [if_pos (by rw [E]; exact q), if_pos q, gI_r2 h, cV_r h, f_bad0 h, clw, gI_r3 h, iv_add, pI_r3 h, gI_r2 h, iv_add, pI_r2 h, q]
    rfl
  · rw [if_neg (by rw [E]; exact q), if_neg q, gI_r3 h, iv_add, pI_r3 h, gI_r2 h, iv_add, pI_r2 h]
theorem f_dig (h : RE rd n T σ) (p0 : 0 ≤ p) (p1 : p ≤ 100000) : sX9_seesDigit (some rd) (rdM rd p o ft pl σ) = some (bI (isDig (hrA T n p)), rdM rd p o ft pl σ) := by
  have r := h0_r (p := p) h
  have e : isDig (hrA T n p) ↔ 48 ≤ h0A T n p ∧ h0A T n p ≤ 57 := by
    unfold isDig h0A hrA
    split <;> omega
  unfold sX9_seesDigit
  have E1 : (iI (h0A T n p) < iI 48) = (h0A T n p < 48) := iv_lt (by omega) (by omega) (by omega) (by omega)
  have E2 : (iI 57 < iI (h0A T n p)) = (57 < h0A T n p) := iv_lt (by omega) (by omega) (by omega) (by omega)
  rw [cV_r h, f_here h p0 p1, clw]
  by_cases c1 : h0A T n p < 48
  · rw [if_pos (by rw [E1]; exact c1), rZ0, bI_f (fun z => by have := e.mp z; omega)]
  · rw [if_neg (by rw [E1]; exact c1), cV_r h, f_here h p0 p1, clw]
    by_cases c2 : 57 < h0A T n p
    · rw [if_pos (by rw [E2]; exact c2), rZ0, bI_f (fun z => by have := e.mp z; omega)]
    · rw [if_neg (by rw [E2]; exact c2), rZ1, bI_t (e.mpr (by omega))]
/-- a number -/
theorem f_num (h : RE rd n T σ) {first : Int} (f0 : 0 ≤ first) : ∀ (f fu : Nat) (v p : Int), 1 ≤ f → f ≤ 6 → f + 2 ≤ fu → p = first + 6 - f → p ≤ n → match rNumL T n first f v p with
    | .inl x => ∃ u, sX9_number_7 fu (some rd) (iI first) (iI v) (rdM rd p o 0 0 σ) = some (u, rdM rd (x.2 + 1) o x.1 x.2 σ) ∧ x.1 = 2 ∧ p ≤ x.2 ∧ x.2 < n
    | .inr x => sX9_number_7 fu (some rd) (iI first) (iI v) (rdM rd p o 0 0 σ) = some (iI x.1, rdM rd x.2 o 0 0 σ) ∧ p ≤ x.2 ∧ x.2 ≤ n ∧ (isDig (hrA T n p) → p < x.2)
  | 0, fu, v, p, a1, a2, a3, a4, a5 => by omega
  | f + 1, 0, v, p, a1, a2, a3, a4, a5 => by omega
  | f + 1, fu + 1, v, p, a1, a2, a3, a4, a5 => by
    obtain ⟨b1, b2, b3, b4, b5, b6, b7, b8, b9, b10, b11⟩ := id h
    have r := h0_r (p := p) h
    have ih := f_num h f0 f fu (10 * v + hrA T n p - 48) (p + 1)
    have e7 : sX9_number_7 (fu + 1) = sX9_number_7b (sX9_number_7 fu) := rfl
    have hlt : isDig (hrA T n p) → p < n := fun z => h0_in (c := hrA T n p) (by unfold isDig at z; omega) rfl
    rw [e7]
    unfold rNumL
    have e40 : ∀ ft pl, p < n → sX9_number_40 (sX9_number_7 fu) (some rd) (iI first) (iI v) (rdM rd p o ft pl σ) = sX9_number_7 fu (some rd) (iI first) (iI (10 * v + hrA T n p - 48)) (rdM rd (p + 1) o ft pl σ) := by
      intro ft pl hp
      have e : h0A T n p = hrA T n p := by unfold h0A hrA; rw [if_pos hp, if_pos hp]
      unfold sX9_number_40
      rw [cV_r h, f_here h (by omega) (by omega), clw, gI_r2 h, iv_add, pI_r2 h, e, iv_mul, iv_add, iv_sub]
    unfold sX9_number_7b
    rw [cV_r h, f_good0 h, clw, if_neg iv_01, cV_r h, f_dig h (by omega) (by omega), clw]
    by_cases c : isDig (hrA T n p)
    · rw [if_pos c]
      have hp := hlt c
      have Bd : ¬ bI (isDig (hrA T n p)) = iI 0 := by rw [bI_z]; exact fun z => z c
      rw [if_neg Bd, gI_r2 h, iv_add]
      have E : (iI p = iI (first + 5)) = (p = first + 5) := iv_eq (by omega) (by omega) (by omega) (by omega)
      by_cases d : p = first + 5
      · have D2 : iI p = iI (first + 5) := by rw [E]; exact d
        rw [if_pos d, if_pos D2]
        obtain ⟨fu', rfl⟩ : ∃ u, fu = u + 1 := ⟨fu - 1, by omega⟩
        refine ⟨iI (10 * v + hrA T n p - 48), ?_, rfl, Int.le_refl _, hp⟩
        rw [gI_r2 h, cV_r h, f_bad0 h, clw, e40 _ _ hp]
        show sX9_number_7b (sX9_number_7 fu') _ _ _ _ = _
        generalize sX9_number_7 fu' = K
        unfold sX9_number_7b
        rw [cV_r h, f_good1 h (by omega) (by omega), clw, if_pos rfl]
      · have D2 : ¬ iI p = iI (first + 5) := by rw [E]; exact d
        rw [if_neg d, if_neg D2, e40 _ _ hp]
        have ih' := ih (by omega) (by omega) (by omega) (by omega) (by omega)
        cases e : rNumL T n first f (10 * v + hrA T n p - 48) (p + 1) with
        | inl x =>
          rw [e] at ih'
          obtain ⟨u, i1, i2, i3, i4⟩ := ih'
          exact ⟨u, i1, i2, by omega, i4⟩
        | inr x =>
          rw [e] at ih'
          obtain ⟨i1, i2, i3, i4⟩ := ih'
          exact ⟨i1, by omega, i3, fun _ => by show p < x.2; omega⟩
    · rw [if_neg c, if_pos (by rw [bI_z]; exact c)]
      exact ⟨rfl, Int.le_refl _, a5, fun z => absurd z c⟩
end
