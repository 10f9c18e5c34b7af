/-! DEPS: wl -/
/-! WO: what is made at the start: steps -/
/-- new cells hold 0, old ones what they held -/
def Zi (σ σ' : Mem) : Prop := ∀ b j, (mZ σ ≤ b → b < mZ σ' → mI σ' b j = 0) ∧ ((b < mZ σ ∨ mZ σ' ≤ b) → mI σ' b j = mI σ b j)
theorem Zi.trans {σ σ1 σ2 : Mem} (a : Zi σ σ1) (b : Zi σ1 σ2) (h1 : mZ σ ≤ mZ σ1) (h2 : mZ σ1 ≤ mZ σ2) : Zi σ σ2 := fun x j => ⟨fun u v => by
  by_cases c : x < mZ σ1
  · rw [(b x j).2 (Or.inl c)]; exact (a x j).1 u c
  · exact (b x j).1 (by omega) v, fun u => by
  rw [(b x j).2 (by omega), (a x j).2 (by omega)]⟩
/-- σ' is σ and more cells; below, only the pointers P changed; all words stay 0; c slots more at most -/
def Nx (σ σ' : Mem) (P : Nat → Nat → Prop) (c : Nat) : Prop :=
  (∀ b, b < mZ σ → mK σ' b = mK σ b) ∧
  (∀ b j, b < mZ σ → ¬ P b j → mP σ' b j = mP σ b j) ∧
  (Zi σ σ') ∧
  (mZ σ ≤ mZ σ') ∧
  (mY σ' ≤ mY σ + c) ∧
  (∀ b, (mK σ' b).1 = 2 → (mK σ b).1 = 2)
theorem Nx.k {σ σ' : Mem} {P : Nat → Nat → Prop} {c : Nat} (self : Nx σ σ' P c) : ∀ b, b < mZ σ → mK σ' b = mK σ b := self.1
theorem Nx.p {σ σ' : Mem} {P : Nat → Nat → Prop} {c : Nat} (self : Nx σ σ' P c) : ∀ b j, b < mZ σ → ¬ P b j → mP σ' b j = mP σ b j := self.2.1
theorem Nx.i {σ σ' : Mem} {P : Nat → Nat → Prop} {c : Nat} (self : Nx σ σ' P c) : Zi σ σ' := self.2.2.1
theorem Nx.z {σ σ' : Mem} {P : Nat → Nat → Prop} {c : Nat} (self : Nx σ σ' P c) : mZ σ ≤ mZ σ' := self.2.2.2.1
theorem Nx.y {σ σ' : Mem} {P : Nat → Nat → Prop} {c : Nat} (self : Nx σ σ' P c) : mY σ' ≤ mY σ + c := self.2.2.2.2.1
theorem Nx.n {σ σ' : Mem} {P : Nat → Nat → Prop} {c : Nat} (self : Nx σ σ' P c) : ∀ b, (mK σ' b).1 = 2 → (mK σ b).1 = 2 := self.2.2.2.2.2
/-- the same, whatever is made -/
def Ny (σ σ' : Mem) (P : Nat → Nat → Prop) (c : Nat) : Prop :=
  (∀ b, b < mZ σ → mK σ' b = mK σ b) ∧
  (∀ b j, b < mZ σ → ¬ P b j → mP σ' b j = mP σ b j) ∧
  (Zi σ σ') ∧
  (mZ σ ≤ mZ σ') ∧
  (mY σ' ≤ mY σ + c)
theorem Ny.k {σ σ' : Mem} {P : Nat → Nat → Prop} {c : Nat} (self : Ny σ σ' P c) : ∀ b, b < mZ σ → mK σ' b = mK σ b := self.1
theorem Ny.p {σ σ' : Mem} {P : Nat → Nat → Prop} {c : Nat} (self : Ny σ σ' P c) : ∀ b j, b < mZ σ → ¬ P b j → mP σ' b j = mP σ b j := self.2.1
theorem Ny.i {σ σ' : Mem} {P : Nat → Nat → Prop} {c : Nat} (self : Ny σ σ' P c) : Zi σ σ' := self.2.2.1
theorem Ny.z {σ σ' : Mem} {P : Nat → Nat → Prop} {c : Nat} (self : Ny σ σ' P c) : mZ σ ≤ mZ σ' := self.2.2.2.1
theorem Ny.y {σ σ' : Mem} {P : Nat → Nat → Prop} {c : Nat} (self : Ny σ σ' P c) : mY σ' ≤ mY σ + c := self.2.2.2.2
section
variable {σ σ1 σ2 σ' : Mem} {P Q : Nat → Nat → Prop} {c d : Nat}
theorem Nx.ny (a : Nx σ σ1 P c) : Ny σ σ1 P c := ⟨a.k, a.p, a.i, a.z, a.y⟩
theorem Ny.trans (a : Ny σ σ1 P c) (b : Ny σ1 σ2 P d) : Ny σ σ2 P (c + d) :=
  ⟨fun x hx => (b.k x (Nat.lt_of_lt_of_le hx a.z)).trans (a.k x hx), fun x j hx np => (b.p x j (Nat.lt_of_lt_of_le hx a.z) np).trans (a.p x j hx np), a.i.trans b.i a.z b.z, Nat.le_trans a.z b.z, by have := a.y; have := b.y; omega⟩
theorem Ny.wk (a : Ny σ σ1 P c) (h : ∀ b j, b < mZ σ → P b j → Q b j) (hc : c ≤ d) : Ny σ σ1 Q d := ⟨a.k, fun x j hx np => a.p x j hx (fun z => np (h x j hx z)), a.i, a.z, by have := a.y; omega⟩
theorem Ny.rf : Ny σ σ P 0 := ⟨fun _ _ => rfl, fun _ _ _ _ => rfl, fun b j => ⟨fun h1 h2 => by omega, fun _ => rfl⟩, Nat.le_refl _, by omega⟩
theorem aln {ci n : Nat} : Ny σ (mNew σ ci n) P n := by
  refine ⟨fun b hb => if_neg (by omega), fun b j hb np => if_neg (by omega), fun b j => ⟨fun h1 h2 => ?_, fun h1 => ?_⟩, ?_, Nat.le_refl _⟩
  · have h2 : b < mZ σ + 1 := h2
    show (if b = mZ σ then 0 else mI σ b j) = 0
    rw [if_pos (by omega)]
  · have h1 : b < mZ σ ∨ mZ σ + 1 ≤ b := h1
    show (if b = mZ σ then 0 else mI σ b j) = mI σ b j
    rw [if_neg (by omega)]
  · show mZ σ ≤ mZ σ + 1; omega
theorem al_k {ci n : Nat} {b : Nat} : mK (mNew σ ci n) b = if b = mZ σ then (ci, n) else mK σ b := rfl
theorem Nx.trans (a : Nx σ σ1 P c) (b : Nx σ1 σ2 P d) : Nx σ σ2 P (c + d) :=
  ⟨fun x hx => (b.k x (Nat.lt_of_lt_of_le hx a.z)).trans (a.k x hx), fun x j hx np => (b.p x j (Nat.lt_of_lt_of_le hx a.z) np).trans (a.p x j hx np), a.i.trans b.i a.z b.z, Nat.le_trans a.z b.z, by have := a.y; have := b.y; omega, fun x h => a.n x (b.n x h)⟩
theorem Nx.wk (a : Nx σ σ1 P c) (h : ∀ b j, P b j → Q b j) (hc : c ≤ d) : Nx σ σ1 Q d := ⟨a.k, fun x j hx np => a.p x j hx (fun z => np (h x j z)), a.i, a.z, by have := a.y; omega, a.n⟩
theorem Nx.rf : Nx σ σ P 0 := ⟨fun _ _ => rfl, fun _ _ _ _ => rfl, fun b j => ⟨fun h1 h2 => by omega, fun _ => rfl⟩, Nat.le_refl _, by omega, fun _ h => h⟩
/-- an array is made, and a slot names it -/
theorem al1 {a ci k kd n : Nat} {v : Int} (hv : v = (n : Int)) (h : (mK σ a).1 = ci) (ha : a < mZ σ) (hn : n ≤ 20000) (hz : mZ σ + 1 ≤ 1200000) (hy : mY σ + n ≤ 5502250) (h2 : kd ≠ 2) :
    ∃ σ', (∀ f : Mem → Option (Unit × Mem), nA σ kd (iI v) (fun x s => pR s (some a) ci k x f) = f σ') ∧ Nx σ σ' (fun b j => b = a ∧ j = k) n ∧ mZ σ' = mZ σ + 1 ∧ mP σ' a k = some (mZ σ) ∧ mK σ' (mZ σ) = (kd, n) := by
  subst hv
  have i16 : ix (iI (n : Int)) = n := by rw [iv_ix (by omega) (by omega)]; rfl
  have hK : (mK (mNew σ kd n) a).1 = ci := by
    show (if a = mZ σ then (kd, n) else mK σ a : Nat × Nat).1 = ci
    rw [if_neg (by omega)]
    exact h
  refine ⟨(mI (mNew σ kd n), up2 (mP (mNew σ kd n)) a k (some (mZ σ)), (mNew σ kd n).2.2), fun f => ?_, ⟨fun b hb => if_neg (by omega), fun b j hb np => (if_neg np).trans (if_neg (by omega)), fun b j => ⟨fun h1 h2 => ?_, fun h1 => ?_⟩, ?_, ?_, fun b hb => ?_⟩, rfl, if_pos ⟨rfl, rfl⟩, if_pos rfl⟩
  · unfold nA
    have c0 : 0 ≤ (iI (n : Int)).toInt ∧ (iI (n : Int)).toInt ≤ 20000 := by rw [iv_to (by omega) (by omega)]; omega
    rw [i16, if_pos ⟨c0, hz, hy⟩]
    exact pR_y hK
  · have h2 : b < mZ σ + 1 := h2
    show (if b = mZ σ then 0 else mI σ b j) = 0
    rw [if_pos (by omega)]
  · have h1 : b < mZ σ ∨ mZ σ + 1 ≤ b := h1
    show (if b = mZ σ then 0 else mI σ b j) = mI σ b j
    rw [if_neg (by omega)]
  · show mZ σ ≤ mZ σ + 1; omega
  · show mY σ + n ≤ mY σ + n; omega
  · have hb : (if b = mZ σ then (kd, n) else mK σ b : Nat × Nat).1 = 2 := hb
    by_cases e : b = mZ σ
    · rw [if_pos e] at hb; exact absurd hb h2
    · rw [if_neg e] at hb; exact hb
/-- an array of arrays is made, and a slot names it -/
theorem al2 {a ci w n m : Nat} {v u : Int} (hv : v = (n : Int)) (hu : u = (m : Int)) (h : (mK σ a).1 = ci) (ha : a < mZ σ) (hn : n ≤ 20000) (hm : m ≤ 20000) (hz : mZ σ + 1 + n ≤ 1200000) (hy : mY σ + n + n * m ≤ 5502250) :
    ∃ σ', (∀ f : Mem → Option (Unit × Mem), nM σ (iI v) (iI u) (fun x s => pR s (some a) ci w x f) = f σ') ∧ Nx σ σ' (fun b j => b = a ∧ j = w) (n + n * m) ∧ mZ σ' = mZ σ + 1 + n ∧ mP σ' a w = some (mZ σ) ∧ mK σ' (mZ σ) = (22, n) ∧ ∀ k, k < n → mP σ' (mZ σ) k = some (mZ σ + 1 + k) ∧ mK σ' (mZ σ + 1 + k) = (20, m) := by
  subst hv hu
  have in1 : ix (iI (n : Int)) = n := by rw [iv_ix (by omega) (by omega)]; rfl
  have im1 : ix (iI (m : Int)) = m := by rw [iv_ix (by omega) (by omega)]; rfl
  have hK : (mK (mMul σ n m) a).1 = ci := by
    show (if a = mZ σ then (22, n) else if mZ σ ≤ a ∧ a < mZ σ + 1 + n then (20, m) else mK σ a : Nat × Nat).1 = ci
    rw [if_neg (by omega), if_neg (by omega)]
    exact h
  have Kd : ∀ b, mK (mMul σ n m) b = if b = mZ σ then (22, n) else if mZ σ ≤ b ∧ b < mZ σ + 1 + n then (20, m) else mK σ b := fun b => rfl
  have Pd : ∀ b j, mP (mMul σ n m) b j = if b = mZ σ then (if j < n then some (mZ σ + 1 + j) else none) else if mZ σ ≤ b ∧ b < mZ σ + 1 + n then none else mP σ b j := fun b j => rfl
  obtain ⟨σ', hσ'⟩ : ∃ σ' : Mem, σ' = (mI (mMul σ n m), up2 (mP (mMul σ n m)) a w (some (mZ σ)), (mMul σ n m).2.2) := ⟨_, rfl⟩
  have K' : ∀ b, mK σ' b = mK (mMul σ n m) b := fun b => by rw [hσ']
  have P' : ∀ b j, mP σ' b j = if b = a ∧ j = w then some (mZ σ) else mP (mMul σ n m) b j := fun b j => by rw [hσ']; rfl
  refine ⟨σ', fun f => ?_, ⟨fun b hb => ?_, fun b j hb np => ?_, fun b j => ⟨fun h1 h2 => ?_, fun h1 => ?_⟩, ?_, ?_, fun b hb => ?_⟩, by rw [hσ']; rfl, ?_, ?_, fun k hk => ⟨?_, ?_⟩⟩
  · unfold nM
    have c0 : 0 ≤ (iI (n : Int)).toInt ∧ (iI (n : Int)).toInt ≤ 20000 := by rw [iv_to (by omega) (by omega)]; omega
    have c1 : 0 ≤ (iI (m : Int)).toInt ∧ (iI (m : Int)).toInt ≤ 20000 := by rw [iv_to (by omega) (by omega)]; omega
    rw [in1, im1, if_pos ⟨⟨c0.1, c0.2, c1.1, c1.2⟩, hz, hy⟩, hσ']
    exact pR_y hK
  · rw [K', Kd, if_neg (by omega), if_neg (by omega)]
  · rw [P', if_neg np, Pd, if_neg (by omega), if_neg (by omega)]
  · rw [hσ'] at h2 ⊢
    have h2 : b < mZ σ + 1 + n := h2
    show (if mZ σ ≤ b ∧ b < mZ σ + 1 + n then 0 else mI σ b j) = 0
    rw [if_pos ⟨h1, h2⟩]
  · rw [hσ'] at h1 ⊢
    have h1 : b < mZ σ ∨ mZ σ + 1 + n ≤ b := h1
    show (if mZ σ ≤ b ∧ b < mZ σ + 1 + n then 0 else mI σ b j) = mI σ b j
    rw [if_neg (by omega)]
  · rw [hσ']; show mZ σ ≤ mZ σ + 1 + n; omega
  · rw [hσ']; show mY σ + n + n * m ≤ mY σ + (n + n * m); omega
  · rw [K', Kd] at hb
    by_cases e : b = mZ σ
    · rw [if_pos e] at hb; exact absurd hb (by show ¬ (22 : Nat) = 2; omega)
    · rw [if_neg e] at hb
      by_cases e2 : mZ σ ≤ b ∧ b < mZ σ + 1 + n
      · rw [if_pos e2] at hb; exact absurd hb (by show ¬ (20 : Nat) = 2; omega)
      · rw [if_neg e2] at hb; exact hb
  · rw [P', if_pos ⟨rfl, rfl⟩]
  · rw [K', Kd, if_pos rfl]
  · rw [P', if_neg (by omega), Pd, if_pos rfl, if_pos hk]
  · rw [K', Kd, if_neg (by omega), if_pos (by omega)]
/-- a slot names a thing -/
theorem al3 {a ci k : Nat} {v : Option Nat} (h : (mK σ a).1 = ci) : ∃ σ', (∀ f : Mem → Option (Unit × Mem), pR σ (some a) ci k v f = f σ') ∧ Nx σ σ' (fun b j => b = a ∧ j = k) 0 ∧ mZ σ' = mZ σ ∧ mY σ' = mY σ ∧ mP σ' a k = v ∧ mK σ' = mK σ :=
  ⟨(mI σ, up2 (mP σ) a k v, σ.2.2), fun f => pR_y h, ⟨fun _ _ => rfl, fun b j hb np => if_neg np, fun b j => ⟨fun h1 h2 => absurd (show b < mZ σ from h2) (by omega), fun _ => rfl⟩, Nat.le_refl _, Nat.le_refl _, fun _ z => z⟩, rfl, rfl, if_pos ⟨rfl, rfl⟩, rfl⟩
/-- an object is made -/
theorem al4 {ci n : Nat} (h2 : ci ≠ 2) : Nx σ (mNew σ ci n) (fun _ _ => False) n := by
  refine ⟨fun b hb => if_neg (by omega), fun b j hb np => if_neg (by omega), fun b j => ⟨fun h1 h2 => ?_, fun h1 => ?_⟩, ?_, Nat.le_refl _, fun b hb => ?_⟩
  · have h2 : b < mZ σ + 1 := h2
    show (if b = mZ σ then 0 else mI σ b j) = 0
    rw [if_pos (by omega)]
  · have h1 : b < mZ σ ∨ mZ σ + 1 ≤ b := h1
    show (if b = mZ σ then 0 else mI σ b j) = mI σ b j
    rw [if_neg (by omega)]
  · show mZ σ ≤ mZ σ + 1; omega
  · have hb : (if b = mZ σ then (ci, n) else mK σ b : Nat × Nat).1 = 2 := hb
    by_cases e : b = mZ σ
    · rw [if_pos e] at hb; exact absurd hb h2
    · rw [if_neg e] at hb; exact hb
/-! an object with many arrays: slots ks, kinds kd -/
def ChI (ks : Nat → Nat) (kd : Nat → Nat × Nat) (ci m : Nat) (σ : Mem) (N i : Nat) (s : Mem) : Prop :=
  (mZ s = N + 1 + i) ∧
  ((mK s N).1 = ci) ∧
  (∀ w, w < i → mP s N (ks w) = some (N + 1 + w) ∧ mK s (N + 1 + w) = kd w) ∧
  (Nx σ s (fun b j => b = N) (m * i))
theorem ChI.z {ks : Nat → Nat} {kd : Nat → Nat × Nat} {ci m : Nat} {σ : Mem} {N i : Nat} {s : Mem} (self : ChI ks kd ci m σ N i s) : mZ s = N + 1 + i := self.1
theorem ChI.o {ks : Nat → Nat} {kd : Nat → Nat × Nat} {ci m : Nat} {σ : Mem} {N i : Nat} {s : Mem} (self : ChI ks kd ci m σ N i s) : (mK s N).1 = ci := self.2.1
theorem ChI.f {ks : Nat → Nat} {kd : Nat → Nat × Nat} {ci m : Nat} {σ : Mem} {N i : Nat} {s : Mem} (self : ChI ks kd ci m σ N i s) : ∀ w, w < i → mP s N (ks w) = some (N + 1 + w) ∧ mK s (N + 1 + w) = kd w := self.2.2.1
theorem ChI.x {ks : Nat → Nat} {kd : Nat → Nat × Nat} {ci m : Nat} {σ : Mem} {N i : Nat} {s : Mem} (self : ChI ks kd ci m σ N i s) : Nx σ s (fun b j => b = N) (m * i) := self.2.2.2
end
section
variable {σ s : Mem} {ks : Nat → Nat} {kd : Nat → Nat × Nat} {ci m N i : Nat}
theorem ChI.start (h : (mK σ N).1 = ci) (hz : mZ σ = N + 1) : ChI ks kd ci m σ N 0 σ := ⟨hz, h, fun w hw => absurd hw (Nat.not_lt_zero w), Nx.rf⟩
theorem ChI.step (C : ChI ks kd ci m σ N i s) {a b k : Nat} {v : Int} (hv : v = (b : Int)) (hk : ks i = k) (hd : kd i = (a, b)) (mono : ∀ w, w < i → ks w < k) (h2 : a ≠ 2) (hb : b ≤ m) (hm : m ≤ 11138) (hN : N + i ≤ 1000000) (hy : mY σ ≤ 1000000) (hi : i ≤ 100) :
    ∃ s', (∀ f : Mem → Option (Unit × Mem), nA s a (iI v) (fun x s => pR s (some N) ci k x f) = f s') ∧ ChI ks kd ci m σ N (i + 1) s' := by
  have cy := C.x.y
  have cz := C.z
  have hi2 : m * i ≤ 11138 * 100 := Nat.mul_le_mul hm hi
  obtain ⟨s', x1, x2, x3, x4, x5⟩ := al1 (σ := s) (a := N) (k := k) (kd := a) (n := b) hv C.o (by omega) (by omega) (by omega) (by omega) h2
  refine ⟨s', x1, ⟨by rw [x3, cz]; rfl, by rw [x2.k N (by omega)]; exact C.o, fun w hw => ?_, ?_⟩⟩
  · by_cases e : w = i
    · subst e
      rw [hk, hd, x4]
      refine ⟨by rw [cz], ?_⟩
      rw [← cz]; exact x5
    · obtain ⟨f1, f2⟩ := C.f w (by omega)
      have m := mono w (by omega)
      exact ⟨(x2.p N (ks w) (by omega) (fun z => by omega)).trans f1, (x2.k _ (by omega)).trans f2⟩
  · exact (C.x.trans (x2.wk (d := m) (fun b j z => z.1) hb)).wk (fun _ _ z => z) (Nat.le_of_eq (Nat.mul_succ m i).symm)
end
