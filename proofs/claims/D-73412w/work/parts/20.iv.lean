/-! DEPS: Sh -/
/-! IV: whole numbers and Int32 -/
abbrev Rg (a : Int) : Prop := -2147483648 ≤ a ∧ a ≤ 2147483647
theorem iv_to {a : Int} (h0 : -2147483648 ≤ a) (h1 : a ≤ 2147483647) : (iI a).toInt = a := by
  unfold iI
  exact Int32.toInt_ofInt_of_le (by omega) (by omega)
theorem iv_of (x : Int32) : iI x.toInt = x := Int32.ofInt_toInt x
theorem iv_rg (x : Int32) : Rg x.toInt := by
  have h1 := Int32.le_toInt x
  have h2 := Int32.toInt_lt x
  constructor <;> omega
theorem iv_add (a b : Int) : iI a + iI b = iI (a + b) := (Int32.ofInt_add a b).symm
theorem iv_sub (a b : Int) : iI a - iI b = iI (a - b) := (Int32.ofInt_sub a b).symm
theorem iv_mul (a b : Int) : iI a * iI b = iI (a * b) := (Int32.ofInt_mul a b).symm
theorem iv_le {a b : Int} (h0 : -2147483648 ≤ a) (h1 : a ≤ 2147483647) (h2 : -2147483648 ≤ b) (h3 : b ≤ 2147483647) : (iI a ≤ iI b) = (a ≤ b) := by
  rw [Int32.le_iff_toInt_le, iv_to h0 h1, iv_to h2 h3]
theorem iv_lt {a b : Int} (h0 : -2147483648 ≤ a) (h1 : a ≤ 2147483647) (h2 : -2147483648 ≤ b) (h3 : b ≤ 2147483647) : (iI a < iI b) = (a < b) := by
  rw [Int32.lt_iff_toInt_lt, iv_to h0 h1, iv_to h2 h3]
theorem iv_eq {a b : Int} (h0 : -2147483648 ≤ a) (h1 : a ≤ 2147483647) (h2 : -2147483648 ≤ b) (h3 : b ≤ 2147483647) : (iI a = iI b) = (a = b) := by
  rw [← Int32.toInt_inj, iv_to h0 h1, iv_to h2 h3]
theorem iv_z : (0 : Int32) = iI 0 := rfl
theorem iv_ix {a : Int} (h0 : 0 ≤ a) (h1 : a ≤ 2147483647) : ix (iI a) = a.toNat := by
  unfold ix Int32.toNatClampNeg
  rw [iv_to (by omega) h1]
theorem iv_div {a b : Int} (h0 : 0 ≤ a) (h1 : a ≤ 2147483647) (h2 : 0 < b) (h3 : b ≤ 2147483647) : iI a / iI b = iI (a / b) := by
  have e1 : Int32.minValue.toInt = -2147483648 := rfl
  have e2 : Int32.maxValue.toInt = 2147483647 := rfl
  have := Int32.ofInt_tdiv (a := a) (b := b) (by omega) (by omega) (by omega) (by omega)
  unfold iI
  rw [← this, Int.tdiv_eq_ediv_of_nonneg h0]
theorem iv_rem {a b : Int} (h0 : 0 ≤ a) (h1 : a ≤ 2147483647) (h2 : 0 < b) (h3 : b ≤ 2147483647) : iI a - iI a / iI b * iI b = iI (a % b) := by
  rw [iv_div h0 h1 h2 h3, iv_mul, iv_sub, Int.emod_def, Int.mul_comm b]
theorem iv_mx {a b : Int} (h0 : -2147483648 ≤ a) (h1 : a ≤ 2147483647) (h2 : -2147483648 ≤ b) (h3 : b ≤ 2147483647) : mxi (iI a) (iI b) = iI (max a b) := by
  unfold mxi
  simp only [iv_lt h0 h1 h2 h3]
  split <;> congr 1 <;> omega
theorem iv_mn {a b : Int} (h0 : -2147483648 ≤ a) (h1 : a ≤ 2147483647) (h2 : -2147483648 ≤ b) (h3 : b ≤ 2147483647) : mni (iI a) (iI b) = iI (min a b) := by
  unfold mni
  simp only [iv_lt h2 h3 h0 h1]
  split <;> congr 1 <;> omega
theorem iv_in {a : Int} {n : Nat} (h0 : -2147483648 ≤ a) (h1 : a ≤ 2147483647) : inR (iI a) n = (0 ≤ a ∧ a < n) := by
  unfold inR
  rw [iv_to h0 h1]
/-- a truth as a number -/
def bI (p : Prop) [Decidable p] : Int32 := if p then iI 1 else iI 0
theorem bI_t {p : Prop} [Decidable p] (h : p) : bI p = iI 1 := if_pos h
theorem bI_f {p : Prop} [Decidable p] (h : ¬ p) : bI p = iI 0 := if_neg h
theorem iv_01 : ¬ iI 1 = iI 0 := by decide
theorem iv_10 : ¬ iI 0 = iI 1 := by decide
theorem bI_z {p : Prop} [Decidable p] : (bI p = iI 0) = ¬ p := by
  unfold bI
  split <;> simp_all [iv_01]
theorem bI_o {p : Prop} [Decidable p] : (bI p = iI 1) = p := by
  unfold bI
  split <;> simp_all [iv_10]
theorem rZ0 (σ : Mem) : rZ (iI 0) σ = some (iI 0, σ) := if_pos (Or.inl rfl)
theorem rZ1 (σ : Mem) : rZ (iI 1) σ = some (iI 1, σ) := if_pos (Or.inr rfl)
theorem rZb {p : Prop} [Decidable p] (σ : Mem) : rZ (bI p) σ = some (bI p, σ) := by
  unfold bI
  split
  · exact rZ1 σ
  · exact rZ0 σ
theorem ifb {α : Type} {p : Prop} [Decidable p] (σ : α) : (if p then some (iI 1, σ) else some (iI 0, σ)) = some (bI p, σ) := by
  unfold bI
  split <;> rfl
theorem ifn {α : Type} {p : Prop} [Decidable p] (σ : α) : (if p then some (iI 0, σ) else some (iI 1, σ)) = some (bI (¬ p), σ) := by
  unfold bI
  by_cases p <;> simp_all
theorem cl_some' {β γ : Type} (x : γ × Mem) (f : γ → Mem → Option β) : cl (some x) f = f x.1 x.2 := rfl
theorem lt_eq {β γ : Type} (x : γ) (f : γ → Option β) : lt x f = f x := rfl
theorem dv_eq {β : Type} {x y : Int} (f : Int32 → Option β) (h0 : 0 ≤ x) (h1 : x ≤ 2147483647) (h2 : 0 < y) (h3 : y ≤ 2147483647) : dv (iI x) (iI y) f = f (iI (x / y)) := by
  unfold dv
  rw [if_neg, iv_div h0 h1 h2 h3]
  rw [iv_z, iv_eq (by omega) (by omega) (by omega) (by omega)]
  omega
theorem rm_eq {β : Type} {x y : Int} (f : Int32 → Option β) (h0 : 0 ≤ x) (h1 : x ≤ 2147483647) (h2 : 0 < y) (h3 : y ≤ 2147483647) : rm (iI x) (iI y) f = f (iI (x % y)) := by
  unfold rm
  rw [if_neg, iv_rem h0 h1 h2 h3]
  rw [iv_z, iv_eq (by omega) (by omega) (by omega) (by omega)]
  omega
/-! sets of nodes as numbers below 128 -/
def bitI (k : Int) : Int := ((2 ^ k.toNat : Nat) : Int)
abbrev hasI (s k : Int) : Prop := s.toNat / 2 ^ k.toNat % 2 = 1
def andI (a b : Int) : Int := ((a.toNat &&& b.toNat : Nat) : Int)
def orI (a b : Int) : Int := ((a.toNat ||| b.toNat : Nat) : Int)
/-- a without the k-th -/
def offI (a k : Int) : Int := if a.toNat / 2 ^ k.toNat % 2 = 1 then a - bitI k else a
def bitsI (s : Int) : Int := ((s.toNat % 2 + s.toNat / 2 % 2 + s.toNat / 4 % 2 + s.toNat / 8 % 2 + s.toNat / 16 % 2 + s.toNat / 32 % 2 + s.toNat / 64 % 2 : Nat) : Int)
theorem bs_has : ∀ s : Nat, s < 128 → ∀ k : Nat, k < 7 → (iI (s : Int) >>> (iI (k : Int) &&& 31)) &&& iI 1 = bI (hasI (s : Int) (k : Int)) := by decide +kernel
theorem bs_bits : ∀ s : Nat, s < 128 → ∀ k : Nat, k < 7 → (iI (s : Int) >>> (iI (k : Int) &&& 31)) &&& iI 1 = iI (((s / 2 ^ k % 2 : Nat)) : Int) := by decide +kernel
theorem bs_shl : ∀ k : Nat, k < 7 → iI 1 <<< (iI (k : Int) &&& 31) = iI (bitI (k : Int)) := by decide +kernel
theorem bs_and : ∀ a : Nat, a < 128 → ∀ b : Nat, b < 128 → iI (a : Int) &&& iI (b : Int) = iI (andI (a : Int) (b : Int)) := by decide +kernel
theorem bs_or : ∀ a : Nat, a < 128 → ∀ b : Nat, b < 128 → iI (a : Int) ||| iI (b : Int) = iI (orI (a : Int) (b : Int)) := by decide +kernel
theorem bs_off : ∀ a : Nat, a < 128 → ∀ k : Nat, k < 7 → iI (a : Int) &&& (iI (bitI (k : Int)) ^^^ iI (-1)) = iI (offI (a : Int) (k : Int)) := by decide +kernel
theorem bs_andR : ∀ a : Nat, a < 128 → ∀ b : Nat, b < 128 → 0 ≤ andI (a : Int) (b : Int) ∧ andI (a : Int) (b : Int) < 128 := by decide +kernel
theorem bs_orR : ∀ a : Nat, a < 128 → ∀ b : Nat, b < 128 → 0 ≤ orI (a : Int) (b : Int) ∧ orI (a : Int) (b : Int) < 128 := by decide +kernel
theorem bs_offR : ∀ a : Nat, a < 128 → ∀ k : Nat, k < 7 → 0 ≤ offI (a : Int) (k : Int) ∧ offI (a : Int) (k : Int) < 128 := by decide +kernel
theorem bs_bitR : ∀ k : Nat, k < 7 → 0 < bitI (k : Int) ∧ bitI (k : Int) < 128 := by decide +kernel
theorem bs_bitsR : ∀ a : Nat, a < 128 → 0 ≤ bitsI (a : Int) ∧ bitsI (a : Int) ≤ 7 := by decide +kernel
theorem nn {a : Int} (h : 0 ≤ a) : ∃ n : Nat, a = (n : Int) := ⟨a.toNat, (Int.toNat_of_nonneg h).symm⟩
theorem iv_has {s k : Int} (h0 : 0 ≤ s) (h1 : s < 128) (h2 : 0 ≤ k) (h3 : k < 7) : (iI s >>> (iI k &&& 31)) &&& iI 1 = bI (hasI s k) := by
  obtain ⟨a, rfl⟩ := nn h0
  obtain ⟨b, rfl⟩ := nn h2
  exact bs_has a (by omega) b (by omega)
theorem iv_bit {s k : Int} (h0 : 0 ≤ s) (h1 : s < 128) (h2 : 0 ≤ k) (h3 : k < 7) : (iI s >>> (iI k &&& 31)) &&& iI 1 = iI (((s.toNat / 2 ^ k.toNat % 2 : Nat)) : Int) := by
  obtain ⟨a, rfl⟩ := nn h0
  obtain ⟨b, rfl⟩ := nn h2
  exact bs_bits a (by omega) b (by omega)
theorem iv_shl {k : Int} (h2 : 0 ≤ k) (h3 : k < 7) : iI 1 <<< (iI k &&& 31) = iI (bitI k) := by
  obtain ⟨b, rfl⟩ := nn h2
  exact bs_shl b (by omega)
theorem iv_and {a b : Int} (h0 : 0 ≤ a) (h1 : a < 128) (h2 : 0 ≤ b) (h3 : b < 128) : iI a &&& iI b = iI (andI a b) := by
  obtain ⟨a, rfl⟩ := nn h0
  obtain ⟨b, rfl⟩ := nn h2
  exact bs_and a (by omega) b (by omega)
theorem iv_or {a b : Int} (h0 : 0 ≤ a) (h1 : a < 128) (h2 : 0 ≤ b) (h3 : b < 128) : iI a ||| iI b = iI (orI a b) := by
  obtain ⟨a, rfl⟩ := nn h0
  obtain ⟨b, rfl⟩ := nn h2
  exact bs_or a (by omega) b (by omega)
theorem iv_off {a k : Int} (h0 : 0 ≤ a) (h1 : a < 128) (h2 : 0 ≤ k) (h3 : k < 7) : iI a &&& (iI (bitI k) ^^^ iI (-1)) = iI (offI a k) := by
  obtain ⟨a, rfl⟩ := nn h0
  obtain ⟨b, rfl⟩ := nn h2
  exact bs_off a (by omega) b (by omega)
theorem andR {a b : Int} (h0 : 0 ≤ a) (h1 : a < 128) (h2 : 0 ≤ b) (h3 : b < 128) : 0 ≤ andI a b ∧ andI a b < 128 := by
  obtain ⟨a, rfl⟩ := nn h0
  obtain ⟨b, rfl⟩ := nn h2
  exact bs_andR a (by omega) b (by omega)
theorem orR {a b : Int} (h0 : 0 ≤ a) (h1 : a < 128) (h2 : 0 ≤ b) (h3 : b < 128) : 0 ≤ orI a b ∧ orI a b < 128 := by
  obtain ⟨a, rfl⟩ := nn h0
  obtain ⟨b, rfl⟩ := nn h2
  exact bs_orR a (by omega) b (by omega)
theorem offR {a k : Int} (h0 : 0 ≤ a) (h1 : a < 128) (h2 : 0 ≤ k) (h3 : k < 7) : 0 ≤ offI a k ∧ offI a k < 128 := by
  obtain ⟨a, rfl⟩ := nn h0
  obtain ⟨b, rfl⟩ := nn h2
  exact bs_offR a (by omega) b (by omega)
theorem bitR {k : Int} (h2 : 0 ≤ k) (h3 : k < 7) : 0 < bitI k ∧ bitI k < 128 := by
  obtain ⟨b, rfl⟩ := nn h2
  exact bs_bitR b (by omega)
theorem bitsR {a : Int} (h0 : 0 ≤ a) (h1 : a < 128) : 0 ≤ bitsI a ∧ bitsI a ≤ 7 := by
  obtain ⟨a, rfl⟩ := nn h0
  exact bs_bitsR a (by omega)
/-- the bits counted by the JDK -/
theorem bs_cnt : ∀ a : Nat, a < 128 → ∀ σ : Mem, sJ1_bitCount (iI (a : Int)) σ = some (iI (bitsI (a : Int)), σ) := by
  have h : ∀ a : Nat, a < 128 → ((fun x : Int32 =>
    let x1 := x - (((x.toUInt32 >>> ((iI 1).toUInt32 &&& Int32.toUInt32 31)).toInt32) &&& (iI 1431655765))
    let x2 := (x1 &&& (iI 858993459)) + (((x1.toUInt32 >>> ((iI 2).toUInt32 &&& Int32.toUInt32 31)).toInt32) &&& (iI 858993459))
    let x3 := (x2 + ((x2.toUInt32 >>> ((iI 4).toUInt32 &&& Int32.toUInt32 31)).toInt32)) &&& (iI 252645135)
    let x4 := x3 + ((x3.toUInt32 >>> ((iI 8).toUInt32 &&& Int32.toUInt32 31)).toInt32)
    let x5 := x4 + ((x4.toUInt32 >>> ((iI 16).toUInt32 &&& Int32.toUInt32 31)).toInt32)
    x5 &&& (iI 63)) (iI (a : Int))) = iI (bitsI (a : Int)) := by decide +kernel
  intro a ha σ
  exact congrArg (fun v => some (v, σ)) (h a ha)
theorem iv_cnt {a : Int} (h0 : 0 ≤ a) (h1 : a < 128) (σ : Mem) : sJ1_bitCount (iI a) σ = some (iI (bitsI a), σ) := by
  obtain ⟨a, rfl⟩ := nn h0
  exact bs_cnt a (by omega) σ
