/-! MEM: the abstract memory of the whole run (addresses counted from the law's start), and the combinators of the shallow functions -/
/-- I: what int slots hold; P: what reference slots hold; K: kind and length of a cell (0..13 objects by class, 20 int[], 21 byte[], 22 int[][], 23 Node[], 24 Sum[], 25 Condition[], 99 no cell); how many cells; how many slots -/
abbrev Mem : Type := (Nat → Nat → Int32) × (Nat → Nat → Option Nat) × (Nat → Nat × Nat) × Nat × Nat
abbrev mI (σ : Mem) : Nat → Nat → Int32 := σ.1
abbrev mP (σ : Mem) : Nat → Nat → Option Nat := σ.2.1
abbrev mK (σ : Mem) : Nat → Nat × Nat := σ.2.2.1
abbrev mZ (σ : Mem) : Nat := σ.2.2.2.1
abbrev mY (σ : Mem) : Nat := σ.2.2.2.2
def iI (n : Int) : Int32 := Int32.ofInt n
theorem iI0 : iI 0 = 0 := rfl
def up2 {α : Type} (F : Nat → Nat → α) (a k : Nat) (v : α) : Nat → Nat → α := fun b j => if b = a ∧ j = k then v else F b j
def up1 {α : Type} (F : Nat → α) (a : Nat) (v : α) : Nat → α := fun b => if b = a then v else F b
def zr2 {α : Type} (F : Nat → Nat → α) (a : Nat) (v : α) : Nat → Nat → α := fun b j => if b = a then v else F b j
abbrev inR (i : Int32) (n : Nat) : Prop := 0 ≤ i.toInt ∧ i.toInt < (n : Int)
def ix (i : Int32) : Nat := i.toNatClampNeg
noncomputable def FU : Nat := 1000000
section Comb
variable {β γ : Type}
noncomputable def cl (o : Option (γ × Mem)) (f : γ → Mem → Option β) : Option β := match o with
  | some x => f x.1 x.2
  | none => none
noncomputable def gI (σ : Mem) (r : Option Nat) (ci k : Nat) (f : Int32 → Option β) : Option β := match r with
  | some a => if (mK σ a).1 = ci then f (mI σ a k) else none
  | none => none
noncomputable def gR (σ : Mem) (r : Option Nat) (ci k : Nat) (f : Option Nat → Option β) : Option β := match r with
  | some a => if (mK σ a).1 = ci then f (mP σ a k) else none
  | none => none
noncomputable def pI (σ : Mem) (r : Option Nat) (ci k : Nat) (v : Int32) (f : Mem → Option β) : Option β := match r with
  | some a => if (mK σ a).1 = ci then f (up2 (mI σ) a k v, σ.2) else none
  | none => none
noncomputable def pZ (σ : Mem) (r : Option Nat) (ci k : Nat) (v : Int32) (f : Mem → Option β) : Option β := match r with
  | some a => if (mK σ a).1 = ci ∧ (v = iI 0 ∨ v = iI 1) then f (up2 (mI σ) a k v, σ.2) else none
  | none => none
noncomputable def pR (σ : Mem) (r : Option Nat) (ci k : Nat) (v : Option Nat) (f : Mem → Option β) : Option β := match r with
  | some a => if (mK σ a).1 = ci then f (mI σ, up2 (mP σ) a k v, σ.2.2) else none
  | none => none
noncomputable def aI (σ : Mem) (r : Option Nat) (i : Int32) (f : Int32 → Option β) : Option β := match r with
  | some a => if (mK σ a).1 = 20 ∧ inR i (mK σ a).2 then f (mI σ a (ix i)) else none
  | none => none
noncomputable def aB (σ : Mem) (r : Option Nat) (i : Int32) (f : Int32 → Option β) : Option β := match r with
  | some a => if (mK σ a).1 = 21 ∧ inR i (mK σ a).2 then f (mI σ a (ix i)) else none
  | none => none
noncomputable def aR (σ : Mem) (r : Option Nat) (kd : Nat) (i : Int32) (f : Option Nat → Option β) : Option β := match r with
  | some a => if (mK σ a).1 = kd ∧ inR i (mK σ a).2 then f (mP σ a (ix i)) else none
  | none => none
noncomputable def sI (σ : Mem) (r : Option Nat) (i v : Int32) (f : Mem → Option β) : Option β := match r with
  | some a => if (mK σ a).1 = 20 ∧ inR i (mK σ a).2 then f (up2 (mI σ) a (ix i) v, σ.2) else none
  | none => none
noncomputable def sB (σ : Mem) (r : Option Nat) (i v : Int32) (f : Mem → Option β) : Option β := match r with
  | some a => if (mK σ a).1 = 21 ∧ inR i (mK σ a).2 then f (up2 (mI σ) a (ix i) v.toInt8.toInt32, σ.2) else none
  | none => none
/-- the kind of what a reference names; null: 98 -/
def kdO (σ : Mem) (r : Option Nat) : Nat := match r with
  | some b => (mK σ b).1
  | none => 98
/-- an array of references takes an object of class ci, or null -/
noncomputable def sR (σ : Mem) (r : Option Nat) (kd : Nat) (i : Int32) (ci : Nat) (v : Option Nat) (f : Mem → Option β) : Option β := match r with
  | some a => if ((mK σ a).1 = kd ∧ inR i (mK σ a).2) ∧ (kdO σ v = ci ∨ v = none) then f (mI σ, up2 (mP σ) a (ix i) v, σ.2.2) else none
  | none => none
noncomputable def aL (σ : Mem) (r : Option Nat) (kd : Nat) (f : Int32 → Option β) : Option β := match r with
  | some a => if (mK σ a).1 = kd then f (Int32.ofNat (mK σ a).2) else none
  | none => none
/-- the memory with one more cell, of kind k and n slots -/
def mNew (σ : Mem) (k n : Nat) : Mem := (zr2 (mI σ) (mZ σ) 0, zr2 (mP σ) (mZ σ) none, up1 (mK σ) (mZ σ) (k, n), mZ σ + 1, mY σ + n)
noncomputable def nO (σ : Mem) (ci n : Nat) (f : Option Nat → Mem → Option β) : Option β :=
  if mZ σ + 1 ≤ 1200000 ∧ mY σ + n ≤ 5502250 then f (some (mZ σ)) (mNew σ ci n) else none
noncomputable def nA (σ : Mem) (kd : Nat) (i : Int32) (f : Option Nat → Mem → Option β) : Option β :=
  if (0 ≤ i.toInt ∧ i.toInt ≤ 20000) ∧ mZ σ + 1 ≤ 1200000 ∧ mY σ + ix i ≤ 5502250 then f (some (mZ σ)) (mNew σ kd (ix i)) else none
noncomputable def dv (x y : Int32) (f : Int32 → Option β) : Option β := if y = 0 then none else f (x / y)
noncomputable def rm (x y : Int32) (f : Int32 → Option β) : Option β := if y = 0 then none else f (x - x / y * y)
noncomputable def rZ (v : Int32) (σ : Mem) : Option (Int32 × Mem) := if v = iI 0 ∨ v = iI 1 then some (v, σ) else none
/-- a receiver of class ci -/
noncomputable def cV (σ : Mem) (r : Option Nat) (ci : Nat) (f : Option β) : Option β := match r with
  | some a => if (mK σ a).1 = ci then f else none
  | none => none
theorem cV_some {σ : Mem} {r : Option Nat} {ci : Nat} {f : Option β} {z : β} (h : cV σ r ci f = some z) : ∃ a, r = some a ∧ (mK σ a).1 = ci ∧ f = some z := by
  cases r with
  | none => cases h
  | some a =>
    simp only [cV] at h
    split at h
    · exact ⟨a, rfl, by assumption, h⟩
    · cases h
/-- a receiver that is not null -/
noncomputable def cI (σ : Mem) (r : Option Nat) (f : Option β) : Option β := match r with
  | some _ => f
  | none => none
theorem cI_some {σ : Mem} {r : Option Nat} {f : Option β} {z : β} (h : cI σ r f = some z) : ∃ a, r = some a ∧ f = some z := by
  cases r with
  | none => cases h
  | some a => exact ⟨a, rfl, h⟩
theorem kdO_some {σ : Mem} {r : Option Nat} {ci : Nat} (h9 : ci < 14) (h : kdO σ r = ci) : ∃ a, r = some a ∧ (mK σ a).1 = ci := by
  cases r with
  | none => have h : 98 = ci := h; omega
  | some a => exact ⟨a, rfl, h⟩
/-- the memory with a new int[n][k]: the outer array first, then its rows -/
def mMul (σ : Mem) (n k : Nat) : Mem :=
  (fun b j => if mZ σ ≤ b ∧ b < mZ σ + 1 + n then 0 else mI σ b j,
   fun b j => if b = mZ σ then (if j < n then some (mZ σ + 1 + j) else none) else if mZ σ ≤ b ∧ b < mZ σ + 1 + n then none else mP σ b j,
   fun b => if b = mZ σ then (22, n) else if mZ σ ≤ b ∧ b < mZ σ + 1 + n then (20, k) else mK σ b, mZ σ + 1 + n, mY σ + n + n * k)
noncomputable def nM (σ : Mem) (n k : Int32) (f : Option Nat → Mem → Option β) : Option β :=
  if (0 ≤ n.toInt ∧ n.toInt ≤ 20000 ∧ 0 ≤ k.toInt ∧ k.toInt ≤ 20000) ∧ mZ σ + 1 + ix n ≤ 1200000 ∧ mY σ + ix n + ix n * ix k ≤ 5502250 then f (some (mZ σ)) (mMul σ (ix n) (ix k)) else none
/-- the first place of c in a list of letters, or -1 -/
def ixoF : List Int → Int → Int → Int
  | [], _, _ => -1
  | a :: t, c, j => if a = c then j else ixoF t c (j + 1)
noncomputable def ixo (l : List Int) (c : Int32) : Int32 := iI (ixoF l c.toInt 0)
/-- Math.max, Math.min -/
def mxi (x y : Int32) : Int32 := if x < y then y else x
def mni (x y : Int32) : Int32 := if y < x then y else x
/-- the program's three strings: dlex, ftknqsw, .kucwrxj -/
def lits (k : Nat) : List Int := match k with
  | 0 => [100, 108, 101, 120]
  | 1 => [102, 116, 107, 110, 113, 115, 119]
  | _ => [46, 107, 117, 99, 119, 114, 120, 106]
/-- a name for a value -/
noncomputable def lt (x : γ) (f : γ → Option β) : Option β := f x
theorem lt_some {x : γ} {f : γ → Option β} {z : β} (h : lt x f = some z) : ∃ y, x = y ∧ f y = some z := ⟨x, rfl, h⟩
theorem dv_some {x y : Int32} {f : Int32 → Option β} {z : β} (h : dv x y f = some z) : ¬ y = 0 ∧ f (x / y) = some z := by
  unfold dv at h
  split at h
  · cases h
  · exact ⟨by assumption, h⟩
theorem rm_some {x y : Int32} {f : Int32 → Option β} {z : β} (h : rm x y f = some z) : ¬ y = 0 ∧ f (x - x / y * y) = some z := by
  unfold rm at h
  split at h
  · cases h
  · exact ⟨by assumption, h⟩
/-- the law's script -/
noncomputable def scI (n : Nat) (xs : Nat → Int32) (i : Int32) (f : Int32 → Option β) : Option β := if inR i n then f (xs (ix i)) else none
theorem cl_some {o : Option (γ × Mem)} {f : γ → Mem → Option β} {z : β} (h : cl o f = some z) : ∃ r σ', o = some (r, σ') ∧ f r σ' = some z := by
  cases o with
  | none => cases h
  | some x => exact ⟨x.1, x.2, rfl, h⟩
end Comb
/-- the memory at the law's start -/
def mem0 : Mem := (fun _ _ => 0, fun _ _ => none, fun _ => (99, 0), 0, 0)
