/-! DEPS: tw -/
/-! YA: the laws' text: a reader by descent, and codes with jumps -/
abbrev Fct : Type := Int → Int
abbrev SumV : Type := Fct → Option Int32
abbrev CndV : Type := Fct → Option Bool
abbrev Res (α : Type) : Type := (Int × Int) ⊕ (α × Int)
/-- the letter at a place; behind the end: -1 -/
def hrA (T : Int → Int) (n p : Int) : Int := if p < n then T p else -1
abbrev isDig (c : Int) : Prop := 48 ≤ c ∧ c ≤ 57
def factA (c : Int) : Int := if c = 102 then 0 else if c = 116 then 1 else if c = 107 then 2 else if c = 110 then 3 else if c = 113 then 4 else if c = 115 then 5 else if c = 119 then 6 else -1
def mulA (c : Int) : Int := if c = 42 then 4 else if c = 47 then 5 else if c = 37 then 6 else -1
def addA (c : Int) : Int := if c = 43 then 2 else if c = 45 then 3 else -1
def cmpA (c : Int) : Int := if c = 60 then 7 else if c = 62 then 8 else if c = 61 then 9 else -1
def reckA (op : Int) (x y : Int32) : Int32 := if op = 2 then x + y else if op = 3 then x - y else if op = 4 then x * y else if op = 5 then x / y else if op = 6 then x - x / y * y
  else if op = 7 then (if x < y then iI 1 else iI 0) else if op = 8 then (if y < x then iI 1 else iI 0) else (if x = y then iI 1 else iI 0)
def binA (op : Int) (x y : Int32) : Option Int32 := if (op = 5 ∨ op = 6) ∧ y = iI 0 then none else some (reckA op x y)
def binV (op : Int) (a b : SumV) : SumV := fun F => match a F with
  | none => none
  | some x => match b F with
    | none => none
    | some y => binA op x y
def tstA (op : Int) (x y : Int32) : Bool := if op = 7 then decide (x < y) else if op = 8 then decide (y < x) else decide (x = y)
def cmpV (op : Int) (a b : SumV) : CndV := fun F => match a F with
  | none => none
  | some x => match b F with
    | none => none
    | some y => some (tstA op x y)
def notV (a : CndV) : CndV := fun F => match a F with
  | none => none
  | some x => some (!x)
def andV (a b : CndV) : CndV := fun F => match a F with
  | none => none
  | some true => b F
  | some false => some false
def orV (a b : CndV) : CndV := fun F => match a F with
  | none => none
  | some true => some true
  | some false => b F
/-! reading by descent -/
section
variable (T : Int → Int) (n : Int)
def rNumL (first : Int) : Nat → Int → Int → (Int × Int) ⊕ (Int × Int)
  | 0, _, p => .inl (2, p)
  | f + 1, v, p => if isDig (hrA T n p) then (if p = first + 5 then .inl (2, p) else rNumL first f (10 * v + hrA T n p - 48) (p + 1)) else .inr (v, p)
def rFac (sm : Int → Int → Res SumV) (o p : Int) : Res SumV :=
  if hrA T n p = 91 then
    if o = 6 then .inl (5, p) else match sm (o + 1) (p + 1) with
      | .inl e => .inl e
      | .inr (e, p') => if hrA T n p' = 93 then .inr (e, p' + 1) else .inl (1, p')
  else if isDig (hrA T n p) then match rNumL T n p 6 0 p with
    | .inl e => .inl e
    | .inr (v, p') => .inr (fun _ => some (iI v), p')
  else if factA (hrA T n p) = -1 then .inl (1, p) else .inr (fun F => some (iI (F (factA (hrA T n p)))), p + 1)
/-- operands by a sign: as long as there is one -/
def rOps (sg : Int → Int) (rd : Int → Res SumV) : Nat → SumV → Int → Res SumV
  | 0, _, p => .inl (0, p)
  | f + 1, e, p => if sg (hrA T n p) = -1 then .inr (e, p) else match rd (p + 1) with
    | .inl x => .inl x
    | .inr (e2, p2) => rOps sg rd f (binV (sg (hrA T n p)) e e2) p2
def rSeq (sg : Int → Int) (rd : Int → Res SumV) (p : Int) : Res SumV := match rd p with
  | .inl x => .inl x
  | .inr (e, p') => rOps T n sg rd ((n - p').toNat + 1) e p'
def rSum : Nat → Int → Int → Res SumV
  | 0, _, p => .inl (0, p)
  | d + 1, o, p => rSeq T n addA (rSeq T n mulA (rFac T n (rSum d) o)) p
def rCmp (o p : Int) : Res CndV := match rSum T n 7 o p with
  | .inl x => .inl x
  | .inr (e1, p1) => if cmpA (hrA T n p1) = -1 then .inl (1, p1) else match rSum T n 7 o (p1 + 1) with
    | .inl x => .inl x
    | .inr (e2, p2) => .inr (cmpV (cmpA (hrA T n p1)) e1 e2, p2)
def rJoin (c : Int) (j : CndV → CndV → CndV) (rd : Int → Res CndV) : Nat → CndV → Int → Res CndV
  | 0, _, p => .inl (0, p)
  | f + 1, e, p => if hrA T n p = c then match rd (p + 1) with
      | .inl x => .inl x
      | .inr (e2, p2) => rJoin c j rd f (j e e2) p2
    else .inr (e, p)
def rChn (c : Int) (j : CndV → CndV → CndV) (rd : Int → Res CndV) (p : Int) : Res CndV := match rd p with
  | .inl x => .inl x
  | .inr (e, p') => rJoin T n c j rd ((n - p').toNat + 1) e p'
def rCnd (pc : Int → Int → Res CndV) (o p : Int) : Res CndV :=
  if o = 6 then .inl (5, p) else match rChn T n 124 orV (rChn T n 38 andV (pc (o + 1))) (p + 1) with
    | .inl x => .inl x
    | .inr (e, p') => if hrA T n p' = 41 then .inr (e, p' + 1) else .inl (1, p')
def rPiece : Nat → Int → Int → Res CndV
  | 0, _, p => .inl (0, p)
  | d + 1, o, p => if hrA T n p = 33 then (if o = 6 then .inl (5, p) else match rPiece d (o + 1) (p + 1) with
        | .inl x => .inl x
        | .inr (e, p') => .inr (notV e, p'))
    else if hrA T n p = 40 then rCnd T n (rPiece d) o p
    else rCmp T n o p
/-- a clause: its letter, its sum, its condition -/
abbrev Cls : Type := Int × SumV × CndV
def isCls (c : Int) : Prop := c = 100 ∨ c = 108 ∨ c = 101 ∨ c = 120
def rTail (c : Int) (e : SumV) (p : Int) : Res Cls := if hrA T n p = 40 then match rCnd T n (rPiece T n 7) 0 p with
    | .inl x => .inl x
    | .inr (x, p') => .inr ((c, e, x), p')
  else .inl (1, p)
def rCls (many p : Int) : Res Cls :=
  if ¬ (hrA T n p = 100 ∨ hrA T n p = 108 ∨ hrA T n p = 101 ∨ hrA T n p = 120) then .inl (1, p) else if many = 16 then .inl (4, p)
  else if hrA T n p = 120 then rTail T n 120 (fun _ => none) (p + 1) else match rSum T n 7 0 (p + 1) with
    | .inl x => .inl x
    | .inr (e, p') => rTail T n (hrA T n p) e p'
def rText : Nat → List Cls → Int → (Int × Int) ⊕ (List Cls)
  | 0, _, p => .inl (0, p)
  | f + 1, l, p => match rCls T n l.length p with
    | .inl x => .inl x
    | .inr (c, p') => if p' < n then (if hrA T n p' = 59 then rText f (l ++ [c]) (p' + 1) else .inl (1, p')) else .inr (l ++ [c])
end
/-- what a text tells -/
def lawOf : List Cls → Law
  | [], _, _ => none
  | (l, e, x) :: t, c, F => if l = c ∧ x F = some true then some ((e F).getD (iI 0)) else lawOf t c F
/-! codes -/
/-- what a jump goes by -/
def wantA (op : Int) : Int32 := if op = 12 then iI 1 else iI 0
/-- one code is done: where it goes on, how high the stack is, the stack; refused; stuck -/
def stpA (c : Int → Int) (F : Fct) (k n : Int) (S : Nat → Int32) : Option (Option (Int × Int × (Nat → Int32))) :=
  let op := c k / 1048576
  let v := c k % 1048576
  if c k < 0 ∨ 2147483647 < c k ∨ n < 0 then none
  else if op = 0 then some (some (k + 1, n + 1, fun j => if (j : Int) = n then iI v else S j))
  else if op = 1 then (if 0 ≤ v ∧ v < 7 then some (some (k + 1, n + 1, fun j => if (j : Int) = n then iI (F v) else S j)) else none)
  else if op = 10 then (if 1 ≤ n then some (some (k + 1, n, fun j => if (j : Int) = n - 1 then iI 1 - S (n - 1).toNat else S j)) else none)
  else if op = 11 ∨ op = 12 then (if 1 ≤ n ∧ k < v then (if S (n - 1).toNat = wantA op then some (some (v, n, S)) else some (some (k + 1, n - 1, S))) else none)
  else if 2 ≤ op ∧ op ≤ 9 then (if 2 ≤ n then (if (op = 5 ∨ op = 6) ∧ S (n - 1).toNat = iI 0 then some none else some (some (k + 1, n - 1, fun j => if (j : Int) = n - 2 then reckA op (S (n - 2).toNat) (S (n - 1).toNat) else S j))) else none)
  else none
def goA (c : Int → Int) (F : Fct) (b : Int) : Nat → Int → Int → (Nat → Int32) → Option (Option (Int × Int × (Nat → Int32)))
  | 0, _, _, _ => none
  | f + 1, k, n, S => if b ≤ k then some (some (k, n, S)) else match stpA c F k n S with
    | none => none
    | some none => some none
    | some (some (k', n', S')) => goA c F b f k' n' S'
/-- the codes from a to b come to e -/
def RunS (c : Int → Int) (a b : Int) (e : SumV) : Prop := a < b ∧ ∀ (F : Fct) (n : Int) (S : Nat → Int32), 0 ≤ n → ∃ f : Nat, (f : Int) ≤ 3 * (b - a) ∧ match e F with
  | none => goA c F b f a n S = some none
  | some v => ∃ S', goA c F b f a n S = some (some (b, n + 1, S')) ∧ S' n.toNat = v ∧ ∀ j : Nat, (j : Int) < n → S' j = S j
theorem stpA_up {c : Int → Int} {F : Fct} {k n k' n' : Int} {S S' : Nat → Int32} (h : stpA c F k n S = some (some (k', n', S'))) : k < k' ∧ 0 ≤ n' ∧ n' ≤ n + 1 := by
  unfold stpA at h
  simp only [] at h
  split at h
  · cases h
  · rename_i h0
    split at h
    · cases h; omega
    · split at h
      · split at h
        · cases h; omega
        · cases h
      · split at h
        · split at h
          · cases h; omega
          · cases h
        · split at h
          · split at h
            · rename_i hv
              split at h
              · cases h; omega
              · cases h; omega
            · cases h
          · split at h
            · split at h
              · split at h
                · cases h
                · cases h; omega
              · cases h
            · cases h
theorem goA_mono {c : Int → Int} {F : Fct} {b : Int} {r : Option (Int × Int × (Nat → Int32))} : ∀ (f : Nat) (k n : Int) (S : Nat → Int32) (x : Nat), goA c F b f k n S = some r → goA c F b (f + x) k n S = some r
  | 0, k, n, S, x, h => by cases h
  | f + 1, k, n, S, x, h => by
    rw [show f + 1 + x = f + x + 1 by omega]
    unfold goA at h ⊢
    split
    · rename_i c1
      rw [if_pos c1] at h
      exact h
    · rename_i c1
      rw [if_neg c1] at h
      cases e : stpA c F k n S with
      | none => rw [e] at h; cases h
      | some z =>
        rw [e] at h
        cases z with
        | none => exact h
        | some w => exact goA_mono f _ _ _ x h
/-- a way to a, then on -/
theorem goA_thn {c : Int → Int} {F : Fct} {a b n1 : Int} {S1 : Nat → Int32} {r : Option (Int × Int × (Nat → Int32))} (hab : a ≤ b) {f2 : Nat} (h2 : goA c F b f2 a n1 S1 = some r) : ∀ (f : Nat) (k n : Int) (S : Nat → Int32), goA c F a f k n S = some (some (a, n1, S1)) → goA c F b (f + f2) k n S = some r
  | 0, k, n, S, h => by cases h
  | f + 1, k, n, S, h => by
    unfold goA at h
    split at h
    · rename_i c1
      cases h
      rw [show f + 1 + f2 = f2 + (f + 1) by omega]
      exact goA_mono f2 _ _ _ _ h2
    · rename_i c1
      rw [show f + 1 + f2 = f + f2 + 1 by omega]
      unfold goA
      rw [if_neg (by omega)]
      cases e : stpA c F k n S with
      | none => rw [e] at h; cases h
      | some z =>
        rw [e] at h
        cases z with
        | none => cases h
        | some w => exact goA_thn hab h2 f _ _ _ h
theorem goA_bad {c : Int → Int} {F : Fct} {a b : Int} (hab : a ≤ b) : ∀ (f : Nat) (k n : Int) (S : Nat → Int32), goA c F a f k n S = some none → goA c F b f k n S = some none
  | 0, k, n, S, h => by cases h
  | f + 1, k, n, S, h => by
    unfold goA at h ⊢
    split at h
    · cases h
    · rename_i c1
      rw [if_neg (by omega)]
      cases e : stpA c F k n S with
      | none => rw [e] at h; cases h
      | some z =>
        rw [e] at h
        cases z with
        | none => rfl
        | some w => exact goA_bad hab f _ _ _ h
theorem goA_ext {c c' : Int → Int} {F : Fct} {a b : Int} (he : ∀ i, a ≤ i → i < b → c' i = c i) : ∀ (f : Nat) (k n : Int) (S : Nat → Int32), a ≤ k → goA c' F b f k n S = goA c F b f k n S
  | 0, k, n, S, h => rfl
  | f + 1, k, n, S, h => by
    unfold goA
    by_cases c1 : b ≤ k
    · rw [if_pos c1, if_pos c1]
    · rw [if_neg c1, if_neg c1]
      have : stpA c' F k n S = stpA c F k n S := by
        unfold stpA
        rw [he k h (by omega)]
      rw [this]
      cases e : stpA c F k n S with
      | none => rfl
      | some z =>
        cases z with
        | none => rfl
        | some w =>
          have := stpA_up e
          exact goA_ext he f _ _ _ (by omega)
theorem stpA_in {c : Int → Int} {F : Fct} {k n : Int} {S : Nat → Int32} {z : Option (Int × Int × (Nat → Int32))} (h : stpA c F k n S = some z) : 0 ≤ c k ∧ c k ≤ 2147483647 := by
  unfold stpA at h
  simp only [] at h
  by_cases c1 : c k < 0 ∨ 2147483647 < c k ∨ n < 0
  · rw [if_pos c1] at h; cases h
  · omega
theorem goA_ext2 {c c' : Int → Int} {F : Fct} {a b : Int} {r : Option (Int × Int × (Nat → Int32))} (he : ∀ i, a ≤ i → i < b → 0 ≤ c i → c i ≤ 2147483647 → c' i = c i) : ∀ (f : Nat) (k n : Int) (S : Nat → Int32), a ≤ k → goA c F b f k n S = some r → goA c' F b f k n S = some r
  | 0, k, n, S, hk, h => by cases h
  | f + 1, k, n, S, hk, h => by
    unfold goA at h ⊢
    by_cases c1 : b ≤ k
    · rw [if_pos c1] at h ⊢
      exact h
    · rw [if_neg c1] at h ⊢
      cases e : stpA c F k n S with
      | none => rw [e] at h; cases h
      | some z =>
        have i := stpA_in e
        have e' : stpA c' F k n S = some z := by
          rw [← e]
          unfold stpA
          rw [he k hk (by omega) i.1 i.2]
        rw [e] at h
        rw [e']
        cases z with
        | none => exact h
        | some w =>
          have := stpA_up e
          exact goA_ext2 he f _ _ _ (by omega) h
theorem RunS.ext2 {c c' : Int → Int} {a b : Int} {e : SumV} (r : RunS c a b e) (he : ∀ i, a ≤ i → i < b → 0 ≤ c i → c i ≤ 2147483647 → c' i = c i) : RunS c' a b e := by
  refine ⟨r.1, fun F n S hn => ?_⟩
  obtain ⟨f, hf, h⟩ := r.2 F n S hn
  refine ⟨f, hf, ?_⟩
  cases e1 : e F with
  | none => rw [e1] at h; exact goA_ext2 he f a n S (Int.le_refl _) h
  | some v =>
    rw [e1] at h
    obtain ⟨S', h1, h2⟩ := h
    exact ⟨S', goA_ext2 he f a n S (Int.le_refl _) h1, h2⟩
theorem RunS.ext {c c' : Int → Int} {a b : Int} {e : SumV} (r : RunS c a b e) (he : ∀ i, a ≤ i → i < b → c' i = c i) : RunS c' a b e := by
  refine ⟨r.1, fun F n S hn => ?_⟩
  obtain ⟨f, hf, h⟩ := r.2 F n S hn
  refine ⟨f, hf, ?_⟩
  cases e1 : e F with
  | none => rw [e1] at h; exact (goA_ext he f a n S (Int.le_refl _)).trans h
  | some v =>
    rw [e1] at h
    obtain ⟨S', h1, h2⟩ := h
    exact ⟨S', (goA_ext he f a n S (Int.le_refl _)).trans h1, h2⟩
theorem go_one {c : Int → Int} {F : Fct} {k n n' : Int} {S S' : Nat → Int32} (h : stpA c F k n S = some (some (k + 1, n', S'))) : goA c F (k + 1) 2 k n S = some (some (k + 1, n', S')) := by
  unfold goA
  rw [if_neg (by omega), h]
  show goA c F (k + 1) 1 (k + 1) n' S' = _
  unfold goA
  rw [if_pos (by omega)]
theorem RunS.num {c : Int → Int} {a v : Int} (h : c a = v) (v0 : 0 ≤ v) (v1 : v < 1048576) : RunS c a (a + 1) (fun _ => some (iI v)) := by
  refine ⟨by omega, fun F n S hn => ⟨2, by omega, ?_⟩⟩
  refine ⟨_, go_one (n' := n + 1) (S' := fun j => if (j : Int) = n then iI v else S j) ?_, ?_, fun j hj => ?_⟩
  · unfold stpA
    simp only [h]
    rw [if_neg (by omega), if_pos (by omega), show v % 1048576 = v by omega]
  · show (if ((n.toNat : Nat) : Int) = n then iI v else S n.toNat) = iI v
    rw [if_pos (by omega)]
  · exact if_neg (by omega)
theorem RunS.let {c : Int → Int} {a w : Int} (h : c a = 1048576 + w) (w0 : 0 ≤ w) (w1 : w < 7) : RunS c a (a + 1) (fun F => some (iI (F w))) := by
  refine ⟨by omega, fun F n S hn => ⟨2, by omega, ?_⟩⟩
  refine ⟨_, go_one (n' := n + 1) (S' := fun j => if (j : Int) = n then iI (F w) else S j) ?_, ?_, fun j hj => ?_⟩
  · unfold stpA
    simp only [h]
    rw [if_neg (by omega), if_neg (by omega), if_pos (by omega), if_pos (by omega), show (1048576 + w) % 1048576 = w by omega]
  · show (if ((n.toNat : Nat) : Int) = n then iI (F w) else S n.toNat) = iI (F w)
    rw [if_pos (by omega)]
  · exact if_neg (by omega)
/-- two pieces and a code of two -/
theorem RunS.two {c : Int → Int} {a m b op : Int} {e1 e2 e : SumV} (r1 : RunS c a m e1) (r2 : RunS c m b e2) (h : c b = 1048576 * op) (o2 : 2 ≤ op) (o9 : op ≤ 9)
    (he : ∀ F, e F = match e1 F with | none => none | some x => match e2 F with | none => none | some y => binA op x y) : RunS c a (b + 1) e := by
  have l1 := r1.1
  have l2 := r2.1
  refine ⟨by omega, fun F n S hn => ?_⟩
  obtain ⟨f1, hf1, h1⟩ := r1.2 F n S hn
  cases x1 : e1 F with
  | none =>
    rw [x1] at h1
    have ee : e F = none := by rw [he, x1]
    rw [ee]
    exact ⟨f1, by omega, goA_bad (by omega) f1 _ _ _ h1⟩
  | some x =>
    rw [x1] at h1
    obtain ⟨S1, g1, g2, g3⟩ := h1
    obtain ⟨f2, hf2, h2⟩ := r2.2 F (n + 1) S1 (by omega)
    cases x2 : e2 F with
    | none =>
      rw [x2] at h2
      have ee : e F = none := by rw [he, x1, x2]
      rw [ee]
      exact ⟨f1 + f2, by omega, goA_thn (by omega) (goA_bad (by omega) f2 _ _ _ h2) f1 _ _ _ g1⟩
    | some y =>
      rw [x2] at h2
      obtain ⟨S2, k1, k2, k3⟩ := h2
      have sx : S2 n.toNat = x := (k3 n.toNat (by omega)).trans g2
      have st : stpA c F b (n + 1 + 1) S2 = if (op = 5 ∨ op = 6) ∧ y = iI 0 then some none else some (some (b + 1, n + 1, fun j : Nat => if (j : Int) = n then reckA op x y else S2 j)) := by
        unfold stpA
        simp only [h]
        have q1 : 1048576 * op / 1048576 = op := by omega
        rw [q1, if_neg (by omega), if_neg (by omega), if_neg (by omega), if_neg (by omega), if_neg (by omega), if_pos (by omega), if_pos (by omega), show n + 1 + 1 - 1 = n + 1 by omega, show n + 1 + 1 - 2 = n by omega, k2, sx]
      have ee : e F = binA op x y := by rw [he, x1, x2]
      rw [ee]
      unfold binA
      by_cases z : (op = 5 ∨ op = 6) ∧ y = iI 0
      · rw [if_pos z] at st ⊢
        refine ⟨f1 + (f2 + 1), by omega, goA_thn (by omega) (goA_thn (by omega) (?_ : goA c F (b + 1) 1 b (n + 1 + 1) S2 = some none) f2 _ _ _ k1) f1 _ _ _ g1⟩
        unfold goA
        rw [if_neg (by omega), st]
      · rw [if_neg z] at st ⊢
        refine ⟨f1 + (f2 + 2), by omega, _, goA_thn (by omega) (goA_thn (by omega) (go_one st) f2 _ _ _ k1) f1 _ _ _ g1, ?_, fun j hj => ?_⟩
        · show (if ((n.toNat : Nat) : Int) = n then reckA op x y else S2 n.toNat) = reckA op x y
          rw [if_pos (by omega)]
        · show (if (j : Int) = n then reckA op x y else S2 j) = S j
          rw [if_neg (by omega), k3 j (by omega), g3 j hj]
theorem RunS.bin {c : Int → Int} {a m b op : Int} {e1 e2 : SumV} (r1 : RunS c a m e1) (r2 : RunS c m b e2) (h : c b = 1048576 * op) (o2 : 2 ≤ op) (o9 : op ≤ 9) : RunS c a (b + 1) (binV op e1 e2) :=
  r1.two r2 h o2 o9 (fun F => rfl)
/-- a condition as a number -/
def numV (x : CndV) : SumV := fun F => (x F).map (fun z => if z = true then iI 1 else iI 0)
theorem RunS.cmp {c : Int → Int} {a m b op : Int} {e1 e2 : SumV} (r1 : RunS c a m e1) (r2 : RunS c m b e2) (h : c b = 1048576 * op) (o2 : op = 7 ∨ op = 8 ∨ op = 9) : RunS c a (b + 1) (numV (cmpV op e1 e2)) := by
  refine r1.two r2 h (by omega) (by omega) (fun F => ?_)
  unfold numV cmpV
  cases e1 F with
  | none => rfl
  | some x =>
    cases e2 F with
    | none => rfl
    | some y =>
      show some (if tstA op x y = true then iI 1 else iI 0) = binA op x y
      have d : ∀ (p : Prop) [Decidable p], (if decide p = true then iI 1 else iI 0) = (if p then iI 1 else iI 0) := by
        intro p _
        by_cases q : p
        · rw [if_pos q, decide_eq_true q]; rfl
        · rw [if_neg q, decide_eq_false q]; rfl
      rcases o2 with o | o | o <;> subst o
      · have : binA 7 x y = some (reckA 7 x y) := if_neg (fun q => by rcases q.1 with q | q <;> omega)
        rw [this]
        exact congrArg some (d (x < y))
      · have : binA 8 x y = some (reckA 8 x y) := if_neg (fun q => by rcases q.1 with q | q <;> omega)
        rw [this]
        exact congrArg some (d (y < x))
      · have : binA 9 x y = some (reckA 9 x y) := if_neg (fun q => by rcases q.1 with q | q <;> omega)
        rw [this]
        exact congrArg some (d (x = y))
theorem RunS.not {c : Int → Int} {a b : Int} {x : CndV} (r : RunS c a b (numV x)) (h : c b = 1048576 * 10) : RunS c a (b + 1) (numV (notV x)) := by
  have l := r.1
  refine ⟨by omega, fun F n S hn => ?_⟩
  obtain ⟨f, hf, g⟩ := r.2 F n S hn
  unfold numV notV at *
  cases e : x F with
  | none =>
    simp only [e, Option.map] at g ⊢
    exact ⟨f, by omega, goA_bad (by omega) f _ _ _ g⟩
  | some z =>
    simp only [e, Option.map] at g ⊢
    obtain ⟨S1, g1, g2, g3⟩ := g
    have st : stpA c F b (n + 1) S1 = some (some (b + 1, n + 1, fun j : Nat => if (j : Int) = n then iI 1 - (if z = true then iI 1 else iI 0) else S1 j)) := by
      unfold stpA
      simp only [h]
      rw [if_neg (by omega), if_neg (by omega), if_neg (by omega), if_pos (by omega), if_pos (by omega), show n + 1 - 1 = n by omega, g2]
    refine ⟨f + 2, by omega, _, goA_thn (by omega) (go_one st) f _ _ _ g1, ?_, fun j hj => ?_⟩
    · show (if ((n.toNat : Nat) : Int) = n then iI 1 - (if z = true then iI 1 else iI 0) else S1 n.toNat) = _
      rw [if_pos (by omega)]
      cases z <;> decide
    · show (if (j : Int) = n then _ else S1 j) = S j
      rw [if_neg (by omega), g3 j hj]
/-- a piece, a jump behind the next piece, the next piece -/
theorem RunS.jmp {c : Int → Int} {a b d : Int} {x y : CndV} {isOr : Prop} [Decidable isOr] (r1 : RunS c a b (numV x)) (r2 : RunS c (b + 1) d (numV y)) (h : c b = 1048576 * (if isOr then 12 else 11) + d) (d9 : d < 1048576) (b0 : 0 ≤ b) : RunS c a d (numV (if isOr then orV x y else andV x y)) := by
  have l1 := r1.1
  have l2 := r2.1
  refine ⟨by omega, fun F n S hn => ?_⟩
  obtain ⟨f1, hf1, g⟩ := r1.2 F n S hn
  have hop : ∀ (n1 : Int) (S1 : Nat → Int32), 1 ≤ n1 → stpA c F b n1 S1 = if S1 (n1 - 1).toNat = (if isOr then iI 1 else iI 0) then some (some (d, n1, S1)) else some (some (b + 1, n1 - 1, S1)) := by
    intro n1 S1 hn1
    unfold stpA
    simp only [h]
    by_cases o : isOr
    · simp only [if_pos o]
      have q1 : (1048576 * 12 + d) / 1048576 = 12 := by omega
      have q2 : (1048576 * 12 + d) % 1048576 = d := by omega
      rw [q1, q2, if_neg (by omega), if_neg (by omega), if_neg (by omega), if_neg (by omega), if_pos (by omega), if_pos (by omega)]
      rfl
    · simp only [if_neg o]
      have q1 : (1048576 * 11 + d) / 1048576 = 11 := by omega
      have q2 : (1048576 * 11 + d) % 1048576 = d := by omega
      rw [q1, q2, if_neg (by omega), if_neg (by omega), if_neg (by omega), if_neg (by omega), if_pos (by omega), if_pos (by omega)]
      rfl
  cases e : x F with
  | none =>
    have en : numV x F = none := by unfold numV; rw [e]; rfl
    have eg : numV (if isOr then orV x y else andV x y) F = none := by
      unfold numV
      by_cases o : isOr
      · rw [if_pos o]; unfold orV; rw [e]; rfl
      · rw [if_neg o]; unfold andV; rw [e]; rfl
    rw [en] at g
    rw [eg]
    exact ⟨f1, by omega, goA_bad (by omega) f1 _ _ _ g⟩
  | some z =>
    have en : numV x F = some (if z = true then iI 1 else iI 0) := by unfold numV; rw [e]; rfl
    rw [en] at g
    obtain ⟨S1, g1, g2, g3⟩ := g
    have hs := hop (n + 1) S1 (by omega)
    rw [show n + 1 - 1 = n by omega, g2] at hs
    by_cases dec : z = decide isOr
    · have eg : numV (if isOr then orV x y else andV x y) F = some (if z = true then iI 1 else iI 0) := by
        unfold numV
        by_cases o : isOr
        · rw [if_pos o]; unfold orV; rw [e, dec, decide_eq_true o]; rfl
        · rw [if_neg o]; unfold andV; rw [e, dec, decide_eq_false o]; rfl
      have hs2 : stpA c F b (n + 1) S1 = some (some (d, n + 1, S1)) := by
        rw [hs, dec]
        by_cases o : isOr
        · rw [decide_eq_true o, if_pos (by rw [if_pos o]; rfl)]
        · rw [decide_eq_false o, if_pos (by rw [if_neg o]; rfl)]
      rw [eg]
      refine ⟨f1 + 2, by omega, S1, goA_thn (by omega) (?_ : goA c F d 2 b (n + 1) S1 = _) f1 _ _ _ g1, g2, g3⟩
      unfold goA
      rw [if_neg (by omega), hs2]
      show goA c F d 1 d (n + 1) S1 = _
      unfold goA
      rw [if_pos (by omega)]
    · have hs2 : stpA c F b (n + 1) S1 = some (some (b + 1, n, S1)) := by
        rw [hs]
        by_cases o : isOr
        · rw [decide_eq_true o] at dec
          have : z = false := by cases z <;> simp_all
          rw [this, if_neg (by rw [if_pos o]; exact iv_10)]
        · rw [decide_eq_false o] at dec
          have : z = true := by cases z <;> simp_all
          rw [this, if_neg (by rw [if_neg o]; exact iv_01)]
      have eg : numV (if isOr then orV x y else andV x y) F = numV y F := by
        unfold numV
        by_cases o : isOr
        · rw [if_pos o]
          rw [decide_eq_true o] at dec
          have : z = false := by cases z <;> simp_all
          unfold orV; rw [e, this]
        · rw [if_neg o]
          rw [decide_eq_false o] at dec
          have : z = true := by cases z <;> simp_all
          unfold andV; rw [e, this]
      obtain ⟨f2, hf2, k⟩ := r2.2 F n S1 hn
      rw [eg]
      have one : ∀ {r : Option (Int × Int × (Nat → Int32))} {f : Nat}, goA c F d f (b + 1) n S1 = some r → goA c F d (f + 1) b (n + 1) S1 = some r := by
        intro r f q
        unfold goA
        rw [if_neg (by omega), hs2]
        exact q
      cases ey : numV y F with
      | none =>
        rw [ey] at k
        exact ⟨f1 + (f2 + 1), by omega, goA_thn (by omega) (one k) f1 _ _ _ g1⟩
      | some v =>
        rw [ey] at k
        obtain ⟨S2, k1, k2, k3⟩ := k
        exact ⟨f1 + (f2 + 1), by omega, S2, goA_thn (by omega) (one k1) f1 _ _ _ g1, k2, fun j hj => (k3 j hj).trans (g3 j hj)⟩
