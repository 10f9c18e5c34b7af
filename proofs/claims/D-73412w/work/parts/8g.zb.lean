/-! DEPS: ya -/
/-! ZB: the plans' text: by descent, and as a loop over a stack -/
abbrev Act : Type := Int × Int × Int × Int
abbrev ResP : Type := (Int × Int) ⊕ (List Act × Int)
section
variable (T : Int → Int) (n : Int)
def pTm (p : Int) : Int := if 50 ≤ hrA T n p ∧ hrA T n p ≤ 57 then hrA T n p - 48 else 1
def pSt (p : Int) : Int := if 50 ≤ hrA T n p ∧ hrA T n p ≤ 57 then p + 1 else p
abbrev isActA (c : Int) : Prop := c = 46 ∨ c = 107 ∨ c = 117 ∨ c = 99 ∨ c = 119 ∨ c = 114 ∨ c = 120 ∨ c = 106
abbrev pDg (hi p : Int) : Prop := 48 ≤ hrA T n p ∧ hrA T n p ≤ 48 + hi
/-- what stands behind an act's letter c -/
def pNum (c p : Int) : (Int × Int) ⊕ (Act × Int) := if c = 46 then .inr ((c, 0, 0, 0), p) else if ¬ pDg T n 6 p then .inl (1, p)
  else if c = 107 ∨ c = 117 ∨ c = 99 then .inr ((c, hrA T n p - 48, 0, 0), p + 1)
  else if ¬ pDg T n (if c = 120 ∨ c = 106 then 6 else 7) (p + 1) then .inl (1, p + 1)
  else if (c = 120 ∨ c = 106) ∧ hrA T n p = hrA T n (p + 1) then .inl (7, p + 1)
  else if c ≠ 119 then .inr ((c, hrA T n p - 48, hrA T n (p + 1) - 48, 0), p + 2)
  else if ¬ pDg T n 9 (p + 2) then .inl (1, p + 2) else .inr ((c, hrA T n p - 48, hrA T n (p + 1) - 48, hrA T n (p + 2) - 48), p + 3)
/-- what stands behind start is done t times -/
def pRep (l : List Act) (start : Nat) (t fr p : Int) : ResP := if (start : Int) + ((l.length : Int) - start) * t > 200 then .inl (6, fr) else .inr (l.take start ++ (List.replicate t.toNat (l.drop start)).flatten, p)
def pAct (l : List Act) (fr t p : Int) : ResP := if ¬ isActA (hrA T n p) then .inl (1, p) else match pNum T n (hrA T n p) (p + 1) with
  | .inl e => .inl e
  | .inr (x, p') => if (l.length : Int) + t > 200 then .inl (6, fr) else pRep (l ++ [x]) l.length t fr p'
def pAllL (one : List Act → Int → ResP) : Nat → List Act → Int → ResP
  | 0, _, p => .inl (0, p)
  | f + 1, l, p => match one l p with
    | .inl e => .inl e
    | .inr (l', p') => if p' < n ∧ hrA T n p' ≠ 41 then pAllL one f l' p' else .inr (l', p')
def pOne : Nat → List Act → Int → ResP
  | 0, l, p => if hrA T n (pSt T n p) = 40 then .inl (5, pSt T n p) else pAct T n l p (pTm T n p) (pSt T n p)
  | d + 1, l, p => if hrA T n (pSt T n p) = 40 then match pAllL T n (pOne d) (n.toNat + 1) l (pSt T n p + 1) with
      | .inl e => .inl e
      | .inr (l', p2) => if hrA T n p2 = 41 then pRep l' l.length (pTm T n p) p (p2 + 1) else .inl (1, p2)
    else pAct T n l p (pTm T n p) (pSt T n p)
def pPlan : (Int × Int) ⊕ List Act := match pAllL T n (pOne T n 2) (n.toNat + 1) [] 0 with
  | .inl e => .inl e
  | .inr (l, p) => if p < n then .inl (1, p) else .inr l
/-! the loop -/
abbrev Stk : Type := List (Int × Nat × Int)
def tItem : Nat → Stk → List Act → Int → (Int × Int) ⊕ (Stk × List Act × Int)
  | 0, _, _, p => .inl (0, p)
  | f + 1, s, l, p => if hrA T n (pSt T n p) = 40 then (if s.length = 2 then .inl (5, pSt T n p) else tItem f ((p, l.length, pTm T n p) :: s) l (pSt T n p + 1))
    else match pAct T n l p (pTm T n p) (pSt T n p) with
      | .inl e => .inl e
      | .inr (l', p') => .inr (s, l', p')
def tPop : Stk → List Act → Int → (Int × Int) ⊕ (Stk × List Act × Int)
  | [], l, p => .inr ([], l, p)
  | (fr, st, t) :: s, l, p => if hrA T n p = 41 then match pRep l st t fr (p + 1) with
      | .inl e => .inl e
      | .inr (l', p') => tPop s l' p'
    else .inr ((fr, st, t) :: s, l, p)
def tRun : Nat → Stk → List Act → Int → (Int × Int) ⊕ List Act
  | 0, _, _, p => .inl (0, p)
  | f + 1, s, l, p => if p < n ∨ s ≠ [] then match tItem T n 4 s l p with
      | .inl e => .inl e
      | .inr (s', l', p') => match tPop T n s' l' p' with
        | .inl e => .inl e
        | .inr (s2, l2, p2) => tRun f s2 l2 p2
    else .inr l
end
section
variable {T : Int → Int} {n : Int}
theorem pSt_le {p : Int} : p ≤ pSt T n p ∧ pSt T n p ≤ p + 1 := by unfold pSt; split <;> omega
theorem hr_lt {p : Int} (h : 0 ≤ hrA T n p) : p < n := by unfold hrA at h; split at h <;> omega
theorem pSt_n {p : Int} (h : p ≤ n) : pSt T n p ≤ n := by
  unfold pSt
  split
  · rename_i c; have := hr_lt (T := T) (n := n) (p := p) (by omega); omega
  · exact h
theorem pNum_up {c p : Int} {x : Act} {p' : Int} (hp : p ≤ n) (h : pNum T n c p = .inr (x, p')) : p ≤ p' ∧ p' ≤ n := by
  have dg : ∀ hi q, pDg T n hi q → q < n := fun hi q z => hr_lt (T := T) (by unfold pDg at z; omega)
  unfold pNum at h
  split at h
  · cases h; omega
  · split at h
    · cases h
    · rename_i d1
      have d1 := dg _ _ (Decidable.not_not.mp d1)
      split at h
      · cases h; omega
      · by_cases d2 : pDg T n (if c = 120 ∨ c = 106 then 6 else 7) (p + 1)
        · rw [if_neg (Decidable.not_not.mpr d2)] at h
          have d2 := dg _ _ d2
          split at h
          · cases h
          · split at h
            · cases h; omega
            · split at h
              · cases h
              · rename_i d3
                have d3 := dg _ _ (Decidable.not_not.mp d3)
                cases h; omega
        · rw [if_pos d2] at h; cases h
theorem pRep_up {l l' : List Act} {st : Nat} {t fr p p' : Int} (h : pRep l st t fr p = .inr (l', p')) : p' = p := by
  unfold pRep at h
  split at h
  · cases h
  · cases h; rfl
theorem pAct_up {l l' : List Act} {fr t p p' : Int} (h : pAct T n l fr t p = .inr (l', p')) : p < p' ∧ p' ≤ n := by
  unfold pAct at h
  split at h
  · cases h
  · rename_i c
    have hp : p < n := hr_lt (T := T) (by have c := Decidable.not_not.mp c; unfold isActA at c; omega)
    cases e : pNum T n (hrA T n p) (p + 1) with
    | inl x => rw [e] at h; cases h
    | inr x =>
      rw [e] at h
      have := pNum_up (by omega) (show pNum T n (hrA T n p) (p + 1) = .inr (x.1, x.2) from e)
      simp only [] at h
      split at h
      · cases h
      · have := pRep_up h
        omega
theorem tItem_up : ∀ (f : Nat) (s s' : Stk) (l l' : List Act) (p p' : Int), p ≤ n → tItem T n f s l p = .inr (s', l', p') → p < p' ∧ p' ≤ n
  | 0, s, s', l, l', p, p', hp, h => by cases h
  | f + 1, s, s', l, l', p, p', hp, h => by
    have a := pSt_le (T := T) (n := n) (p := p)
    unfold tItem at h
    split at h
    · rename_i c
      split at h
      · cases h
      · have := hr_lt (T := T) (n := n) (p := pSt T n p) (by omega)
        have := tItem_up f _ _ _ _ _ _ (by omega) h
        omega
    · cases e : pAct T n l p (pTm T n p) (pSt T n p) with
      | inl x => rw [e] at h; cases h
      | inr x =>
        rw [e] at h
        have := pAct_up (show pAct T n l p (pTm T n p) (pSt T n p) = .inr (x.1, x.2) from e)
        cases h
        omega
theorem tPop_up : ∀ (s s' : Stk) (l l' : List Act) (p p' : Int), p ≤ n → tPop T n s l p = .inr (s', l', p') → p ≤ p' ∧ p' ≤ n
  | [], s', l, l', p, p', hp, h => by cases h; omega
  | (fr, st, t) :: s, s', l, l', p, p', hp, h => by
    unfold tPop at h
    split at h
    · rename_i c
      have := hr_lt (T := T) (n := n) (p := p) (by omega)
      cases e : pRep l st t fr (p + 1) with
      | inl x => rw [e] at h; cases h
      | inr x =>
        rw [e] at h
        have := pRep_up (show pRep l st t fr (p + 1) = .inr (x.1, x.2) from e)
        have := tPop_up s _ _ _ _ _ (by omega) h
        omega
    · cases h; omega
/-- behind the end an item is a fault -/
theorem tItem_end {s : Stk} {l : List Act} {p : Int} (f : Nat) (h : n ≤ p) : tItem T n (f + 1) s l p = .inl (1, p) := by
  have e : hrA T n p = -1 := if_neg (by omega)
  have e1 : pSt T n p = p := if_neg (by omega)
  unfold tItem
  rw [e1, if_neg (by omega)]
  unfold pAct
  rw [if_pos (by rw [e]; unfold isActA; omega)]
theorem tRun_fuel : ∀ (f f' : Nat) (s : Stk) (l : List Act) (p : Int), p ≤ n → (n - p).toNat + 1 ≤ f → (n - p).toNat + 1 ≤ f' → tRun T n f s l p = tRun T n f' s l p
  | 0, _, s, l, p, hp, h1, h2 => by omega
  | _ + 1, 0, s, l, p, hp, h1, h2 => by omega
  | f + 1, f' + 1, s, l, p, hp, h1, h2 => by
    unfold tRun
    by_cases c : p < n ∨ s ≠ []
    · rw [if_pos c, if_pos c]
      cases e : tItem T n 4 s l p with
      | inl x => rfl
      | inr x =>
        have u := tItem_up 4 s x.1 l x.2.1 p x.2.2 hp e
        show (match tPop T n x.1 x.2.1 x.2.2 with | .inl e => _ | .inr (s2, l2, p2) => tRun T n f s2 l2 p2) = match tPop T n x.1 x.2.1 x.2.2 with | .inl e => _ | .inr (s2, l2, p2) => tRun T n f' s2 l2 p2
        cases e2 : tPop T n x.1 x.2.1 x.2.2 with
        | inl y => rfl
        | inr y =>
          have u2 := tPop_up x.1 y.1 x.2.1 y.2.1 x.2.2 y.2.2 u.2 e2
          exact tRun_fuel f f' y.1 y.2.1 y.2.2 u2.2 (by omega) (by omega)
    · rw [if_neg c, if_neg c]
/-- an item is done: what comes then -/
def aftA (T : Int → Int) (n : Int) (s : Stk) (l : List Act) (p : Int) : (Int × Int) ⊕ List Act := match tPop T n s l p with
  | .inl e => .inl e
  | .inr (s2, l2, p2) => tRun T n (n.toNat + 2) s2 l2 p2
/-- an item begins -/
def begA (T : Int → Int) (n : Int) (f : Nat) (s : Stk) (l : List Act) (p : Int) : (Int × Int) ⊕ List Act := match tItem T n f s l p with
  | .inl e => .inl e
  | .inr (s2, l2, p2) => aftA T n s2 l2 p2
theorem tRun_beg {s : Stk} {l : List Act} {p : Int} (p0 : 0 ≤ p) (hp : p ≤ n) (c : p < n ∨ s ≠ []) : tRun T n (n.toNat + 2) s l p = begA T n 4 s l p := by
  unfold begA
  show (if p < n ∨ s ≠ [] then _ else _) = _
  rw [if_pos c]
  cases e : tItem T n 4 s l p with
  | inl x => rfl
  | inr x =>
    have u := tItem_up 4 s x.1 l x.2.1 p x.2.2 hp e
    show (match tPop T n x.1 x.2.1 x.2.2 with | .inl e => _ | .inr (s2, l2, p2) => tRun T n (n.toNat + 1) s2 l2 p2) = aftA T n x.1 x.2.1 x.2.2
    unfold aftA
    cases e2 : tPop T n x.1 x.2.1 x.2.2 with
    | inl y => rfl
    | inr y =>
      have u2 := tPop_up x.1 y.1 x.2.1 y.2.1 x.2.2 y.2.2 u.2 e2
      exact tRun_fuel _ _ y.1 y.2.1 y.2.2 u2.2 (by omega) (by omega)
theorem tItem_fuel : ∀ (f f' : Nat) (s : Stk) (l : List Act) (p : Int), s.length + f ≥ 3 → s.length + f' ≥ 3 → s.length ≤ 2 → tItem T n f s l p = tItem T n f' s l p
  | 0, f', s, l, p, h1, h2, h3 => by omega
  | f + 1, 0, s, l, p, h1, h2, h3 => by omega
  | f + 1, f' + 1, s, l, p, h1, h2, h3 => by
    unfold tItem
    by_cases c : hrA T n (pSt T n p) = 40
    · rw [if_pos c, if_pos c]
      by_cases d : s.length = 2
      · rw [if_pos d, if_pos d]
      · rw [if_neg d, if_neg d]
        have e : ((p, l.length, pTm T n p) :: s).length = s.length + 1 := rfl
        exact tItem_fuel f f' _ l _ (by omega) (by omega) (by omega)
    · rw [if_neg c, if_neg c]
theorem begA_fuel {f f' : Nat} {s : Stk} {l : List Act} {p : Int} (h1 : s.length + f ≥ 3) (h2 : s.length + f' ≥ 3) (h3 : s.length ≤ 2) : begA T n f s l p = begA T n f' s l p := by
  unfold begA
  rw [tItem_fuel f f' s l p h1 h2 h3]
theorem pOne_up : ∀ (d : Nat) (l l' : List Act) (p p' : Int), p ≤ n → pOne T n d l p = .inr (l', p') → p < p' ∧ p' ≤ n
  | 0, l, l', p, p', hp, h => by
    have a := pSt_le (T := T) (n := n) (p := p)
    unfold pOne at h
    split at h
    · cases h
    · have := pAct_up h; omega
  | d + 1, l, l', p, p', hp, h => by
    have a := pSt_le (T := T) (n := n) (p := p)
    unfold pOne at h
    split at h
    · rename_i c
      have hp1 := hr_lt (T := T) (n := n) (p := pSt T n p) (by omega)
      have al : ∀ (f : Nat) (l l' : List Act) (q q' : Int), q ≤ n → pAllL T n (pOne T n d) f l q = .inr (l', q') → q < q' ∧ q' ≤ n := by
        intro f
        induction f with
        | zero => intro l l' q q' hq z; cases z
        | succ f ih =>
          intro l l' q q' hq z
          unfold pAllL at z
          cases e : pOne T n d l q with
          | inl x => rw [e] at z; cases z
          | inr x =>
            rw [e] at z
            have u := pOne_up d l x.1 q x.2 hq e
            simp only [] at z
            split at z
            · have := ih _ _ _ _ u.2 z; omega
            · cases z; exact u
      cases e : pAllL T n (pOne T n d) (n.toNat + 1) l (pSt T n p + 1) with
      | inl x => rw [e] at h; cases h
      | inr x =>
        rw [e] at h
        have u := al _ _ x.1 _ x.2 (by omega) e
        simp only [] at h
        split at h
        · rename_i c2
          have := hr_lt (T := T) (n := n) (p := x.2) (by omega)
          have := pRep_up h
          omega
        · cases h
    · have := pAct_up h; omega
theorem pAll_end {d : Nat} : ∀ (f : Nat) (l l' : List Act) (q q' : Int), q ≤ n → pAllL T n (pOne T n d) f l q = .inr (l', q') → q' ≤ n ∧ ¬ (q' < n ∧ hrA T n q' ≠ 41)
  | 0, l, l', q, q', hq, h => by cases h
  | f + 1, l, l', q, q', hq, h => by
    unfold pAllL at h
    cases e : pOne T n d l q with
    | inl x => rw [e] at h; cases h
    | inr x =>
      rw [e] at h
      have u := pOne_up d l x.1 q x.2 hq e
      simp only [] at h
      split at h
      · exact pAll_end f _ _ _ _ u.2 h
      · rename_i g
        cases h
        exact ⟨u.2, g⟩
/-- the loop does what the descent does -/
theorem beg_one : ∀ (d : Nat) (s : Stk) (l : List Act) (p : Int), 0 ≤ p → p ≤ n → d + s.length = 2 → begA T n 4 s l p = match pOne T n d l p with
    | .inl e => .inl e
    | .inr (l', p') => aftA T n s l' p'
  | 0, s, l, p, p0, hp, hd => by
    unfold begA tItem pOne
    by_cases c : hrA T n (pSt T n p) = 40
    · rw [if_pos c, if_pos c, if_pos (by omega)]
    · rw [if_neg c, if_neg c]
      cases pAct T n l p (pTm T n p) (pSt T n p) <;> rfl
  | d + 1, s, l, p, p0, hp, hd => by
    have a := pSt_le (T := T) (n := n) (p := p)
    unfold pOne
    by_cases c : hrA T n (pSt T n p) = 40
    · have hp1 := hr_lt (T := T) (n := n) (p := pSt T n p) (by omega)
      rw [if_pos c]
      have e1 : begA T n 4 s l p = begA T n 4 ((p, l.length, pTm T n p) :: s) l (pSt T n p + 1) := by
        have : begA T n 4 s l p = begA T n 3 ((p, l.length, pTm T n p) :: s) l (pSt T n p + 1) := by
          unfold begA
          rw [show tItem T n 4 s l p = tItem T n 3 ((p, l.length, pTm T n p) :: s) l (pSt T n p + 1) by
            show (if hrA T n (pSt T n p) = 40 then (if s.length = 2 then _ else _) else _) = _
            rw [if_pos c, if_neg (by omega)]]
        rw [this]
        have e : ((p, l.length, pTm T n p) :: s).length = s.length + 1 := rfl
        exact begA_fuel (by omega) (by omega) (by omega)
      rw [e1]
      obtain ⟨s2, hs2⟩ : ∃ s2 : Stk, s2 = (p, l.length, pTm T n p) :: s := ⟨_, rfl⟩
      have len2 : s2.length = s.length + 1 := by rw [hs2]; rfl
      have all : ∀ (f : Nat) (l1 : List Act) (q : Int), 0 ≤ q → q < n → (n - q).toNat + 1 ≤ f → begA T n 4 s2 l1 q = match pAllL T n (pOne T n d) f l1 q with
          | .inl e => .inl e
          | .inr (l', q') => aftA T n s2 l' q' := by
        intro f
        induction f with
        | zero => intro l1 q q0 q1 q2; omega
        | succ f ih =>
          intro l1 q q0 q1 q2
          rw [beg_one d s2 l1 q q0 (by omega) (by omega)]
          unfold pAllL
          cases e : pOne T n d l1 q with
          | inl x => rfl
          | inr x =>
            have u := pOne_up d l1 x.1 q x.2 (by omega) e
            show aftA T n s2 x.1 x.2 = match (if x.2 < n ∧ hrA T n x.2 ≠ 41 then pAllL T n (pOne T n d) f x.1 x.2 else Sum.inr (x.1, x.2) : ResP) with | .inl e => .inl e | .inr (l', q') => aftA T n s2 l' q'
            by_cases g : x.2 < n ∧ hrA T n x.2 ≠ 41
            · rw [if_pos g, ← ih x.1 x.2 (by omega) g.1 (by omega)]
              unfold aftA
              have np : tPop T n s2 x.1 x.2 = .inr (s2, x.1, x.2) := by
                rw [hs2]
                exact if_neg g.2
              rw [np]
              exact tRun_beg (by omega) u.2 (Or.inl g.1)
            · rw [if_neg g]
      have bal : begA T n 4 s2 l (pSt T n p + 1) = match pAllL T n (pOne T n d) (n.toNat + 1) l (pSt T n p + 1) with
          | .inl e => .inl e
          | .inr (l', q') => aftA T n s2 l' q' := by
        by_cases z : pSt T n p + 1 < n
        · exact all _ l _ (by omega) z (by omega)
        · have e8 : hrA T n (pSt T n p + 1) = -1 := if_neg (by omega)
          have e9 : pSt T n (pSt T n p + 1) = pSt T n p + 1 := if_neg (by omega)
          have lhs : begA T n 4 s2 l (pSt T n p + 1) = .inl (1, pSt T n p + 1) := by
            unfold begA
            rw [tItem_end 3 (by omega)]
          have one : pOne T n d l (pSt T n p + 1) = .inl (1, pSt T n p + 1) := by
            have pa : pAct T n l (pSt T n p + 1) (pTm T n (pSt T n p + 1)) (pSt T n p + 1) = .inl (1, pSt T n p + 1) := by
              unfold pAct
              rw [if_pos (by rw [e8]; unfold isActA; omega)]
            cases d with
            | zero => unfold pOne; rw [e9, if_neg (by omega)]; exact pa
            | succ d => unfold pOne; rw [e9, if_neg (by omega)]; exact pa
          rw [lhs]
          show (Sum.inl (1, pSt T n p + 1) : (Int × Int) ⊕ List Act) = match (match pOne T n d l (pSt T n p + 1) with | .inl e => .inl e | .inr (l', p') => if p' < n ∧ hrA T n p' ≠ 41 then pAllL T n (pOne T n d) n.toNat l' p' else .inr (l', p') : ResP) with | .inl e => .inl e | .inr (l', q') => aftA T n s2 l' q'
          rw [one]
      rw [← hs2, bal]
      cases e : pAllL T n (pOne T n d) (n.toNat + 1) l (pSt T n p + 1) with
      | inl x => rfl
      | inr x =>
        show aftA T n s2 x.1 x.2 = match (if hrA T n x.2 = 41 then pRep x.1 l.length (pTm T n p) p (x.2 + 1) else Sum.inl (1, x.2) : ResP) with | .inl e => .inl e | .inr (l', p') => aftA T n s l' p'
        by_cases g : hrA T n x.2 = 41
        · rw [if_pos g]
          unfold aftA
          rw [hs2]
          have tp : tPop T n ((p, l.length, pTm T n p) :: s) x.1 x.2 = match pRep x.1 l.length (pTm T n p) p (x.2 + 1) with
              | .inl e => .inl e
              | .inr (l', p') => tPop T n s l' p' := if_pos g
          rw [tp]
          cases pRep x.1 l.length (pTm T n p) p (x.2 + 1) <;> rfl
        · rw [if_neg g]
          have ends := pAll_end _ l x.1 _ x.2 (by omega) e
          have xn : ¬ x.2 < n := fun z => ends.2 ⟨z, g⟩
          unfold aftA
          have np : tPop T n s2 x.1 x.2 = .inr (s2, x.1, x.2) := by
            rw [hs2]
            exact if_neg g
          rw [np]
          show (if x.2 < n ∨ s2 ≠ [] then _ else _) = _
          rw [if_pos (Or.inr (by rw [hs2]; exact fun z => by cases z)), tItem_end 3 (by omega)]
    · rw [if_neg c]
      unfold begA tItem
      rw [if_neg c]
      cases pAct T n l p (pTm T n p) (pSt T n p) <;> rfl
end
section
variable {T : Int → Int} {n : Int}
/-- the whole: from the start -/
theorem plan_run (h : 1 ≤ n) : tRun T n (n.toNat + 2) [] [] 0 = pPlan T n := by
  rw [tRun_beg (by omega) (by omega) (Or.inl (by omega))]
  have all : ∀ (f : Nat) (l1 : List Act) (q : Int), 0 ≤ q → q < n → (n - q).toNat + 1 ≤ f → begA T n 4 [] l1 q = match pAllL T n (pOne T n 2) f l1 q with
      | .inl e => .inl e
      | .inr (l', q') => aftA T n [] l' q' := by
    intro f
    induction f with
    | zero => intro l1 q q0 q1 q2; omega
    | succ f ih =>
      intro l1 q q0 q1 q2
      rw [beg_one 2 [] l1 q q0 (by omega) rfl]
      unfold pAllL
      cases e : pOne T n 2 l1 q with
      | inl x => rfl
      | inr x =>
        have u := pOne_up 2 l1 x.1 q x.2 (by omega) e
        show aftA T n [] x.1 x.2 = match (if x.2 < n ∧ hrA T n x.2 ≠ 41 then pAllL T n (pOne T n 2) f x.1 x.2 else Sum.inr (x.1, x.2) : ResP) with | .inl e => .inl e | .inr (l', q') => aftA T n [] l' q'
        by_cases g : x.2 < n ∧ hrA T n x.2 ≠ 41
        · rw [if_pos g, ← ih x.1 x.2 (by omega) g.1 (by omega)]
          exact tRun_beg (by omega) u.2 (Or.inl g.1)
        · rw [if_neg g]
  rw [all (n.toNat + 1) [] 0 (by omega) (by omega) (by omega)]
  unfold pPlan
  cases e : pAllL T n (pOne T n 2) (n.toNat + 1) [] 0 with
  | inl x => rfl
  | inr x =>
    have ends := pAll_end _ [] x.1 _ x.2 (by omega) e
    show tRun T n (n.toNat + 2) [] x.1 x.2 = if x.2 < n then .inl (1, x.2) else .inr x.1
    by_cases c : x.2 < n
    · have g : hrA T n x.2 = 41 := Decidable.byContradiction fun z => ends.2 ⟨c, z⟩
      have e1 : pSt T n x.2 = x.2 := if_neg (by omega)
      have ti : tItem T n 4 [] x.1 x.2 = .inl (1, x.2) := by
        unfold tItem
        rw [e1, if_neg (by omega)]
        unfold pAct
        rw [if_pos (by rw [g]; unfold isActA; omega)]
      rw [if_pos c]
      show (if x.2 < n ∨ ([] : Stk) ≠ [] then _ else _) = _
      rw [if_pos (Or.inl c), ti]
    · rw [if_neg c]
      show (if x.2 < n ∨ ([] : Stk) ≠ [] then _ else _) = _
      rw [if_neg (fun z => by rcases z with z | z; exact c z; exact z rfl)]
end
