/-! DEPS: ug -/
/-! VA: the memory of a cluster of TermLog, made of a row h (places as in the twin's row; sent messages from 100000 on), carried C, handed Hd, the moment Mo; I: all else -/
/-- a node's scalar fields: which place of its block -/
def fmN : Nat → Option Int
  | 9 => some 1 | 10 => some 2 | 11 => some 4 | 12 => some 5 | 13 => some 6 | 14 => some 7 | 15 => some 8 | 16 => some 3 | 17 => some 9 | 18 => some 10 | 19 => some 11 | 20 => some 12 | 21 => some 13 | 22 => some 14 | 23 => some 0
  | _ => none
/-- a cluster's scalar fields -/
def fmC : Nat → Option Int
  | 7 => some 11133 | 8 => some 11131 | 9 => some 11132 | 10 => some 11136 | 11 => some 11137 | 12 => some 11134 | 13 => some 11138 | 14 => some 11135
  | _ => none
/-- a node's arrays: how long, where they lie, by what step -/
def fmA : Nat → Nat × Int × Int
  | 1 => (48, 52, 4) | 2 => (48, 53, 4) | 3 => (48, 54, 4) | 4 => (48, 55, 4) | 5 => (8, 15, 1) | 6 => (8, 23, 1) | 7 => (7, 31, 1) | 8 => (7, 38, 1) | 9 => (7, 45, 1)
  | _ => (0, 0, 0)
/-- the place of slot k of the cell a (from the cluster's address on) -/
def plc (a k : Nat) : Option Int :=
  if a = 0 then fmC k
  else if 3 ≤ a ∧ a < 163 then (if k < 32 then some (100000 + 32 * ((a : Int) - 3) + k) else none)
  else if 164 ≤ a ∧ a < 1164 then (if k < 4 then some (6028 + 4 * ((a : Int) - 164) + k) else none)
  else if 1165 ≤ a ∧ a < 1181 then (if k < 6 then some (11028 + 6 * ((a : Int) - 1165) + k) else none)
  else if a = 1181 then (if k < 7 then some (11124 + (k : Int)) else none)
  else if a = 1182 then (if k < 1000 then some (10028 + (k : Int)) else none)
  else if 1185 ≤ a ∧ a < 1255 then
    (if (a - 1185) % 10 = 0 then (fmN k).map (fun w => 244 * (((a - 1185) / 10 : Nat) : Int) + w)
     else if k < (fmA ((a - 1185) % 10)).1 then some (244 * (((a - 1185) / 10 : Nat) : Int) + (fmA ((a - 1185) % 10)).2.1 + (fmA ((a - 1185) % 10)).2.2 * k) else none)
  else none
theorem fmN_r {k : Nat} {w : Int} (h : fmN k = some w) : 0 ≤ w ∧ w < 15 ∧ k < 24 := by
  unfold fmN at h
  split at h <;> first | (cases h; omega) | (cases h)
theorem fmN_inj : ∀ k, k < 24 → ∀ k', k' < 24 → fmN k = fmN k' → (fmN k).isSome = true → k = k' := by decide
theorem fmC_r {k : Nat} {w : Int} (h : fmC k = some w) : 11131 ≤ w ∧ w ≤ 11138 ∧ k < 15 := by
  unfold fmC at h
  split at h <;> first | (cases h; omega) | (cases h)
theorem fmC_inj : ∀ k, k < 15 → ∀ k', k' < 15 → fmC k = fmC k' → (fmC k).isSome = true → k = k' := by decide
/-- an array's place: which array, which slot -/
theorem fmA_r : ∀ o, o < 10 → ∀ k, k < (fmA o).1 → 1 ≤ o ∧ 15 ≤ (fmA o).2.1 + (fmA o).2.2 * (k : Int) ∧ (fmA o).2.1 + (fmA o).2.2 * (k : Int) < 244 := by decide
theorem fmA_inj : ∀ o, o < 10 → ∀ k, k < (fmA o).1 → ∀ o', o' < 10 → ∀ k', k' < (fmA o').1 → (fmA o).2.1 + (fmA o).2.2 * (k : Int) = (fmA o').2.1 + (fmA o').2.2 * (k' : Int) → o = o' ∧ k = k' := by
  intro o ho k hk o' ho' k' hk' e
  rcases (show o = 0 ∨ o = 1 ∨ o = 2 ∨ o = 3 ∨ o = 4 ∨ o = 5 ∨ o = 6 ∨ o = 7 ∨ o = 8 ∨ o = 9 by omega) with rfl | rfl | rfl | rfl | rfl | rfl | rfl | rfl | rfl | rfl <;>
  rcases (show o' = 0 ∨ o' = 1 ∨ o' = 2 ∨ o' = 3 ∨ o' = 4 ∨ o' = 5 ∨ o' = 6 ∨ o' = 7 ∨ o' = 8 ∨ o' = 9 by omega) with rfl | rfl | rfl | rfl | rfl | rfl | rfl | rfl | rfl | rfl <;>
  simp only [fmA] at hk hk' e <;> omega
set_option maxRecDepth 10000 in
/-- what kind of place it is: 1 cluster scalar, 2 sent, 3 held, 4 reads, 5 cuts, 6 led, 7 node scalar, 8 node array -/
theorem plc_cases {a k : Nat} {p : Int} (h : plc a k = some p) :
    (a = 0 ∧ fmC k = some p) ∨ (3 ≤ a ∧ a < 163 ∧ k < 32 ∧ p = 100000 + 32 * ((a : Int) - 3) + k) ∨ (164 ≤ a ∧ a < 1164 ∧ k < 4 ∧ p = 6028 + 4 * ((a : Int) - 164) + k) ∨ (1165 ≤ a ∧ a < 1181 ∧ k < 6 ∧ p = 11028 + 6 * ((a : Int) - 1165) + k)
    ∨ (a = 1181 ∧ k < 7 ∧ p = 11124 + (k : Int)) ∨ (a = 1182 ∧ k < 1000 ∧ p = 10028 + (k : Int)) ∨ (1185 ≤ a ∧ a < 1255 ∧ (a - 1185) % 10 = 0 ∧ ∃ w, fmN k = some w ∧ p = 244 * (((a - 1185) / 10 : Nat) : Int) + w)
    ∨ (1185 ≤ a ∧ a < 1255 ∧ k < (fmA ((a - 1185) % 10)).1 ∧ p = 244 * (((a - 1185) / 10 : Nat) : Int) + ((fmA ((a - 1185) % 10)).2.1 + (fmA ((a - 1185) % 10)).2.2 * k)) := by
  unfold plc at h
  split at h
  · exact Or.inl ⟨by assumption, h⟩
  · split at h
    · split at h
      · cases h
        exact Or.inr (Or.inl ⟨by omega, by omega, by assumption, rfl⟩)
      · cases h
    · split at h
      · split at h
        · cases h
          exact Or.inr (Or.inr (Or.inl ⟨by omega, by omega, by assumption, rfl⟩))
        · cases h
      · split at h
        · split at h
          · cases h
            exact Or.inr (Or.inr (Or.inr (Or.inl ⟨by omega, by omega, by assumption, rfl⟩)))
          · cases h
        · split at h
          · split at h
            · cases h
              exact Or.inr (Or.inr (Or.inr (Or.inr (Or.inl ⟨by assumption, by assumption, rfl⟩))))
            · cases h
          · split at h
            · split at h
              · cases h
                exact Or.inr (Or.inr (Or.inr (Or.inr (Or.inr (Or.inl ⟨by assumption, by assumption, rfl⟩)))))
              · cases h
            · split at h
              · split at h
                · rename_i c1 c2
                  cases e : fmN k with
                  | none => rw [e] at h; cases h
                  | some w =>
                    rw [e] at h
                    cases h
                    exact Or.inr (Or.inr (Or.inr (Or.inr (Or.inr (Or.inr (Or.inl ⟨c1.1, c1.2, c2, w, rfl, rfl⟩))))))
                · split at h
                  · rename_i c1 c2 c3
                    cases h
                    exact Or.inr (Or.inr (Or.inr (Or.inr (Or.inr (Or.inr (Or.inr ⟨c1.1, c1.2, c3, by omega⟩))))))
                  · cases h
              · cases h
theorem plc_inj {a k a' k' : Nat} {p : Int} (h : plc a k = some p) (h' : plc a' k' = some p) : a = a' ∧ k = k' := by
  have R := plc_cases h
  have R' := plc_cases h'
  rcases R with ⟨a1, a2⟩ | ⟨a1, a2, a3, a4⟩ | ⟨a1, a2, a3, a4⟩ | ⟨a1, a2, a3, a4⟩ | ⟨a1, a2, a3⟩ | ⟨a1, a2, a3⟩ | ⟨a1, a2, a3, w, a4, a5⟩ | ⟨a1, a2, a3, a4⟩
  · have r := fmC_r a2
    rcases R' with ⟨b1, b2⟩ | ⟨b1, b2, b3, b4⟩ | ⟨b1, b2, b3, b4⟩ | ⟨b1, b2, b3, b4⟩ | ⟨b1, b2, b3⟩ | ⟨b1, b2, b3⟩ | ⟨b1, b2, b3, w', b4, b5⟩ | ⟨b1, b2, b3, b4⟩
    · have r' := fmC_r b2
      exact ⟨by omega, fmC_inj k (by omega) k' (by omega) (a2.trans b2.symm) (by rw [a2]; rfl)⟩
    · omega
    · omega
    · omega
    · omega
    · omega
    · have := fmN_r b4; omega
    · have := fmA_r ((a' - 1185) % 10) (by omega) k' b3; omega
  · rcases R' with ⟨b1, b2⟩ | ⟨b1, b2, b3, b4⟩ | ⟨b1, b2, b3, b4⟩ | ⟨b1, b2, b3, b4⟩ | ⟨b1, b2, b3⟩ | ⟨b1, b2, b3⟩ | ⟨b1, b2, b3, w', b4, b5⟩ | ⟨b1, b2, b3, b4⟩
    · have := fmC_r b2; omega
    · omega
    · omega
    · omega
    · omega
    · omega
    · have := fmN_r b4; omega
    · have := fmA_r ((a' - 1185) % 10) (by omega) k' b3; omega
  · rcases R' with ⟨b1, b2⟩ | ⟨b1, b2, b3, b4⟩ | ⟨b1, b2, b3, b4⟩ | ⟨b1, b2, b3, b4⟩ | ⟨b1, b2, b3⟩ | ⟨b1, b2, b3⟩ | ⟨b1, b2, b3, w', b4, b5⟩ | ⟨b1, b2, b3, b4⟩
    · have := fmC_r b2; omega
    · omega
    · omega
    · omega
    · omega
    · omega
    · have := fmN_r b4; omega
    · have := fmA_r ((a' - 1185) % 10) (by omega) k' b3; omega
  · rcases R' with ⟨b1, b2⟩ | ⟨b1, b2, b3, b4⟩ | ⟨b1, b2, b3, b4⟩ | ⟨b1, b2, b3, b4⟩ | ⟨b1, b2, b3⟩ | ⟨b1, b2, b3⟩ | ⟨b1, b2, b3, w', b4, b5⟩ | ⟨b1, b2, b3, b4⟩
    · have := fmC_r b2; omega
    · omega
    · omega
    · omega
    · omega
    · omega
    · have := fmN_r b4; omega
    · have := fmA_r ((a' - 1185) % 10) (by omega) k' b3; omega
  · rcases R' with ⟨b1, b2⟩ | ⟨b1, b2, b3, b4⟩ | ⟨b1, b2, b3, b4⟩ | ⟨b1, b2, b3, b4⟩ | ⟨b1, b2, b3⟩ | ⟨b1, b2, b3⟩ | ⟨b1, b2, b3, w', b4, b5⟩ | ⟨b1, b2, b3, b4⟩
    · have := fmC_r b2; omega
    · omega
    · omega
    · omega
    · omega
    · omega
    · have := fmN_r b4; omega
    · have := fmA_r ((a' - 1185) % 10) (by omega) k' b3; omega
  · rcases R' with ⟨b1, b2⟩ | ⟨b1, b2, b3, b4⟩ | ⟨b1, b2, b3, b4⟩ | ⟨b1, b2, b3, b4⟩ | ⟨b1, b2, b3⟩ | ⟨b1, b2, b3⟩ | ⟨b1, b2, b3, w', b4, b5⟩ | ⟨b1, b2, b3, b4⟩
    · have := fmC_r b2; omega
    · omega
    · omega
    · omega
    · omega
    · omega
    · have := fmN_r b4; omega
    · have := fmA_r ((a' - 1185) % 10) (by omega) k' b3; omega
  · have r := fmN_r a4
    rcases R' with ⟨b1, b2⟩ | ⟨b1, b2, b3, b4⟩ | ⟨b1, b2, b3, b4⟩ | ⟨b1, b2, b3, b4⟩ | ⟨b1, b2, b3⟩ | ⟨b1, b2, b3⟩ | ⟨b1, b2, b3, w', b4, b5⟩ | ⟨b1, b2, b3, b4⟩
    · have := fmC_r b2; omega
    · omega
    · omega
    · omega
    · omega
    · omega
    · have r' := fmN_r b4
      have : w = w' := by omega
      subst this
      exact ⟨by omega, fmN_inj k (by omega) k' (by omega) (a4.trans b4.symm) (by rw [a4]; rfl)⟩
    · have := fmA_r ((a' - 1185) % 10) (by omega) k' b3; omega
  · have r := fmA_r ((a - 1185) % 10) (by omega) k a3
    rcases R' with ⟨b1, b2⟩ | ⟨b1, b2, b3, b4⟩ | ⟨b1, b2, b3, b4⟩ | ⟨b1, b2, b3, b4⟩ | ⟨b1, b2, b3⟩ | ⟨b1, b2, b3⟩ | ⟨b1, b2, b3, w', b4, b5⟩ | ⟨b1, b2, b3, b4⟩
    · have := fmC_r b2; omega
    · omega
    · omega
    · omega
    · omega
    · omega
    · have := fmN_r b4; omega
    · have r' := fmA_r ((a' - 1185) % 10) (by omega) k' b3
      have e := fmA_inj ((a - 1185) % 10) (by omega) k a3 ((a' - 1185) % 10) (by omega) k' b3 (by omega)
      exact ⟨by omega, e.2⟩
