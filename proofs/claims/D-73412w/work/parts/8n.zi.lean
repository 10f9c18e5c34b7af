/-! DEPS: zh -/
/-! ZI: the twin reads an item: whole -/
section
variable {M : Mem}
theorem pNum_c {T : Int → Int} {n c p : Int} {x : Act} {p' : Int} (h : pNum T n c p = .inr (x, p')) : x.1 = c := by
  unfold pNum at h
  split at h
  · cases h; rfl
  · split at h
    · cases h
    · split at h
      · cases h; rfl
      · by_cases d2 : pDg T n (if c = 120 ∨ c = 106 then 6 else 7) (p + 1)
        · rw [if_neg (Decidable.not_not.mpr d2)] at h
          split at h
          · cases h
          · split at h
            · cases h; rfl
            · split at h
              · cases h
              · cases h; rfl
        · rw [if_pos d2] at h; cases h
/-- how an item comes out: then the rounds' ends are read -/
def OutI (q : Row) (M : Mem) (z : Option (Int32 × Mem)) (res : (Int × Int) ⊕ (Stk × List Act × Int)) : Prop := match res with
  | .inl x => ∃ q' r', z = some (iI 0, pw q' (qw r' M)) ∧ q' 9 = -1000 * x.1 - x.2 ∧ Fq q q'
  | .inr x => ∃ q' r', z = sX8_readsAct_245 FU (some 3772) (pw q' (qw r' M)) ∧ q' 7 = x.2.2 ∧ Fq q q' ∧ AcR r' x.2.1 ∧ r' 38 = (x.1.length : Int) ∧ StR r' x.1 ∧ StB x.2.1.length x.1 ∧ x.1.length ≤ 2
/-- an act is laid behind the acts -/
theorem z_lay {r r4 : Row} {l : List Act} {x : Act} (ac : AcR r l) (h : l.length < 200) (h4 : r4 = st (st (st (st (st r (6000 + (l.length : Int)) x.1) (6300 + (l.length : Int)) x.2.1) (6600 + (l.length : Int)) x.2.2.1) (6900 + (l.length : Int)) x.2.2.2) 37 ((l.length : Int) + 1)) : AcR r4 (l ++ [x]) ∧ ∀ y, y ≠ 37 → (y < 6000 ∨ 7200 ≤ y) → r4 y = r y := by
  obtain ⟨a1, a2, a3⟩ := ac
  have ln : (l ++ [x]).length = l.length + 1 := by rw [List.length_append]; rfl
  refine ⟨⟨by rw [h4, st_eq, ln]; rfl, by omega, fun i y hi hy => ?_⟩, fun y y1 y2 => by rw [h4, st_ne (by omega), st_ne (by omega), st_ne (by omega), st_ne (by omega), st_ne (by omega)]⟩
  by_cases c : i < l.length
  · rw [List.getElem?_append_left c] at hy
    have := a3 i y c hy
    subst h4
    rw [st_ne (by omega), st_ne (by omega), st_ne (by omega), st_ne (by omega), st_ne (by omega), st_ne (by omega), st_ne (by omega), st_ne (by omega), st_ne (by omega), st_ne (by omega), st_ne (by omega), st_ne (by omega), st_ne (by omega), st_ne (by omega), st_ne (by omega), st_ne (by omega), st_ne (by omega), st_ne (by omega), st_ne (by omega), st_ne (by omega)]
    exact this
  · have ci : i = l.length := by omega
    subst ci
    rw [List.getElem?_append_right (Nat.le_refl _), Nat.sub_self] at hy
    have hy : some x = some y := hy
    cases hy
    subst h4
    refine ⟨?_, ?_, ?_, ?_⟩
    · rw [st_ne (by omega), st_ne (by omega), st_ne (by omega), st_ne (by omega), st_eq]
    · rw [st_ne (by omega), st_ne (by omega), st_ne (by omega), st_eq]
    · rw [st_ne (by omega), st_ne (by omega), st_eq]
    · rw [st_ne (by omega), st_eq]
end
