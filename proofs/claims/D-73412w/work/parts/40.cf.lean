/-! DEPS: tq -/
/-! CF: configurations and terms through compacting and laying -/
section
variable {g : Row} {Λ : Law}
theorem cfgF_max (g : Row) (n : Int) : ∀ (k : Nat) (i : Int), i - g (244 * n + 4) = k → ∀ j, cfgF g n k i < j → j ≤ i → ¬ g (lpA g n j + 1) = 1
  | 0, i, h, j, h1, h2 => by
    unfold cfgF at h1
    omega
  | k + 1, i, h, j, h1, h2 => by
    unfold cfgF at h1
    simp only [the] at h1
    rw [if_neg (by omega)] at h1
    by_cases c : g (lpA g n i + 1) = 1
    · rw [if_pos c] at h1
      omega
    · rw [if_neg c] at h1
      by_cases e : j = i
      · rw [e]; exact c
      · exact cfgF_max g n k (i - 1) (by omega) j h1 (by omega)
theorem cfgA_max {n up j : Int} (h0 : g (244 * n + 4) ≤ up) (h1 : cfgA g n up < j) (h2 : j ≤ up) : ¬ g (lpA g n j + 1) = 1 :=
  cfgF_max g n _ up (by simp only [the]; omega) j h1 h2
theorem cfgA_uniq {n up c : Int} (h0 : g (244 * n + 4) ≤ c) (h1 : c ≤ up) (h2 : c = g (244 * n + 4) ∨ g (lpA g n c + 1) = 1) (h3 : ∀ j, c < j → j ≤ up → ¬ g (lpA g n j + 1) = 1) : cfgA g n up = c := by
  have a := cfgA_le g n up (by omega)
  have b := cfgA_is g n up (by omega)
  rcases Int.lt_trichotomy (cfgA g n up) c with h | h | h
  · exfalso
    have := cfgA_max (g := g) (n := n) (by omega) h h1
    rcases h2 with h2 | h2
    · omega
    · exact this h2
  · exact h
  · exfalso
    rcases b with b | b
    · omega
    · exact h3 _ h a.2 b.2
/-- an entry's cell keeps its worth when the base moves -/
theorem compG_ent {n i w : Int} (hL : LgA g n) (h1 : g (244 * n + 9) < i) (h2 : i ≤ g (244 * n + 4) + g (244 * n + 8)) (h3 : 0 ≤ w) (h4 : w < 4) : compG g n (244 * n + 52 + 4 * (i - g (244 * n + 9) - 1) + w) = g (244 * n + 52 + 4 * (i - g (244 * n + 4) - 1) + w) := by
  obtain ⟨⟨_, _, _, _, _, _, _, _, _, _, _, _, _, _⟩, hE⟩ := hL
  rw [compG_log (by omega) (by omega) (by omega)]
  congr 1
  omega
theorem compG_ent1 {n i : Int} (hL : LgA g n) (h1 : g (244 * n + 9) < i) (h2 : i ≤ g (244 * n + 4) + g (244 * n + 8)) : compG g n (lpA (compG g n) n i + 1) = g (lpA g n i + 1) := by
  simp only [lpA, the]
  rw [compG_4]
  exact compG_ent hL h1 h2 (by omega) (by omega)
theorem compG_cfg {n up : Int} (hL : LgA g n) (h1 : g (244 * n + 9) ≤ up) (h2 : up ≤ g (244 * n + 4) + g (244 * n + 8)) : cfgA (compG g n) n up = max (g (244 * n + 9)) (cfgA g n up) := by
  have hL' := hL
  obtain ⟨⟨_, _, _, _, _, _, _, _, _, _, _, _, _, _⟩, hE⟩ := hL
  have a := cfgA_le g n up (by omega)
  have b := cfgA_is g n up (by omega)
  have hm := fun j => cfgA_max (g := g) (n := n) (up := up) (j := j) (by omega)
  apply cfgA_uniq
  · rw [compG_4]; omega
  · omega
  · rw [compG_4]
    by_cases c : cfgA g n up ≤ g (244 * n + 9)
    · exact Or.inl (by omega)
    · refine Or.inr ?_
      rw [show max (g (244 * n + 9)) (cfgA g n up) = cfgA g n up by omega, compG_ent1 hL' (by omega) (by omega)]
      rcases b with b | b
      · omega
      · exact b.2
  · intro j j1 j2
    rw [compG_ent1 hL' (by omega) (by omega)]
    exact hm j (by omega) j2
theorem cfg_commit {n : Int} (hL : LgA g n) (h : cfgA g n (g (244 * n + 4) + g (244 * n + 8)) ≤ g (244 * n + 9)) : cfgA g n (g (244 * n + 9)) = cfgA g n (g (244 * n + 4) + g (244 * n + 8)) := by
  obtain ⟨⟨_, _, _, _, _, _, _, _, _, _, _, _, _, _⟩, hE⟩ := hL
  have a := cfgA_le g n (g (244 * n + 4) + g (244 * n + 8)) (by omega)
  have b := cfgA_is g n (g (244 * n + 4) + g (244 * n + 8)) (by omega)
  refine cfgA_uniq a.1 h ?_ (fun j j1 j2 => cfgA_max (by omega) j1 (by omega))
  rcases b with b | b
  · exact Or.inl b
  · exact Or.inr b.2
theorem oldA_raw {n : Int} : oldA g n = if cfgA g n (g (244 * n + 4) + g (244 * n + 8)) = g (244 * n + 4) then g (244 * n + 6) else g (244 * n + 52 + 4 * (cfgA g n (g (244 * n + 4) + g (244 * n + 8)) - g (244 * n + 4) - 1) + 2) := rfl
theorem newA_raw {n : Int} : newA g n = if cfgA g n (g (244 * n + 4) + g (244 * n + 8)) = g (244 * n + 4) then g (244 * n + 7) else g (244 * n + 52 + 4 * (cfgA g n (g (244 * n + 4) + g (244 * n + 8)) - g (244 * n + 4) - 1) + 3) := rfl
theorem compG_old {n : Int} (hL : LgA g n) : oldA (compG g n) n = oldA g n := by
  have hL' := hL
  obtain ⟨⟨_, _, _, _, _, _, _, _, _, _, _, _, _, _⟩, hE⟩ := hL
  have a := cfgA_le g n (g (244 * n + 4) + g (244 * n + 8)) (by omega)
  rw [oldA_raw, oldA_raw, compG_4, compG_8, show g (244 * n + 9) + max 0 (g (244 * n + 8) - (g (244 * n + 9) - g (244 * n + 4))) = g (244 * n + 4) + g (244 * n + 8) by omega, compG_cfg hL' (by omega) (by omega)]
  by_cases c : cfgA g n (g (244 * n + 4) + g (244 * n + 8)) ≤ g (244 * n + 9)
  · rw [if_pos (by omega), compG_6, cfg_commit hL' c]
  · rw [if_neg (by omega), if_neg (by omega), show max (g (244 * n + 9)) (cfgA g n (g (244 * n + 4) + g (244 * n + 8))) = cfgA g n (g (244 * n + 4) + g (244 * n + 8)) by omega, compG_ent hL' (by omega) (by omega) (by omega) (by omega)]
theorem compG_new {n : Int} (hL : LgA g n) : newA (compG g n) n = newA g n := by
  have hL' := hL
  obtain ⟨⟨_, _, _, _, _, _, _, _, _, _, _, _, _, _⟩, hE⟩ := hL
  have a := cfgA_le g n (g (244 * n + 4) + g (244 * n + 8)) (by omega)
  rw [newA_raw, newA_raw, compG_4, compG_8, show g (244 * n + 9) + max 0 (g (244 * n + 8) - (g (244 * n + 9) - g (244 * n + 4))) = g (244 * n + 4) + g (244 * n + 8) by omega, compG_cfg hL' (by omega) (by omega)]
  by_cases c : cfgA g n (g (244 * n + 4) + g (244 * n + 8)) ≤ g (244 * n + 9)
  · rw [if_pos (by omega), compG_7, cfg_commit hL' c]
  · rw [if_neg (by omega), if_neg (by omega), show max (g (244 * n + 9)) (cfgA g n (g (244 * n + 4) + g (244 * n + 8))) = cfgA g n (g (244 * n + 4) + g (244 * n + 8)) by omega, compG_ent hL' (by omega) (by omega) (by omega) (by omega)]
theorem lay1_old {n : Int} (hL : LgA g n) : oldA (lay1 g n) n = oldA g n := by
  unfold lay1
  split
  · exact compG_old hL
  · rfl
theorem lay1_new {n : Int} (hL : LgA g n) : newA (lay1 g n) n = newA g n := by
  unfold lay1
  split
  · exact compG_new hL
  · rfl
/-- the entry laid -/
theorem lay0_ent {n t k a b w : Int} (h8 : 0 ≤ g (244 * n + 8)) (h3 : 0 ≤ w) (h4 : w < 4) : lay0 g n t k a b (244 * n + 52 + 4 * g (244 * n + 8) + w) = if w = 0 then t else if w = 1 then k else if w = 2 then a else b := by
  unfold lay0
  simp only [the]
  rcases (show w = 0 ∨ w = 1 ∨ w = 2 ∨ w = 3 by omega) with rfl | rfl | rfl | rfl
  · show _ = t
    rw [if_neg (show ¬ 244 * n + 52 + 4 * g (244 * n + 8) + 0 = 244 * n + 8 by omega), if_pos (show 244 * n + 52 + 4 * g (244 * n + 8) + 0 = 244 * n + 52 + 4 * g (244 * n + 8) by omega)]
  · show _ = k
    rw [if_neg (by omega), if_neg (by omega), if_pos (by omega)]
  · show _ = a
    rw [if_neg (by omega), if_neg (by omega), if_neg (by omega), if_pos (by omega)]
  · show _ = b
    rw [if_neg (by omega), if_neg (by omega), if_neg (by omega), if_neg (by omega), if_pos (by omega)]
theorem lay0_cfg {n t k a b : Int} (hL : LgA g n) : cfgA (lay0 g n t k a b) n (g (244 * n + 4) + g (244 * n + 8) + 1) = if k = 1 then g (244 * n + 4) + g (244 * n + 8) + 1 else cfgA g n (g (244 * n + 4) + g (244 * n + 8)) := by
  obtain ⟨⟨_, _, _, _, _, _, _, _, _, _, _, _, _, _⟩, hE⟩ := hL
  have a0 := cfgA_le g n (g (244 * n + 4) + g (244 * n + 8)) (by omega)
  have b0 := cfgA_is g n (g (244 * n + 4) + g (244 * n + 8)) (by omega)
  have e4 : lay0 g n t k a b (244 * n + 4) = g (244 * n + 4) := lay0_ne (by omega) (by omega)
  have el : ∀ j, lpA (lay0 g n t k a b) n j = lpA g n j := by
    intro j
    simp only [lpA, the]
    rw [e4]
  have ee : lay0 g n t k a b (lpA g n (g (244 * n + 4) + g (244 * n + 8) + 1) + 1) = k := by
    simp only [lpA, the]
    rw [show 244 * n + 52 + 4 * (g (244 * n + 4) + g (244 * n + 8) + 1 - g (244 * n + 4) - 1) + 1 = 244 * n + 52 + 4 * g (244 * n + 8) + 1 by omega, lay0_ent (by omega) (by omega) (by omega)]
    rfl
  by_cases c : k = 1
  · rw [if_pos c]
    apply cfgA_uniq
    · rw [e4]; omega
    · omega
    · refine Or.inr ?_
      rw [el, ee, c]
    · intro j j1 j2
      omega
  · rw [if_neg c]
    have eo : ∀ j, g (244 * n + 4) < j → j ≤ g (244 * n + 4) + g (244 * n + 8) → lay0 g n t k a b (lpA g n j + 1) = g (lpA g n j + 1) := by
      intro j j1 j2
      simp only [lpA, the]
      exact lay0_ne (by omega) (by omega)
    apply cfgA_uniq
    · rw [e4]; omega
    · omega
    · rw [e4, el]
      rcases b0 with b0 | b0
      · exact Or.inl b0
      · refine Or.inr ?_
        rw [eo _ b0.1 a0.2]
        exact b0.2
    · intro j j1 j2
      rw [el]
      by_cases e : j = g (244 * n + 4) + g (244 * n + 8) + 1
      · rw [e, ee]; exact c
      · rw [eo j (by omega) (by omega)]
        exact cfgA_max (by omega) j1 (by omega)
theorem lay0_new {n t k a b : Int} (hL : LgA g n) : newA (lay0 g n t k a b) n = if k = 1 then b else newA g n := by
  have hL' := hL
  obtain ⟨⟨_, _, _, _, _, _, _, _, _, _, _, _, _, _⟩, hE⟩ := hL
  have a0 := cfgA_le g n (g (244 * n + 4) + g (244 * n + 8)) (by omega)
  rw [newA_raw, newA_raw, lay0_8, lay0_ne (x := 244 * n + 4) (by omega) (by omega), lay0_ne (x := 244 * n + 7) (by omega) (by omega), show g (244 * n + 4) + (g (244 * n + 8) + 1) = g (244 * n + 4) + g (244 * n + 8) + 1 by omega, lay0_cfg hL']
  by_cases c : k = 1
  · simp only [if_pos c]
    rw [if_neg (by omega), show 244 * n + 52 + 4 * (g (244 * n + 4) + g (244 * n + 8) + 1 - g (244 * n + 4) - 1) + 3 = 244 * n + 52 + 4 * g (244 * n + 8) + 3 by omega, lay0_ent (by omega) (by omega) (by omega)]
    rfl
  · simp only [if_neg c]
    by_cases d : cfgA g n (g (244 * n + 4) + g (244 * n + 8)) = g (244 * n + 4)
    · rw [if_pos d, if_pos d]
    · rw [if_neg d, if_neg d, lay0_ne (by omega) (by omega)]
theorem lay0_old {n t k a b : Int} (hL : LgA g n) : oldA (lay0 g n t k a b) n = if k = 1 then a else oldA g n := by
  have hL' := hL
  obtain ⟨⟨_, _, _, _, _, _, _, _, _, _, _, _, _, _⟩, hE⟩ := hL
  have a0 := cfgA_le g n (g (244 * n + 4) + g (244 * n + 8)) (by omega)
  rw [oldA_raw, oldA_raw, lay0_8, lay0_ne (x := 244 * n + 4) (by omega) (by omega), lay0_ne (x := 244 * n + 6) (by omega) (by omega), show g (244 * n + 4) + (g (244 * n + 8) + 1) = g (244 * n + 4) + g (244 * n + 8) + 1 by omega, lay0_cfg hL']
  by_cases c : k = 1
  · simp only [if_pos c]
    rw [if_neg (by omega), show 244 * n + 52 + 4 * (g (244 * n + 4) + g (244 * n + 8) + 1 - g (244 * n + 4) - 1) + 2 = 244 * n + 52 + 4 * g (244 * n + 8) + 2 by omega, lay0_ent (by omega) (by omega) (by omega)]
    rfl
  · simp only [if_neg c]
    by_cases d : cfgA g n (g (244 * n + 4) + g (244 * n + 8)) = g (244 * n + 4)
    · rw [if_pos d, if_pos d]
    · rw [if_neg d, if_neg d, lay0_ne (by omega) (by omega)]
/-- configurations lie on the node's block -/
theorem cfgF_ext {g' : Row} {n : Int} (h4 : g' (244 * n + 4) = g (244 * n + 4)) : ∀ (k : Nat) (i : Int), (∀ x, 244 * n + 52 ≤ x → x < 244 * n + 52 + 4 * (i - g (244 * n + 4)) → g' x = g x) → cfgF g' n k i = cfgF g n k i
  | 0, i, he => rfl
  | k + 1, i, he => by
    unfold cfgF
    simp only [the, lpA]
    by_cases c : i ≤ g (244 * n + 4)
    · rw [if_pos (by rw [h4]; exact c), if_pos c, h4]
    · rw [if_neg (by rw [h4]; exact c), if_neg c]
      have e : g' (244 * n + 52 + 4 * (i - g' (244 * n + 4) - 1) + 1) = g (244 * n + 52 + 4 * (i - g (244 * n + 4) - 1) + 1) := by
        rw [h4]
        exact he _ (by omega) (by omega)
      have ih := cfgF_ext h4 k (i - 1) (fun x x1 x2 => he x x1 (by omega))
      by_cases d : g (244 * n + 52 + 4 * (i - g (244 * n + 4) - 1) + 1) = 1
      · rw [if_pos (e.trans d), if_pos d]
      · rw [if_neg (fun hc => d (e.symm.trans hc)), if_neg d, ih]
theorem cfg_ext {g' : Row} {n : Int} (hL : LgA g n) (he : ∀ x, 244 * n + 4 ≤ x → x < 244 * n + 244 → (x < 244 * n + 9 ∨ 244 * n + 52 ≤ x) → g' x = g x) : oldA g' n = oldA g n ∧ newA g' n = newA g n ∧ cfgA g' n (g (244 * n + 4) + g (244 * n + 8)) = cfgA g n (g (244 * n + 4) + g (244 * n + 8)) := by
  obtain ⟨⟨_, _, _, _, _, _, _, _, _, _, _, _, _, _⟩, hE⟩ := hL
  have a0 := cfgA_le g n (g (244 * n + 4) + g (244 * n + 8)) (by omega)
  have e4 := he (244 * n + 4) (by omega) (by omega) (by omega)
  have e8 := he (244 * n + 8) (by omega) (by omega) (by omega)
  have ec : cfgA g' n (g (244 * n + 4) + g (244 * n + 8)) = cfgA g n (g (244 * n + 4) + g (244 * n + 8)) := by
    unfold cfgA
    simp only [the]
    rw [e4]
    exact cfgF_ext e4 _ _ (fun x x1 x2 => he x (by omega) (by omega) (by omega))
  refine ⟨?_, ?_, ec⟩
  · rw [oldA_raw, oldA_raw, e4, e8, ec, he (244 * n + 6) (by omega) (by omega) (by omega)]
    split
    · rfl
    · rw [he _ (by omega) (by omega) (by omega)]
  · rw [newA_raw, newA_raw, e4, e8, ec, he (244 * n + 7) (by omega) (by omega) (by omega)]
    split
    · rfl
    · rw [he _ (by omega) (by omega) (by omega)]
end
