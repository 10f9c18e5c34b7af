/-! DEPS: ws -/
/-! THE LAW: on every script it answers 1 -/
theorem law_pure (L : Nat) (xs : Nat → Int32) (hL : L ≤ 384) : ∃ σ', sL_law L xs mem0 = some (iI 1, σ') := by
  obtain ⟨σ, h, g, e, W, z, y⟩ := start_world L xs
  obtain ⟨σ', q⟩ := law_loop (sn := L) (xs := xs) hL FU 0 σ h k00 g g [] 0 0 (fun _ => 0) W (by omega) (by omega) (by omega) (by unfold FU; omega)
  exact ⟨σ', e.trans q⟩
