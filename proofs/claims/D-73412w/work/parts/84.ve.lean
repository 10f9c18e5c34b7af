/-! DEPS: vd -/
/-! VE: TermLog's draws, timers, messages -/
/-- the rest M holds TermLog's law Λ -/
def LawL (M : Mem) (Λ : Law) : Prop := ∃ T, mP M 0 5 = some T ∧ (mK M T).1 = 4 ∧ ∀ (B : Nat) (h C Hd Mo : Row) (F : Row), LyC B M → (∀ w, 0 ≤ w → w < 7 → Mo (w + 1) = F w) →
  (∀ c no : Int, -1000 ≤ c → c ≤ 119 → ∃ Mo' : Row, (∀ w, 0 ≤ w → w < 7 → Mo' (w + 1) = F w) ∧ sX5_tells (some T) (iI c) (iI no) (some 1) (tl B h C Hd Mo M) = some ((Λ c F).getD (iI no), tl B h C Hd Mo' M)) ∧
  ∀ c : Int, -1000 ≤ c → c ≤ 1000 → ∃ Mo' : Row, (∀ w, 0 ≤ w → w < 7 → Mo' (w + 1) = F w) ∧ sX5_says (some T) (iI c) (some 1) (tl B h C Hd Mo M) = some (bI ((Λ c F).isSome = true), tl B h C Hd Mo' M)
theorem Rel.upd {h g h' g' : Row} (r : Rel h g) (P : ∀ x, x < 1708 ∨ 6028 ≤ x → x < 100000 → (h' x = h x ∧ g' x = g x) ∨ h' x = g' x)
    (hc : ∀ n, 0 ≤ n → n < 7 → g' (244 * n + 8) = g (244 * n + 8) ∧ (g' (244 * n + 0) = 1 → g (244 * n + 0) = 1) ∧ (g' (244 * n + 3) = 2 → g (244 * n + 3) = 2)) (hb : ∀ n, 0 ≤ n → n < 7 → g (244 * n + 8) ≤ 48)
    (h33 : g' 11133 = g 11133) (h160 : g 11133 ≤ 160) (h34 : g' 11134 = g 11134) (h35 : g' 11135 = g 11135) (h16 : g 11135 ≤ 16) (h99 : g 11134 ≤ 999) (hst : ∀ x, 11028 ≤ x → x < 11124 → h' x = h x ∧ g' x = g x) (hm : ∀ x, 100000 ≤ x → h' x = h x) (hg : ∀ x, 1708 ≤ x → x < 6028 → g' x = g x) : Rel h' g' := by
  have Q : ∀ x, (x < 1708 ∨ 6028 ≤ x) → x < 100000 → h x = g x → h' x = g' x := by
    intro x a b c
    rcases P x a b with q | q
    · rw [q.1, q.2]; exact c
    · exact q
  refine ⟨fun n n0 n1 => ?_, fun i a b w w0 w1 => ?_, fun x a b => Q x (by omega) (by omega) (r.ld x a b), fun q a b => ?_, fun x a b => Q x (by omega) (by omega) (r.ct x a b), fun x a b => Q x (by omega) (by omega) (r.gl x a b), fun i a b => ?_⟩
  · obtain ⟨c8, c0, c3⟩ := hc n n0 n1
    have rn := r.nd n n0 n1
    have := hb n n0 n1
    refine ⟨fun w a b => Q _ (by omega) (by omega) (rn.s w a b), fun w a b => Q _ (by omega) (by omega) (rn.t w a b), fun c => Q _ (by omega) (by omega) (rn.k (c0 c)), fun x a b => ?_, fun c w a b => Q _ (by omega) (by omega) (rn.l (c3 c) w a b)⟩
    rw [c8] at b
    exact Q _ (by omega) (by omega) (rn.e x a b)
  · rw [h34] at b
    exact Q _ (by omega) (by omega) (r.hl i a b w w0 w1)
  · rw [h35] at b
    obtain ⟨q1, q2, q3⟩ := r.rd q a b
    have e4 := hst (11028 + 6 * q + 4) (by omega) (by omega)
    have e5 := hst (11028 + 6 * q + 5) (by omega) (by omega)
    refine ⟨fun w w0 w1 => ?_, fun c => ?_, fun c => ?_⟩
    · have := hst (11028 + 6 * q + w) (by omega) (by omega)
      rw [this.1, this.2]; exact q1 w w0 w1
    · rw [e4.2] at c
      rw [e5.1, e5.2]; exact q2 c
    · rw [e4.2] at c
      rw [e5.1]; exact q3 c
  · rw [h33] at b
    obtain ⟨q1, q2⟩ := r.ml i a b
    have e1 : ∀ f, 0 ≤ f → smg h' i f = smg h i f := fun f a => hm _ (by omega)
    have e2 : ∀ w, 0 ≤ w → w < 27 → msg g' i w = msg g i w := fun w w0 w1 => hg _ (by omega) (by omega)
    refine ⟨?_, by rw [e1 4 (by omega), e2 4 (by omega) (by omega)]; exact q2⟩
    obtain ⟨s, k0, k2, k3, k4, k5⟩ := q1
    refine ⟨?_, ?_, ?_, ?_, ?_, ?_⟩
    · rw [e1 0 (by omega), e1 1 (by omega), e1 2 (by omega), e1 3 (by omega), e1 9 (by omega), e1 5 (by omega), e2 0 (by omega) (by omega), e2 1 (by omega) (by omega), e2 2 (by omega) (by omega), e2 3 (by omega) (by omega), e2 5 (by omega) (by omega), e2 6 (by omega) (by omega)]
      exact s
    · rw [e1 6 (by omega), e2 2 (by omega) (by omega), e2 7 (by omega) (by omega)]
      exact k0
    · rw [e1 7 (by omega), e1 8 (by omega), e2 2 (by omega) (by omega), e2 8 (by omega) (by omega), e2 10 (by omega) (by omega), e2 5 (by omega) (by omega)]
      intro c
      obtain ⟨u1, u2, u3⟩ := k2 c
      exact ⟨u1, u2, fun x x0 x9 x1 => by rw [e1 _ (by omega), e2 _ (by omega) (by omega)]; exact u3 x x0 x9 x1⟩
    · rw [e1 7 (by omega), e2 2 (by omega) (by omega), e2 10 (by omega) (by omega)]
      exact k3
    · rw [e1 10 (by omega), e1 11 (by omega), e2 2 (by omega) (by omega), e2 8 (by omega) (by omega), e2 9 (by omega) (by omega)]
      intro c
      obtain ⟨u1, u2, u3⟩ := k4 c
      exact ⟨u1, u2, fun k k0 k1 => by rw [e1 _ (by omega), e2 _ (by omega) (by omega)]; exact u3 k k0 k1⟩
    · rw [e1 6 (by omega), e2 2 (by omega) (by omega), e2 10 (by omega) (by omega)]
      exact k5
