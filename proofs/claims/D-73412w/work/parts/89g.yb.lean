/-! DEPS: ya tm -/
/-! YB: the twin runs its codes -/
/-- the rest M holds the codes c -/
def CodT (M : Mem) (c : Int → Int) : Prop := mP M 3772 22 = some 3785 ∧ mK M 3785 = (20, 260) ∧ (∀ k : Nat, k < 260 → mI M 3785 k = iI (c k)) ∧ ∀ k, c k ≤ 2147483647
section
variable {β : Type} {g mi mn F : Row} {S : Nat → Int32} {M : Mem}
theorem aI_sk {e : Int} {f : Int32 → Option β} (h : LT M) (h0 : 0 ≤ e) (h1 : e < 260) : aI (tw g mi mn F S M) (some 3790) (iI e) f = f (S e.toNat) := by
  rw [aI_x (σ := tw g mi mn F S M) (n := 260) h.2.2.2.2.1 h0 (by omega) (by decide)]
  refine congrArg f ?_
  show twI g mi mn F S (mI M) 3790 e.toNat = S e.toNat
  unfold twI
  rw [if_neg (by omega), if_neg (by omega), if_neg (by omega), if_neg (by omega), if_pos rfl]
theorem sI_sk {e : Int} {v : Int32} {f : Mem → Option β} (h : LT M) (h0 : 0 ≤ e) (h1 : e < 260) : sI (tw g mi mn F S M) (some 3790) (iI e) v f = f (tw g mi mn F (fun j : Nat => if (j : Int) = e then v else S j) M) := by
  rw [sI_x (σ := tw g mi mn F S M) (n := 260) h.2.2.2.2.1 h0 (by omega) (by decide)]
  refine congrArg f (Prod.ext ?_ rfl)
  funext a j
  show up2 (twI g mi mn F S (mI M)) 3790 e.toNat v a j = twI g mi mn F (fun j : Nat => if (j : Int) = e then v else S j) (mI M) a j
  unfold up2 twI
  by_cases c : a = 3790
  · subst c
    rw [if_neg (show ¬ (3790 = 3773 ∧ j < 11138) by omega), if_neg (show ¬ 3790 = 3776 by omega), if_neg (show ¬ 3790 = 3777 by omega), if_neg (show ¬ 3790 = 3791 by omega), if_pos rfl, if_neg (show ¬ (3790 = 3773 ∧ j < 11138) by omega), if_neg (show ¬ 3790 = 3776 by omega), if_neg (show ¬ 3790 = 3777 by omega), if_neg (show ¬ 3790 = 3791 by omega), if_pos rfl]
    by_cases d : j = e.toNat
    · rw [if_pos ⟨rfl, d⟩]
      exact (if_pos (by omega)).symm
    · rw [if_neg (fun q => d q.2)]
      exact (if_neg (by omega)).symm
  · rw [if_neg (fun q => c q.1)]
    split
    · rfl
    · split
      · rfl
      · split
        · rfl
        · split
          · rfl
          · first | rfl | rw [if_neg c, if_neg c]
theorem gR_22 {f : Option Nat → Option β} (h : LT M) {c : Int → Int} (hc : CodT M c) : gR (tw g mi mn F S M) (some 3772) 6 22 f = f (some 3785) := (if_pos h.1.1).trans (congrArg f hc.1)
theorem aI_cd {e : Int} {f : Int32 → Option β} (h : LT M) {c : Int → Int} (hc : CodT M c) (h0 : 0 ≤ e) (h1 : e < 260) : aI (tw g mi mn F S M) (some 3785) (iI e) f = f (iI (c e)) := by
  rw [aI_x (σ := tw g mi mn F S M) (n := 260) hc.2.1 h0 (by omega) (by decide)]
  refine congrArg f ?_
  show twI g mi mn F S (mI M) 3785 e.toNat = iI (c e)
  unfold twI
  rw [if_neg (by omega), if_neg (by omega), if_neg (by omega), if_neg (by omega), if_neg (by omega), if_neg (by omega), hc.2.2.1 _ (by omega), Int.toNat_of_nonneg h0]
theorem m_reckon {op : Int} {x y : Int32} {σ : Mem} (o2 : 2 ≤ op) (o9 : op ≤ 9) (h : (op = 5 ∨ op = 6) → ¬ y = iI 0) : sX8_reckon (iI op) x y σ = some (reckA op x y, σ) := by
  have ne : ∀ a : Int, 0 ≤ a → a ≤ 20 → ¬ op = a → ¬ iI op = iI a := fun a a0 a1 q => by rw [iv_eq (by omega) (by omega) (by omega) (by omega)]; exact q
  unfold sX8_reckon reckA
  by_cases c2 : op = 2
  · rw [if_pos (congrArg iI c2), if_pos c2]
  rw [if_neg (ne 2 (by omega) (by omega) c2), if_neg c2]
  by_cases c3 : op = 3
  · rw [if_pos (congrArg iI c3), if_pos c3]
  rw [if_neg (ne 3 (by omega) (by omega) c3), if_neg c3]
  by_cases c4 : op = 4
  · rw [if_pos (congrArg iI c4), if_pos c4]
  rw [if_neg (ne 4 (by omega) (by omega) c4), if_neg c4]
  by_cases c5 : op = 5
  · rw [if_pos (congrArg iI c5), if_pos c5]
    exact if_neg (h (Or.inl c5))
  rw [if_neg (ne 5 (by omega) (by omega) c5), if_neg c5]
  by_cases c6 : op = 6
  · rw [if_pos (congrArg iI c6), if_pos c6]
    exact if_neg (h (Or.inr c6))
  rw [if_neg (ne 6 (by omega) (by omega) c6), if_neg c6]
  by_cases c7 : op = 7
  · rw [if_pos (congrArg iI c7), if_pos c7]
    by_cases d : x < y
    · rw [if_neg (Int32.not_le.mpr d), if_pos d]
    · rw [if_pos (Int32.not_lt.mp d), if_neg d]
  rw [if_neg (ne 7 (by omega) (by omega) c7), if_neg c7]
  by_cases c8 : op = 8
  · rw [if_pos (congrArg iI c8), if_pos c8]
    by_cases d : y < x
    · rw [if_neg (Int32.not_le.mpr d), if_pos d]
    · rw [if_pos (Int32.not_lt.mp d), if_neg d]
  rw [if_neg (ne 8 (by omega) (by omega) c8), if_neg c8]
  by_cases d : x = y
  · rw [if_pos d, if_pos d]
  · rw [if_neg d, if_neg d]
/-- where a step goes on -/
def stpR {α : Type} (A : α) (f : Int → Int → (Nat → Int32) → α) (z : Option (Int × Int × (Nat → Int32))) : α := match z with
  | none => A
  | some w => f w.1 w.2.1 w.2.2
theorem m_stp {K : Option Nat → Int32 → Int32 → Int32 → Int32 → Mem → Option (Int32 × Mem)} (hT : LT M) {c : Int → Int} (hc : CodT M c) {F0 : Row} (hF : ag7 F F0) {b k n : Int} (k0 : 0 ≤ k) (kb : k < b) (b1 : b ≤ 260) (nk : n ≤ k) {z : Option (Int × Int × (Nat → Int32))} (hs : stpA c F0 k n S = some z) :
    sX8_reckonsTo_16b K (some 3772) (iI b) (iI n) (iI 0) (iI k) (tw g mi mn F S M) = stpR (some (iI 0, tw g mi mn F S M)) (fun k' n' S' => K (some 3772) (iI b) (iI n') (iI 0) (iI k') (tw g mi mn F S' M)) z := by
  have cl := hc.2.2.2 k
  unfold stpA at hs
  simp only [] at hs
  by_cases h0 : c k < 0 ∨ 2147483647 < c k ∨ n < 0
  · rw [if_pos h0] at hs; cases hs
  rw [if_neg h0] at hs
  obtain ⟨op, hop⟩ : ∃ op, c k / 1048576 = op := ⟨_, rfl⟩
  obtain ⟨v, hv⟩ : ∃ v, c k % 1048576 = v := ⟨_, rfl⟩
  rw [hop, hv] at hs
  have ob : 0 ≤ op ∧ op ≤ 3000 := by omega
  have vb : 0 ≤ v ∧ v < 1048576 := by omega
  have ne : ∀ a : Int, 0 ≤ a → a ≤ 20 → ¬ op = a → ¬ iI op = iI a := fun a a0 a1 q => by rw [iv_eq (by omega) (by omega) (by omega) (by omega)]; exact q
  unfold sX8_reckonsTo_16b
  rw [if_neg (by rw [iv_le (by omega) (by omega) (by omega) (by omega)]; omega), gR_22 hT hc, aI_cd hT hc k0 (by omega), dv_eq _ (by omega) (by omega) (by omega) (by omega), gR_22 hT hc, aI_cd hT hc k0 (by omega), rm_eq _ (by omega) (by omega) (by omega) (by omega), hop, hv, iv_add]
  by_cases c0 : op = 0
  · rw [if_pos c0] at hs
    cases hs
    rw [if_pos (congrArg iI c0)]
    unfold sX8_reckonsTo_63 sX8_reckonsTo_85 sX8_reckonsTo_230
    rw [gR_27 hT, if_pos (congrArg iI c0), sI_sk hT (by omega) (by omega), iv_add]
    rfl
  rw [if_neg c0] at hs
  rw [if_neg (ne 0 (by omega) (by omega) c0)]
  by_cases c1 : op = 1
  · rw [if_pos c1] at hs
    by_cases v7 : 0 ≤ v ∧ v < 7
    · rw [if_pos v7] at hs
      cases hs
      rw [if_pos (congrArg iI c1)]
      unfold sX8_reckonsTo_63 sX8_reckonsTo_85 sX8_reckonsTo_230
      rw [gR_27 hT, if_neg (ne 0 (by omega) (by omega) c0), gR_28 hT, aI_fa hT v7.1 v7.2, hF v v7.1 v7.2, sI_sk hT (by omega) (by omega), iv_add]
      rfl
    · rw [if_neg v7] at hs; cases hs
  rw [if_neg c1] at hs
  rw [if_neg (ne 1 (by omega) (by omega) c1)]
  by_cases c10 : op = 10
  · rw [if_pos c10] at hs
    by_cases n1 : 1 ≤ n
    · rw [if_pos n1] at hs
      cases hs
      rw [if_pos (congrArg iI c10), gR_27 hT, gR_27 hT, iv_sub, aI_sk hT (by omega) (by omega), sI_sk hT (by omega) (by omega)]
      rfl
    · rw [if_neg n1] at hs; cases hs
  rw [if_neg c10] at hs
  rw [if_neg (ne 10 (by omega) (by omega) c10)]
  by_cases cj : op = 11 ∨ op = 12
  · rw [if_pos cj] at hs
    by_cases n1 : 1 ≤ n ∧ k < v
    · rw [if_pos n1] at hs
      have jm : sX8_reckonsTo_135 K (some 3772) (iI b) (iI n) (iI 0) (iI (k + 1)) (iI op) (iI v) (tw g mi mn F S M) = stpR (some (iI 0, tw g mi mn F S M)) (fun k' n' S' => K (some 3772) (iI b) (iI n') (iI 0) (iI k') (tw g mi mn F S' M)) z := by
        have st : ∀ w, w = wantA op → sX8_reckonsTo_155 K (some 3772) (iI b) (iI n) (iI 0) (iI (k + 1)) (iI v) (S (n - 1).toNat) w (tw g mi mn F S M) = stpR (some (iI 0, tw g mi mn F S M)) (fun k' n' S' => K (some 3772) (iI b) (iI n') (iI 0) (iI k') (tw g mi mn F S' M)) z := by
          intro w hw
          unfold sX8_reckonsTo_155 sX8_reckonsTo_230
          rw [hw]
          by_cases e : S (n - 1).toNat = wantA op
          · rw [if_pos e] at hs
            cases hs
            rw [if_pos e, iv_add, Int.zero_add]
            rfl
          · rw [if_neg e] at hs
            cases hs
            rw [if_neg e, iv_sub]
            rfl
        unfold sX8_reckonsTo_135
        rw [gR_27 hT, iv_sub, aI_sk hT (by omega) (by omega)]
        rcases cj with o | o
        · rw [if_neg (ne 12 (by omega) (by omega) (by omega))]
          exact st _ (by unfold wantA; rw [if_neg (by omega)])
        · rw [if_pos (congrArg iI o)]
          exact st _ (by unfold wantA; rw [if_pos o])
      rcases cj with o | o
      · rw [if_pos (congrArg iI o)]
        exact jm
      · rw [if_neg (ne 11 (by omega) (by omega) (by omega)), if_pos (congrArg iI o)]
        exact jm
    · rw [if_neg n1] at hs; cases hs
  rw [if_neg cj] at hs
  rw [if_neg (ne 11 (by omega) (by omega) (by omega)), if_neg (ne 12 (by omega) (by omega) (by omega))]
  by_cases c29 : 2 ≤ op ∧ op ≤ 9
  · rw [if_pos c29] at hs
    by_cases n2 : 2 ≤ n
    · rw [if_pos n2] at hs
      have fin : ((op = 5 ∨ op = 6) → ¬ S (n - 1).toNat = iI 0) → sX8_reckonsTo_203 K (some 3772) (iI b) (iI (n - 1)) (iI 0) (iI (k + 1)) (iI op) (tw g mi mn F S M) = K (some 3772) (iI b) (iI (n - 1)) (iI 0) (iI (k + 1)) (tw g mi mn F (fun j : Nat => if (j : Int) = n - 2 then reckA op (S (n - 2).toNat) (S (n - 1).toNat) else S j) M) := by
        intro q
        unfold sX8_reckonsTo_203 sX8_reckonsTo_230
        rw [gR_27 hT, gR_27 hT, iv_sub, show n - 1 - 1 = n - 2 by omega, aI_sk hT (by omega) (by omega), gR_27 hT, aI_sk hT (by omega) (by omega), m_reckon c29.1 c29.2 q, cl_some', sI_sk hT (by omega) (by omega)]
      have fin2 : (op = 5 ∨ op = 6) → sX8_reckonsTo_192 K (some 3772) (iI b) (iI (n - 1)) (iI 0) (iI (k + 1)) (iI op) (tw g mi mn F S M) = stpR (some (iI 0, tw g mi mn F S M)) (fun k' n' S' => K (some 3772) (iI b) (iI n') (iI 0) (iI k') (tw g mi mn F S' M)) z := by
        intro q
        unfold sX8_reckonsTo_192
        rw [gR_27 hT, aI_sk hT (by omega) (by omega)]
        by_cases e : S (n - 1).toNat = iI 0
        · rw [if_pos ⟨q, e⟩] at hs
          cases hs
          rw [if_pos e]
          rfl
        · rw [if_neg (fun x => e x.2)] at hs
          cases hs
          rw [if_neg e]
          exact fin (fun _ => e)
      rw [iv_sub]
      by_cases c5 : op = 5
      · rw [if_pos (congrArg iI c5)]
        exact fin2 (Or.inl c5)
      rw [if_neg (ne 5 (by omega) (by omega) c5)]
      by_cases c6 : op = 6
      · rw [if_pos (congrArg iI c6)]
        exact fin2 (Or.inr c6)
      rw [if_neg (ne 6 (by omega) (by omega) c6)]
      rw [if_neg (fun x => by rcases x.1 with q | q; exact c5 q; exact c6 q)] at hs
      cases hs
      exact fin (fun x => by rcases x with q | q; exact absurd q c5; exact absurd q c6)
    · rw [if_neg n2] at hs; cases hs
  · rw [if_neg c29] at hs; cases hs
theorem stpA_le {c : Int → Int} {F : Fct} {k n : Int} {S : Nat → Int32} {w : Int × Int × (Nat → Int32)} (hk : k ≤ 1000) (h : stpA c F k n S = some (some w)) : w.1 ≤ 1100000 := by
  unfold stpA at h
  simp only [] at h
  split at h
  · cases h
  · split at h
    · cases h; show k + 1 ≤ 1100000; omega
    · split at h
      · split at h
        · cases h; show k + 1 ≤ 1100000; omega
        · cases h
      · split at h
        · split at h
          · cases h; show k + 1 ≤ 1100000; omega
          · cases h
        · split at h
          · split at h
            · split at h
              · cases h; show c k % 1048576 ≤ 1100000; omega
              · cases h; show k + 1 ≤ 1100000; omega
            · cases h
          · split at h
            · split at h
              · split at h
                · cases h
                · cases h; show k + 1 ≤ 1100000; omega
              · cases h
            · cases h
theorem m_go (hT : LT M) {c : Int → Int} (hc : CodT M c) {F0 : Row} (hF : ag7 F F0) {b : Int} (b0 : 0 ≤ b) (b1 : b ≤ 260) {r : Option (Int × Int × (Nat → Int32))} : ∀ (f : Nat) (k n : Int) (S : Nat → Int32) (fu : Nat), goA c F0 b f k n S = some r → 0 ≤ k → k ≤ 1100000 → n ≤ k → f ≤ fu →
    ∃ S', sX8_reckonsTo_16 fu (some 3772) (iI b) (iI n) (iI 0) (iI k) (tw g mi mn F S M) = some (match r with | none => iI 0 | some x => x.2.2 0, tw g mi mn F S' M)
  | 0, k, n, S, fu, h, k0, k9, nk, hf => by cases h
  | f + 1, k, n, S, 0, h, k0, k9, nk, hf => by omega
  | f + 1, k, n, S, fu + 1, h, k0, k9, nk, hf => by
    unfold goA at h
    show ∃ S', sX8_reckonsTo_16b (sX8_reckonsTo_16 fu) _ _ _ _ _ _ = _
    by_cases cb : b ≤ k
    · rw [if_pos cb] at h
      cases h
      refine ⟨S, ?_⟩
      unfold sX8_reckonsTo_16b
      by_cases bn : -2147483648 ≤ b
      · rw [if_pos (by rw [iv_le (by omega) (by omega) (by omega) (by omega)]; exact cb), gR_27 hT, aI_sk hT (by omega) (by omega)]
        rfl
      · omega
    · rw [if_neg cb] at h
      cases e : stpA c F0 k n S with
      | none => rw [e] at h; cases h
      | some z =>
        rw [e] at h
        have st := m_stp (K := sX8_reckonsTo_16 fu) (g := g) (mi := mi) (mn := mn) hT hc hF k0 (by omega) b1 nk e
        rw [st]
        cases z with
        | none => cases h; exact ⟨S, rfl⟩
        | some w =>
          obtain ⟨k', n', S'⟩ := w
          have u := stpA_up e
          exact m_go hT hc hF b0 b1 f k' n' S' fu h (by omega) (stpA_le (by omega) e) (by omega) (by omega)
/-- the codes from a to b: their worth, 0 if something is refused -/
theorem m_reckonsTo (hT : LT M) {c : Int → Int} (hc : CodT M c) {F0 : Row} (hF : ag7 F F0) {a b : Int} {e : SumV} (r : RunS c a b e) (a0 : 0 ≤ a) (b1 : b ≤ 260) :
    ∃ S', sX8_reckonsTo (some 3772) (iI a) (iI b) (tw g mi mn F S M) = some ((e F0).getD (iI 0), tw g mi mn F S' M) := by
  have l := r.1
  obtain ⟨f, hf, h⟩ := r.2 F0 0 S (Int.le_refl _)
  have hfu : f ≤ FU := by unfold FU; omega
  unfold sX8_reckonsTo
  rw [dv_eq _ a0 (by omega) (by omega) (by omega), show a / 260 = 0 by omega, iv_mul, show (260 : Int) * 0 = 0 by omega]
  cases e1 : e F0 with
  | none =>
    rw [e1] at h
    obtain ⟨S', x⟩ := m_go (g := g) (mi := mi) (mn := mn) hT hc hF (by omega) b1 f a 0 S FU h a0 (by omega) a0 hfu
    exact ⟨S', x⟩
  | some v =>
    rw [e1] at h
    obtain ⟨S1, h1, h2, h3⟩ := h
    obtain ⟨S', x⟩ := m_go (g := g) (mi := mi) (mn := mn) hT hc hF (by omega) b1 f a 0 S FU h1 a0 (by omega) a0 hfu
    refine ⟨S', x.trans ?_⟩
    show some (S1 0, _) = some (v, _)
    rw [← h2]
    rfl
end
