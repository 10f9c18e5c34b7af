/-! DEPS: yn -/
/-! YO: the twin takes a law -/
/-- what a text of n letters comes to; none: it is not looked at -/
def lawR (T : Int → Int) (t n : Int) : Option ((Int × Int) ⊕ List Cls) := if 1 ≤ n ∧ n ≤ 240 then (if n ≤ t then some (rText T n (n.toNat + 1) [] 0) else none) else none
def lawAns (T : Int → Int) (t n : Int) : Int := match lawR T t n with
  | none => -1
  | some (.inl x) => -1000 * x.1 - x.2
  | some (.inr l) => l.length
def lawNew (T : Int → Int) (t n : Int) (l : List Cls) : List Cls := match lawR T t n with
  | none => l
  | some (.inl _) => l
  | some (.inr l') => l'
def lawTp (T : Int → Int) (t n : Int) : Int := match lawR T t n with
  | none => t
  | some _ => 0
theorem plP_no {a j : Nat} (h : (a ≠ 3772 ∧ (a < 3779 ∨ 3789 < a)) ∨ (a = 3772 ∧ (j < 7 ∨ 15 < j))) : plP a j = none := by
  unfold plP
  rcases h with ⟨h1, h2⟩ | ⟨h1, h2⟩
  · rw [if_neg h1]
    cases e : bsP a with
    | none => rfl
    | some x => have := bsP_r e; omega
  · rw [if_pos h1, if_neg (by omega)]
def repQ (M : Mem) : Row := fun x => if x ≤ 15 then (mI M 3772 x.toNat).toInt else if x < 2000 then (mI M 3779 (x - 1000).toNat).toInt else if x < 3000 then (mI M 3780 (x - 2000).toNat).toInt else if x < 3100 then (mI M 3781 (x - 3000).toNat).toInt else if x < 3200 then (mI M 3782 (x - 3100).toNat).toInt else if x < 3300 then (mI M 3783 (x - 3200).toNat).toInt else if x < 4000 then (mI M 3784 (x - 3300).toNat).toInt else if x < 5000 then (mI M 3785 (x - 4000).toNat).toInt else if x < 5100 then (mI M 3786 (x - 5000).toNat).toInt else if x < 5200 then (mI M 3787 (x - 5100).toNat).toInt else if x < 5300 then (mI M 3788 (x - 5200).toNat).toInt else (mI M 3789 (x - 5300).toNat).toInt
section
variable {M : Mem}
/-- the row of a memory -/
theorem pw_rep (M : Mem) : ∃ q, pw q M = M := by
  refine ⟨repQ M, ?_⟩
  refine Prod.ext ?_ rfl
  funext a j
  show pwI _ (mI M) a j = mI M a j
  unfold pwI
  cases e : plP a j with
  | none => rfl
  | some p =>
    show iI (repQ M p) = _
    unfold repQ
    rcases plP_c e with ⟨a1, a2, a3, a4⟩ | ⟨b, n, b1, b2, b3⟩
    · rw [if_pos (by omega), iv_of, a1, show p.toNat = j by omega]
    · rcases (bsP_r b1).2.2 with r | r | r | r | r | r | r | r | r | r | r <;> (obtain ⟨r1, r2⟩ := r; cases r2)
      · rw [if_neg (by omega), if_pos (by omega), iv_of, r1, show (p - 1000).toNat = j by omega]
      · rw [if_neg (by omega), if_neg (by omega), if_pos (by omega), iv_of, r1, show (p - 2000).toNat = j by omega]
      · rw [if_neg (by omega), if_neg (by omega), if_neg (by omega), if_pos (by omega), iv_of, r1, show (p - 3000).toNat = j by omega]
      · rw [if_neg (by omega), if_neg (by omega), if_neg (by omega), if_neg (by omega), if_pos (by omega), iv_of, r1, show (p - 3100).toNat = j by omega]
      · rw [if_neg (by omega), if_neg (by omega), if_neg (by omega), if_neg (by omega), if_neg (by omega), if_pos (by omega), iv_of, r1, show (p - 3200).toNat = j by omega]
      · rw [if_neg (by omega), if_neg (by omega), if_neg (by omega), if_neg (by omega), if_neg (by omega), if_neg (by omega), if_pos (by omega), iv_of, r1, show (p - 3300).toNat = j by omega]
      · rw [if_neg (by omega), if_neg (by omega), if_neg (by omega), if_neg (by omega), if_neg (by omega), if_neg (by omega), if_neg (by omega), if_pos (by omega), iv_of, r1, show (p - 4000).toNat = j by omega]
      · rw [if_neg (by omega), if_neg (by omega), if_neg (by omega), if_neg (by omega), if_neg (by omega), if_neg (by omega), if_neg (by omega), if_neg (by omega), if_pos (by omega), iv_of, r1, show (p - 5000).toNat = j by omega]
      · rw [if_neg (by omega), if_neg (by omega), if_neg (by omega), if_neg (by omega), if_neg (by omega), if_neg (by omega), if_neg (by omega), if_neg (by omega), if_neg (by omega), if_pos (by omega), iv_of, r1, show (p - 5100).toNat = j by omega]
      · rw [if_neg (by omega), if_neg (by omega), if_neg (by omega), if_neg (by omega), if_neg (by omega), if_neg (by omega), if_neg (by omega), if_neg (by omega), if_neg (by omega), if_neg (by omega), if_pos (by omega), iv_of, r1, show (p - 5200).toNat = j by omega]
      · rw [if_neg (by omega), if_neg (by omega), if_neg (by omega), if_neg (by omega), if_neg (by omega), if_neg (by omega), if_neg (by omega), if_neg (by omega), if_neg (by omega), if_neg (by omega), if_neg (by omega), iv_of, r1, show (p - 5300).toNat = j by omega]
theorem pw_tw {q g mi mn F : Row} {S : Nat → Int32} : pw q (tw g mi mn F S M) = tw g mi mn F S (pw q M) := by
  refine Prod.ext ?_ rfl
  funext a j
  show pwI q (twI g mi mn F S (mI M)) a j = twI g mi mn F S (pwI q (mI M)) a j
  cases e : plP a j with
  | none =>
    have h1 : ∀ I : Nat → Nat → Int32, pwI q I a j = I a j := fun I => by unfold pwI; rw [e]
    rw [h1]
    unfold twI
    rw [h1]
  | some p =>
    have h2 : ∀ I : Nat → Nat → Int32, pwI q I a j = iI (q p) := fun I => by unfold pwI; rw [e]
    rw [h2]
    unfold twI
    rcases plP_c e with ⟨a1, a2, a3, a4⟩ | ⟨b, n, b1, b2, b3⟩
    · rw [if_neg (by omega), if_neg (by omega), if_neg (by omega), if_neg (by omega), if_neg (by omega), if_neg (by omega), h2]
    · have := (bsP_r b1)
      rw [if_neg (by omega), if_neg (by omega), if_neg (by omega), if_neg (by omega), if_neg (by omega), if_neg (by omega), h2]
theorem tp_tw {g mi mn F : Row} {S : Nat → Int32} : tpA (tw g mi mn F S M) = tpA M := by
  funext x
  unfold tpA
  have : mI (tw g mi mn F S M) 3778 x.toNat = mI M 3778 x.toNat := by
    show twI g mi mn F S (mI M) 3778 x.toNat = _
    unfold twI
    rw [if_neg (by omega), if_neg (by omega), if_neg (by omega), if_neg (by omega), if_neg (by omega), if_neg (by omega)]
  rw [this]
/-- rows are copied -/
theorem p_copyR (hL : LPt M) {k : Int} (k16 : k ≤ 16) : ∀ (j : Nat) (q : Row) (i : Int) (fu : Nat), k - i = j → 0 ≤ i → q 14 = k → j < fu →
    ∃ q', sX8_law_123 fu (some 3772) (iI i) (pw q M) = some (iI k, pw q' M) ∧ (∀ z, i ≤ z → z < k → q' (5000 + z) = q (3000 + z) ∧ q' (5100 + z) = q (3100 + z) ∧ q' (5200 + z) = q (3200 + z) ∧ q' (5300 + z) = q (3300 + z)) ∧ (∀ z, 0 ≤ z → z < i → q' (5000 + z) = q (5000 + z) ∧ q' (5100 + z) = q (5100 + z) ∧ q' (5200 + z) = q (5200 + z) ∧ q' (5300 + z) = q (5300 + z)) ∧ ∀ x, x < 5000 → q' x = q x
  | 0, q, i, fu + 1, e1, e2, e3, e4 => by
    refine ⟨q, ?_, fun z z0 z1 => by omega, fun z z0 z1 => ⟨rfl, rfl, rfl, rfl⟩, fun x hx => rfl⟩
    show sX8_law_123b (sX8_law_123 fu) _ _ _ = _
    generalize sX8_law_123 fu = K
    unfold sX8_law_123b
    rw [gI_p14 hL, if_pos (by rw [iv_le (by omega) (by omega) (by omega) (by omega)]; omega), gI_p14 hL, e3]
  | j + 1, q, i, fu + 1, e1, e2, e3, e4 => by
    obtain ⟨q1, hq1⟩ : ∃ q1, st (st (st (st q (5000 + i) (q (3000 + i))) (5100 + i) (q (3100 + i))) (5200 + i) (q (3200 + i))) (5300 + i) (q (3300 + i)) = q1 := ⟨_, rfl⟩
    have ne : ∀ x, ¬ x = 5000 + i → ¬ x = 5100 + i → ¬ x = 5200 + i → ¬ x = 5300 + i → q1 x = q x := fun x a b c d => by rw [← hq1, st_ne d, st_ne c, st_ne b, st_ne a]
    have v0 : q1 (5000 + i) = q (3000 + i) := by rw [← hq1, st_ne (by omega), st_ne (by omega), st_ne (by omega), st_eq]
    have v1 : q1 (5100 + i) = q (3100 + i) := by rw [← hq1, st_ne (by omega), st_ne (by omega), st_eq]
    have v2 : q1 (5200 + i) = q (3200 + i) := by rw [← hq1, st_ne (by omega), st_eq]
    have v3 : q1 (5300 + i) = q (3300 + i) := by rw [← hq1, st_eq]
    obtain ⟨q', x1, x2, x3, x4⟩ := p_copyR hL k16 j q1 (i + 1) fu (by omega) (by omega) ((ne 14 (by omega) (by omega) (by omega) (by omega)).trans e3) (by omega)
    refine ⟨q', ?_, fun z z0 z1 => ?_, fun z z0 z1 => ?_, fun x hx => (x4 x hx).trans (ne x (by omega) (by omega) (by omega) (by omega))⟩
    · rw [← x1]
      show sX8_law_123b (sX8_law_123 fu) _ _ _ = _
      generalize sX8_law_123 fu = K
      unfold sX8_law_123b
      rw [gI_p14 hL, if_neg (by rw [iv_le (by omega) (by omega) (by omega) (by omega)]; omega), gR_p23 hL, gR_p18 hL, aI_p3781 hL e2 (by omega), sI_p3786 hL e2 (by omega), gR_p24 hL, gR_p19 hL, aI_p3782 hL e2 (by omega), sI_p3787 hL e2 (by omega), gR_p25 hL, gR_p20 hL, aI_p3783 hL e2 (by omega), sI_p3788 hL e2 (by omega), gR_p26 hL, gR_p21 hL, aI_p3784 hL e2 (by omega), sI_p3789 hL e2 (by omega), iv_add, st_ne (show ¬ 3100 + i = 5000 + i by omega), st_ne (show ¬ 3200 + i = 5100 + i by omega), st_ne (show ¬ 3200 + i = 5000 + i by omega), st_ne (show ¬ 3300 + i = 5200 + i by omega), st_ne (show ¬ 3300 + i = 5100 + i by omega), st_ne (show ¬ 3300 + i = 5000 + i by omega), hq1]
    · by_cases e : z = i
      · obtain ⟨y1, y2, y3, y4⟩ := x3 i (by omega) (by omega)
        rw [e, y1, y2, y3, y4]
        exact ⟨v0, v1, v2, v3⟩
      · obtain ⟨y1, y2, y3, y4⟩ := x2 z (by omega) z1
        rw [y1, y2, y3, y4]
        exact ⟨ne _ (by omega) (by omega) (by omega) (by omega), ne _ (by omega) (by omega) (by omega) (by omega), ne _ (by omega) (by omega) (by omega) (by omega), ne _ (by omega) (by omega) (by omega) (by omega)⟩
    · obtain ⟨y1, y2, y3, y4⟩ := x3 z z0 (by omega)
      rw [y1, y2, y3, y4]
      exact ⟨ne _ (by omega) (by omega) (by omega) (by omega), ne _ (by omega) (by omega) (by omega) (by omega), ne _ (by omega) (by omega) (by omega) (by omega), ne _ (by omega) (by omega) (by omega) (by omega)⟩
theorem p_copyC (hL : LPt M) {m : Int} (m9 : m ≤ 260) : ∀ (j : Nat) (q : Row) (i : Int) (fu : Nat), m - i = j → 0 ≤ i → q 12 = m → j < fu →
    ∃ q', sX8_law_95 fu (some 3772) (iI i) (pw q M) = sX8_law_123 FU (some 3772) (iI 0) (pw q' M) ∧ (∀ z, i ≤ z → z < m → q' (4000 + z) = q (1000 + z)) ∧ (∀ z, 0 ≤ z → z < i → q' (4000 + z) = q (4000 + z)) ∧ ∀ x, (x < 4000 ∨ 4260 ≤ x) → q' x = q x
  | 0, q, i, fu + 1, e1, e2, e3, e4 => by
    refine ⟨q, ?_, fun z z0 z1 => by omega, fun z z0 z1 => rfl, fun x hx => rfl⟩
    show sX8_law_95b (sX8_law_95 fu) _ _ _ = _
    generalize sX8_law_95 fu = K
    unfold sX8_law_95b
    rw [gI_p12 hL, if_pos (by rw [iv_le (by omega) (by omega) (by omega) (by omega)]; omega)]
  | j + 1, q, i, fu + 1, e1, e2, e3, e4 => by
    obtain ⟨q', x1, x2, x3, x4⟩ := p_copyC hL m9 j (st q (4000 + i) (q (1000 + i))) (i + 1) fu (by omega) (by omega) ((st_ne (by omega)).trans e3) (by omega)
    refine ⟨q', ?_, fun z z0 z1 => ?_, fun z z0 z1 => ?_, fun x hx => (x4 x hx).trans (st_ne (by omega))⟩
    · rw [← x1]
      show sX8_law_95b (sX8_law_95 fu) _ _ _ = _
      generalize sX8_law_95 fu = K
      unfold sX8_law_95b
      rw [gI_p12 hL, if_neg (by rw [iv_le (by omega) (by omega) (by omega) (by omega)]; omega), gR_p22 hL, gR_p16 hL, aI_p3779 hL e2 (by omega), sI_p3785 hL e2 (by omega), iv_add]
    · by_cases e : z = i
      · rw [e, x3 i (by omega) (by omega), st_eq]
      · rw [x2 z (by omega) z1, st_ne (by omega)]
    · rw [x3 z z0 (by omega), st_ne (by omega)]
/-- what a row of codes holds -/
theorem pw_txt (hL : LPt M) {q : Row} {l : List Cls} (h15 : q 15 = (l.length : Int)) (l16 : l.length ≤ 16) {q0 : Row} (r : RulQ q0 l) (m9 : q0 12 ≤ 250) (hc : ∀ z, 0 ≤ z → z < q0 12 → q (4000 + z) = q0 (1000 + z)) (hr : ∀ z, 0 ≤ z → z < (l.length : Int) → q (5000 + z) = q0 (3000 + z) ∧ q (5100 + z) = q0 (3100 + z) ∧ q (5200 + z) = q0 (3200 + z) ∧ q (5300 + z) = q0 (3300 + z)) : TxtT (pw q M) l := by
  have at' : ∀ a j p, plP a j = some p → mI (pw q M) a j = iI (q p) := fun a j p h => pw_at h
  have pl : ∀ (a : Nat) (b : Int) (n : Nat) (j : Nat), a ≠ 3772 → bsP a = some (b, n) → j < n → plP a j = some (b + j) := by
    intro a b n j h1 h2 h3
    unfold plP
    rw [if_neg h1, h2]
    exact if_pos h3
  refine ⟨⟨hL.2.1.2.2.2.2.2.2.2.2.1, hL.2.1.2.2.2.2.2.2.2.2.2.1, hL.2.1.2.2.2.2.2.2.2.2.2.2.1, hL.2.1.2.2.2.2.2.2.2.2.2.2.2, hL.2.2.2.2.2.2.2.2.2.2.1, hL.2.2.2.2.2.2.2.2.2.2.2.1, hL.2.2.2.2.2.2.2.2.2.2.2.2.1, hL.2.2.2.2.2.2.2.2.2.2.2.2.2⟩, ?_, l16, fun k => if 0 ≤ k ∧ k < 260 then (iI (q (4000 + k))).toInt else 0, ⟨hL.2.1.2.2.2.2.2.2.2.1, hL.2.2.2.2.2.2.2.2.2.1, fun k hk => ?_, fun k => ?_⟩, fun i hi => ?_⟩
  · rw [at' 3772 15 15 rfl, h15]
  · rw [at' 3785 k (4000 + k) (pl 3785 4000 260 k (by omega) rfl hk)]
    show _ = iI (if 0 ≤ (k : Int) ∧ (k : Int) < 260 then _ else 0)
    rw [if_pos ⟨by omega, by omega⟩, iv_of]
  · show (if 0 ≤ k ∧ k < 260 then _ else 0) ≤ _
    split
    · exact (iv_rg _).2
    · omega
  · obtain ⟨fr, hf, to, a1, a2, a3, a4, b1, b2, b3, b4, b5, r1, r2⟩ := r.2 i hi
    obtain ⟨u1, u2, u3, u4⟩ := hr i (by omega) (by omega)
    have l2 := r2.1
    have cv : ∀ j : Int, 0 ≤ j → j < q0 12 → 0 ≤ q0 (1000 + j) → q0 (1000 + j) ≤ 2147483647 → (if 0 ≤ j ∧ j < 260 then (iI (q (4000 + j))).toInt else 0) = q0 (1000 + j) := by
      intro j j0 j1 c0 c1
      rw [if_pos (by omega), hc j j0 j1, iv_to (by omega) c1]
    refine ⟨fr, hf, to, ?_, ?_, ?_, ?_, b1, by omega, by omega, by omega, b5, fun n => ?_, ?_⟩
    · rw [at' 3786 i (5000 + i) (pl 3786 5000 16 i (by omega) rfl (by omega)), u1, a1]
    · rw [at' 3787 i (5100 + i) (pl 3787 5100 16 i (by omega) rfl (by omega)), u2, a2]
    · rw [at' 3788 i (5200 + i) (pl 3788 5200 16 i (by omega) rfl (by omega)), u3, a3]
    · rw [at' 3789 i (5300 + i) (pl 3789 5300 16 i (by omega) rfl (by omega)), u4, a4]
    · exact (r1 n).ext2 (fun j j0 j1 c0 c1 => cv j (by omega) (by omega) c0 c1)
    · exact r2.ext2 (fun j j0 j1 c0 c1 => cv j (by omega) (by omega) c0 c1)
end
