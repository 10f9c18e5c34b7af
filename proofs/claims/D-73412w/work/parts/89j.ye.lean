/-! DEPS: yd -/
/-! YE: the twin's readers: the small ones -/
/-- a truth as a number, whatever it is -/
noncomputable def bQ (p : Prop) : Int32 := @bI p (Classical.propDecidable p)
theorem bQ_t {p : Prop} (h : p) : bQ p = iI 1 := if_pos h
theorem bQ_f {p : Prop} (h : ¬ p) : bQ p = iI 0 := if_neg h
theorem bQ_c {p q : Prop} (h : p ↔ q) : bQ p = bQ q := by rw [propext h]
def topQ (q : Row) : Int := if q 13 = 0 then -1 else q (2000 + (q 13 - 1)) / 1048576
def sgnA (c : Int) : Int := if c = 43 then 2 else if c = 45 then 3 else if c = 42 then 4 else if c = 47 then 5 else if c = 37 then 6 else -1
/-- the readers' bounds -/
def PQ (q : Row) : Prop :=
  (0 ≤ q 7 ∧ q 7 ≤ q 8 ∧ q 8 ≤ 240) ∧
  (0 ≤ q 12 ∧ q 12 ≤ q 7) ∧
  (0 ≤ q 13 ∧ q 13 ≤ q 7) ∧
  (0 ≤ q 11 ∧ q 11 ≤ 6) ∧
  (∀ i, 0 ≤ i → i < q 13 → 0 ≤ q (2000 + i) ∧ q (2000 + i) ≤ 20000000)
theorem PQ.p {q : Row} (self : PQ q) : 0 ≤ q 7 ∧ q 7 ≤ q 8 ∧ q 8 ≤ 240 := self.1
theorem PQ.c {q : Row} (self : PQ q) : 0 ≤ q 12 ∧ q 12 ≤ q 7 := self.2.1
theorem PQ.w {q : Row} (self : PQ q) : 0 ≤ q 13 ∧ q 13 ≤ q 7 := self.2.2.1
theorem PQ.o {q : Row} (self : PQ q) : 0 ≤ q 11 ∧ q 11 ≤ 6 := self.2.2.2.1
theorem PQ.v {q : Row} (self : PQ q) : ∀ i, 0 ≤ i → i < q 13 → 0 ≤ q (2000 + i) ∧ q (2000 + i) ≤ 20000000 := self.2.2.2.2
def noteG (q : Row) (v : Int) : Row := st (st q (1000 + q 12) v) 12 (q 12 + 1)
def pushG (q : Row) (v : Int) : Row := st (st q (2000 + q 13) v) 13 (q 13 + 1)
section
variable {q : Row} {M : Mem}
theorem topQ_r (hq : PQ q) : -1 ≤ topQ q ∧ topQ q ≤ 19 := by
  unfold topQ
  split
  · omega
  · have := hq.v (q 13 - 1) (by have := hq.w; omega) (by omega)
    omega
theorem p_wrong (hL : LPt M) {w p : Int} : sX8_wrongAt (some 3772) (iI w) (iI p) (pw q M) = some (iI 0, pw (st q 9 (-1000 * w - p)) M) := by
  unfold sX8_wrongAt
  rw [iv_mul, iv_sub, pI_p9 hL, rZ0]
theorem p_notes (hL : LPt M) {op v : Int} (c0 : 0 ≤ q 12) (c1 : q 12 < 260) : sX8_notes (some 3772) (iI op) (iI v) (pw q M) = some ((), pw (noteG q (1048576 * op + v)) M) := by
  unfold sX8_notes noteG
  rw [gR_p16 hL, gI_p12 hL, iv_mul, iv_add, sI_p3779 hL c0 c1, gI_p12 hL, iv_add, pI_p12 hL, st_ne (by omega)]
theorem p_push (hL : LPt M) {x : Int} (w0 : 0 ≤ q 13) (w1 : q 13 < 260) {β : Type} {f : Mem → Option β} : (gR (pw q M) (some 3772) 6 17 fun x4 => gI (pw q M) (some 3772) 6 13 fun x5 => sI (pw q M) x4 x5 (iI x) fun s6 => gI s6 (some 3772) 6 13 fun x7 => pI s6 (some 3772) 6 13 (x7 + (iI 1)) f) = f (pw (pushG q x) M) := by
  unfold pushG
  rw [gR_p17 hL, gI_p13 hL, sI_p3780 hL w0 w1, gI_p13 hL, iv_add, pI_p13 hL, st_ne (by omega)]
def openG (q : Row) (w : Int) : Row := st (pushG (st q 11 (q 11 + 1)) (1048576 * w)) 7 (q 7 + 1)
theorem p_opens (hL : LPt M) (hq : PQ q) {w : Int} : sX8_opens (some 3772) (iI w) (pw q M) = if q 11 = 6 then some (iI 0, pw (st q 9 (-1000 * 5 - q 7)) M) else some (iI 1, pw (openG q w) M) := by
  have o := hq.o
  have p := hq.p
  have w0 := hq.w
  unfold sX8_opens
  rw [gI_p11 hL]
  by_cases c : q 11 = 6
  · rw [if_pos (congrArg iI c), if_pos c, gI_p7 hL, cV_p hL, p_wrong hL, clq, rZ0]
  · rw [if_neg (by rw [iv_eq (by omega) (by omega) (by omega) (by omega)]; exact c), if_neg c, gI_p11 hL, iv_add, pI_p11 hL]
    have e13 : st q 11 (q 11 + 1) 13 = q 13 := st_ne (by omega)
    rw [iv_mul, p_push hL (by rw [e13]; omega) (by rw [e13]; omega), gI_p7 hL, iv_add, pI_p7 hL, rZ1]
    have e7 : pushG (st q 11 (q 11 + 1)) (1048576 * w) 7 = q 7 := by
      unfold pushG
      rw [st_ne (by omega), e13, st_ne (by omega), st_ne (by omega)]
    unfold openG
    rw [e7]
theorem p_hereQ (hL : LPt M) (hq : PQ q) : sX8_here (some 3772) (pw q M) = some (iI (hrA (tpA M) (q 8) (q 7)), pw q M) := by
  have p := hq.p
  exact p_here hL (by omega) (by omega) (by omega) (by omega)
theorem p_isDigit (hL : LPt M) (h7 : 0 ≤ q 7) (h8 : q 8 ≤ 260) (h87 : q 7 ≤ 2147483647) (h88 : 0 ≤ q 8) : sX8_isDigit (some 3772) (pw q M) = some (bI (isDig (hrA (tpA M) (q 8) (q 7))), pw q M) := by
  have r := hrA_r (M := M) (n := q 8) (p := q 7)
  unfold sX8_isDigit
  rw [cV_p hL, p_here hL h7 h8 h87 h88, clq]
  by_cases c1 : hrA (tpA M) (q 8) (q 7) < 48
  · rw [if_pos (by rw [iv_lt (by omega) (by omega) (by omega) (by omega)]; exact c1), rZ0, bI_f (by omega)]
  · rw [if_neg (by rw [iv_lt (by omega) (by omega) (by omega) (by omega)]; exact c1), cV_p hL, p_here hL h7 h8 h87 h88, clq]
    by_cases c2 : 57 < hrA (tpA M) (q 8) (q 7)
    · rw [if_pos (by rw [iv_lt (by omega) (by omega) (by omega) (by omega)]; exact c2), rZ0, bI_f (by omega)]
    · rw [if_neg (by rw [iv_lt (by omega) (by omega) (by omega) (by omega)]; exact c2), rZ1, bI_t (by omega)]
theorem p_sign {c : Int} {σ : Mem} (c0 : -1 ≤ c) (c1 : c ≤ 255) : sX8_sumSign (iI c) σ = some (iI (sgnA c), σ) := by
  have ne : ∀ a : Int, 0 ≤ a → a ≤ 200 → ¬ c = a → ¬ iI c = iI a := fun a a0 a1 x => by rw [iv_eq (by omega) (by omega) (by omega) (by omega)]; exact x
  unfold sX8_sumSign sgnA
  by_cases d : c = 43
  · rw [if_pos (congrArg iI d), if_pos d]
  rw [if_neg (ne 43 (by omega) (by omega) d), if_neg d]
  by_cases d : c = 45
  · rw [if_pos (congrArg iI d), if_pos d]
  rw [if_neg (ne 45 (by omega) (by omega) d), if_neg d]
  by_cases d : c = 42
  · rw [if_pos (congrArg iI d), if_pos d]
  rw [if_neg (ne 42 (by omega) (by omega) d), if_neg d]
  by_cases d : c = 47
  · rw [if_pos (congrArg iI d), if_pos d]
  rw [if_neg (ne 47 (by omega) (by omega) d), if_neg d]
  by_cases d : c = 37
  · rw [if_pos (congrArg iI d), if_pos d]
  rw [if_neg (ne 37 (by omega) (by omega) d), if_neg d]
theorem p_fact {c : Int} {σ : Mem} (c0 : -1 ≤ c) (c1 : c ≤ 255) : sX8_factOf (iI c) σ = some (iI (factA c), σ) := by
  have key : ∀ k : Nat, k < 257 → ∀ τ : Mem, sX8_factOf (iI ((k : Int) - 1)) τ = some (iI (factA ((k : Int) - 1)), τ) := by
    intro k hk τ
    have ne : ∀ a : Int, 0 ≤ a → a ≤ 200 → ¬ (k : Int) - 1 = a → ¬ iI ((k : Int) - 1) = iI a := fun a a0 a1 x => by rw [iv_eq (by omega) (by omega) (by omega) (by omega)]; exact x
    by_cases r : 102 ≤ (k : Int) - 1 ∧ (k : Int) - 1 ≤ 119
    · rcases (show (k : Int) - 1 = 102 ∨ (k : Int) - 1 = 103 ∨ (k : Int) - 1 = 104 ∨ (k : Int) - 1 = 105 ∨ (k : Int) - 1 = 106 ∨ (k : Int) - 1 = 107 ∨ (k : Int) - 1 = 108 ∨ (k : Int) - 1 = 109 ∨ (k : Int) - 1 = 110 ∨ (k : Int) - 1 = 111 ∨ (k : Int) - 1 = 112 ∨ (k : Int) - 1 = 113 ∨ (k : Int) - 1 = 114 ∨ (k : Int) - 1 = 115 ∨ (k : Int) - 1 = 116 ∨ (k : Int) - 1 = 117 ∨ (k : Int) - 1 = 118 ∨ (k : Int) - 1 = 119 by omega) with e | e | e | e | e | e | e | e | e | e | e | e | e | e | e | e | e | e <;> rw [e] <;> rfl
    · have fa : factA ((k : Int) - 1) = -1 := by
        unfold factA
        rw [if_neg (by omega), if_neg (by omega), if_neg (by omega), if_neg (by omega), if_neg (by omega), if_neg (by omega), if_neg (by omega)]
      rw [fa]
      unfold sX8_factOf
      rw [if_neg (ne 102 (by omega) (by omega) (by omega)), if_neg (ne 103 (by omega) (by omega) (by omega)), if_neg (ne 104 (by omega) (by omega) (by omega)), if_neg (ne 105 (by omega) (by omega) (by omega)), if_neg (ne 106 (by omega) (by omega) (by omega)), if_neg (ne 107 (by omega) (by omega) (by omega)), if_neg (ne 108 (by omega) (by omega) (by omega)), if_neg (ne 109 (by omega) (by omega) (by omega)), if_neg (ne 110 (by omega) (by omega) (by omega)), if_neg (ne 111 (by omega) (by omega) (by omega)), if_neg (ne 112 (by omega) (by omega) (by omega)), if_neg (ne 113 (by omega) (by omega) (by omega)), if_neg (ne 114 (by omega) (by omega) (by omega)), if_neg (ne 115 (by omega) (by omega) (by omega)), if_neg (ne 116 (by omega) (by omega) (by omega)), if_neg (ne 117 (by omega) (by omega) (by omega)), if_neg (ne 118 (by omega) (by omega) (by omega)), if_neg (ne 119 (by omega) (by omega) (by omega))]
  have := key (c + 1).toNat (by omega) σ
  rw [show (((c + 1).toNat : Nat) : Int) - 1 = c by omega] at this
  exact this
theorem p_waitTop (hL : LPt M) (hq : PQ q) : sX8_waitTop (some 3772) (pw q M) = some (iI (topQ q), pw q M) := by
  have w := hq.w
  have p := hq.p
  unfold sX8_waitTop topQ
  rw [gI_p13 hL]
  by_cases c : q 13 = 0
  · rw [if_pos (congrArg iI c), if_pos c]
  · have v := hq.v (q 13 - 1) (by omega) (by omega)
    rw [if_neg (by rw [iv_eq (by omega) (by omega) (by omega) (by omega)]; exact c), if_neg c, gR_p17 hL, gI_p13 hL, iv_sub, aI_p3780 hL (by omega) (by omega), dv_eq _ v.1 (by omega) (by omega) (by omega)]
/-- one pending sign is noted -/
def clG (q : Row) : Row := st (noteG q (1048576 * topQ q + 0)) 13 (q 13 - 1)
abbrev clC (q : Row) (all : Int) : Prop := (4 ≤ topQ q ∧ topQ q ≤ 6) ∨ (all = 1 ∧ (topQ q = 2 ∨ topQ q = 3))
theorem p_cl_37 (hL : LPt M) (hq : PQ q) {K : Option Nat → Int32 → Mem → Option (Unit × Mem)} {x : Int32} : sX8_closesSums_37 K (some 3772) x (pw q M) = K (some 3772) x (pw (clG q) M) := by
  have c := hq.c
  have p := hq.p
  have e13 : noteG q (1048576 * topQ q + 0) 13 = q 13 := by
    unfold noteG
    rw [st_ne (by omega), st_ne (by omega)]
  unfold sX8_closesSums_37 clG
  rw [cV_p hL, p_waitTop hL hq, clq, cV_p hL, p_notes hL c.1 (by omega), clq, gI_p13 hL, e13, iv_sub, pI_p13 hL]
theorem p_cl_go (hL : LPt M) (hq : PQ q) {all : Int} (ha : all = 0 ∨ all = 1) {fu : Nat} (c : clC q all) : sX8_closesSums_0 (fu + 1) (some 3772) (iI all) (pw q M) = sX8_closesSums_0 fu (some 3772) (iI all) (pw (clG q) M) := by
  have r := topQ_r hq
  show sX8_closesSums_0b (sX8_closesSums_0 fu) _ _ _ = _
  generalize sX8_closesSums_0 fu = K
  unfold sX8_closesSums_0b
  rw [cV_p hL, p_waitTop hL hq, clq]
  by_cases d : topQ q < 4
  · rw [if_pos (by rw [iv_lt (by omega) (by omega) (by omega) (by omega)]; exact d)]
    unfold sX8_closesSums_17
    rw [if_neg (by rw [iv_eq (by omega) (by omega) (by omega) (by omega)]; omega), cV_p hL, p_waitTop hL hq, clq]
    by_cases d2 : topQ q = 2
    · rw [if_pos (congrArg iI d2), p_cl_37 hL hq]
    · rw [if_neg (by rw [iv_eq (by omega) (by omega) (by omega) (by omega)]; exact d2), cV_p hL, p_waitTop hL hq, clq, if_pos (congrArg iI (show topQ q = 3 by omega)), p_cl_37 hL hq]
  · rw [if_neg (by rw [iv_lt (by omega) (by omega) (by omega) (by omega)]; exact d), cV_p hL, p_waitTop hL hq, clq, if_pos (by rw [iv_le (by omega) (by omega) (by omega) (by omega)]; omega), p_cl_37 hL hq]
theorem p_cl_no (hL : LPt M) (hq : PQ q) {all : Int} (ha : all = 0 ∨ all = 1) {fu : Nat} (c : ¬ clC q all) : sX8_closesSums_0 (fu + 1) (some 3772) (iI all) (pw q M) = some ((), pw q M) := by
  have r := topQ_r hq
  have k17 : ∀ K, ¬ (all = 1 ∧ (topQ q = 2 ∨ topQ q = 3)) → sX8_closesSums_17 K (some 3772) (iI all) (pw q M) = some ((), pw q M) := by
    intro K n
    unfold sX8_closesSums_17
    by_cases d : all = 0
    · rw [if_pos (congrArg iI d)]
    · rw [if_neg (by rw [iv_eq (by omega) (by omega) (by omega) (by omega)]; exact d), cV_p hL, p_waitTop hL hq, clq, if_neg (by rw [iv_eq (by omega) (by omega) (by omega) (by omega)]; omega), cV_p hL, p_waitTop hL hq, clq, if_neg (by rw [iv_eq (by omega) (by omega) (by omega) (by omega)]; omega)]
  show sX8_closesSums_0b (sX8_closesSums_0 fu) _ _ _ = _
  generalize sX8_closesSums_0 fu = K
  unfold sX8_closesSums_0b
  rw [cV_p hL, p_waitTop hL hq, clq]
  by_cases d : topQ q < 4
  · rw [if_pos (by rw [iv_lt (by omega) (by omega) (by omega) (by omega)]; exact d)]
    exact k17 K (fun x => c (Or.inr x))
  · rw [if_neg (by rw [iv_lt (by omega) (by omega) (by omega) (by omega)]; exact d), cV_p hL, p_waitTop hL hq, clq, if_neg (by rw [iv_le (by omega) (by omega) (by omega) (by omega)]; omega)]
    exact k17 K (fun x => c (Or.inr x))
theorem p_open_2 (hL : LPt M) (hq : PQ q) : ∀ (j : Nat) (i : Int) (fu : Nat), q 13 - i = j → 0 ≤ i → j < fu →
    sX8_hasOpenSum_2 fu (some 3772) (iI i) (pw q M) = some (bQ (∃ k, i ≤ k ∧ k < q 13 ∧ q (2000 + k) / 1048576 = 14), pw q M)
  | 0, i, fu + 1, e1, e2, e3 => by
    have p := hq.p
    have w := hq.w
    show sX8_hasOpenSum_2b (sX8_hasOpenSum_2 fu) _ _ _ = _
    generalize sX8_hasOpenSum_2 fu = K
    unfold sX8_hasOpenSum_2b
    rw [gI_p13 hL, if_pos (by rw [iv_le (by omega) (by omega) (by omega) (by omega)]; omega), rZ0, bQ_f (fun ⟨k, a, b, _⟩ => by omega)]
  | j + 1, i, fu + 1, e1, e2, e3 => by
    have p := hq.p
    have w := hq.w
    have v := hq.v i e2 (by omega)
    have ih := p_open_2 hL hq j (i + 1) fu (by omega) (by omega) (by omega)
    show sX8_hasOpenSum_2b (sX8_hasOpenSum_2 fu) _ _ _ = _
    generalize sX8_hasOpenSum_2 fu = K at ih ⊢
    unfold sX8_hasOpenSum_2b
    rw [gI_p13 hL, if_neg (by rw [iv_le (by omega) (by omega) (by omega) (by omega)]; omega), gR_p17 hL, aI_p3780 hL e2 (by omega), dv_eq _ v.1 (by omega) (by omega) (by omega)]
    by_cases c : q (2000 + i) / 1048576 = 14
    · rw [if_pos (congrArg iI c), rZ1, bQ_t ⟨i, Int.le_refl _, by omega, c⟩]
    · rw [if_neg (by rw [iv_eq (by omega) (by omega) (by omega) (by omega)]; exact c), iv_add, ih]
      refine congrArg (fun z => some (z, pw q M)) (bQ_c ⟨fun ⟨k, a, b, d⟩ => ⟨k, by omega, b, d⟩, fun ⟨k, a, b, d⟩ => ⟨k, ?_, b, d⟩⟩)
      by_cases e : k = i
      · rw [e] at d; exact absurd d c
      · omega
theorem p_hasOpen (hL : LPt M) (hq : PQ q) {i : Int} (i0 : 0 ≤ i) (i1 : i ≤ q 13) : sX8_hasOpenSum (some 3772) (iI i) (pw q M) = some (bQ (∃ k, i ≤ k ∧ k < q 13 ∧ q (2000 + k) / 1048576 = 14), pw q M) := by
  have p := hq.p
  have w := hq.w
  exact p_open_2 hL hq (q 13 - i).toNat i FU (by omega) i0 (by unfold FU; omega)
end
