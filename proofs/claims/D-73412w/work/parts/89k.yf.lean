/-! DEPS: ye -/
/-! YF: the twin reads sums -/
theorem FU6' : ∃ f : Nat, FU = f + 5 := ⟨999995, by unfold FU; omega⟩
abbrev cdQ (q : Row) : Int → Int := fun i => q (1000 + i)
/-- what is kept below the codes c and the waiting w -/
def Kq (c w : Int) (q q' : Row) : Prop :=
  (∀ i, 0 ≤ i → i < c → q' (1000 + i) = q (1000 + i)) ∧
  (∀ i, 0 ≤ i → i < w → q' (2000 + i) = q (2000 + i)) ∧
  (∀ x, 3000 ≤ x → q' x = q x) ∧
  (q' 8 = q 8 ∧ q' 14 = q 14 ∧ q' 15 = q 15)
theorem Kq.c {c w : Int} {q q' : Row} (self : Kq c w q q') : ∀ i, 0 ≤ i → i < c → q' (1000 + i) = q (1000 + i) := self.1
theorem Kq.w {c w : Int} {q q' : Row} (self : Kq c w q q') : ∀ i, 0 ≤ i → i < w → q' (2000 + i) = q (2000 + i) := self.2.1
theorem Kq.x {c w : Int} {q q' : Row} (self : Kq c w q q') : ∀ x, 3000 ≤ x → q' x = q x := self.2.2.1
theorem Kq.g {c w : Int} {q q' : Row} (self : Kq c w q q') : q' 8 = q 8 ∧ q' 14 = q 14 ∧ q' 15 = q 15 := self.2.2.2
/-- it went wrong -/
def Bd (q q' : Row) (w pl : Int) : Prop :=
  (q' 9 = -1000 * w - pl) ∧
  (∀ x, 3000 ≤ x → q' x = q x) ∧
  (q' 14 = q 14 ∧ q' 15 = q 15)
theorem Bd.f {q q' : Row} {w pl : Int} (self : Bd q q' w pl) : q' 9 = -1000 * w - pl := self.1
theorem Bd.x {q q' : Row} {w pl : Int} (self : Bd q q' w pl) : ∀ x, 3000 ≤ x → q' x = q x := self.2.1
theorem Bd.g {q q' : Row} {w pl : Int} (self : Bd q q' w pl) : q' 14 = q 14 ∧ q' 15 = q 15 := self.2.2
theorem Kq.rfl' {c w : Int} {q : Row} : Kq c w q q := ⟨fun _ _ _ => rfl, fun _ _ _ => rfl, fun _ _ => rfl, rfl, rfl, rfl⟩
theorem Kq.thn {c w : Int} {q q1 q2 : Row} (a : Kq c w q q1) (b : Kq c w q1 q2) : Kq c w q q2 :=
  ⟨fun i i0 i1 => (b.c i i0 i1).trans (a.c i i0 i1), fun i i0 i1 => (b.w i i0 i1).trans (a.w i i0 i1), fun x h => (b.x x h).trans (a.x x h), b.g.1.trans a.g.1, b.g.2.1.trans a.g.2.1, b.g.2.2.trans a.g.2.2⟩
theorem Kq.le {c w c' w' : Int} {q q1 : Row} (a : Kq c w q q1) (hc : c' ≤ c) (hw : w' ≤ w) : Kq c' w' q q1 :=
  ⟨fun i i0 i1 => a.c i i0 (by omega), fun i i0 i1 => a.w i i0 (by omega), a.x, a.g⟩
theorem Kq.bd {c w : Int} {q q1 q2 : Row} {x y : Int} (a : Kq c w q q1) (b : Bd q1 q2 x y) : Bd q q2 x y :=
  ⟨b.f, fun z h => (b.x z h).trans (a.x z h), b.g.1.trans a.g.2.1, b.g.2.trans a.g.2.2⟩
theorem Bd.mk9 {q : Row} {w pl : Int} : Bd q (st q 9 (-1000 * w - pl)) w pl := ⟨st_eq _ _ _, fun x h => st_ne (by omega), st_ne (by omega), st_ne (by omega)⟩
theorem Kq.run {c w a b : Int} {q q1 : Row} {e : SumV} (k : Kq c w q q1) (r : RunS (cdQ q) a b e) (a0 : 0 ≤ a) (hb : b ≤ c) : RunS (cdQ q1) a b e := r.ext (fun i i0 i1 => k.c i (by omega) (by omega))
/-- a product with its last sign still waiting -/
def PendP (q : Row) (w c : Int) (e : SumV) : Prop := (q 13 = w ∧ RunS (cdQ q) c (q 12) e) ∨ ∃ s m e1 e2, q 13 = w + 1 ∧ 4 ≤ s ∧ s ≤ 6 ∧ q (2000 + w) = 1048576 * s ∧ RunS (cdQ q) c m e1 ∧ RunS (cdQ q) m (q 12) e2 ∧ e = binV s e1 e2
/-- a sum with its last signs still waiting -/
def PendS (q : Row) (w c : Int) (e : SumV) : Prop := PendP q w c e ∨ ∃ s m e1 e2, (s = 2 ∨ s = 3) ∧ q (2000 + w) = 1048576 * s ∧ RunS (cdQ q) c m e1 ∧ PendP q (w + 1) m e2 ∧ e = binV s e1 e2
theorem PendP.hi {q : Row} {w c : Int} {e : SumV} (h : PendP q w c e) : w ≤ q 13 ∧ q 13 ≤ w + 1 ∧ c < q 12 := by
  rcases h with ⟨h1, h2⟩ | ⟨s, m, e1, e2, h1, h2, h3, h4, h5, h6, h7⟩
  · have := h2.1; omega
  · have := h5.1; have := h6.1; omega
theorem PendS.hi {q : Row} {w c : Int} {e : SumV} (h : PendS q w c e) : w ≤ q 13 ∧ q 13 ≤ w + 2 ∧ c < q 12 := by
  rcases h with h | ⟨s, m, e1, e2, h1, h2, h3, h4, h5⟩
  · have := h.hi; omega
  · have := h4.hi; have := h3.1; omega
/-- what waits above w are signs -/
theorem PendP.ops {q : Row} {w c : Int} {e : SumV} (h : PendP q w c e) : ∀ k, w ≤ k → k < q 13 → ∃ s, 2 ≤ s ∧ s ≤ 6 ∧ q (2000 + k) = 1048576 * s := by
  intro k k0 k1
  rcases h with ⟨h1, h2⟩ | ⟨s, m, e1, e2, h1, h2, h3, h4, h5, h6, h7⟩
  · omega
  · exact ⟨s, by omega, h3, by rw [show k = w by omega]; exact h4⟩
theorem PendS.ops {q : Row} {w c : Int} {e : SumV} (h : PendS q w c e) : ∀ k, w ≤ k → k < q 13 → ∃ s, 2 ≤ s ∧ s ≤ 6 ∧ q (2000 + k) = 1048576 * s := by
  intro k k0 k1
  rcases h with h | ⟨s, m, e1, e2, h1, h2, h3, h4, h5⟩
  · exact h.ops k k0 k1
  · by_cases e : k = w
    · exact ⟨s, by omega, by omega, by rw [e]; exact h2⟩
    · exact h4.ops k (by omega) k1
section
variable {q : Row} {M : Mem}
theorem cl_o {x : Int} (h1 : ¬ x = 1000 + q 12) (h2 : ¬ x = 12) (h3 : ¬ x = 13) : clG q x = q x := by
  unfold clG noteG
  rw [st_ne h3, st_ne h2, st_ne h1]
theorem cl_12 : clG q 12 = q 12 + 1 := by
  unfold clG noteG
  rw [st_ne (by omega), st_eq]
theorem cl_13 : clG q 13 = q 13 - 1 := st_eq _ _ _
theorem cl_PQ (hq : PQ q) (w : 1 ≤ q 13) (h : q 12 + 1 ≤ q 7) : PQ (clG q) := by
  have p := hq.p
  have c := hq.c
  have ww := hq.w
  have o := hq.o
  have e7 : clG q 7 = q 7 := cl_o (by omega) (by omega) (by omega)
  have e8 : clG q 8 = q 8 := cl_o (by omega) (by omega) (by omega)
  have e11 : clG q 11 = q 11 := cl_o (by omega) (by omega) (by omega)
  refine ⟨by omega, by rw [cl_12]; omega, by rw [cl_13]; omega, by omega, fun i i0 i1 => ?_⟩
  rw [cl_13] at i1
  rw [cl_o (by omega) (by omega) (by omega)]
  exact hq.v i i0 (by omega)
theorem cl_Kq (c : 0 ≤ q 12) (w : Int) (hw : w ≤ 259) (c9 : q 12 ≤ 259) : Kq (q 12) w q (clG q) :=
  ⟨fun i i0 i1 => cl_o (by omega) (by omega) (by omega), fun i i0 i1 => cl_o (by omega) (by omega) (by omega), fun x h => cl_o (by omega) (by omega) (by omega), cl_o (by omega) (by omega) (by omega), cl_o (by omega) (by omega) (by omega), cl_o (by omega) (by omega) (by omega)⟩
/-- the sign on top closes two pieces -/
theorem cl_run {w c m s : Int} {e1 e2 : SumV} (hq : PQ q) (h : q 13 = w + 1) (w0 : 0 ≤ w) (s0 : 2 ≤ s) (s1 : s ≤ 9) (hs : q (2000 + w) = 1048576 * s) (c0 : 0 ≤ c) (r1 : RunS (cdQ q) c m e1) (r2 : RunS (cdQ q) m (q 12) e2) : RunS (cdQ (clG q)) c (clG q 12) (binV s e1 e2) ∧ topQ q = s := by
  have cc := hq.c
  have p := hq.p
  have et : topQ q = s := by
    unfold topQ
    rw [if_neg (by omega), show q 13 - 1 = w by omega, hs]
    omega
  have k := cl_Kq (q := q) cc.1 w (by have := hq.w; omega) (by omega)
  have l1 := r1.1
  have l2 := r2.1
  rw [cl_12]
  refine ⟨RunS.bin (k.run r1 c0 (by omega)) (k.run r2 (by omega) (Int.le_refl _)) ?_ s0 s1, et⟩
  show clG q (1000 + q 12) = 1048576 * s
  unfold clG noteG
  rw [st_ne (by omega), st_ne (by omega), st_eq, et]
  omega
abbrev belowQ (q : Row) (w lo : Int) : Prop := w = 0 ∨ ¬ (lo ≤ q (2000 + (w - 1)) / 1048576 ∧ q (2000 + (w - 1)) / 1048576 ≤ 6)
theorem top_no {w lo : Int} (h : q 13 = w) (b : belowQ q w lo) (l2 : 2 ≤ lo) : ¬ (lo ≤ topQ q ∧ topQ q ≤ 6) := by
  unfold topQ
  by_cases c : q 13 = 0
  · rw [if_pos c]; omega
  · rw [if_neg c, h]
    rcases b with b | b
    · omega
    · exact b
theorem p_closeP (hL : LPt M) (hq : PQ q) {w c : Int} {e : SumV} (h : PendP q w c e) (w0 : 0 ≤ w) (c0 : 0 ≤ c) (b : belowQ q w 4) (wt : q 12 + (q 13 - w) ≤ q 7) :
    ∃ q', sX8_closesSums (some 3772) (iI 0) (pw q M) = some ((), pw q' M) ∧ PQ q' ∧ q' 13 = w ∧ RunS (cdQ q') c (q' 12) e ∧ q' 12 = q 12 + (q 13 - w) ∧ q' 7 = q 7 ∧ q' 11 = q 11 ∧ Kq (q 12) w q q' := by
  obtain ⟨f, hf⟩ := FU6'
  have cc := hq.c
  have pp := hq.p
  have hw := hq.w
  unfold sX8_closesSums
  rw [hf]
  rcases h with ⟨h1, h2⟩ | ⟨s, m, e1, e2, h1, h2, h3, h4, h5, h6, h7⟩
  · have tn := top_no h1 b (by omega)
    exact ⟨q, p_cl_no hL hq (Or.inl rfl) (fun x => by rcases x with x | x; exact tn x; omega), hq, h1, h2, by omega, rfl, rfl, Kq.rfl'⟩
  · obtain ⟨r, et⟩ := cl_run hq h1 w0 (by omega) (by omega) h4 c0 h5 h6
    have hq1 := cl_PQ hq (by omega) (by omega)
    have k := cl_Kq (q := q) cc.1 w (by omega) (by omega)
    have b1 : belowQ (clG q) w 4 := by
      rcases b with b | b
      · exact Or.inl b
      · by_cases z : w = 0
        · exact Or.inl z
        · refine Or.inr ?_
          rw [k.w (w - 1) (by omega) (by omega)]
          exact b
    have tn := top_no (q := clG q) (w := w) (by rw [cl_13]; omega) b1 (by omega)
    refine ⟨clG q, ?_, hq1, by rw [cl_13]; omega, by rw [h7]; exact r, by rw [cl_12]; omega, cl_o (by omega) (by omega) (by omega), cl_o (by omega) (by omega) (by omega), k⟩
    rw [p_cl_go hL hq (Or.inl rfl) (Or.inl (by omega))]
    exact p_cl_no hL hq1 (Or.inl rfl) (fun x => by rcases x with x | x; exact tn x; omega)
theorem p_closeS (hL : LPt M) (hq : PQ q) {w c : Int} {e : SumV} (h : PendS q w c e) (w0 : 0 ≤ w) (c0 : 0 ≤ c) (b : belowQ q w 2) (wt : q 12 + (q 13 - w) ≤ q 7) :
    ∃ q', sX8_closesSums (some 3772) (iI 1) (pw q M) = some ((), pw q' M) ∧ PQ q' ∧ q' 13 = w ∧ RunS (cdQ q') c (q' 12) e ∧ q' 12 = q 12 + (q 13 - w) ∧ q' 7 = q 7 ∧ q' 11 = q 11 ∧ Kq (q 12) w q q' := by
  obtain ⟨f, hf⟩ := FU6'
  have cc := hq.c
  have pp := hq.p
  have hw := hq.w
  unfold sX8_closesSums
  rw [hf]
  -- one sign left at w
  have last : ∀ (q1 : Row) (fu : Nat), PQ q1 → q1 13 = w → belowQ q1 w 2 → sX8_closesSums_0 (fu + 1) (some 3772) (iI 1) (pw q1 M) = some ((), pw q1 M) := by
    intro q1 fu hq1 e13 b1
    have tn := top_no e13 b1 (by omega)
    exact p_cl_no hL hq1 (Or.inr rfl) (fun x => by rcases x with x | x <;> omega)
  have bk : ∀ {q1 : Row}, Kq (q 12) w q q1 → belowQ q1 w 2 := by
    intro q1 k
    rcases b with b | b
    · exact Or.inl b
    · by_cases z : w = 0
      · exact Or.inl z
      · refine Or.inr ?_
        rw [k.w (w - 1) (by omega) (by omega)]
        exact b
  rcases h with (⟨h1, h2⟩ | ⟨s, m, e1, e2, h1, h2, h3, h4, h5, h6, h7⟩) | ⟨s, m, e1, e2, g1, g2, g3, (⟨h1, h2⟩ | ⟨s', m', e1', e2', h1, h2, h3, h4, h5, h6, h7⟩), g5⟩
  · exact ⟨q, last q (f + 4) hq h1 b, hq, h1, h2, by omega, rfl, rfl, Kq.rfl'⟩
  · obtain ⟨r, et⟩ := cl_run hq h1 w0 (by omega) (by omega) h4 c0 h5 h6
    have hq1 := cl_PQ hq (by omega) (by omega)
    have k := cl_Kq (q := q) cc.1 w (by omega) (by omega)
    refine ⟨clG q, ?_, hq1, by rw [cl_13]; omega, by rw [h7]; exact r, by rw [cl_12]; omega, cl_o (by omega) (by omega) (by omega), cl_o (by omega) (by omega) (by omega), k⟩
    rw [p_cl_go hL hq (Or.inr rfl) (Or.inl (by omega))]
    exact last _ (f + 3) hq1 (by rw [cl_13]; omega) (bk k)
  · obtain ⟨r, et⟩ := cl_run hq h1 w0 (by omega) (by omega) g2 c0 g3 h2
    have hq1 := cl_PQ hq (by omega) (by omega)
    have k := cl_Kq (q := q) cc.1 w (by omega) (by omega)
    refine ⟨clG q, ?_, hq1, by rw [cl_13]; omega, by rw [g5]; exact r, by rw [cl_12]; omega, cl_o (by omega) (by omega) (by omega), cl_o (by omega) (by omega) (by omega), k⟩
    rw [p_cl_go hL hq (Or.inr rfl) (Or.inr (by omega))]
    exact last _ (f + 3) hq1 (by rw [cl_13]; omega) (bk k)
  · have lg := g3.1
    obtain ⟨r, et⟩ := cl_run hq h1 (by omega) (by omega) (by omega) h4 (by omega) h5 h6
    have hq1 := cl_PQ hq (by omega) (by omega)
    have k := cl_Kq (q := q) cc.1 (w + 1) (by omega) (by omega)
    have e7 : clG q 7 = q 7 := cl_o (by omega) (by omega) (by omega)
    have l5 := h5.1
    have l6 := h6.1
    obtain ⟨r2, et2⟩ := cl_run (q := clG q) (w := w) (c := c) (m := m) (s := s) (e1 := e1) (e2 := e2) hq1 (by rw [cl_13]; omega) w0 (by omega) (by omega) (by rw [k.w w w0 (by omega)]; exact g2) c0 (k.run g3 c0 (by omega)) (by rw [← h7] at r; exact r)
    have hq2 := cl_PQ hq1 (by rw [cl_13]; omega) (by rw [cl_12]; omega)
    have k2 := cl_Kq (q := clG q) hq1.c.1 w (by omega) (by rw [cl_12]; omega)
    have kk : Kq (q 12) w q (clG (clG q)) := (k.le (Int.le_refl _) (by omega)).thn (k2.le (by rw [cl_12]; omega) (Int.le_refl _))
    refine ⟨clG (clG q), ?_, hq2, by rw [cl_13, cl_13]; omega, by rw [g5]; exact r2, by rw [cl_12, cl_12]; omega, ?_, ?_, kk⟩
    · rw [p_cl_go hL hq (Or.inr rfl) (Or.inl (by omega)), p_cl_go hL hq1 (Or.inr rfl) (Or.inr (by omega))]
      exact last _ (f + 2) hq2 (by rw [cl_13, cl_13]; omega) (bk kk)
    · rw [cl_o (by rw [cl_12]; omega) (by omega) (by omega)]; exact e7
    · rw [cl_o (by rw [cl_12]; omega) (by omega) (by omega)]; exact cl_o (by omega) (by omega) (by omega)
end
