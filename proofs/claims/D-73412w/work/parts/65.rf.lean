/-! DEPS: re -/
/-! RF: the whole invariant of the system -/
abbrev NS (R gr up tm vt rl bs bt bo bn mn cm ti kn vo ro he : Int) : Prop :=
  (0 ≤ up ∧ up ≤ 1 ∧ 0 ≤ tm ∧ tm ≤ 999 ∧ -1 ≤ vt ∧ vt ≤ 6 ∧ 0 ≤ rl ∧ rl ≤ 2 ∧ 0 ≤ bs ∧ 0 ≤ bt ∧ bt ≤ 999 ∧ 0 ≤ bo ∧ bo < 128 ∧ 0 ≤ bn ∧ bn < 128 ∧ 0 ≤ mn ∧ mn ≤ 48) ∧ (bs + mn ≤ 999 ∧ bs ≤ cm ∧ cm ≤ bs + mn ∧ cm ≤ gr ∧ 1 ≤ ti ∧ ti ≤ 50
  ∧ -1 ≤ kn ∧ kn ≤ 6 ∧ 0 ≤ vo ∧ vo < 128 ∧ 0 ≤ ro ∧ ro ≤ R ∧ 0 ≤ he ∧ he ≤ 2 ∧ (up = 0 → rl = 0) ∧ (rl = 1 → 1 ≤ tm) ∧ (up = 0 → kn = -1))
abbrev NSg (g : Row) (R gr n : Int) : Prop := NS R gr (g (244 * n + 0)) (g (244 * n + 1)) (g (244 * n + 2)) (g (244 * n + 3)) (g (244 * n + 4)) (g (244 * n + 5)) (g (244 * n + 6)) (g (244 * n + 7)) (g (244 * n + 8)) (g (244 * n + 9)) (g (244 * n + 10)) (g (244 * n + 11)) (g (244 * n + 12)) (g (244 * n + 13)) (g (244 * n + 14))
/-- a leader's rows about the others -/
abbrev LrA (g : Row) (R n : Int) : Prop := ∀ k, 0 ≤ k → k < 7 → 1 ≤ g (244 * n + (31 + k)) ∧ g (244 * n + (31 + k)) ≤ g (244 * n + 4) + g (244 * n + 8) + 1 ∧ 0 ≤ g (244 * n + (38 + k)) ∧ 0 ≤ g (244 * n + (45 + k)) ∧ g (244 * n + (45 + k)) ≤ R
/-- keys as in the snapshot -/
abbrev KbA (g : Row) (n : Int) : Prop := ∀ k, 0 ≤ k → k < 8 → g (244 * n + (15 + k)) = g (244 * n + (23 + k))
def NA (g : Row) (R n : Int) : Prop :=
  (NSg g R (g 11134) n) ∧
  (KyA g n) ∧
  (g (244 * n + 9) = g (244 * n + 4) → KbA g n) ∧
  (g (244 * n + 3) = 2 → LrA g R n)
theorem NA.s {g : Row} {R n : Int} (self : NA g R n) : NSg g R (g 11134) n := self.1
theorem NA.ky {g : Row} {R n : Int} (self : NA g R n) : KyA g n := self.2.1
theorem NA.kb {g : Row} {R n : Int} (self : NA g R n) : g (244 * n + 9) = g (244 * n + 4) → KbA g n := self.2.2.1
theorem NA.lr {g : Row} {R n : Int} (self : NA g R n) : g (244 * n + 3) = 2 → LrA g R n := self.2.2.2
def entM (m : Row) (a : Int) : Ent := ⟨m a, m (a + 1), m (a + 2), m (a + 3)⟩
/-- a message on its way -/
def MI (h : His) (R gr : Int) (m : Row) : Prop :=
  (0 ≤ m 0 ∧ m 0 < 7 ∧ 0 ≤ m 1 ∧ m 1 < 7 ∧ 0 ≤ m 2 ∧ m 2 ≤ 5 ∧ 0 ≤ m 3 ∧ m 3 ≤ 999 ∧ 0 ≤ m 5 ∧ m 5 ≤ 4 ∧ 0 ≤ m 6 ∧ m 6 ≤ 999 ∧ 0 ≤ m 7 ∧ m 7 ≤ 1000 ∧ 0 ≤ m 10 ∧ m 10 ≤ R ∧ (m 2 ≠ 2 → m 5 = 0)) ∧
  (m 2 = 0 → h.vf (m 3) (m 0) = m 0 ∧ m 6 = h.cn (m 3) (m 0) ∧ m 7 = (h.cl (m 3) (m 0) (m 6)).t) ∧
  (m 2 = 1 → m 6 = 0 ∨ (m 6 = 1 ∧ h.vf (m 3) (m 0) = m 1)) ∧
  (m 2 = 2 → h.el (m 3) ∧ m 6 + m 5 ≤ h.ln (m 3) ∧ m 7 = (h.ll (m 3) (m 6)).t ∧ (∀ i, 0 ≤ i → i < m 5 → entM m (11 + 4 * i) = h.ll (m 3) (m 6 + 1 + i)) ∧ CmtOK h (h.ll (m 3)) (m 3) (m 8) ∧ 0 ≤ m 8 ∧ m 8 ≤ gr) ∧
  (m 2 = 3 → (m 6 = 1 ∧ h.el (m 3) ∧ m 7 ≤ h.ak (m 3) (m 0)) ∨ (m 6 = 0 ∧ 1 ≤ m 7)) ∧
  (m 2 = 4 → h.el (m 3) ∧ 1 ≤ m 6 ∧ m 6 ≤ h.ln (m 3) ∧ m 6 ≤ gr ∧ m 7 = (h.ll (m 3) (m 6)).t ∧ (∃ c, LastC (h.ll (m 3)) (m 6) c ∧ m 8 = (h.ll (m 3) c).a ∧ m 9 = (h.ll (m 3) c).b) ∧ CmtOK h (h.ll (m 3)) (m 3) (m 6) ∧ ∀ x, 11 ≤ x → x < 19 → 0 ≤ m x ∧ m x ≤ 127) ∧
  (m 2 = 5 → m 6 = 0 ∨ (h.el (m 3) ∧ m 6 ≤ h.ak (m 3) (m 0)))
theorem MI.s {h : His} {R gr : Int} {m : Row} (self : MI h R gr m) : 0 ≤ m 0 ∧ m 0 < 7 ∧ 0 ≤ m 1 ∧ m 1 < 7 ∧ 0 ≤ m 2 ∧ m 2 ≤ 5 ∧ 0 ≤ m 3 ∧ m 3 ≤ 999 ∧ 0 ≤ m 5 ∧ m 5 ≤ 4 ∧ 0 ≤ m 6 ∧ m 6 ≤ 999 ∧ 0 ≤ m 7 ∧ m 7 ≤ 1000 ∧ 0 ≤ m 10 ∧ m 10 ≤ R ∧ (m 2 ≠ 2 → m 5 = 0) := self.1
theorem MI.k0 {h : His} {R gr : Int} {m : Row} (self : MI h R gr m) : m 2 = 0 → h.vf (m 3) (m 0) = m 0 ∧ m 6 = h.cn (m 3) (m 0) ∧ m 7 = (h.cl (m 3) (m 0) (m 6)).t := self.2.1
theorem MI.k1 {h : His} {R gr : Int} {m : Row} (self : MI h R gr m) : m 2 = 1 → m 6 = 0 ∨ (m 6 = 1 ∧ h.vf (m 3) (m 0) = m 1) := self.2.2.1
theorem MI.k2 {h : His} {R gr : Int} {m : Row} (self : MI h R gr m) : m 2 = 2 → h.el (m 3) ∧ m 6 + m 5 ≤ h.ln (m 3) ∧ m 7 = (h.ll (m 3) (m 6)).t ∧ (∀ i, 0 ≤ i → i < m 5 → entM m (11 + 4 * i) = h.ll (m 3) (m 6 + 1 + i)) ∧ CmtOK h (h.ll (m 3)) (m 3) (m 8) ∧ 0 ≤ m 8 ∧ m 8 ≤ gr := self.2.2.2.1
theorem MI.k3 {h : His} {R gr : Int} {m : Row} (self : MI h R gr m) : m 2 = 3 → (m 6 = 1 ∧ h.el (m 3) ∧ m 7 ≤ h.ak (m 3) (m 0)) ∨ (m 6 = 0 ∧ 1 ≤ m 7) := self.2.2.2.2.1
theorem MI.k4 {h : His} {R gr : Int} {m : Row} (self : MI h R gr m) : m 2 = 4 → h.el (m 3) ∧ 1 ≤ m 6 ∧ m 6 ≤ h.ln (m 3) ∧ m 6 ≤ gr ∧ m 7 = (h.ll (m 3) (m 6)).t ∧ (∃ c, LastC (h.ll (m 3)) (m 6) c ∧ m 8 = (h.ll (m 3) c).a ∧ m 9 = (h.ll (m 3) c).b) ∧ CmtOK h (h.ll (m 3)) (m 3) (m 6) ∧ ∀ x, 11 ≤ x → x < 19 → 0 ≤ m x ∧ m x ≤ 127 := self.2.2.2.2.2.1
theorem MI.k5 {h : His} {R gr : Int} {m : Row} (self : MI h R gr m) : m 2 = 5 → m 6 = 0 ∨ (h.el (m 3) ∧ m 6 ≤ h.ak (m 3) (m 0)) := self.2.2.2.2.2.2
abbrev msg (g : Row) (i : Int) : Row := fun w => g (1708 + 27 * i + w)
/-- greatest less held now; how many messages may be due; the tick -/
abbrev DK : Type := Int × Int × Int
def InvS (g : Row) (h : His) (FL : Int → ELog) (R : Int) (D : DK) : Prop :=
  (HI h) ∧
  (∀ n, 0 ≤ n → n < 7 → NA g R n) ∧
  (∀ n, 0 ≤ n → n < 7 → NB g h n (FL n)) ∧
  (∀ i, 0 ≤ i → i < g 11133 → MI h R (g 11134) (msg g i) ∧ 0 ≤ msg g i 4 ∧ msg g i 4 ≤ 20000 ∧ (D.2.1 ≤ i → D.2.2 < msg g i 4)) ∧
  (GlA g) ∧
  (HdA g) ∧
  (∀ i, 1 ≤ i → i ≤ 999 → (g (6028 + 4 * i) = 0 ↔ g 11134 < i)) ∧
  (RdA g) ∧
  (∀ r, 0 ≤ r → r < g 11135 → g (11028 + 6 * r + 4) = 0 → g (244 * g (11028 + 6 * r) + 3) = 2) ∧
  (LdrA g) ∧
  (∀ k, 0 ≤ k → k < 7 → 0 ≤ g (11124 + k) ∧ g (11124 + k) < 128) ∧
  (g 11134 = g 11138 + D.1 ∧ 0 ≤ g 11138 ∧ g 11131 = D.2.2) ∧
  (1 ≤ R ∧ R ≤ 1000000)
theorem InvS.hi {g : Row} {h : His} {FL : Int → ELog} {R : Int} {D : DK} (self : InvS g h FL R D) : HI h := self.1
theorem InvS.na {g : Row} {h : His} {FL : Int → ELog} {R : Int} {D : DK} (self : InvS g h FL R D) : ∀ n, 0 ≤ n → n < 7 → NA g R n := self.2.1
theorem InvS.nb {g : Row} {h : His} {FL : Int → ELog} {R : Int} {D : DK} (self : InvS g h FL R D) : ∀ n, 0 ≤ n → n < 7 → NB g h n (FL n) := self.2.2.1
theorem InvS.ml {g : Row} {h : His} {FL : Int → ELog} {R : Int} {D : DK} (self : InvS g h FL R D) : ∀ i, 0 ≤ i → i < g 11133 → MI h R (g 11134) (msg g i) ∧ 0 ≤ msg g i 4 ∧ msg g i 4 ≤ 20000 ∧ (D.2.1 ≤ i → D.2.2 < msg g i 4) := self.2.2.2.1
theorem InvS.gl {g : Row} {h : His} {FL : Int → ELog} {R : Int} {D : DK} (self : InvS g h FL R D) : GlA g := self.2.2.2.2.1
theorem InvS.hd {g : Row} {h : His} {FL : Int → ELog} {R : Int} {D : DK} (self : InvS g h FL R D) : HdA g := self.2.2.2.2.2.1
theorem InvS.hc {g : Row} {h : His} {FL : Int → ELog} {R : Int} {D : DK} (self : InvS g h FL R D) : ∀ i, 1 ≤ i → i ≤ 999 → (g (6028 + 4 * i) = 0 ↔ g 11134 < i) := self.2.2.2.2.2.2.1
theorem InvS.rd {g : Row} {h : His} {FL : Int → ELog} {R : Int} {D : DK} (self : InvS g h FL R D) : RdA g := self.2.2.2.2.2.2.2.1
theorem InvS.rl {g : Row} {h : His} {FL : Int → ELog} {R : Int} {D : DK} (self : InvS g h FL R D) : ∀ r, 0 ≤ r → r < g 11135 → g (11028 + 6 * r + 4) = 0 → g (244 * g (11028 + 6 * r) + 3) = 2 := self.2.2.2.2.2.2.2.2.1
theorem InvS.ld {g : Row} {h : His} {FL : Int → ELog} {R : Int} {D : DK} (self : InvS g h FL R D) : LdrA g := self.2.2.2.2.2.2.2.2.2.1
theorem InvS.ct {g : Row} {h : His} {FL : Int → ELog} {R : Int} {D : DK} (self : InvS g h FL R D) : ∀ k, 0 ≤ k → k < 7 → 0 ≤ g (11124 + k) ∧ g (11124 + k) < 128 := self.2.2.2.2.2.2.2.2.2.2.1
theorem InvS.dd {g : Row} {h : His} {FL : Int → ELog} {R : Int} {D : DK} (self : InvS g h FL R D) : g 11134 = g 11138 + D.1 ∧ 0 ≤ g 11138 ∧ g 11131 = D.2.2 := self.2.2.2.2.2.2.2.2.2.2.2.1
theorem InvS.rr {g : Row} {h : His} {FL : Int → ELog} {R : Int} {D : DK} (self : InvS g h FL R D) : 1 ≤ R ∧ R ≤ 1000000 := self.2.2.2.2.2.2.2.2.2.2.2.2
theorem NA_ext {g g' : Row} {R n : Int} (he : ∀ x, 244 * n ≤ x → x < 244 * n + 244 → g' x = g x) (h4 : g' 11134 = g 11134) (a : NA g R n) : NA g' R n := by
  obtain ⟨s, ky, kb, lr⟩ := a
  refine ⟨?_, fun x a b => ?_, fun e k a b => ?_, fun e k a b => ?_⟩
  · unfold NSg
    rw [h4, he (244 * n + 0) (by omega) (by omega), he (244 * n + 1) (by omega) (by omega), he (244 * n + 2) (by omega) (by omega), he (244 * n + 3) (by omega) (by omega), he (244 * n + 4) (by omega) (by omega), he (244 * n + 5) (by omega) (by omega), he (244 * n + 6) (by omega) (by omega), he (244 * n + 7) (by omega) (by omega), he (244 * n + 8) (by omega) (by omega), he (244 * n + 9) (by omega) (by omega), he (244 * n + 10) (by omega) (by omega), he (244 * n + 11) (by omega) (by omega), he (244 * n + 12) (by omega) (by omega), he (244 * n + 13) (by omega) (by omega), he (244 * n + 14) (by omega) (by omega)]
    exact s
  · rw [he x (by omega) (by omega)]; exact ky x a b
  · rw [he (244 * n + 9) (by omega) (by omega), he (244 * n + 4) (by omega) (by omega)] at e
    rw [he _ (by omega) (by omega), he _ (by omega) (by omega)]
    exact kb e k a b
  · rw [he (244 * n + 3) (by omega) (by omega)] at e
    rw [he (244 * n + (31 + k)) (by omega) (by omega), he (244 * n + (38 + k)) (by omega) (by omega), he (244 * n + (45 + k)) (by omega) (by omega), he (244 * n + 4) (by omega) (by omega), he (244 * n + 8) (by omega) (by omega)]
    exact lr e k a b
theorem NB_ext {g g' : Row} {h : His} {n : Int} {fl : ELog} (he : ∀ x, 244 * n ≤ x → x < 244 * n + 244 → (x < 244 * n + 10 ∨ x = 244 * n + 12 ∨ 244 * n + 38 ≤ x) → g' x = g x) (h8 : 0 ≤ n ∧ 0 ≤ g (244 * n + 4) ∧ g (244 * n + 8) ≤ 48) (b : NB g h n fl) : NB g' h n fl := by
  refine ⟨?_, Lk_ext (fun x a b c => he x (by omega) (by omega) (by omega)) h8 b.2⟩
  rw [he (244 * n + 1) (by omega) (by omega) (by omega), he (244 * n + 2) (by omega) (by omega) (by omega), he (244 * n + 3) (by omega) (by omega) (by omega), he (244 * n + 4) (by omega) (by omega) (by omega), he (244 * n + 8) (by omega) (by omega) (by omega), he (244 * n + 9) (by omega) (by omega) (by omega), he (244 * n + 12) (by omega) (by omega) (by omega)]
  exact b.1.match (fun _ k k0 k1 => Or.inl (by rw [he (244 * n + (38 + k)) (by omega) (by omega) (by omega)]; exact Int.le_refl _))
theorem MI_ext {h : His} {R gr : Int} {m m' : Row} (he : ∀ w, 0 ≤ w → w < 27 → w ≠ 4 → m' w = m w) (a : MI h R gr m) : MI h R gr m' := by
  have e := fun w a b c => he w a b c
  have e0 := e 0 (by omega) (by omega) (by omega)
  have e1 := e 1 (by omega) (by omega) (by omega)
  have e2 := e 2 (by omega) (by omega) (by omega)
  have e3 := e 3 (by omega) (by omega) (by omega)
  have e5 := e 5 (by omega) (by omega) (by omega)
  have e6 := e 6 (by omega) (by omega) (by omega)
  have e7 := e 7 (by omega) (by omega) (by omega)
  have e8 := e 8 (by omega) (by omega) (by omega)
  have e9 := e 9 (by omega) (by omega) (by omega)
  have e10 := e 10 (by omega) (by omega) (by omega)
  refine ⟨by rw [e0, e1, e2, e3, e5, e6, e7, e10]; exact a.s, by rw [e0, e2, e3, e6, e7]; exact a.k0, by rw [e0, e1, e2, e3, e6]; exact a.k1, ?_, by rw [e0, e2, e3, e6, e7]; exact a.k3, ?_, by rw [e0, e2, e3, e6]; exact a.k5⟩
  · rw [e2, e3, e5, e6, e7, e8]
    intro c
    have := a.k2 c
    have hs := a.s
    refine ⟨this.1, this.2.1, this.2.2.1, fun i i0 i1 => ?_, this.2.2.2.2⟩
    rw [← this.2.2.2.1 i i0 i1]
    unfold entM
    rw [e (11 + 4 * i) (by omega) (by omega) (by omega), e (11 + 4 * i + 1) (by omega) (by omega) (by omega), e (11 + 4 * i + 2) (by omega) (by omega) (by omega), e (11 + 4 * i + 3) (by omega) (by omega) (by omega)]
  · rw [e2, e3, e6, e7, e8, e9]
    intro c
    obtain ⟨a1, a2, a3, a4, a5, a6, a7, a8⟩ := a.k4 c
    exact ⟨a1, a2, a3, a4, a5, a6, a7, fun x x0 x1 => by rw [e x (by omega) (by omega) (by omega)]; exact a8 x x0 x1⟩
theorem LastC.ll {h h' : His} (H : HI h) (g : Gr h h') {T i c : Int} (hT : h.el T) (hi : i ≤ h.ln T) (l : LastC (h.ll T) i c) : LastC (h'.ll T) i c := l.ag ((g.el T hT).2.2.2.2.le hi)
theorem MI.gr {h h' : His} {R R' gr gr' : Int} {m : Row} (H : HI h) (g : Gr h h') (hR : R ≤ R') (hg : gr ≤ gr') (a : MI h R gr m) : MI h' R' gr' m := by
  have hs := a.s
  refine ⟨by omega, fun c => ?_, fun c => ?_, fun c => ?_, fun c => ?_, fun c => ?_, fun c => ?_⟩
  · obtain ⟨b1, b2, b3⟩ := a.k0 c
    have q := g.vf (m 3) (m 0) (by omega)
    have q2 := g.cl (m 3) (m 0) (by omega) b1
    exact ⟨q.1.trans b1, by rw [q2.2]; exact b2, by rw [q2.1]; exact b3⟩
  · rcases a.k1 c with b | b
    · exact Or.inl b
    · exact Or.inr ⟨b.1, (g.vf (m 3) (m 0) (by omega)).1.trans b.2⟩
  · obtain ⟨b1, b2, b3, b4, b5, b6, b7⟩ := a.k2 c
    obtain ⟨q1, q2, q3, q4, q5⟩ := g.el _ b1
    refine ⟨q1, by omega, by rw [q5 (m 6) (by omega) (by omega)]; exact b3, fun i i0 i1 => by rw [q5 _ (by omega) (by omega)]; exact b4 i i0 i1, ?_, b6, by omega⟩
    have l := b5.led H b1 (H.el1 _ b1).2.2.2.1.1
    exact (b5.gr H g).ag (q5.le l.1)
  · rcases a.k3 c with b | b
    · exact Or.inl ⟨b.1, (g.el _ b.2.1).1, Int.le_trans b.2.2 (g.ak _ _)⟩
    · exact Or.inr b
  · obtain ⟨b1, b2, b3, b4, b5, ⟨i, c1, c2, c3⟩, b7, b8⟩ := a.k4 c
    obtain ⟨q1, q2, q3, q4, q5⟩ := g.el _ b1
    have l := b7.led H b1 (H.el1 _ b1).2.2.2.1.1
    have i0 := c1.1
    have i1 := c1.2.1
    exact ⟨q1, b2, by omega, by omega, by rw [q5 (m 6) (by omega) (by omega)]; exact b5, ⟨i, c1.ll H g b1 b3, by rw [q5 i i0 (by omega)]; exact c2, by rw [q5 i i0 (by omega)]; exact c3⟩, (b7.gr H g).ag (q5.le l.1), b8⟩
  · rcases a.k5 c with b | b
    · exact Or.inl b
    · exact Or.inr ⟨(g.el _ b.1).1, Int.le_trans b.2 (g.ak _ _)⟩
section
variable {g g' : Row} {h h' : His} {FL : Int → ELog} {R : Int} {D : DK} {Λ : Law}
theorem InvS.mono (I : InvS g h FL R D) {R' : Int} (hR : R ≤ R') (h9 : R' ≤ 1000000) : InvS g h FL R' D := by
  refine ⟨I.hi, fun n n0 n1 => ?_, I.nb, fun i i0 i1 => ⟨(I.ml i i0 i1).1.gr I.hi Gr.rfl hR (Int.le_refl _), (I.ml i i0 i1).2⟩, I.gl, I.hd, I.hc, I.rd, I.rl, I.ld, I.ct, I.dd, by have := I.rr; omega⟩
  obtain ⟨s, ky, kb, lr⟩ := I.na n n0 n1
  refine ⟨?_, ky, kb, fun e k a b => ?_⟩
  · unfold NSg NS at s ⊢
    refine ⟨s.1, ?_⟩
    omega
  · have := lr e k a b
    omega
/-! bounds, as the twin's contracts want them -/
theorem EOK.ent {e : Ent} {p : Int} (a : EOK e) (h0 : g p = e.t) (h1 : g (p + 1) = e.k) (h2 : g (p + 2) = e.a) (h3 : g (p + 3) = e.b) : EntA g p := by
  unfold EntA
  rw [h0, h1, h2, h3]
  exact a
theorem InvS.lg (I : InvS g h FL R D) {n : Int} (n0 : 0 ≤ n) (n1 : n < 7) : LgA g n := by
  obtain ⟨⟨s1, s2⟩, _⟩ := I.na n n0 n1
  obtain ⟨b1, b2⟩ := I.nb n n0 n1
  refine ⟨by omega, fun i a b => ?_⟩
  have e := b2.1 i a b
  have k := b1.log.eok I.hi (i := i) (by omega) b
  rw [← e] at k
  exact k.ent rfl rfl rfl rfl
theorem InvS.sta (I : InvS g h FL R D) {n : Int} (n0 : 0 ≤ n) (n1 : n < 7) : StA g n := by
  obtain ⟨⟨s1, s2⟩, _⟩ := I.na n n0 n1
  exact ⟨I.lg n0 n1, I.hd, I.gl, I.rd, I.ld, by omega, by omega⟩
theorem InvS.cm (I : InvS g h FL R D) {n : Int} (n0 : 0 ≤ n) (n1 : n < 7) : CmA g n := ⟨I.lg n0 n1, I.hd, I.gl⟩
/-- a leader's matches are not past its log -/
theorem InvS.mt (I : InvS g h FL R D) {n : Int} (n0 : 0 ≤ n) (n1 : n < 7) (hr : g (244 * n + 3) = 2) {k : Int} (k0 : 0 ≤ k) (k1 : k < 7) : g (244 * n + (38 + k)) ≤ g (244 * n + 4) + g (244 * n + 8) := by
  obtain ⟨b1, b2⟩ := I.nb n n0 n1
  obtain ⟨a1, a2, a3, a4, a5, a6⟩ := b1.led hr
  have := a6 k k0 k1
  obtain ⟨⟨s1, s2⟩, _⟩ := I.na n n0 n1
  by_cases c : 1 ≤ h.ak (g (244 * n + 1)) k
  · have := (I.hi.akb _ _ c).2
    omega
  · omega
theorem InvS.ho (I : InvS g h FL R D) {n : Int} (n0 : 0 ≤ n) (n1 : n < 7) (hr : g (244 * n + 3) = 2) : HoA g n := by
  obtain ⟨⟨s1, s2⟩, ky, kb, lr⟩ := I.na n n0 n1
  have lr := lr hr
  obtain ⟨b1, b2⟩ := I.nb n n0 n1
  obtain ⟨a1, a2, a3, a4, a5, a6⟩ := b1.led hr
  have := (I.hi.el1 _ a1).1
  have rr := I.rr
  refine ⟨⟨I.lg n0 n1, by omega, by omega, fun t t0 t1 => ?_⟩, fun k k0 k1 => ?_, I.hd, I.gl, I.rd, this, by omega, by omega⟩
  · have := lr t t0 t1
    omega
  · have := lr k k0 k1
    have := I.mt n0 n1 hr k0 k1
    omega
/-! what lies past the nodes changes -/
theorem InvS.globD {D' : DK} (I : InvS g h FL R D) (he : ∀ x, x < 1708 → g' x = g x) (h34 : g' 11134 = g 11134) (ml : ∀ i, 0 ≤ i → i < g' 11133 → MI h R (g' 11134) (msg g' i) ∧ 0 ≤ msg g' i 4 ∧ msg g' i 4 ≤ 20000 ∧ (D'.2.1 ≤ i → D'.2.2 < msg g' i 4)) (gl : GlA g') (hh : ∀ x, 6028 ≤ x → x < 11131 → g' x = g x) (h35 : g' 11135 = g 11135) (h38 : g' 11138 = g 11138) (h1 : D'.1 = D.1) (h31 : g' 11131 = D'.2.2) : InvS g' h FL R D' := by
  have hA : g 11135 ≤ 16 := by
    have hG := I.gl
    obtain ⟨_, _, _, _, _, _, _, _, _, _, _, _⟩ := hG
    omega
  refine ⟨I.hi, fun n n0 n1 => NA_ext (fun x _ _ => he x (by omega)) h34 (I.na n n0 n1), fun n n0 n1 => ?_, ml, gl, fun x a b => by rw [hh x (by omega) (by omega)]; exact I.hd x a b, fun i a b => by rw [hh _ (by omega) (by omega), h34]; exact I.hc i a b, RdA_ext h35 hA (fun x a b => hh x (by omega) (by omega)) I.rd, fun r a b c => ?_, fun t a b => by rw [hh t (by omega) (by omega)]; exact I.ld t a b, fun k a b => by rw [hh _ (by omega) (by omega)]; exact I.ct k a b, ⟨by rw [h34, h38, h1]; exact I.dd.1, by rw [h38]; exact I.dd.2.1, h31⟩, I.rr⟩
  · obtain ⟨⟨s1, s2⟩, _⟩ := I.na n n0 n1
    exact NB_ext (fun x _ _ _ => he x (by omega)) ⟨n0, by omega, by omega⟩ (I.nb n n0 n1)
  · rw [h35] at b
    rw [hh _ (by omega) (by omega)] at c
    have := I.rd r a b
    rw [hh (11028 + 6 * r) (by omega) (by omega), he _ (by omega)]
    exact I.rl r a b c
theorem InvS.glob (I : InvS g h FL R D) (he : ∀ x, x < 1708 → g' x = g x) (h34 : g' 11134 = g 11134) (ml : ∀ i, 0 ≤ i → i < g' 11133 → MI h R (g' 11134) (msg g' i) ∧ 0 ≤ msg g' i 4 ∧ msg g' i 4 ≤ 20000 ∧ (D.2.1 ≤ i → D.2.2 < msg g' i 4)) (gl : GlA g') (hh : ∀ x, 6028 ≤ x → x < 11131 → g' x = g x) (h35 : g' 11135 = g 11135) (h38 : g' 11138 = g 11138) (h31 : g' 11131 = g 11131) : InvS g' h FL R D :=
  I.globD he h34 ml gl hh h35 h38 rfl (h31.trans I.dd.2.2)
end
