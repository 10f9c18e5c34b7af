/-! DEPS: ra -/
/-! RB: leader completeness, out of the history of a run -/
/-- what happened: elected terms, their leaders' logs (all, at the election), who leads; votes (early: before the term had a leader) with the voter's log; how far a node has acknowledged a term's leader; what was held (term, index, length of the leader's log then); candidates' logs -/
abbrev His : Type := (Ent) × (Int → Prop) × (Int → ELog) × (Int → Int) × (Int → Int) × (Int → Int) × (Int → Int → Int) × (Int → Int → Prop) × (Int → Int → ELog) × (Int → Int → Int) × (Int → Int → Int) × (Int → Int → Int → Prop) × (Int → Int → ELog) × (Int → Int → Int)
abbrev His.e0 (self : His) : Ent := self.1
abbrev His.el (self : His) : Int → Prop := self.2.1
abbrev His.ll (self : His) : Int → ELog := self.2.2.1
abbrev His.ln (self : His) : Int → Int := self.2.2.2.1
abbrev His.ee (self : His) : Int → Int := self.2.2.2.2.1
abbrev His.ld (self : His) : Int → Int := self.2.2.2.2.2.1
abbrev His.vf (self : His) : Int → Int → Int := self.2.2.2.2.2.2.1
abbrev His.vg (self : His) : Int → Int → Prop := self.2.2.2.2.2.2.2.1
abbrev His.vl (self : His) : Int → Int → ELog := self.2.2.2.2.2.2.2.2.1
abbrev His.vn (self : His) : Int → Int → Int := self.2.2.2.2.2.2.2.2.2.1
abbrev His.ak (self : His) : Int → Int → Int := self.2.2.2.2.2.2.2.2.2.2.1
abbrev His.ev (self : His) : Int → Int → Int → Prop := self.2.2.2.2.2.2.2.2.2.2.2.1
abbrev His.cl (self : His) : Int → Int → ELog := self.2.2.2.2.2.2.2.2.2.2.2.2.1
abbrev His.cn (self : His) : Int → Int → Int := self.2.2.2.2.2.2.2.2.2.2.2.2.2
/-- a log made of leaders' logs, of terms up to T -/
def LogOK (h : His) (f : ELog) (n T : Int) : Prop := f 0 = h.e0 ∧ 0 ≤ n ∧ ∀ i, 1 ≤ i → i ≤ n → 1 ≤ (f i).t ∧ (f i).t ≤ T ∧ h.el (f i).t ∧ i ≤ h.ln (f i).t ∧ Ag f (h.ll (f i).t) i
/-- a log is no less than another -/
def Utd (f : ELog) (n : Int) (g : ELog) (m : Int) : Prop := (g m).t < (f n).t ∨ ((f n).t = (g m).t ∧ m ≤ n)
/-- an entry's bounds -/
def EOK (e : Ent) : Prop := 1 ≤ e.t ∧ e.t ≤ 999 ∧ 0 ≤ e.k ∧ e.k ≤ 2 ∧ 0 ≤ e.a ∧ e.a ≤ 127 ∧ 0 ≤ e.b ∧ e.b ≤ 127 ∧ (e.k = 0 → e.a ≤ 7)
def HI (h : His) : Prop :=
  (h.e0.t = 0 ∧ h.e0.k = 1 ∧ h.e0.b = 0 ∧ 0 ≤ h.e0.a ∧ h.e0.a ≤ 127) ∧
  (∀ T i, h.el T → 1 ≤ i → i ≤ h.ln T → EOK (h.ll T i)) ∧
  (∀ T v, 1 ≤ h.ak T v → h.el T ∧ h.ak T v ≤ h.ln T) ∧
  (∀ T v, 0 ≤ h.ak T v) ∧
  (∀ U v c, 0 ≤ c → h.vf U v = c → h.vf U c = c ∧ Utd (h.cl U c) (h.cn U c) (h.vl U v) (h.vn U v)) ∧
  (∀ U v, h.vf U v ≠ -1 → ¬ h.el U → h.vg U v) ∧
  (∀ T, h.el T → 1 ≤ T ∧ 0 ≤ h.ee T ∧ h.ee T ≤ h.ln T ∧ LogOK h (h.ll T) (h.ln T) T ∧ (∀ i, 1 ≤ i → i ≤ h.ee T → (h.ll T i).t < T) ∧ (∀ i, h.ee T < i → i ≤ h.ln T → (h.ll T i).t = T)) ∧
  (∀ T i, h.el T → h.ee T < i → i ≤ h.ln T → (h.ll T i).k = 1 → ∃ p, LastC (h.ll T) (i - 1) p ∧ Suc (h.ll T p) (h.ll T i) ∧ (p = 0 ∨ ∃ T' n' len', h.ev T' n' len' ∧ p ≤ n' ∧ (T' < T ∨ T' = T ∧ len' < i))) ∧
  (∀ T n len, h.ev T n len → h.el T ∧ 1 ≤ n ∧ n ≤ len ∧ len ≤ h.ln T ∧ (h.ll T n).t = T ∧ ∃ i s, LastC (h.ll T) len i ∧ Mj s (h.ll T i) ∧ ∀ v, 0 ≤ v → v < 7 → hasI s v → n ≤ h.ak T v) ∧
  (∀ U, h.el U → ∃ i s, LastC (h.ll U) (h.ee U) i ∧ Mj s (h.ll U i) ∧ ∀ v, 0 ≤ v → v < 7 → hasI s v → h.vf U v = h.ld U ∧ h.vf U v ≠ -1 ∧ h.vg U v ∧ Utd (h.ll U) (h.ee U) (h.vl U v) (h.vn U v)) ∧
  (∀ U v, h.vf U v ≠ -1 → LogOK h (h.vl U v) (h.vn U v) U ∧ ∀ T m, T < U → 1 ≤ m → m ≤ h.ak T v → (∀ W, T < W → (W < U ∨ W = U ∧ ¬ h.vg U v) → h.el W → m ≤ h.ee W ∧ Ag (h.ll W) (h.ll T) m) → m ≤ h.vn U v ∧ Ag (h.vl U v) (h.ll T) m)
theorem HI.z {h : His} (self : HI h) : h.e0.t = 0 ∧ h.e0.k = 1 ∧ h.e0.b = 0 ∧ 0 ≤ h.e0.a ∧ h.e0.a ≤ 127 := self.1
theorem HI.eok {h : His} (self : HI h) : ∀ T i, h.el T → 1 ≤ i → i ≤ h.ln T → EOK (h.ll T i) := self.2.1
theorem HI.akb {h : His} (self : HI h) : ∀ T v, 1 ≤ h.ak T v → h.el T ∧ h.ak T v ≤ h.ln T := self.2.2.1
theorem HI.akn {h : His} (self : HI h) : ∀ T v, 0 ≤ h.ak T v := self.2.2.2.1
theorem HI.utd {h : His} (self : HI h) : ∀ U v c, 0 ≤ c → h.vf U v = c → h.vf U c = c ∧ Utd (h.cl U c) (h.cn U c) (h.vl U v) (h.vn U v) := self.2.2.2.2.1
theorem HI.erl {h : His} (self : HI h) : ∀ U v, h.vf U v ≠ -1 → ¬ h.el U → h.vg U v := self.2.2.2.2.2.1
theorem HI.el1 {h : His} (self : HI h) : ∀ T, h.el T → 1 ≤ T ∧ 0 ≤ h.ee T ∧ h.ee T ≤ h.ln T ∧ LogOK h (h.ll T) (h.ln T) T ∧ (∀ i, 1 ≤ i → i ≤ h.ee T → (h.ll T i).t < T) ∧ (∀ i, h.ee T < i → i ≤ h.ln T → (h.ll T i).t = T) := self.2.2.2.2.2.2.1
theorem HI.cfg {h : His} (self : HI h) : ∀ T i, h.el T → h.ee T < i → i ≤ h.ln T → (h.ll T i).k = 1 → ∃ p, LastC (h.ll T) (i - 1) p ∧ Suc (h.ll T p) (h.ll T i) ∧ (p = 0 ∨ ∃ T' n' len', h.ev T' n' len' ∧ p ≤ n' ∧ (T' < T ∨ T' = T ∧ len' < i)) := self.2.2.2.2.2.2.2.1
theorem HI.ev1 {h : His} (self : HI h) : ∀ T n len, h.ev T n len → h.el T ∧ 1 ≤ n ∧ n ≤ len ∧ len ≤ h.ln T ∧ (h.ll T n).t = T ∧ ∃ i s, LastC (h.ll T) len i ∧ Mj s (h.ll T i) ∧ ∀ v, 0 ≤ v → v < 7 → hasI s v → n ≤ h.ak T v := self.2.2.2.2.2.2.2.2.1
theorem HI.win {h : His} (self : HI h) : ∀ U, h.el U → ∃ i s, LastC (h.ll U) (h.ee U) i ∧ Mj s (h.ll U i) ∧ ∀ v, 0 ≤ v → v < 7 → hasI s v → h.vf U v = h.ld U ∧ h.vf U v ≠ -1 ∧ h.vg U v ∧ Utd (h.ll U) (h.ee U) (h.vl U v) (h.vn U v) := self.2.2.2.2.2.2.2.2.2.1
theorem HI.vot {h : His} (self : HI h) : ∀ U v, h.vf U v ≠ -1 → LogOK h (h.vl U v) (h.vn U v) U ∧ ∀ T m, T < U → 1 ≤ m → m ≤ h.ak T v → (∀ W, T < W → (W < U ∨ W = U ∧ ¬ h.vg U v) → h.el W → m ≤ h.ee W ∧ Ag (h.ll W) (h.ll T) m) → m ≤ h.vn U v ∧ Ag (h.vl U v) (h.ll T) m := self.2.2.2.2.2.2.2.2.2.2
theorem LastC.mono {f g : ELog} {n i m : Int} (h : LastC f n i) (hm : i ≤ m) (hn : m ≤ n) (ha : Ag f g m) : LastC g m i := by
  refine ⟨h.1, hm, ?_, fun j a b => ?_⟩
  · rw [← ha i h.1 hm]; exact h.2.2.1
  · rw [← ha j (by have := h.1; omega) b]; exact h.2.2.2 j a (by omega)
/-- the configuration before a log's configuration at i -/
theorem prev_of {h : His} (H : HI h) {f : ELog} {N T i : Int} (hf : LogOK h f N T) (hi : (f i).k = 1) (h0 : 0 < i) (h1 : i ≤ N) :
    ∃ p, LastC f (i - 1) p ∧ Suc (f p) (f i) ∧ (p = 0 ∨ ∃ T' n' len', h.ev T' n' len' ∧ p ≤ n' ∧ (T' < (f i).t ∨ T' = (f i).t ∧ len' < i)) := by
  obtain ⟨a1, a2, a3, a4, a5⟩ := hf.2.2 i (by omega) h1
  obtain ⟨b1, b2, b3, b4, b5, b6⟩ := H.el1 _ a3
  have e := a5 i (by omega) (Int.le_refl _)
  have hE : h.ee (f i).t < i := by
    apply Classical.byContradiction
    intro hn
    have := b5 i (by omega) (by omega)
    rw [← e] at this
    omega
  obtain ⟨p, p1, p2, p3⟩ := H.cfg _ i a3 hE a4 (by rw [← e]; exact hi)
  have hp := p1.2.1
  have hp0 := p1.1
  refine ⟨p, p1.mono p1.2.1 (Int.le_refl _) (a5.symm.le (by omega)), ?_, p3⟩
  rw [← a5 p hp0 (by omega), ← e] at p2
  exact p2
/-- a voter that has acknowledged n: the candidate's log has it -/
theorem meet {h : His} (H : HI h) {U N T n v : Int} {L : ELog} {P : Prop} (hL : LogOK h L N (U - 1)) (hv : h.vf U v ≠ -1) (hP : ¬ h.vg U v → P) (hu : Utd L N (h.vl U v) (h.vn U v))
    (hn1 : 1 ≤ n) (hT : (h.ll T n).t = T) (hTe : h.el T) (hTU : T < U) (ha : n ≤ h.ak T v)
    (IH : ∀ W, (W < U ∨ W = U ∧ P) → h.el W → T < W → n ≤ h.ee W ∧ Ag (h.ll W) (h.ll T) n) : n ≤ N ∧ Ag L (h.ll T) n := by
  obtain ⟨v1, v2⟩ := H.vot U v hv
  obtain ⟨c1, c2⟩ := v2 T n hTU hn1 ha (fun W a b c => IH W (by rcases b with b | b; exact Or.inl b; exact Or.inr ⟨b.1, hP b.2⟩) c a)
  have hT1 := (H.el1 T hTe).1
  generalize h.vl U v = V at *
  generalize h.vn U v = K at *
  obtain ⟨a1, a2, a3, a4, a5⟩ := v1.2.2 K (by omega) (Int.le_refl _)
  have en : V n = h.ll T n := c2 n (by omega) (Int.le_refl _)
  have tv : T ≤ (V K).t := by
    obtain ⟨b1, b2, b3, b4, b5, b6⟩ := H.el1 _ a3
    have := (b4.2.2 n hn1 (by omega)).2.1
    rw [← a5 n (by omega) c1, en, hT] at this
    exact this
  have hN : 1 ≤ N := by
    apply Classical.byContradiction
    intro hh
    have : N = 0 := by have := hL.2.1; omega
    subst this
    unfold Utd at hu
    rw [hL.1, H.z.1] at hu
    omega
  obtain ⟨d1, d2, d3, d4, d5⟩ := hL.2.2 N hN (Int.le_refl _)
  unfold Utd at hu
  by_cases c : (L N).t = (V K).t
  · have hk : K ≤ N := by omega
    refine ⟨by omega, fun i i0 i1 => ?_⟩
    rw [d5 i i0 (by omega), c, ← a5 i i0 (by omega), c2 i i0 i1]
  · have hW := IH (L N).t (Or.inl (by omega)) d3 (by omega)
    obtain ⟨b1, b2, b3, b4, b5, b6⟩ := H.el1 _ d3
    have hE : h.ee (L N).t < N := by
      apply Classical.byContradiction
      intro hh
      have := b5 N hN (by omega)
      rw [← d5 N (by omega) (Int.le_refl _)] at this
      omega
    exact ⟨by omega, fun i i0 i1 => by rw [d5 i i0 (by omega), hW.2 i i0 i1]⟩
/-- whoever wins a term has all that was held in earlier ones -/
theorem lc_gen {h : His} (H : HI h) {U N i s : Int} {L : ELog} {P : Prop} (hL : LogOK h L N (U - 1)) (hi : LastC L N i) (hs : Mj s (L i))
    (hv : ∀ v, 0 ≤ v → v < 7 → hasI s v → h.vf U v ≠ -1 ∧ (¬ h.vg U v → P) ∧ Utd L N (h.vl U v) (h.vn U v))
    (IH : ∀ W, (W < U ∨ W = U ∧ P) → h.el W → ∀ T n len, h.ev T n len → T < W → n ≤ h.ee W ∧ Ag (h.ll W) (h.ll T) n) :
    ∀ (a b : Nat) (T n len : Int), T.toNat = a → len.toNat = b → h.ev T n len → T < U → n ≤ N ∧ Ag L (h.ll T) n := by
  intro a
  induction a using Nat.strongRecOn with
  | _ a iha =>
  intro b
  induction b using Nat.strongRecOn with
  | _ b ihb =>
  intro T n len ea eb he hTU
  obtain ⟨e1, e2, e3, e4, e5, j, s', e6, e7, e8⟩ := H.ev1 T n len he
  obtain ⟨t1, t2, t3, t4, t5, t6⟩ := H.el1 T e1
  have hEn : h.ee T < n := by
    apply Classical.byContradiction
    intro hh
    have := t5 n e2 (by omega)
    omega
  have inner : ∀ T' n' len', h.ev T' n' len' → (T' < T ∨ T' = T ∧ len' < len) → n' ≤ N ∧ Ag L (h.ll T') n' := by
    intro T' n' len' g1 g2
    obtain ⟨f1, f2, f3, f4, f5, _⟩ := H.ev1 T' n' len' g1
    have f6 := (H.el1 T' f1).1
    rcases g2 with g2 | ⟨g2, g3⟩
    · exact iha T'.toNat (by omega) len'.toNat T' n' len' rfl rfl g1 (by omega)
    · subst g2
      exact ihb len'.toNat (by omega) T' n' len' ea rfl g1 hTU
  have outer : ∀ W, W < U → h.el W → ∀ T n len, h.ev T n len → T < W → n ≤ h.ee W ∧ Ag (h.ll W) (h.ll T) n := fun W w => IH W (Or.inl w)
  have fin : (∃ k, 0 ≤ k ∧ k < 7 ∧ hasI s' k ∧ hasI s k) → n ≤ N ∧ Ag L (h.ll T) n := by
    intro ⟨v, k0, k1, k2, k3⟩
    obtain ⟨w1, w2, w3⟩ := hv v k0 k1 k3
    exact meet H hL w1 w2 w3 e2 e5 e1 hTU (e8 v k0 k1 k2) (fun W a b c => IH W a b T n len he c)
  -- the configuration before the leader's one is in L
  have hp : PrevOK (h.ll T) L N j := by
    by_cases c : j = 0
    · exact Or.inl c
    · have j0 := e6.1
      have j1 := e6.2.1
      obtain ⟨p, p1, p2, p3⟩ := prev_of H t4 (N := h.ln T) (i := j) e6.2.2.1 (by omega) (by omega)
      have hp0 := p1.1
      have hp1 := p1.2.1
      refine Or.inr ⟨p, p1, ?_⟩
      rcases p3 with p3 | ⟨T', n', len', g1, g2, g3⟩
      · subst p3
        refine ⟨fun i i0 i1 => ?_, hL.2.1, p2⟩
        have : i = 0 := by omega
        subst this
        rw [hL.1, t4.1]
      · have hle := (t4.2.2 j (by omega) (by omega)).2.1
        have hin := inner T' n' len' g1 (by omega)
        refine ⟨?_, by omega, p2⟩
        by_cases d : T' = T
        · rw [← d]; exact hin.2.le g2
        · have ho := outer T hTU e1 T' n' len' g1 (by omega)
          exact (hin.2.trans ho.2.symm).le g2
  by_cases c : i = 0
  · exact fin (compat (f := h.ll T) (g := L) (by rw [hL.1, t4.1]) e6 hi hp (Or.inl c) e7 hs)
  · have i0 := hi.1
    have i1 := hi.2.1
    obtain ⟨q, q1, q2, q3⟩ := prev_of H hL (i := i) hi.2.2.1 (by omega) (by omega)
    have hq0 := q1.1
    have hq1 := q1.2.1
    rcases q3 with q3 | ⟨T2, n2, len2, g1, g2, g3⟩
    · subst q3
      refine fin (compat (f := h.ll T) (g := L) (by rw [hL.1, t4.1]) e6 hi hp (Or.inr ⟨0, q1, fun i i0 i1 => ?_, by omega, q2⟩) e7 hs)
      have : i = 0 := by omega
      subst this
      rw [hL.1, t4.1]
    · obtain ⟨d1, d2, d3, d4, d5⟩ := hL.2.2 i (by omega) (by omega)
      obtain ⟨f1, f2, f3, f4, f5, _⟩ := H.ev1 T2 n2 len2 g1
      obtain ⟨b1, b2, b3, b4, b5, b6⟩ := H.el1 _ d3
      -- L has all that event held
      have hA : n2 < i ∧ Ag L (h.ll T2) n2 := by
        by_cases d : T2 = (L i).t
        · refine ⟨by omega, ?_⟩
          rw [d]
          exact d5.le (by omega)
        · have ho := outer (L i).t (by omega) d3 T2 n2 len2 g1 (by omega)
          have hE : h.ee (L i).t < i := by
            apply Classical.byContradiction
            intro hh
            have := b5 i (by omega) (by omega)
            rw [← d5 i (by omega) (Int.le_refl _)] at this
            omega
          exact ⟨by omega, fun x x0 x1 => by rw [d5 x x0 (by omega), ho.2 x x0 x1]⟩
      have go : Ag L (h.ll T) q → q ≤ len → n ≤ N ∧ Ag L (h.ll T) n := fun y y2 =>
        fin (compat (f := h.ll T) (g := L) (by rw [hL.1, t4.1]) e6 hi hp (Or.inr ⟨q, q1, y.symm, y2, q2⟩) e7 hs)
      rcases Int.lt_trichotomy T2 T with c2 | c2 | c2
      · have ho := outer T hTU e1 T2 n2 len2 g1 c2
        exact go ((hA.2.trans ho.2.symm).le g2) (by omega)
      · subst c2
        by_cases c3 : n ≤ n2
        · exact ⟨by omega, hA.2.le c3⟩
        · exact go (hA.2.le g2) (by omega)
      · have ho := outer T2 (by omega) f1 T n len he c2
        have hE : h.ee T2 < n2 := by
          apply Classical.byContradiction
          intro hh
          have := (H.el1 T2 f1).2.2.2.2.1 n2 f2 (by omega)
          omega
        exact ⟨by omega, fun x x0 x1 => by rw [hA.2 x x0 (by omega), ho.2 x x0 x1]⟩
/-- leader completeness -/
theorem lc {h : His} (H : HI h) : ∀ (a : Nat) (U : Int), U.toNat = a → h.el U → ∀ T n len, h.ev T n len → T < U → n ≤ h.ee U ∧ Ag (h.ll U) (h.ll T) n := by
  intro a
  induction a using Nat.strongRecOn with
  | _ a ih =>
  intro U ea hU T n len he hTU
  obtain ⟨u1, u2, u3, u4, u5, u6⟩ := H.el1 U hU
  obtain ⟨i, s, w1, w2, w3⟩ := H.win U hU
  have hL : LogOK h (h.ll U) (h.ee U) (U - 1) := ⟨u4.1, u2, fun i i0 i1 => by
    obtain ⟨a1, a2, a3, a4, a5⟩ := u4.2.2 i i0 (by omega)
    have := u5 i i0 i1
    exact ⟨a1, by omega, a3, a4, a5⟩⟩
  refine lc_gen H (P := False) hL w1 w2 (fun v v0 v1 v2 => ?_) (fun W w hW T' n' len' g1 g2 => ?_) _ _ T n len rfl rfl he hTU
  · obtain ⟨x1, x2, x3, x4⟩ := w3 v v0 v1 v2
    exact ⟨x2, fun y => y x3, x4⟩
  · have hW1 := (H.el1 W hW).1
    have hw : W < U := by rcases w with w | w; exact w; exact w.2.elim
    exact ih W.toNat (by omega) W rfl hW T' n' len' g1 g2
theorem LC {h : His} (H : HI h) {U T n len : Int} (hU : h.el U) (he : h.ev T n len) (hTU : T < U) : n ≤ h.ee U ∧ Ag (h.ll U) (h.ll T) n := lc H _ U rfl hU T n len he hTU
/-- a term has one winner: two majorities of votes meet -/
theorem one_winner {h : His} (H : HI h) {U N i s : Int} {L : ELog} (hU : h.el U) (hL : LogOK h L N (U - 1)) (hi : LastC L N i) (hs : Mj s (L i))
    (hv : ∀ v, 0 ≤ v → v < 7 → hasI s v → h.vf U v ≠ -1 ∧ Utd L N (h.vl U v) (h.vn U v)) : ∃ v, 0 ≤ v ∧ v < 7 ∧ hasI s v ∧ h.vf U v = h.ld U := by
  have lcL := fun T n len => lc_gen H (U := U) (P := True) hL hi hs (fun v v0 v1 v2 => ⟨(hv v v0 v1 v2).1, fun _ => trivial, (hv v v0 v1 v2).2⟩) (fun W w hW T' n' len' g1 g2 => LC H hW g1 g2) _ _ T n len rfl rfl
  obtain ⟨u1, u2, u3, u4, u5, u6⟩ := H.el1 U hU
  obtain ⟨j, s', w1, w2, w3⟩ := H.win U hU
  have hL2 : LogOK h (h.ll U) (h.ee U) (U - 1) := ⟨u4.1, u2, fun i i0 i1 => by
    obtain ⟨a1, a2, a3, a4, a5⟩ := u4.2.2 i i0 (by omega)
    have := u5 i i0 i1
    exact ⟨a1, by omega, a3, a4, a5⟩⟩
  have pv : ∀ (f g : ELog) (nf ng i : Int), LogOK h f nf (U - 1) → LogOK h g ng (U - 1) → LastC f nf i → (∀ T n len, h.ev T n len → T < U → n ≤ nf ∧ Ag f (h.ll T) n) → (∀ T n len, h.ev T n len → T < U → n ≤ ng ∧ Ag g (h.ll T) n) → PrevOK f g ng i := by
    intro f g nf ng i hf hg hi l1 l2
    by_cases c : i = 0
    · exact Or.inl c
    · have i0 := hi.1
      have i1 := hi.2.1
      obtain ⟨q, q1, q2, q3⟩ := prev_of H hf (i := i) hi.2.2.1 (by omega) (by omega)
      refine Or.inr ⟨q, q1, ?_⟩
      rcases q3 with q3 | ⟨T2, n2, len2, g1, g2, g3⟩
      · subst q3
        refine ⟨fun i i0 i1 => ?_, hg.2.1, q2⟩
        have : i = 0 := by omega
        subst this
        rw [hf.1, hg.1]
      · have d2 := (hf.2.2 i (by omega) (by omega)).2.1
        have a1 := l1 T2 n2 len2 g1 (by omega)
        have a2 := l2 T2 n2 len2 g1 (by omega)
        exact ⟨(a2.2.trans a1.2.symm).le g2, by omega, q2⟩
  have lcU : ∀ T n len, h.ev T n len → T < U → n ≤ h.ee U ∧ Ag (h.ll U) (h.ll T) n := fun T n len a b => LC H hU a b
  obtain ⟨v, v0, v1, v2, v3⟩ := compat (f := h.ll U) (g := L) (by rw [hL.1, u4.1]) w1 hi (pv _ _ _ _ _ hL2 hL w1 lcU lcL) (pv _ _ _ _ _ hL hL2 hi lcL lcU) w2 hs
  exact ⟨v, v0, v1, v3, (w3 v v0 v1 v2).1⟩
