/-! DEPS: rb -/
/-! RC: how a history grows -/
def Gr (h h' : His) : Prop :=
  (h'.e0 = h.e0) ∧
  (∀ T, h.el T → h'.el T ∧ h'.ld T = h.ld T ∧ h'.ee T = h.ee T ∧ h.ln T ≤ h'.ln T ∧ Ag (h'.ll T) (h.ll T) (h.ln T)) ∧
  (∀ U v, h.vf U v ≠ -1 → h'.vf U v = h.vf U v ∧ h'.vl U v = h.vl U v ∧ h'.vn U v = h.vn U v ∧ (h.vg U v → h'.vg U v)) ∧
  (∀ U c, 0 ≤ c → h.vf U c = c → h'.cl U c = h.cl U c ∧ h'.cn U c = h.cn U c) ∧
  (∀ T v, h.ak T v ≤ h'.ak T v) ∧
  (∀ T n l, h.ev T n l → h'.ev T n l)
theorem Gr.e0 {h h' : His} (self : Gr h h') : h'.e0 = h.e0 := self.1
theorem Gr.el {h h' : His} (self : Gr h h') : ∀ T, h.el T → h'.el T ∧ h'.ld T = h.ld T ∧ h'.ee T = h.ee T ∧ h.ln T ≤ h'.ln T ∧ Ag (h'.ll T) (h.ll T) (h.ln T) := self.2.1
theorem Gr.vf {h h' : His} (self : Gr h h') : ∀ U v, h.vf U v ≠ -1 → h'.vf U v = h.vf U v ∧ h'.vl U v = h.vl U v ∧ h'.vn U v = h.vn U v ∧ (h.vg U v → h'.vg U v) := self.2.2.1
theorem Gr.cl {h h' : His} (self : Gr h h') : ∀ U c, 0 ≤ c → h.vf U c = c → h'.cl U c = h.cl U c ∧ h'.cn U c = h.cn U c := self.2.2.2.1
theorem Gr.ak {h h' : His} (self : Gr h h') : ∀ T v, h.ak T v ≤ h'.ak T v := self.2.2.2.2.1
theorem Gr.ev {h h' : His} (self : Gr h h') : ∀ T n l, h.ev T n l → h'.ev T n l := self.2.2.2.2.2
theorem Gr.rfl {h : His} : Gr h h := ⟨Eq.refl _, fun T a => ⟨a, Eq.refl _, Eq.refl _, Int.le_refl _, Ag.rfl⟩, fun _ _ _ => ⟨Eq.refl _, Eq.refl _, Eq.refl _, id⟩, fun _ _ _ _ => ⟨Eq.refl _, Eq.refl _⟩, fun _ _ => Int.le_refl _, fun _ _ _ => id⟩
theorem Gr.trans {h h' h'' : His} (a : Gr h h') (b : Gr h' h'') : Gr h h'' := by
  refine ⟨b.e0.trans a.e0, fun T e => ?_, fun U v e => ?_, fun U c e0 e => ?_, fun T v => Int.le_trans (a.ak T v) (b.ak T v), fun T n l e => b.ev T n l (a.ev T n l e)⟩
  · obtain ⟨a1, a2, a3, a4, a5⟩ := a.el T e
    obtain ⟨b1, b2, b3, b4, b5⟩ := b.el T a1
    exact ⟨b1, b2.trans a2, b3.trans a3, by omega, (b5.le a4).trans a5⟩
  · obtain ⟨a1, a2, a3, a4⟩ := a.vf U v e
    obtain ⟨b1, b2, b3, b4⟩ := b.vf U v (by rw [a1]; exact e)
    exact ⟨b1.trans a1, b2.trans a2, b3.trans a3, fun x => b4 (a4 x)⟩
  · obtain ⟨a1, a2⟩ := a.cl U c e0 e
    have := (a.vf U c (by omega)).1
    obtain ⟨b1, b2⟩ := b.cl U c e0 (this.trans e)
    exact ⟨b1.trans a1, b2.trans a2⟩
theorem LogOK.gr {h h' : His} (g : Gr h h') {f : ELog} {n T : Int} (l : LogOK h f n T) : LogOK h' f n T := by
  refine ⟨l.1.trans g.e0.symm, l.2.1, fun i i0 i1 => ?_⟩
  obtain ⟨a1, a2, a3, a4, a5⟩ := l.2.2 i i0 i1
  obtain ⟨b1, b2, b3, b4, b5⟩ := g.el _ a3
  exact ⟨a1, a2, b1, by omega, a5.trans (b5.symm.le a4)⟩
theorem LogOK.ag {h : His} {f g : ELog} {n T : Int} (l : LogOK h f n T) (a : Ag g f n) : LogOK h g n T := by
  refine ⟨(a 0 (Int.le_refl _) l.2.1).trans l.1, l.2.1, fun i i0 i1 => ?_⟩
  rw [a i (by omega) i1]
  obtain ⟨a1, a2, a3, a4, a5⟩ := l.2.2 i i0 i1
  exact ⟨a1, a2, a3, a4, (a.le i1).trans a5⟩
theorem LogOK.up {h : His} {f : ELog} {n T T' : Int} (l : LogOK h f n T) (a : T ≤ T') : LogOK h f n T' := by
  refine ⟨l.1, l.2.1, fun i i0 i1 => ?_⟩
  obtain ⟨a1, a2, a3, a4, a5⟩ := l.2.2 i i0 i1
  exact ⟨a1, by omega, a3, a4, a5⟩
theorem LogOK.cut {h : His} {f : ELog} {n m T : Int} (l : LogOK h f n T) (h0 : 0 ≤ m) (a : m ≤ n) : LogOK h f m T :=
  ⟨l.1, h0, fun i i0 i1 => l.2.2 i i0 (by omega)⟩
theorem LogOK.eok {h : His} (H : HI h) {f : ELog} {n T : Int} (l : LogOK h f n T) {i : Int} (i0 : 1 ≤ i) (i1 : i ≤ n) : EOK (f i) := by
  obtain ⟨a1, a2, a3, a4, a5⟩ := l.2.2 i i0 i1
  rw [a5 i (by omega) (Int.le_refl _)]
  exact H.eok _ i a3 i0 a4
/-- what is held: up to c, f is as the leader's log of an event -/
def CmtOK (h : His) (f : ELog) (U c : Int) : Prop := c ≤ 0 ∨ ∃ T n len, h.ev T n len ∧ T ≤ U ∧ c ≤ n ∧ Ag f (h.ll T) c
theorem CmtOK.gr {h h' : His} (H : HI h) (g : Gr h h') {f : ELog} {U c : Int} (l : CmtOK h f U c) : CmtOK h' f U c := by
  rcases l with l | ⟨T, n, len, a, b, c1, d⟩
  · exact Or.inl l
  · obtain ⟨e1, e2, e3, e4, e5, _⟩ := H.ev1 T n len a
    obtain ⟨b1, b2, b3, b4, b5⟩ := g.el T e1
    exact Or.inr ⟨T, n, len, g.ev T n len a, b, c1, d.trans (b5.symm.le (by omega))⟩
theorem CmtOK.up {h : His} {f : ELog} {U U' c : Int} (l : CmtOK h f U c) (hU : U ≤ U') : CmtOK h f U' c := by
  rcases l with l | ⟨T, n, len, a, b, c1, d⟩
  · exact Or.inl l
  · exact Or.inr ⟨T, n, len, a, by omega, c1, d⟩
theorem CmtOK.le {h : His} {f : ELog} {U c c' : Int} (l : CmtOK h f U c) (hc : c' ≤ c) : CmtOK h f U c' := by
  rcases l with l | ⟨T, n, len, a, b, c1, d⟩
  · exact Or.inl (by omega)
  · exact Or.inr ⟨T, n, len, a, b, by omega, d.le hc⟩
theorem CmtOK.ag {h : His} {f g : ELog} {U c : Int} (l : CmtOK h f U c) (a : Ag g f c) : CmtOK h g U c := by
  rcases l with l | ⟨T, n, len, a1, b, c1, d⟩
  · exact Or.inl (by omega)
  · exact Or.inr ⟨T, n, len, a1, b, c1, a.trans d⟩
/-- what was held by a term's time is in its leader's log -/
theorem CmtOK.led {h : His} (H : HI h) {f : ELog} {U c : Int} (l : CmtOK h f U c) (hU : h.el U) (h0 : f 0 = h.e0) : c ≤ h.ln U ∧ Ag f (h.ll U) c := by
  obtain ⟨u1, u2, u3, u4, u5, u6⟩ := H.el1 U hU
  rcases l with l | ⟨T, n, len, a, b, c1, d⟩
  · refine ⟨by omega, fun i i0 i1 => ?_⟩
    have : i = 0 := by omega
    subst this
    rw [h0, u4.1]
  · obtain ⟨e1, e2, e3, e4, e5, _⟩ := H.ev1 T n len a
    by_cases e : T = U
    · subst e
      exact ⟨by omega, d⟩
    · have := LC H hU a (by omega)
      exact ⟨by omega, d.trans (this.2.symm.le c1)⟩
/-! a vote -/
def His.vote (h : His) (U v c : Int) (f : ELog) (n : Int) : His := ⟨h.e0,
  h.el,
  h.ll,
  h.ln,
  h.ee,
  h.ld,
  fun U' v' => if U' = U ∧ v' = v then c else h.vf U' v',
  fun U' v' => if U' = U ∧ v' = v then ¬ h.el U else h.vg U' v',
  fun U' v' => if U' = U ∧ v' = v then f else h.vl U' v',
  fun U' v' => if U' = U ∧ v' = v then n else h.vn U' v',
  h.ak,
  h.ev,
  h.cl,
  h.cn⟩
theorem Gr.vote {h : His} {U v c : Int} {f : ELog} {n : Int} (h0 : h.vf U v = -1) : Gr h (h.vote U v c f n) := by
  refine ⟨Eq.refl _, fun T a => ⟨a, Eq.refl _, Eq.refl _, Int.le_refl _, Ag.rfl⟩, fun U' v' e => ?_, fun _ _ _ _ => ⟨Eq.refl _, Eq.refl _⟩, fun _ _ => Int.le_refl _, fun _ _ _ => id⟩
  have hne : ¬ (U' = U ∧ v' = v) := fun ⟨a, b⟩ => e (by rw [a, b]; exact h0)
  exact ⟨if_neg hne, if_neg hne, if_neg hne, fun x => by show (if _ then _ else _); rw [if_neg hne]; exact x⟩
theorem HI.vote {h : His} (H : HI h) {U v c : Int} {f : ELog} {n : Int} (h0 : h.vf U v = -1) (hl : LogOK h f n U) (hc0 : 0 ≤ c) (hcc : v = c ∨ h.vf U c = c) (hu : Utd (h.cl U c) (h.cn U c) f n)
    (ha : ∀ T m, T < U → 1 ≤ m → m ≤ h.ak T v → (∀ W, T < W → W ≤ U → h.el W → m ≤ h.ee W ∧ Ag (h.ll W) (h.ll T) m) → m ≤ n ∧ Ag f (h.ll T) m) : HI (h.vote U v c f n) := by
  refine ⟨H.z, H.eok, H.akb, H.akn, ?_, ?_, H.el1, H.cfg, H.ev1, ?_, ?_⟩
  · intro U' v' c' k0 k1
    have q1 : ∀ w, (h.vote U v c f n).vf U' w = if U' = U ∧ w = v then c else h.vf U' w := fun _ => rfl
    have q2 : (h.vote U v c f n).vl U' v' = if U' = U ∧ v' = v then f else h.vl U' v' := rfl
    have q3 : (h.vote U v c f n).vn U' v' = if U' = U ∧ v' = v then n else h.vn U' v' := rfl
    rw [q1] at k1
    rw [q1, q2, q3]
    show _ ∧ Utd (h.cl U' c') (h.cn U' c') _ _
    by_cases c1 : U' = U ∧ v' = v
    · rw [if_pos c1] at k1
      rw [if_pos c1, if_pos c1]
      obtain ⟨rfl, rfl⟩ := c1
      subst k1
      refine ⟨?_, hu⟩
      rcases hcc with hcc | hcc
      · rw [if_pos ⟨rfl, hcc.symm⟩]
      · split
        · rfl
        · exact hcc
    · rw [if_neg c1] at k1
      rw [if_neg c1, if_neg c1]
      have := H.utd U' v' c' k0 k1
      refine ⟨?_, this.2⟩
      rw [if_neg]
      · exact this.1
      · intro ⟨x, y⟩
        rw [x, y, h0] at this
        omega
  · intro U' v' e1 e2
    show (if U' = U ∧ v' = v then ¬ h.el U else h.vg U' v')
    by_cases c1 : U' = U ∧ v' = v
    · rw [if_pos c1]
      rw [c1.1] at e2
      exact e2
    · rw [if_neg c1]
      have e1 : (if U' = U ∧ v' = v then c else h.vf U' v') ≠ -1 := e1
      rw [if_neg c1] at e1
      exact H.erl U' v' e1 e2
  · intro U' e
    obtain ⟨i, s, w1, w2, w3⟩ := H.win U' e
    refine ⟨i, s, w1, w2, fun p p0 p1 p2 => ?_⟩
    obtain ⟨x1, x2, x3, x4⟩ := w3 p p0 p1 p2
    obtain ⟨y1, y2, y3, y4⟩ := (Gr.vote (c := c) (f := f) (n := n) h0).vf U' p x2
    rw [y1, y2, y3]
    exact ⟨x1, x2, y4 x3, x4⟩
  · intro U' v' e
    by_cases c1 : U' = U ∧ v' = v
    · obtain ⟨rfl, rfl⟩ := c1
      have q1 : (h.vote U' v' c f n).vl U' v' = f := if_pos ⟨rfl, rfl⟩
      have q2 : (h.vote U' v' c f n).vn U' v' = n := if_pos ⟨rfl, rfl⟩
      have q3 : (h.vote U' v' c f n).vg U' v' = ¬ h.el U' := if_pos ⟨rfl, rfl⟩
      rw [q1, q2, q3]
      refine ⟨hl, fun T m m0 m1 m2 m3 => ha T m m0 m1 m2 (fun W w0 w1 w2 => ?_)⟩
      refine m3 W w0 ?_ w2
      by_cases cW : W = U'
      · exact Or.inr ⟨cW, fun hh => hh (cW ▸ w2)⟩
      · exact Or.inl (by omega)
    · have q1 : (h.vote U v c f n).vl U' v' = h.vl U' v' := if_neg c1
      have q2 : (h.vote U v c f n).vn U' v' = h.vn U' v' := if_neg c1
      have q3 : (h.vote U v c f n).vg U' v' = h.vg U' v' := if_neg c1
      have q4 : (h.vote U v c f n).vf U' v' = h.vf U' v' := if_neg c1
      rw [q4] at e
      rw [q1, q2, q3]
      exact H.vot U' v' e
/-! a candidate's log is noted -/
def His.cand (h : His) (U c : Int) (f : ELog) (n : Int) : His := ⟨h.e0,
  h.el,
  h.ll,
  h.ln,
  h.ee,
  h.ld,
  h.vf,
  h.vg,
  h.vl,
  h.vn,
  h.ak,
  h.ev,
  fun U' v' => if U' = U ∧ v' = c then f else h.cl U' v',
  fun U' v' => if U' = U ∧ v' = c then n else h.cn U' v'⟩
theorem HI.cand {h : His} (H : HI h) {U c : Int} {f : ELog} {n : Int} (h0 : h.vf U c = -1) : HI (h.cand U c f n) := by
  refine ⟨H.z, H.eok, H.akb, H.akn, ?_, H.erl, H.el1, H.cfg, H.ev1, H.win, H.vot⟩
  intro U' v' c' k0 k1
  have k1 : h.vf U' v' = c' := k1
  have := H.utd U' v' c' k0 k1
  have hne : ¬ (U' = U ∧ c' = c) := fun ⟨a, b⟩ => by rw [a, b, h0] at this; omega
  have q1 : (h.cand U c f n).cl U' c' = h.cl U' c' := if_neg hne
  have q2 : (h.cand U c f n).cn U' c' = h.cn U' c' := if_neg hne
  rw [q1, q2]
  exact this
theorem Gr.cand {h : His} {U c : Int} {f : ELog} {n : Int} (h0 : h.vf U c = -1) : Gr h (h.cand U c f n) := by
  refine ⟨Eq.refl _, fun T a => ⟨a, Eq.refl _, Eq.refl _, Int.le_refl _, Ag.rfl⟩, fun _ _ _ => ⟨Eq.refl _, Eq.refl _, Eq.refl _, id⟩, fun U' c' e0 e => ?_, fun _ _ => Int.le_refl _, fun _ _ _ => id⟩
  have hne : ¬ (U' = U ∧ c' = c) := fun ⟨a, b⟩ => by rw [a, b, h0] at e; omega
  exact ⟨if_neg hne, if_neg hne⟩
/-! a node has acknowledged more -/
def His.ack (h : His) (T p a : Int) : His := ⟨h.e0,
  h.el,
  h.ll,
  h.ln,
  h.ee,
  h.ld,
  h.vf,
  h.vg,
  h.vl,
  h.vn,
  fun W v => if W = T ∧ v = p then max (h.ak T p) a else h.ak W v,
  h.ev,
  h.cl,
  h.cn⟩
theorem Gr.ack {h : His} {T p a : Int} : Gr h (h.ack T p a) := by
  refine ⟨Eq.refl _, fun T a => ⟨a, Eq.refl _, Eq.refl _, Int.le_refl _, Ag.rfl⟩, fun _ _ _ => ⟨Eq.refl _, Eq.refl _, Eq.refl _, id⟩, fun _ _ _ _ => ⟨Eq.refl _, Eq.refl _⟩, fun W v => ?_, fun _ _ _ => id⟩
  show h.ak W v ≤ if W = T ∧ v = p then max (h.ak T p) a else h.ak W v
  split
  · rename_i c
    rw [c.1, c.2]
    omega
  · exact Int.le_refl _
theorem HI.ack {h : His} (H : HI h) {T p a : Int} (hT : h.el T) (ha : a ≤ h.ln T) (hv : ∀ U, h.vf U p ≠ -1 → U ≤ T) : HI (h.ack T p a) := by
  refine ⟨H.z, H.eok, ?_, fun W v => Int.le_trans (H.akn W v) (Gr.ack.ak W v), H.utd, H.erl, H.el1, H.cfg, ?_, H.win, ?_⟩
  · intro W v e
    have e : 1 ≤ if W = T ∧ v = p then max (h.ak T p) a else h.ak W v := e
    show h.el W ∧ (if W = T ∧ v = p then max (h.ak T p) a else h.ak W v) ≤ h.ln W
    by_cases c : W = T ∧ v = p
    · rw [if_pos c] at e ⊢
      rw [c.1]
      refine ⟨hT, ?_⟩
      by_cases c2 : 1 ≤ h.ak T p
      · have := (H.akb T p c2).2
        omega
      · omega
    · rw [if_neg c] at e ⊢
      exact H.akb W v e
  · intro T' n len e
    obtain ⟨a1, a2, a3, a4, a5, i, s, a6, a7, a8⟩ := H.ev1 T' n len e
    refine ⟨a1, a2, a3, a4, a5, i, s, a6, a7, fun v v0 v1 v2 => ?_⟩
    have := a8 v v0 v1 v2
    exact Int.le_trans this (Gr.ack.ak T' v)
  · intro U v e
    obtain ⟨v1, v2⟩ := H.vot U v e
    refine ⟨v1, fun T' m m0 m1 m2 m3 => v2 T' m m0 m1 ?_ m3⟩
    have m2 : m ≤ if T' = T ∧ v = p then max (h.ak T p) a else h.ak T' v := m2
    by_cases c : T' = T ∧ v = p
    · exfalso
      obtain ⟨rfl, rfl⟩ := c
      have := hv U e
      omega
    · rw [if_neg c] at m2
      exact m2
/-! an index is held -/
def His.event (h : His) (T n len : Int) : His := ⟨h.e0,
  h.el,
  h.ll,
  h.ln,
  h.ee,
  h.ld,
  h.vf,
  h.vg,
  h.vl,
  h.vn,
  h.ak,
  fun a b c => (a = T ∧ b = n ∧ c = len) ∨ h.ev a b c,
  h.cl,
  h.cn⟩
theorem Gr.event {h : His} {T n len : Int} : Gr h (h.event T n len) :=
  ⟨Eq.refl _, fun T a => ⟨a, Eq.refl _, Eq.refl _, Int.le_refl _, Ag.rfl⟩, fun _ _ _ => ⟨Eq.refl _, Eq.refl _, Eq.refl _, id⟩, fun _ _ _ _ => ⟨Eq.refl _, Eq.refl _⟩, fun W v => Int.le_refl _, fun _ _ _ => Or.inr⟩
theorem HI.event {h : His} (H : HI h) {T n len : Int} (he : h.el T ∧ 1 ≤ n ∧ n ≤ len ∧ len ≤ h.ln T ∧ (h.ll T n).t = T ∧ ∃ i s, LastC (h.ll T) len i ∧ Mj s (h.ll T i) ∧ ∀ v, 0 ≤ v → v < 7 → hasI s v → n ≤ h.ak T v) : HI (h.event T n len) := by
  refine ⟨H.z, H.eok, H.akb, H.akn, H.utd, H.erl, H.el1, ?_, ?_, H.win, H.vot⟩
  · intro T' i a b c d
    obtain ⟨p, p1, p2, p3⟩ := H.cfg T' i a b c d
    refine ⟨p, p1, p2, ?_⟩
    rcases p3 with p3 | ⟨T2, n2, l2, q1, q2, q3⟩
    · exact Or.inl p3
    · exact Or.inr ⟨T2, n2, l2, Or.inr q1, q2, q3⟩
  · intro T' n' len' e
    rcases e with ⟨rfl, rfl, rfl⟩ | e
    · exact he
    · exact H.ev1 T' n' len' e
/-! a leader lays an entry -/
def His.lay (h : His) (T c : Int) (e : Ent) : His := ⟨h.e0,
  h.el,
  fun W => if W = T then (fun i => if i = h.ln T + 1 then e else h.ll T i) else h.ll W,
  fun W => if W = T then h.ln T + 1 else h.ln W,
  h.ee,
  h.ld,
  h.vf,
  h.vg,
  h.vl,
  h.vn,
  fun W v => if W = T ∧ v = c then h.ln T + 1 else h.ak W v,
  h.ev,
  h.cl,
  h.cn⟩
theorem lay_ag {h : His} {T c : Int} {e : Ent} (W : Int) : Ag ((h.lay T c e).ll W) (h.ll W) (h.ln W) := by
  intro i i0 i1
  show (if W = T then (fun i => if i = h.ln T + 1 then e else h.ll T i) else h.ll W) i = _
  by_cases cW : W = T
  · rw [if_pos cW]
    subst cW
    show (if i = h.ln W + 1 then e else h.ll W i) = _
    rw [if_neg (by omega)]
  · rw [if_neg cW]
theorem Gr.lay {h : His} (H : HI h) {T c : Int} {e : Ent} (hT : h.el T) : Gr h (h.lay T c e) := by
  refine ⟨Eq.refl _, fun W a => ⟨a, Eq.refl _, Eq.refl _, ?_, lay_ag W⟩, fun _ _ _ => ⟨Eq.refl _, Eq.refl _, Eq.refl _, id⟩, fun _ _ _ _ => ⟨Eq.refl _, Eq.refl _⟩, fun W v => ?_, fun _ _ _ => id⟩
  · show h.ln W ≤ if W = T then h.ln T + 1 else h.ln W
    split
    · rename_i q; rw [q]; omega
    · exact Int.le_refl _
  · show h.ak W v ≤ if W = T ∧ v = c then h.ln T + 1 else h.ak W v
    split
    · rename_i q
      rw [q.1, q.2]
      by_cases c2 : 1 ≤ h.ak T c
      · have := (H.akb T c c2).2
        omega
      · have := (H.el1 T hT)
        omega
    · exact Int.le_refl _
theorem HI.lay {h : His} (H : HI h) {T c : Int} {e : Ent} (hT : h.el T) (h1 : e.t = T) (h2 : EOK e) (hv : ∀ U, h.vf U c ≠ -1 → U ≤ T)
    (hc : e.k = 1 → ∃ p, LastC (h.ll T) (h.ln T) p ∧ Suc (h.ll T p) e ∧ (p = 0 ∨ ∃ T' n' len', h.ev T' n' len' ∧ p ≤ n' ∧ (T' < T ∨ T' = T ∧ len' < h.ln T + 1))) : HI (h.lay T c e) := by
  have g : Gr h (h.lay T c e) := Gr.lay H hT
  have lnT : (h.lay T c e).ln T = h.ln T + 1 := if_pos rfl
  have lnO : ∀ W, W ≠ T → (h.lay T c e).ln W = h.ln W := fun W w => if_neg w
  have llO : ∀ W, W ≠ T → (h.lay T c e).ll W = h.ll W := fun W w => if_neg w
  have llT : (h.lay T c e).ll T (h.ln T + 1) = e := by
    show (if T = T then (fun i => if i = h.ln T + 1 then e else h.ll T i) else h.ll T) _ = _
    rw [if_pos rfl]
    exact if_pos rfl
  obtain ⟨t1, t2, t3, t4, t5, t6⟩ := H.el1 T hT
  refine ⟨H.z, ?_, ?_, fun W v => Int.le_trans (H.akn W v) (g.ak W v), H.utd, H.erl, ?_, ?_, ?_, ?_, ?_⟩
  · intro W i a i0 i1
    by_cases cW : W = T
    · subst cW
      rw [lnT] at i1
      by_cases ci : i = h.ln W + 1
      · rw [ci, llT]; exact h2
      · rw [lay_ag W i (by omega) (by omega)]
        exact H.eok W i a i0 (by omega)
    · rw [lnO W cW] at i1
      rw [llO W cW]
      exact H.eok W i a i0 i1
  · intro W v b
    have b : 1 ≤ if W = T ∧ v = c then h.ln T + 1 else h.ak W v := b
    show h.el W ∧ (if W = T ∧ v = c then h.ln T + 1 else h.ak W v) ≤ if W = T then h.ln T + 1 else h.ln W
    by_cases q : W = T ∧ v = c
    · rw [if_pos q, if_pos q.1, q.1]
      exact ⟨hT, Int.le_refl _⟩
    · rw [if_neg q] at b ⊢
      have := H.akb W v b
      refine ⟨this.1, ?_⟩
      split
      · rename_i q2; rw [q2] at this ⊢; omega
      · exact this.2
  · intro W a
    obtain ⟨b1, b2, b3, b4, b5, b6⟩ := H.el1 W a
    by_cases cW : W = T
    · subst cW
      rw [lnT]
      have hl : LogOK (h.lay W c e) ((h.lay W c e).ll W) (h.ln W) W := (b4.gr g).ag (lay_ag W)
      refine ⟨b1, b2, by show h.ee W ≤ _; omega, ⟨hl.1, by omega, fun i i0 i1 => ?_⟩, fun i i0 i1 => ?_, fun i i0 i1 => ?_⟩
      · by_cases ci : i = h.ln W + 1
        · rw [ci, llT, h1, lnT]
          exact ⟨b1, Int.le_refl _, hT, Int.le_refl _, Ag.rfl⟩
        · exact hl.2.2 i i0 (by omega)
      · have i1 : i ≤ h.ee W := i1
        rw [lay_ag W i (by omega) (by omega)]
        exact b5 i i0 i1
      · have i0 : h.ee W < i := i0
        by_cases ci : i = h.ln W + 1
        · rw [ci, llT, h1]
        · rw [lay_ag W i (by omega) (by omega)]
          exact b6 i i0 (by omega)
    · rw [lnO W cW, llO W cW]
      exact ⟨b1, b2, b3, b4.gr g, b5, b6⟩
  · intro W i a i0 i1 i2
    have i0 : h.ee W < i := i0
    have hee := (H.el1 W a).2.1
    by_cases cW : W = T
    · subst cW
      rw [lnT] at i1
      by_cases ci : i = h.ln W + 1
      · subst ci
        rw [llT] at i2 ⊢
        obtain ⟨p, p1, p2, p3⟩ := hc i2
        have p0 := p1.1
        have p4 := p1.2.1
        refine ⟨p, ?_, ?_, p3⟩
        · exact p1.mono (by omega) (by omega) ((lay_ag W).symm.le (by omega))
        · rw [lay_ag W p p0 (by omega)]; exact p2
      · rw [lay_ag W i (by omega) (by omega)] at i2 ⊢
        obtain ⟨p, p1, p2, p3⟩ := H.cfg W i a i0 (by omega) i2
        have p0 := p1.1
        have p4 := p1.2.1
        refine ⟨p, p1.mono p4 (Int.le_refl _) ((lay_ag W).symm.le (by omega)), ?_, p3⟩
        rw [lay_ag W p p0 (by omega)]; exact p2
    · rw [lnO W cW] at i1
      rw [llO W cW] at i2 ⊢
      exact H.cfg W i a i0 i1 i2
  · intro T' n len q
    obtain ⟨a1, a2, a3, a4, a5, i, s, a6, a7, a8⟩ := H.ev1 T' n len q
    have hln := (g.el T' a1).2.2.2.1
    refine ⟨a1, a2, a3, by omega, by rw [lay_ag T' n (by omega) (by omega)]; exact a5, i, s, a6.mono a6.2.1 (Int.le_refl _) ((lay_ag T').symm.le a4), ?_, fun v v0 v1 v2 => Int.le_trans (a8 v v0 v1 v2) (g.ak T' v)⟩
    have := a6.1
    have := a6.2.1
    rw [lay_ag T' i (by omega) (by omega)]
    exact a7
  · intro U a
    obtain ⟨i, s, w1, w2, w3⟩ := H.win U a
    obtain ⟨b1, b2, b3, b4, b5, b6⟩ := H.el1 U a
    have := w1.1
    have := w1.2.1
    refine ⟨i, s, w1.mono w1.2.1 (Int.le_refl _) ((lay_ag U).symm.le b3), by rw [lay_ag U i (by omega) (by omega)]; exact w2, fun v v0 v1 v2 => ?_⟩
    obtain ⟨x1, x2, x3, x4⟩ := w3 v v0 v1 v2
    refine ⟨x1, x2, x3, ?_⟩
    show Utd _ (h.ee U) (h.vl U v) (h.vn U v)
    unfold Utd at x4 ⊢
    rw [lay_ag U (h.ee U) b2 b3]
    exact x4
  · intro U v a
    obtain ⟨v1, v2⟩ := H.vot U v a
    refine ⟨v1.gr g, fun T' m m0 m1 m2 m3 => ?_⟩
    have m2 : m ≤ if T' = T ∧ v = c then h.ln T + 1 else h.ak T' v := m2
    by_cases q : T' = T ∧ v = c
    · exfalso
      obtain ⟨rfl, rfl⟩ := q
      have := hv U a
      omega
    · rw [if_neg q] at m2
      obtain ⟨k1, k2⟩ := H.akb T' v (by omega)
      have := v2 T' m m0 m1 m2 (fun W w0 w1 w2 => by
        have := m3 W w0 w1 w2
        have h3 := (H.el1 W w2)
        exact ⟨this.1, (((lay_ag W).symm.le (Int.le_trans this.1 h3.2.2.1)).trans this.2).trans ((lay_ag T').le (by omega))⟩)
      exact ⟨this.1, this.2.trans ((lay_ag T').symm.le (by omega))⟩
/-! a candidate wins -/
def His.elect (h : His) (U c : Int) (f : ELog) (n : Int) : His := ⟨h.e0,
  fun W => W = U ∨ h.el W,
  fun W => if W = U then f else h.ll W,
  fun W => if W = U then n else h.ln W,
  fun W => if W = U then n else h.ee W,
  fun W => if W = U then c else h.ld W,
  h.vf,
  h.vg,
  h.vl,
  h.vn,
  fun W v => if W = U ∧ v = c then n else h.ak W v,
  h.ev,
  h.cl,
  h.cn⟩
theorem Gr.elect {h : His} (H : HI h) {U c : Int} {f : ELog} {n : Int} (hU : ¬ h.el U) (hn : 0 ≤ n) : Gr h (h.elect U c f n) := by
  have ne : ∀ W, h.el W → W ≠ U := fun W a b => hU (b ▸ a)
  refine ⟨Eq.refl _, fun W a => ⟨Or.inr a, if_neg (ne W a), if_neg (ne W a), ?_, ?_⟩, fun _ _ _ => ⟨Eq.refl _, Eq.refl _, Eq.refl _, id⟩, fun _ _ _ _ => ⟨Eq.refl _, Eq.refl _⟩, fun W v => ?_, fun _ _ _ => id⟩
  · show h.ln W ≤ if W = U then n else h.ln W
    rw [if_neg (ne W a)]
    exact Int.le_refl _
  · show Ag (if W = U then f else h.ll W) _ _
    rw [if_neg (ne W a)]
    exact Ag.rfl
  · show h.ak W v ≤ if W = U ∧ v = c then n else h.ak W v
    split
    · rename_i q
      rw [q.1, q.2]
      by_cases c2 : 1 ≤ h.ak U c
      · exact absurd (H.akb U c c2).1 hU
      · omega
    · exact Int.le_refl _
theorem HI.elect {h : His} (H : HI h) {U c : Int} {f : ELog} {n i s : Int} (hU : ¬ h.el U) (hU1 : 1 ≤ U) (hl : LogOK h f n (U - 1)) (hc : c ≠ -1) (hi : LastC f n i) (hs : Mj s (f i))
    (hw : ∀ v, 0 ≤ v → v < 7 → hasI s v → h.vf U v = c ∧ Utd f n (h.vl U v) (h.vn U v)) (hv : ∀ U', h.vf U' c ≠ -1 → U' ≤ U) : HI (h.elect U c f n) := by
  have g : Gr h (h.elect U c f n) := Gr.elect H hU hl.2.1
  have ne : ∀ W, h.el W → W ≠ U := fun W a b => hU (b ▸ a)
  have oll : ∀ W, h.el W → (h.elect U c f n).ll W = h.ll W := fun W a => if_neg (ne W a)
  have oln : ∀ W, h.el W → (h.elect U c f n).ln W = h.ln W := fun W a => if_neg (ne W a)
  have oee : ∀ W, h.el W → (h.elect U c f n).ee W = h.ee W := fun W a => if_neg (ne W a)
  have old : ∀ W, h.el W → (h.elect U c f n).ld W = h.ld W := fun W a => if_neg (ne W a)
  have nll : (h.elect U c f n).ll U = f := if_pos rfl
  have nln : (h.elect U c f n).ln U = n := if_pos rfl
  have nee : (h.elect U c f n).ee U = n := if_pos rfl
  have nld : (h.elect U c f n).ld U = c := if_pos rfl
  refine ⟨H.z, ?_, ?_, fun W v => Int.le_trans (H.akn W v) (g.ak W v), H.utd, ?_, ?_, ?_, ?_, ?_, ?_⟩
  · intro W i a i0 i1
    rcases a with a | a
    · subst a
      rw [nln] at i1
      rw [nll]
      exact hl.eok H i0 i1
    · rw [oln W a] at i1
      rw [oll W a]
      exact H.eok W i a i0 i1
  · intro W v b
    have b : 1 ≤ if W = U ∧ v = c then n else h.ak W v := b
    show (W = U ∨ h.el W) ∧ (if W = U ∧ v = c then n else h.ak W v) ≤ (if W = U then n else h.ln W)
    by_cases q : W = U ∧ v = c
    · rw [if_pos q, if_pos q.1]
      exact ⟨Or.inl q.1, Int.le_refl _⟩
    · rw [if_neg q] at b ⊢
      have := H.akb W v b
      rw [if_neg (ne W this.1)]
      exact ⟨Or.inr this.1, this.2⟩
  · intro U' v a b
    exact H.erl U' v a (fun q => b (Or.inr q))
  · intro W a
    rcases a with a | a
    · subst a
      rw [nll, nln, nee]
      exact ⟨hU1, hl.2.1, Int.le_refl _, (hl.gr g).up (by omega), fun i i0 i1 => by have := (hl.2.2 i i0 i1).2.1; omega, fun i i0 i1 => by omega⟩
    · obtain ⟨b1, b2, b3, b4, b5, b6⟩ := H.el1 W a
      rw [oll W a, oln W a, oee W a]
      exact ⟨b1, b2, b3, b4.gr g, b5, b6⟩
  · intro W i a i0 i1 i2
    rcases a with a | a
    · subst a
      rw [nee] at i0
      rw [nln] at i1
      omega
    · rw [oee W a] at i0
      rw [oln W a] at i1
      rw [oll W a] at i2 ⊢
      exact H.cfg W i a i0 i1 i2
  · intro T' m len q
    obtain ⟨a1, a2, a3, a4, a5, i, s, a6, a7, a8⟩ := H.ev1 T' m len q
    rw [oll T' a1, oln T' a1]
    exact ⟨Or.inr a1, a2, a3, a4, a5, i, s, a6, a7, fun v v0 v1 v2 => Int.le_trans (a8 v v0 v1 v2) (g.ak T' v)⟩
  · intro W a
    rcases a with a | a
    · subst a
      rw [nll, nee, nld]
      refine ⟨i, s, hi, hs, fun v v0 v1 v2 => ?_⟩
      obtain ⟨x1, x2⟩ := hw v v0 v1 v2
      exact ⟨x1, by show h.vf W v ≠ -1; rw [x1]; exact hc, H.erl W v (by rw [x1]; exact hc) hU, x2⟩
    · rw [oll W a, oee W a, old W a]
      exact H.win W a
  · intro U' v a
    obtain ⟨v1, v2⟩ := H.vot U' v a
    refine ⟨v1.gr g, fun T' m m0 m1 m2 m3 => ?_⟩
    have m2 : m ≤ if T' = U ∧ v = c then n else h.ak T' v := m2
    by_cases q : T' = U ∧ v = c
    · exfalso
      obtain ⟨rfl, rfl⟩ := q
      have := hv U' a
      omega
    · rw [if_neg q] at m2
      obtain ⟨k1, k2⟩ := H.akb T' v (by omega)
      rw [oll T' k1]
      refine v2 T' m m0 m1 m2 (fun W w0 w1 w2 => ?_)
      have := m3 W w0 w1 (Or.inr w2)
      rw [oee W w2, oll W w2, oll T' k1] at this
      exact this
