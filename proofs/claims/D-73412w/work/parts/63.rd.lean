/-! DEPS: rc -/
/-! RD: what holds of a node: its term, vote, role, last index, commit, votes, log, what others have matched -/
def NI (h : His) (n tm vt rl ls cm vo : Int) (fl : ELog) (mt : Int → Int) : Prop :=
  (LogOK h fl ls tm) ∧
  (0 ≤ tm) ∧
  (∀ T, h.el T → h.ld T = n → T ≤ tm) ∧
  (∀ U, h.vf U n ≠ -1 → U ≤ tm ∧ (U = tm → h.vf U n = vt)) ∧
  (vt ≠ -1 → h.vf tm n = vt) ∧
  (∀ T, 1 ≤ h.ak T n → T ≤ tm) ∧
  (∀ T m, T ≤ tm → 1 ≤ m → m ≤ h.ak T n → (∀ W, T < W → W ≤ tm → h.el W → m ≤ h.ee W ∧ Ag (h.ll W) (h.ll T) m) → m ≤ ls ∧ Ag fl (h.ll T) m) ∧
  (cm ≤ ls ∧ CmtOK h fl tm cm) ∧
  (rl = 2 → h.el tm ∧ h.ld tm = n ∧ ls = h.ln tm ∧ Ag fl (h.ll tm) ls ∧ ls ≤ h.ak tm n ∧ ∀ k, 0 ≤ k → k < 7 → mt k ≤ h.ak tm k) ∧
  (rl = 1 → h.vf tm n = n ∧ h.cl tm n = fl ∧ h.cn tm n = ls ∧ (h.el tm → h.ld tm ≠ n) ∧ LogOK h fl ls (tm - 1) ∧ ∀ p, 0 ≤ p → p < 7 → hasI vo p → h.vf tm p = n)
theorem NI.log {h : His} {n tm vt rl ls cm vo : Int} {fl : ELog} {mt : Int → Int} (self : NI h n tm vt rl ls cm vo fl mt) : LogOK h fl ls tm := self.1
theorem NI.tm0 {h : His} {n tm vt rl ls cm vo : Int} {fl : ELog} {mt : Int → Int} (self : NI h n tm vt rl ls cm vo fl mt) : 0 ≤ tm := self.2.1
theorem NI.own {h : His} {n tm vt rl ls cm vo : Int} {fl : ELog} {mt : Int → Int} (self : NI h n tm vt rl ls cm vo fl mt) : ∀ T, h.el T → h.ld T = n → T ≤ tm := self.2.2.1
theorem NI.vot {h : His} {n tm vt rl ls cm vo : Int} {fl : ELog} {mt : Int → Int} (self : NI h n tm vt rl ls cm vo fl mt) : ∀ U, h.vf U n ≠ -1 → U ≤ tm ∧ (U = tm → h.vf U n = vt) := self.2.2.2.1
theorem NI.vt1 {h : His} {n tm vt rl ls cm vo : Int} {fl : ELog} {mt : Int → Int} (self : NI h n tm vt rl ls cm vo fl mt) : vt ≠ -1 → h.vf tm n = vt := self.2.2.2.2.1
theorem NI.akt {h : His} {n tm vt rl ls cm vo : Int} {fl : ELog} {mt : Int → Int} (self : NI h n tm vt rl ls cm vo fl mt) : ∀ T, 1 ≤ h.ak T n → T ≤ tm := self.2.2.2.2.2.1
theorem NI.aki {h : His} {n tm vt rl ls cm vo : Int} {fl : ELog} {mt : Int → Int} (self : NI h n tm vt rl ls cm vo fl mt) : ∀ T m, T ≤ tm → 1 ≤ m → m ≤ h.ak T n → (∀ W, T < W → W ≤ tm → h.el W → m ≤ h.ee W ∧ Ag (h.ll W) (h.ll T) m) → m ≤ ls ∧ Ag fl (h.ll T) m := self.2.2.2.2.2.2.1
theorem NI.cmt {h : His} {n tm vt rl ls cm vo : Int} {fl : ELog} {mt : Int → Int} (self : NI h n tm vt rl ls cm vo fl mt) : cm ≤ ls ∧ CmtOK h fl tm cm := self.2.2.2.2.2.2.2.1
theorem NI.led {h : His} {n tm vt rl ls cm vo : Int} {fl : ELog} {mt : Int → Int} (self : NI h n tm vt rl ls cm vo fl mt) : rl = 2 → h.el tm ∧ h.ld tm = n ∧ ls = h.ln tm ∧ Ag fl (h.ll tm) ls ∧ ls ≤ h.ak tm n ∧ ∀ k, 0 ≤ k → k < 7 → mt k ≤ h.ak tm k := self.2.2.2.2.2.2.2.2.1
theorem NI.can {h : His} {n tm vt rl ls cm vo : Int} {fl : ELog} {mt : Int → Int} (self : NI h n tm vt rl ls cm vo fl mt) : rl = 1 → h.vf tm n = n ∧ h.cl tm n = fl ∧ h.cn tm n = ls ∧ (h.el tm → h.ld tm ≠ n) ∧ LogOK h fl ls (tm - 1) ∧ ∀ p, 0 ≤ p → p < 7 → hasI vo p → h.vf tm p = n := self.2.2.2.2.2.2.2.2.2
/-- another node acts: what this one's invariant needs -/
theorem NI.gr {h h' : His} (H : HI h) (g : Gr h h') {n tm vt rl ls cm vo : Int} {fl : ELog} {mt : Int → Int} (hn : 0 ≤ n) (ha : ∀ T, h'.ak T n = h.ak T n) (hf : ∀ U, h'.vf U n = h.vf U n)
    (hd : ∀ T, h'.el T → h'.ld T = n → h.el T) (hl : ∀ T, h.el T → h.ld T = n → h'.ln T = h.ln T) (I : NI h n tm vt rl ls cm vo fl mt) : NI h' n tm vt rl ls cm vo fl mt := by
  refine ⟨I.log.gr g, I.tm0, fun T a b => ?_, fun U a => ?_, fun a => ?_, fun T a => ?_, fun T m a b c d => ?_, ⟨I.cmt.1, I.cmt.2.gr H g⟩, fun a => ?_, fun a => ?_⟩
  · have e := hd T a b
    exact I.own T e ((g.el T e).2.1.symm.trans b)
  · rw [hf] at a ⊢; exact I.vot U a
  · rw [hf]; exact I.vt1 a
  · rw [ha] at a; exact I.akt T a
  · rw [ha] at c
    have k := H.akb T n (by omega)
    have kg := g.el T k.1
    have := I.aki T m a b c (fun W w0 w1 w2 => by
      have q := g.el W w2
      have q2 := d W w0 w1 q.1
      have q3 := H.el1 W w2
      rw [q.2.2.1] at q2
      exact ⟨q2.1, ((q.2.2.2.2.symm.le (by omega)).trans q2.2).trans (kg.2.2.2.2.le (by omega))⟩)
    exact ⟨this.1, this.2.trans (kg.2.2.2.2.symm.le (by omega))⟩
  · obtain ⟨a1, a2, a3, a4, a5, a6⟩ := I.led a
    have q := g.el tm a1
    refine ⟨q.1, q.2.1.trans a2, ?_, a4.trans (q.2.2.2.2.symm.le (by omega)), by rw [ha]; exact a5, fun k k0 k1 => Int.le_trans (a6 k k0 k1) (g.ak tm k)⟩
    rw [hl tm a1 a2]; exact a3
  · obtain ⟨a1, a2, a3, a4, a5, a6⟩ := I.can a
    have c := g.cl tm n hn a1
    refine ⟨by rw [hf]; exact a1, c.1.trans a2, c.2.trans a3, fun b e => ?_, a5.gr g, fun p p0 p1 p2 => ?_⟩
    · have q := hd tm b e
      exact a4 q ((g.el tm q).2.1.symm.trans e)
    · have := a6 p p0 p1 p2
      exact (g.vf tm p (by omega)).1.trans this
section
variable {h : His} {n tm vt rl ls cm vo : Int} {fl : ELog} {mt : Int → Int}
/-- a later term comes -/
theorem NI.rise (I : NI h n tm vt rl ls cm vo fl mt) {T : Int} (hT : tm < T) : NI h n T (-1) 0 ls cm vo fl mt := by
  refine ⟨I.log.up (by omega), by have := I.tm0; omega, fun W a b => by have := I.own W a b; omega, fun U a => ?_, fun a => absurd rfl a, fun W a => by have := I.akt W a; omega, fun W m a b c d => ?_, ⟨I.cmt.1, I.cmt.2.up (by omega)⟩, fun a => by omega, fun a => by omega⟩
  · have := I.vot U a
    exact ⟨by omega, fun e => by omega⟩
  · have := I.akt W (by omega)
    exact I.aki W m this b c (fun V v0 v1 v2 => d V v0 (by omega) v2)
/-- the node is a follower now; its votes are of no account -/
theorem NI.foll (I : NI h n tm vt rl ls cm vo fl mt) {vo' : Int} {mt' : Int → Int} : NI h n tm vt 0 ls cm vo' fl mt' :=
  ⟨I.log, I.tm0, I.own, I.vot, I.vt1, I.akt, I.aki, I.cmt, fun a => by omega, fun a => by omega⟩
/-- votes and matches are of no account but to candidates and leaders -/
theorem NI.nomt (I : NI h n tm vt rl ls cm vo fl mt) {mt' : Int → Int} (hr : rl ≠ 2) : NI h n tm vt rl ls cm vo fl mt' :=
  ⟨I.log, I.tm0, I.own, I.vot, I.vt1, I.akt, I.aki, I.cmt, fun a => absurd a hr, I.can⟩
theorem NI.novo (I : NI h n tm vt rl ls cm vo fl mt) {vo' : Int} (hr : rl ≠ 1) : NI h n tm vt rl ls cm vo' fl mt :=
  ⟨I.log, I.tm0, I.own, I.vot, I.vt1, I.akt, I.aki, I.cmt, I.led, fun a => absurd a hr⟩
/-- the commit falls back -/
theorem NI.back (I : NI h n tm vt rl ls cm vo fl mt) {c : Int} (hc : c ≤ cm) : NI h n tm vt rl ls c vo fl mt :=
  ⟨I.log, I.tm0, I.own, I.vot, I.vt1, I.akt, I.aki, ⟨by have := I.cmt.1; omega, I.cmt.2.le hc⟩, I.led, I.can⟩
/-- a row of matches -/
theorem NI.match (I : NI h n tm vt rl ls cm vo fl mt) {mt' : Int → Int} (hm : rl = 2 → ∀ k, 0 ≤ k → k < 7 → mt' k ≤ mt k ∨ mt' k ≤ h.ak tm k) : NI h n tm vt rl ls cm vo fl mt' := by
  refine ⟨I.log, I.tm0, I.own, I.vot, I.vt1, I.akt, I.aki, I.cmt, fun a => ?_, I.can⟩
  obtain ⟨a1, a2, a3, a4, a5, a6⟩ := I.led a
  exact ⟨a1, a2, a3, a4, a5, fun k k0 k1 => by have := a6 k k0 k1; have := hm a k k0 k1; omega⟩
/-- a log is as good as one that agrees with it -/
theorem NI.ag (I : NI h n tm vt rl ls cm vo fl mt) {fl' : ELog} (hr : rl ≠ 1) (a : Ag fl' fl ls) : NI h n tm vt rl ls cm vo fl' mt := by
  refine ⟨I.log.ag a, I.tm0, I.own, I.vot, I.vt1, I.akt, fun T m b c d e => ?_, ⟨I.cmt.1, I.cmt.2.ag (a.le I.cmt.1)⟩, fun b => ?_, fun b => absurd b hr⟩
  · have := I.aki T m b c d e
    exact ⟨this.1, (a.le this.1).trans this.2⟩
  · obtain ⟨a1, a2, a3, a4, a5, a6⟩ := I.led b
    exact ⟨a1, a2, a3, a.trans a4, a5, a6⟩
theorem utd_refl {f : ELog} {n : Int} : Utd f n f n := Or.inr ⟨rfl, Int.le_refl _⟩
/-- a vote for c in the node's own term, by the node -/
theorem NI.vote_gr (I : NI h n tm vt rl ls cm vo fl mt) {c : Int} {f : ELog} {m : Int} (h0 : h.vf tm n = -1) (hr : rl ≠ 1) (hn : 0 ≤ n) (hn9 : 0 ≤ c) (H : HI h) : NI (h.vote tm n c f m) n tm c rl ls cm vo fl mt := by
  have g : Gr h (h.vote tm n c f m) := Gr.vote h0
  refine ⟨I.log.gr g, I.tm0, I.own, fun U a => ?_, fun a => if_pos ⟨rfl, rfl⟩, I.akt, I.aki, I.cmt, I.led, fun a => absurd a hr⟩
  have a : (if U = tm ∧ n = n then c else h.vf U n) ≠ -1 := a
  show U ≤ tm ∧ (U = tm → (if U = tm ∧ n = n then c else h.vf U n) = c)
  by_cases e : U = tm
  · exact ⟨by omega, fun _ => if_pos ⟨e, rfl⟩⟩
  · rw [if_neg (fun q => e q.1)] at a
    exact ⟨(I.vot U a).1, fun q => absurd q e⟩
/-- the node may vote: what the history needs -/
theorem NI.vote_hi (I : NI h n tm vt rl ls cm vo fl mt) (H : HI h) {c : Int} (h0 : h.vf tm n = -1) (hc0 : 0 ≤ c) (hcc : n = c ∨ h.vf tm c = c) (hu : Utd (h.cl tm c) (h.cn tm c) fl ls) : HI (h.vote tm n c fl ls) :=
  H.vote h0 I.log hc0 hcc hu (fun T m a b c d => I.aki T m (by omega) b c d)
/-- the node stands: it votes for itself in the next term -/
def His.stand (h : His) (U n : Int) (f : ELog) (m : Int) : His := (h.cand U n f m).vote U n n f m
theorem NI.stand_vf (I : NI h n tm vt rl ls cm vo fl mt) : h.vf (tm + 1) n = -1 := by
  apply Classical.byContradiction
  intro hn
  have := (I.vot _ hn).1
  omega
theorem Gr.stand {U n : Int} {f : ELog} {m : Int} (h0 : h.vf U n = -1) : Gr h (h.stand U n f m) := (Gr.cand h0).trans (Gr.vote (h := h.cand U n f m) h0)
theorem NI.stand_hi (I : NI h n tm vt rl ls cm vo fl mt) (H : HI h) (hn : 0 ≤ n) : HI (h.stand (tm + 1) n fl ls) := by
  have h0 := I.stand_vf
  have q1 : (h.cand (tm + 1) n fl ls).cl (tm + 1) n = fl := if_pos ⟨rfl, rfl⟩
  have q2 : (h.cand (tm + 1) n fl ls).cn (tm + 1) n = ls := if_pos ⟨rfl, rfl⟩
  refine HI.vote (H.cand h0) (h := h.cand (tm + 1) n fl ls) h0 ?_ hn (Or.inl rfl) (by rw [q1, q2]; exact utd_refl) ?_
  · exact I.log.up (by omega)
  · intro T m a b c d
    exact (I.rise (T := tm + 1) (by omega)).aki T m (by omega) b c d
theorem NI.stand (I : NI h n tm vt rl ls cm vo fl mt) (H : HI h) (hn : 0 ≤ n) {vo' : Int} (hv : ∀ p, 0 ≤ p → p < 7 → hasI vo' p → p = n) : NI (h.stand (tm + 1) n fl ls) n (tm + 1) n 1 ls cm vo' fl mt := by
  have h0 := I.stand_vf
  have R := I.rise (T := tm + 1) (by omega)
  have g : Gr h (h.stand (tm + 1) n fl ls) := Gr.stand h0
  have qf : ∀ U, (h.stand (tm + 1) n fl ls).vf U n = if U = tm + 1 ∧ n = n then n else h.vf U n := fun _ => rfl
  refine ⟨I.log.gr g |>.up (by omega), R.tm0, R.own, fun U a => ?_, fun _ => if_pos ⟨rfl, rfl⟩, R.akt, R.aki, R.cmt, fun a => by omega, fun _ => ⟨if_pos ⟨rfl, rfl⟩, if_pos ⟨rfl, rfl⟩, if_pos ⟨rfl, rfl⟩, fun a b => ?_, (I.log.gr g).up (by omega), fun p p0 p1 p2 => ?_⟩⟩
  · rw [qf] at a ⊢
    by_cases e : U = tm + 1
    · exact ⟨by omega, fun _ => if_pos ⟨e, rfl⟩⟩
    · rw [if_neg (fun q => e q.1)] at a
      exact ⟨by have := (I.vot U a).1; omega, fun q => absurd q e⟩
  · have := I.own (tm + 1) a b
    omega
  · rw [hv p p0 p1 p2]
    exact if_pos ⟨rfl, rfl⟩
/-- a vote is counted -/
theorem NI.count (I : NI h n tm vt rl ls cm vo fl mt) {p vo' : Int} (hp : h.vf tm p = n) (hv : ∀ q, 0 ≤ q → q < 7 → hasI vo' q → hasI vo q ∨ q = p) : NI h n tm vt rl ls cm vo' fl mt := by
  refine ⟨I.log, I.tm0, I.own, I.vot, I.vt1, I.akt, I.aki, I.cmt, I.led, fun a => ?_⟩
  obtain ⟨a1, a2, a3, a4, a5, a6⟩ := I.can a
  refine ⟨a1, a2, a3, a4, a5, fun q q0 q1 q2 => ?_⟩
  rcases hv q q0 q1 q2 with e | e
  · exact a6 q q0 q1 e
  · rw [e]; exact hp
/-- a candidate with a majority: its term has no leader -/
theorem NI.free (I : NI h n tm vt rl ls cm vo fl mt) (H : HI h) (hn : 0 ≤ n) (hr : rl = 1) {i : Int} (hi : LastC fl ls i) (hs : Mj vo (fl i)) : ¬ h.el tm := by
  intro hU
  obtain ⟨a1, a2, a3, a4, a5, a6⟩ := I.can hr
  obtain ⟨v, v0, v1, v2, v3⟩ := one_winner H hU a5 hi hs (fun v v0 v1 v2 => by
    have b := a6 v v0 v1 v2
    have := H.utd tm v n hn b
    rw [a2, a3] at this
    exact ⟨by omega, this.2⟩)
  have := a6 v v0 v1 v2
  exact a4 hU (v3.symm.trans this)
theorem NI.elect_hi (I : NI h n tm vt rl ls cm vo fl mt) (H : HI h) (hn : 0 ≤ n) (hr : rl = 1) {i : Int} (hi : LastC fl ls i) (hs : Mj vo (fl i)) (h1 : 1 ≤ tm) : HI (h.elect tm n fl ls) := by
  obtain ⟨a1, a2, a3, a4, a5, a6⟩ := I.can hr
  refine H.elect (I.free H hn hr hi hs) h1 a5 (by omega) hi hs (fun v v0 v1 v2 => ?_) (fun U a => (I.vot U a).1)
  have b := a6 v v0 v1 v2
  have := H.utd tm v n hn b
  rw [a2, a3] at this
  exact ⟨b, this.2⟩
theorem NI.elect (I : NI h n tm vt rl ls cm vo fl mt) (H : HI h) (hn : 0 ≤ n) (hr : rl = 1) {i : Int} (hi : LastC fl ls i) (hs : Mj vo (fl i)) {mt' : Int → Int} (hm : ∀ k, 0 ≤ k → k < 7 → mt' k ≤ 0) : NI (h.elect tm n fl ls) n tm vt 2 ls cm vo fl mt' := by
  obtain ⟨a1, a2, a3, a4, a5, a6⟩ := I.can hr
  have hU := I.free H hn hr hi hs
  have g : Gr h (h.elect tm n fl ls) := Gr.elect H hU I.log.2.1
  have qa : ∀ T, (h.elect tm n fl ls).ak T n = if T = tm ∧ n = n then ls else h.ak T n := fun _ => rfl
  have ne : ∀ W, h.el W → W ≠ tm := fun W a b => hU (b ▸ a)
  have ql : (h.elect tm n fl ls).ll tm = fl := if_pos rfl
  have qn : (h.elect tm n fl ls).ln tm = ls := if_pos rfl
  refine ⟨I.log.gr g, I.tm0, fun T a b => ?_, I.vot, I.vt1, fun T a => ?_, fun T m a b c d => ?_, ⟨I.cmt.1, I.cmt.2.gr H g⟩, fun _ => ⟨Or.inl rfl, if_pos rfl, qn.symm, by rw [ql]; exact Ag.rfl, ?_, fun k k0 k1 => ?_⟩, fun a => by omega⟩
  · rcases a with a | a
    · omega
    · exact I.own T a ((g.el T a).2.1.symm.trans b)
  · rw [qa] at a
    by_cases e : T = tm
    · omega
    · rw [if_neg (fun q => e q.1)] at a
      exact I.akt T a
  · rw [qa] at c
    by_cases e : T = tm
    · rw [if_pos ⟨e, rfl⟩] at c
      subst e
      rw [ql]
      exact ⟨c, Ag.rfl⟩
    · rw [if_neg (fun q => e q.1)] at c
      have k := H.akb T n (by omega)
      have e1 : (h.elect tm n fl ls).ll T = h.ll T := if_neg e
      rw [e1]
      refine I.aki T m a b c (fun W w0 w1 w2 => ?_)
      have := d W w0 w1 (Or.inr w2)
      have e2 : (h.elect tm n fl ls).ll W = h.ll W := if_neg (ne W w2)
      have e3 : (h.elect tm n fl ls).ee W = h.ee W := if_neg (ne W w2)
      rw [e1, e2, e3] at this
      exact this
  · rw [qa, if_pos ⟨rfl, rfl⟩]; exact Int.le_refl _
  · exact Int.le_trans (hm k k0 k1) (Int.le_trans (H.akn tm k) (g.ak tm k))
/-- the configuration a leader may lay -/
theorem NI.lay_hi (I : NI h n tm vt rl ls cm vo fl mt) (H : HI h) (hr : rl = 2) {e : Ent} (h1 : e.t = tm) (h2 : EOK e) (hc : e.k = 1 → ∃ p, LastC fl ls p ∧ p ≤ cm ∧ Suc (fl p) e) : HI (h.lay tm n e) := by
  obtain ⟨a1, a2, a3, a4, a5, a6⟩ := I.led hr
  refine H.lay a1 h1 h2 (fun U a => (I.vot U a).1) (fun k => ?_)
  obtain ⟨p, p1, p2, p3⟩ := hc k
  have p0 := p1.1
  have p9 := p1.2.1
  refine ⟨p, ?_, by rw [← a4 p p0 p9]; exact p3, ?_⟩
  · rw [← a3]
    exact p1.mono p9 (Int.le_refl _) a4
  · rcases I.cmt.2 with l | ⟨T, m, len, l1, l2, l3, l4⟩
    · exact Or.inl (by omega)
    · obtain ⟨b1, b2, b3, b4, b5, _⟩ := H.ev1 T m len l1
      refine Or.inr ⟨T, m, len, l1, by omega, ?_⟩
      by_cases c : T = tm
      · subst c; exact Or.inr ⟨rfl, by omega⟩
      · exact Or.inl (by omega)
theorem NI.lay (I : NI h n tm vt rl ls cm vo fl mt) (H : HI h) (hr : rl = 2) {e : Ent} (h1 : e.t = tm) {fl' : ELog} (hf : Ag fl' fl ls) (he : fl' (ls + 1) = e) : NI (h.lay tm n e) n tm vt rl (ls + 1) cm vo fl' mt := by
  obtain ⟨a1, a2, a3, a4, a5, a6⟩ := I.led hr
  have g : Gr h (h.lay tm n e) := Gr.lay H a1
  have qn : (h.lay tm n e).ln tm = h.ln tm + 1 := if_pos rfl
  have qa : ∀ T, (h.lay tm n e).ak T n = if T = tm ∧ n = n then h.ln tm + 1 else h.ak T n := fun _ => rfl
  have qe : (h.lay tm n e).ll tm (ls + 1) = e := by
    show (if tm = tm then (fun i => if i = h.ln tm + 1 then e else h.ll tm i) else h.ll tm) _ = _
    rw [if_pos rfl]
    exact if_pos (by omega)
  have hag : Ag fl' ((h.lay tm n e).ll tm) (ls + 1) := by
    intro i i0 i1
    by_cases c : i = ls + 1
    · rw [c, he, qe]
    · rw [hf i i0 (by omega), a4 i i0 (by omega), lay_ag tm i i0 (by omega)]
  have hl : LogOK (h.lay tm n e) fl' ls tm := (I.log.gr g).ag hf
  have hls := I.log.2.1
  refine ⟨⟨hl.1, by omega, fun i i0 i1 => ?_⟩, I.tm0, I.own, I.vot, I.vt1, fun T a => ?_, fun T m a b c d => ?_, ⟨by have := I.cmt.1; omega, ((I.cmt.2.ag (hf.le I.cmt.1)).gr H g)⟩, fun _ => ⟨a1, a2, by omega, hag, by rw [qa, if_pos ⟨rfl, rfl⟩]; omega, fun k k0 k1 => Int.le_trans (a6 k k0 k1) (g.ak tm k)⟩, fun a => by omega⟩
  · by_cases c : i = ls + 1
    · rw [c, he, h1]
      have t1 := (H.el1 tm a1).1
      exact ⟨t1, Int.le_refl _, a1, by omega, hag⟩
    · exact hl.2.2 i i0 (by omega)
  · rw [qa] at a
    by_cases e' : T = tm
    · omega
    · rw [if_neg (fun q => e' q.1)] at a
      exact I.akt T a
  · rw [qa] at c
    by_cases e' : T = tm
    · rw [if_pos ⟨e', rfl⟩] at c
      subst e'
      exact ⟨by omega, hag.le (by omega)⟩
    · rw [if_neg (fun q => e' q.1)] at c
      obtain ⟨k1, k2⟩ := H.akb T n (by omega)
      have := I.aki T m a b c (fun W w0 w1 w2 => by
        have q := d W w0 w1 w2
        have h3 := (H.el1 W w2)
        exact ⟨q.1, (((lay_ag W).symm.le (Int.le_trans q.1 h3.2.2.1)).trans q.2).trans ((lay_ag T).le (by omega))⟩)
      exact ⟨by omega, ((hf.le this.1).trans this.2).trans ((lay_ag T).symm.le (by omega))⟩
/-- a leader holds an index of its own term -/
theorem NI.hold_hi (I : NI h n tm vt rl ls cm vo fl mt) (H : HI h) (hr : rl = 2) {c i s : Int} (h0 : 1 ≤ c) (h1 : c ≤ ls) (ht : (fl c).t = tm) (hi : LastC fl ls i) (hs : Mj s (fl i)) (hv : ∀ p, 0 ≤ p → p < 7 → hasI s p → p = n ∨ c ≤ mt p) : HI (h.event tm c ls) := by
  obtain ⟨a1, a2, a3, a4, a5, a6⟩ := I.led hr
  refine H.event ⟨a1, h0, h1, by omega, by rw [← a4 c (by omega) h1]; exact ht, i, s, hi.mono hi.2.1 (Int.le_refl _) a4, by rw [← a4 i hi.1 hi.2.1]; exact hs, fun v v0 v1 v2 => ?_⟩
  rcases hv v v0 v1 v2 with e | e
  · rw [e]; omega
  · have := a6 v v0 v1; omega
theorem NI.hold (I : NI h n tm vt rl ls cm vo fl mt) (hr : rl = 2) {c : Int} (h1 : c ≤ ls) : NI (h.event tm c ls) n tm vt rl ls c vo fl mt := by
  obtain ⟨a1, a2, a3, a4, a5, a6⟩ := I.led hr
  exact ⟨I.log, I.tm0, I.own, I.vot, I.vt1, I.akt, I.aki, ⟨h1, Or.inr ⟨tm, c, ls, Or.inl ⟨rfl, rfl, rfl⟩, Int.le_refl _, Int.le_refl _, a4.le h1⟩⟩, fun _ => ⟨a1, a2, a3, a4, a5, a6⟩, fun a => by omega⟩
/-- a follower's commit grows -/
theorem NI.grow (I : NI h n tm vt rl ls cm vo fl mt) {c : Int} (hc : c ≤ ls) (h1 : CmtOK h fl tm c) : NI h n tm vt rl ls c vo fl mt :=
  ⟨I.log, I.tm0, I.own, I.vot, I.vt1, I.akt, I.aki, ⟨hc, h1⟩, I.led, I.can⟩
/-- a follower's log is cut before an entry that is not the leader's -/
theorem NI.cut (I : NI h n tm vt 0 ls cm vo fl mt) {r : Int} (hU : h.el tm) (h0 : 0 ≤ r) (h1 : r < ls) (h2 : r + 1 ≤ h.ln tm) (hd : (fl (r + 1)).t ≠ (h.ll tm (r + 1)).t) (hc : cm ≤ r) : NI h n tm vt 0 r cm vo fl mt := by
  refine ⟨I.log.cut h0 (by omega), I.tm0, I.own, I.vot, I.vt1, I.akt, fun T m a b c d => ?_, ⟨hc, I.cmt.2⟩, fun a => by omega, fun a => by omega⟩
  have := I.aki T m a b c d
  refine ⟨?_, this.2⟩
  apply Classical.byContradiction
  intro hn
  apply hd
  have e1 := this.2 (r + 1) (by omega) (by omega)
  by_cases e : T = tm
  · subst e; rw [e1]
  · have q := d tm (by omega) (Int.le_refl _) hU
    rw [e1, q.2 (r + 1) (by omega) (by omega)]
/-- a follower lays the leader's next entry -/
theorem NI.take (I : NI h n tm vt 0 ls cm vo fl mt) (H : HI h) (hU : h.el tm) (h2 : ls + 1 ≤ h.ln tm) (ha : Ag fl (h.ll tm) ls) {fl' : ELog} (hf : Ag fl' fl ls) (he : fl' (ls + 1) = h.ll tm (ls + 1)) : NI h n tm vt 0 (ls + 1) cm vo fl' mt := by
  obtain ⟨u1, u2, u3, u4, u5, u6⟩ := H.el1 tm hU
  have hls := I.log.2.1
  have hag : Ag fl' (h.ll tm) (ls + 1) := by
    intro i i0 i1
    by_cases c : i = ls + 1
    · rw [c, he]
    · rw [hf i i0 (by omega), ha i i0 (by omega)]
  refine ⟨(u4.cut (by omega) h2).ag hag, I.tm0, I.own, I.vot, I.vt1, I.akt, fun T m a b c d => ?_, ⟨by have := I.cmt.1; omega, I.cmt.2.ag (hf.le I.cmt.1)⟩, fun a => by omega, fun a => by omega⟩
  have := I.aki T m a b c d
  exact ⟨by omega, (hf.le this.1).trans this.2⟩
/-- an entry of the leader's term at the same index: the same up to it -/
theorem NI.same (I : NI h n tm vt rl ls cm vo fl mt) (H : HI h) (hU : h.el tm) {i : Int} (h0 : 1 ≤ i) (h1 : i ≤ ls) (h2 : i ≤ h.ln tm) (he : (fl i).t = (h.ll tm i).t) : Ag fl (h.ll tm) i := by
  obtain ⟨a1, a2, a3, a4, a5⟩ := I.log.2.2 i h0 h1
  obtain ⟨b1, b2, b3, b4, b5⟩ := (H.el1 tm hU).2.2.2.1.2.2 i h0 h2
  rw [← he] at b5
  exact a5.trans b5.symm
/-- what is held is in the log of the node's term -/
theorem NI.comm (I : NI h n tm vt rl ls cm vo fl mt) (H : HI h) (hU : h.el tm) : cm ≤ h.ln tm ∧ Ag fl (h.ll tm) cm := I.cmt.2.led H hU I.log.1
/-- a snapshot up to i: the log goes on with what fits -/
theorem NI.snap (I : NI h n tm vt 0 ls cm vo fl mt) (H : HI h) (hU : h.el tm) {i : Int} (h0 : 1 ≤ i) (h2 : i ≤ h.ln tm) (hc : CmtOK h (h.ll tm) tm i) :
    (i ≤ ls ∧ (fl i).t = (h.ll tm i).t → NI h n tm vt 0 ls i vo fl mt) ∧ (¬ (i ≤ ls ∧ (fl i).t = (h.ll tm i).t) → NI h n tm vt 0 i i vo (h.ll tm) mt) := by
  obtain ⟨u1, u2, u3, u4, u5, u6⟩ := H.el1 tm hU
  refine ⟨fun ⟨c, e⟩ => I.grow c (hc.ag (I.same H hU h0 c h2 e)), fun q => ?_⟩
  refine ⟨u4.cut (by omega) h2, I.tm0, I.own, I.vot, I.vt1, I.akt, fun T m a b c d => ?_, ⟨Int.le_refl _, hc⟩, fun a => by omega, fun a => by omega⟩
  have := I.aki T m a b c d
  have hag : Ag (h.ll tm) (h.ll T) m := by
    by_cases e : T = tm
    · subst e; exact Ag.rfl
    · exact (d tm (by omega) (Int.le_refl _) hU).2
  refine ⟨?_, hag⟩
  apply Classical.byContradiction
  intro hn
  apply q
  refine ⟨by omega, ?_⟩
  rw [this.2 i (by omega) (by omega), hag i (by omega) (by omega)]
/-- what the node has of the leader of its term, acknowledged -/
theorem NI.ack_hi (I : NI h n tm vt rl ls cm vo fl mt) (H : HI h) (hU : h.el tm) {a : Int} (h2 : a ≤ h.ln tm) : HI (h.ack tm n a) := H.ack hU h2 (fun U e => (I.vot U e).1)
theorem NI.ack (I : NI h n tm vt rl ls cm vo fl mt) {a : Int} (h1 : a ≤ ls) (hag : Ag fl (h.ll tm) a) : NI (h.ack tm n a) n tm vt rl ls cm vo fl mt := by
  have g : Gr h (h.ack tm n a) := Gr.ack
  have qa : ∀ T, (h.ack tm n a).ak T n = if T = tm ∧ n = n then max (h.ak tm n) a else h.ak T n := fun _ => rfl
  refine ⟨I.log, I.tm0, I.own, I.vot, I.vt1, fun T e => ?_, fun T m b c d e => ?_, I.cmt, fun e => ?_, I.can⟩
  · rw [qa] at e
    by_cases q : T = tm
    · omega
    · rw [if_neg (fun x => q x.1)] at e
      exact I.akt T e
  · rw [qa] at d
    by_cases q : T = tm ∧ h.ak tm n < m
    · rw [if_pos ⟨q.1, rfl⟩] at d
      rw [q.1]
      exact ⟨by omega, hag.le (by omega)⟩
    · refine I.aki T m b c ?_ e
      by_cases q2 : T = tm
      · rw [q2]; omega
      · rw [if_neg (fun x => q2 x.1)] at d
        exact d
  · obtain ⟨a1, a2, a3, a4, a5, a6⟩ := I.led e
    exact ⟨a1, a2, a3, a4, Int.le_trans a5 (g.ak tm n), fun k k0 k1 => Int.le_trans (a6 k k0 k1) (g.ak tm k)⟩
end
