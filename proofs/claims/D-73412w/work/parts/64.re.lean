/-! DEPS: rd ua -/
/-! RE: a node's place in the row and its whole log -/
def entA (g : Row) (n i : Int) : Ent := ⟨g (lpA g n i), g (lpA g n i + 1), g (lpA g n i + 2), g (lpA g n i + 3)⟩
/-- the log behind the base, and the base's term and configuration, are those of the whole log -/
def Lk (g : Row) (n : Int) (fl : ELog) : Prop :=
  (∀ i, g (244 * n + 4) < i → i ≤ g (244 * n + 4) + g (244 * n + 8) → entA g n i = fl i) ∧ g (244 * n + 5) = (fl (g (244 * n + 4))).t ∧ ∃ c, LastC fl (g (244 * n + 4)) c ∧ g (244 * n + 6) = (fl c).a ∧ g (244 * n + 7) = (fl c).b
def NB (g : Row) (h : His) (n : Int) (fl : ELog) : Prop :=
  NI h n (g (244 * n + 1)) (g (244 * n + 2)) (g (244 * n + 3)) (g (244 * n + 4) + g (244 * n + 8)) (g (244 * n + 9)) (g (244 * n + 12)) fl (fun k => g (244 * n + (38 + k))) ∧ Lk g n fl
section
variable {g g' : Row} {h : His} {n : Int} {fl : ELog}
theorem Lk_ext (he : ∀ x, 244 * n + 4 ≤ x → x < 244 * n + 244 → (x < 244 * n + 9 ∨ 244 * n + 52 ≤ x) → g' x = g x) (h8 : 0 ≤ n ∧ 0 ≤ g (244 * n + 4) ∧ g (244 * n + 8) ≤ 48) (l : Lk g n fl) : Lk g' n fl := by
  obtain ⟨l1, l2, l3⟩ := l
  unfold Lk
  rw [he (244 * n + 4) (by omega) (by omega) (by omega), he (244 * n + 5) (by omega) (by omega) (by omega), he (244 * n + 6) (by omega) (by omega) (by omega), he (244 * n + 7) (by omega) (by omega) (by omega), he (244 * n + 8) (by omega) (by omega) (by omega)]
  refine ⟨fun i a b => ?_, l2, l3⟩
  rw [← l1 i a b]
  unfold entA
  simp only [lpA, the]
  rw [he (244 * n + 4) (by omega) (by omega) (by omega), he _ (by omega) (by omega) (by omega), he _ (by omega) (by omega) (by omega), he _ (by omega) (by omega) (by omega), he _ (by omega) (by omega) (by omega)]
theorem Lk.term (l : Lk g n fl) {i : Int} (a : g (244 * n + 4) ≤ i) (b : i ≤ g (244 * n + 4) + g (244 * n + 8)) : termA g n i = (fl i).t := by
  unfold termA
  simp only [the]
  split
  · rename_i c
    rw [c]; exact l.2.1
  · rw [← l.1 i (by omega) b]; rfl
theorem Lk.kind (l : Lk g n fl) {i : Int} (a : g (244 * n + 4) < i) (b : i ≤ g (244 * n + 4) + g (244 * n + 8)) : g (lpA g n i + 1) = (fl i).k := by
  rw [← l.1 i a b]; rfl
/-- the last configuration up to an index -/
theorem Lk.cfg (l : Lk g n fl) {up : Int} (a : g (244 * n + 4) ≤ up) (b : up ≤ g (244 * n + 4) + g (244 * n + 8)) :
    ∃ c, LastC fl up c ∧ c ≤ cfgA g n up ∧ (if cfgA g n up = g (244 * n + 4) then g (244 * n + 6) else g (lpA g n (cfgA g n up) + 2)) = (fl c).a ∧ (if cfgA g n up = g (244 * n + 4) then g (244 * n + 7) else g (lpA g n (cfgA g n up) + 3)) = (fl c).b := by
  have h1 := cfgA_le g n up a
  have h2 := cfgA_is g n up a
  have h3 := fun j => cfgA_max (g := g) (n := n) (up := up) (j := j) a
  obtain ⟨l1, l2, c, c1, c2, c3⟩ := l
  by_cases e : cfgA g n up = g (244 * n + 4)
  · refine ⟨c, ⟨c1.1, by have := c1.2.1; omega, c1.2.2.1, fun j j0 j1 => ?_⟩, by rw [e]; exact c1.2.1, by rw [if_pos e]; exact c2, by rw [if_pos e]; exact c3⟩
    by_cases q : j ≤ g (244 * n + 4)
    · exact c1.2.2.2 j j0 q
    · have := h3 j (by omega) j1
      rw [Lk.kind ⟨l1, l2, c, c1, c2, c3⟩ (by omega) (by omega)] at this
      exact this
  · have hk : g (244 * n + 4) < cfgA g n up ∧ g (lpA g n (cfgA g n up) + 1) = 1 := by
      rcases h2 with h2 | h2
      · exact absurd h2 e
      · exact h2
    have hl : Lk g n fl := ⟨l1, l2, c, c1, c2, c3⟩
    have c0 := c1.1
    have c9 := c1.2.1
    refine ⟨cfgA g n up, ⟨by omega, h1.2, ?_, fun j j0 j1 => ?_⟩, Int.le_refl _, ?_, ?_⟩
    · rw [← hl.kind hk.1 (by omega)]; exact hk.2
    · have := h3 j j0 j1
      rw [hl.kind (by omega) (by omega)] at this
      exact this
    · rw [if_neg e, ← l1 _ hk.1 (by omega)]; rfl
    · rw [if_neg e, ← l1 _ hk.1 (by omega)]; rfl
theorem Lk.conf (l : Lk g n fl) (hn : 0 ≤ g (244 * n + 8)) : ∃ c, LastC fl (g (244 * n + 4) + g (244 * n + 8)) c ∧ oldA g n = (fl c).a ∧ newA g n = (fl c).b ∧ c ≤ cfgA g n (g (244 * n + 4) + g (244 * n + 8)) := by
  obtain ⟨c, c1, c2, c3, c4⟩ := l.cfg (up := g (244 * n + 4) + g (244 * n + 8)) (by omega) (Int.le_refl _)
  exact ⟨c, c1, c3, c4, c2⟩
theorem most_iff {s : Int} {c : Ent} (h1 : oldA g n = c.a) (h2 : newA g n = c.b) : mostA g n s ↔ Mj s c := by
  unfold mostA Mj Qm
  rw [h1, h2]
/-- compacting -/
theorem Lk.comp (l : Lk g n fl) (hL : LgA g n) : Lk (compG g n) n fl := by
  have hL' := hL
  obtain ⟨⟨_, _, _, _, _, _, _, _, _, _, _, _, _, _⟩, hE⟩ := hL
  obtain ⟨c, c1, c2, c3, c4⟩ := l.cfg (up := g (244 * n + 9)) (by omega) (by omega)
  unfold Lk
  rw [compG_4, compG_5, compG_6, compG_7, compG_8]
  refine ⟨fun i a b => ?_, l.term (by omega) (by omega), c, c1, c3, c4⟩
  rw [← l.1 i (by omega) (by omega)]
  unfold entA
  simp only [lpA, the]
  have e0 := compG_ent (g := g) (n := n) (i := i) (w := 0) hL' (by omega) (by omega) (by omega) (by omega)
  rw [Int.add_zero, Int.add_zero] at e0
  rw [compG_4, e0, compG_ent hL' (by omega) (by omega) (by omega) (by omega), compG_ent hL' (by omega) (by omega) (by omega) (by omega), compG_ent hL' (by omega) (by omega) (by omega) (by omega)]
/-- the log with one entry more -/
def app (fl : ELog) (i : Int) (e : Ent) : ELog := fun j => if j = i then e else fl j
theorem app_ag {fl : ELog} {i : Int} {e : Ent} : Ag (app fl (i + 1) e) fl i := fun j _ b => if_neg (by omega)
theorem app_at {fl : ELog} {i : Int} {e : Ent} : app fl i e i = e := if_pos rfl
theorem LastC.ag {f f' : ELog} {n i : Int} (l : LastC f n i) (a : Ag f' f n) : LastC f' n i := l.mono l.2.1 (Int.le_refl _) a.symm
theorem Lk.ag (l : Lk g n fl) {fl' : ELog} (h4 : 0 ≤ g (244 * n + 4)) (h8 : 0 ≤ g (244 * n + 8)) (a : Ag fl' fl (g (244 * n + 4) + g (244 * n + 8))) : Lk g n fl' := by
  obtain ⟨l1, l2, c, c1, c2, c3⟩ := l
  have c0 := c1.1
  have c9 := c1.2.1
  refine ⟨fun i b d => ?_, ?_, c, c1.ag (a.le (by omega)), ?_, ?_⟩
  · rw [a i (by omega) d]; exact l1 i b d
  · rw [a _ (by omega) (by omega)]; exact l2
  · rw [a c c0 (by omega)]; exact c2
  · rw [a c c0 (by omega)]; exact c3
theorem Lk.lay (l : Lk g n fl) (hL : LgA g n) {e : Ent} (hm : g (244 * n + 8) < 48) : Lk (lay0 g n e.t e.k e.a e.b) n (app fl (g (244 * n + 4) + g (244 * n + 8) + 1) e) := by
  obtain ⟨⟨_, _, _, _, _, _, _, _, _, _, _, _, _, _⟩, hE⟩ := hL
  have l' := l.ag (by omega) (by omega) (app_ag (e := e))
  have o := fun x a b => lay0_ne (g := g) (n := n) (t := e.t) (k := e.k) (a := e.a) (b := e.b) (x := x) a b
  unfold Lk
  rw [lay0_8, o (244 * n + 4) (by omega) (by omega), o (244 * n + 5) (by omega) (by omega), o (244 * n + 6) (by omega) (by omega), o (244 * n + 7) (by omega) (by omega)]
  refine ⟨fun i a b => ?_, l'.2⟩
  unfold entA
  simp only [lpA, the]
  rw [o (244 * n + 4) (by omega) (by omega)]
  by_cases c : i = g (244 * n + 4) + g (244 * n + 8) + 1
  · rw [c, app_at]
    have e0 := fun w a b => lay0_ent (g := g) (n := n) (t := e.t) (k := e.k) (a := e.a) (b := e.b) (w := w) (by omega) a b
    have e00 := e0 0 (by omega) (by omega)
    rw [Int.add_zero] at e00
    rw [show 244 * n + 52 + 4 * (g (244 * n + 4) + g (244 * n + 8) + 1 - g (244 * n + 4) - 1) = 244 * n + 52 + 4 * g (244 * n + 8) by omega, e00, e0 1 (by omega) (by omega), e0 2 (by omega) (by omega), e0 3 (by omega) (by omega)]
    rfl
  · rw [← l'.1 i a (by omega), o _ (by omega) (by omega), o _ (by omega) (by omega), o _ (by omega) (by omega), o _ (by omega) (by omega)]
    rfl
/-- the log is shorter -/
theorem Lk.cut (l : Lk g n fl) {m : Int} (h0 : m ≤ g (244 * n + 8)) (o : ∀ x, 244 * n + 4 ≤ x → (x < 244 * n + 8 ∨ 244 * n + 52 ≤ x) → x < 244 * n + 52 + 4 * m → g' x = g x) (hm : 0 ≤ m) (h8 : g' (244 * n + 8) = m) (h4 : 0 ≤ g (244 * n + 4)) : Lk g' n fl := by
  unfold Lk
  rw [h8, o (244 * n + 4) (by omega) (by omega) (by omega), o (244 * n + 5) (by omega) (by omega) (by omega), o (244 * n + 6) (by omega) (by omega) (by omega), o (244 * n + 7) (by omega) (by omega) (by omega)]
  refine ⟨fun i a b => ?_, l.2⟩
  rw [← l.1 i a (by omega)]
  unfold entA
  simp only [lpA, the]
  rw [o (244 * n + 4) (by omega) (by omega) (by omega), o _ (by omega) (by omega) (by omega), o _ (by omega) (by omega) (by omega), o _ (by omega) (by omega) (by omega), o _ (by omega) (by omega) (by omega)]
end
