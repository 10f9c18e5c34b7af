/-! DEPS: yq -/
/-! YR: TermLog's conditions as objects -/
def cN (x : Option Bool) : Int32 := match x with
  | some true => iI 1
  | some false => iI 0
  | none => iI 2
noncomputable def EvC (d : Nat) (a : Option Nat) (σ : Mem) : Option (Int32 × Mem) := if kdO σ a = 10 then (gX13_holds d).1 a (some 1) σ else if kdO σ a = 11 then (gX13_holds d).2 a (some 1) σ else if kdO σ a = 12 then sX15_holds a (some 1) σ else none
def CndD (k lo : Nat) (σ : Mem) (a : Nat) (e : CndV) : Prop := 3799 ≤ lo ∧ lo ≤ a ∧ a < mZ σ ∧ (((mK σ a).1 = 10 ∨ (mK σ a).1 = 11 ∨ (mK σ a).1 = 12)) ∧ ∀ d, k ≤ d → ∀ σ' F, Agm lo σ σ' → FcM σ' F → ∃ z, EvC d (some a) σ' = some (cN (e F), mo z σ')
theorem CndD.up {k lo : Nat} {σ σ' : Mem} {a : Nat} {e : CndV} (h : CndD k lo σ a e) (g : Agm lo σ σ') (hz : mZ σ ≤ mZ σ') : CndD k lo σ' a e := by
  obtain ⟨h0, h1, h2, h3, h4⟩ := h
  refine ⟨h0, h1, by omega, by rw [(g a h1 h2).1]; exact h3, fun d hd σ'' F ag fc => h4 d hd σ'' F (g.trans hz ag) fc⟩
theorem CndD.lo {k lo lo' k' : Nat} {σ : Mem} {a : Nat} {e : CndV} (h : CndD k lo σ a e) (h0 : 3799 ≤ lo') (hl : lo' ≤ lo) (hk : k ≤ k') : CndD k' lo' σ a e := by
  obtain ⟨h0', h1, h2, h3, h4⟩ := h
  exact ⟨h0, by omega, h2, h3, fun d hd σ' F ag fc => h4 d (by omega) σ' F (ag.dn hl) fc⟩
theorem cN_1 {x : Option Bool} : (cN x = iI 1) ↔ x = some true := by
  cases x with
  | none => exact ⟨fun h => absurd h (by decide), fun h => by cases h⟩
  | some b => cases b with
    | true => exact ⟨fun _ => rfl, fun _ => rfl⟩
    | false => exact ⟨fun h => absurd h (by decide), fun h => by cases h⟩
/-- a compare's signs -/
theorem hold77 {t : Int32} {σ : Mem} (h1 : (mK σ 1).1 = 1) : sX15_holds_77 (some 1) t σ = some (if mI σ 1 0 = iI 0 then (if t = iI 0 then iI 0 else iI 1) else iI 2, σ) := by
  unfold sX15_holds_77
  rw [gI_y h1]
  by_cases c : mI σ 1 0 = iI 0
  · rw [if_pos c, if_pos c]
    split <;> rfl
  · rw [if_neg c, if_neg c]
theorem cnd_cmp {lo k : Nat} {σ : Mem} {a p1 p2 : Nat} {e1 e2 : SumV} {c : Int} (s1 : SumD k lo σ p1 e1) (s2 : SumD k lo σ p2 e2) (h1 : lo ≤ a) (h2 : a < mZ σ) (hk : (mK σ a).1 = 12) (q1 : mP σ a 0 = some p1) (q2 : mP σ a 1 = some p2) (q3 : mI σ a 2 = iI c) (hc : cmpA c ≠ -1) (k40 : k ≤ 40) : CndD 0 lo σ a (cmpV (cmpA c) e1 e2) := by
  obtain ⟨p0, u1, u2, u3, u4⟩ := s1
  obtain ⟨_, v1, v2, v3, v4⟩ := s2
  refine ⟨p0, h1, h2, by omega, fun d hd σ' F ag fc => ?_⟩
  obtain ⟨x, y, w⟩ := ag a h1 h2
  have hk' : (mK σ' a).1 = 12 := by rw [x]; exact hk
  have cq : c = 60 ∨ c = 62 ∨ c = 61 := by unfold cmpA at hc; omega
  have a1 := u4 40 k40 (mo (iI 0) σ') F (ag.mo (by omega) _) (fc.mo _)
  obtain ⟨x1, z1, E1, V1⟩ : ∃ x1 z1, EvS 40 (some p1) (mo (iI 0) σ') = some (x1, mo z1 σ') ∧ (e1 F = some x1 ∧ z1 = iI 0 ∨ e1 F = none ∧ z1 = iI 1) := by
    unfold OutS at a1
    cases ee : e1 F with
    | none => rw [ee] at a1; obtain ⟨v, a1⟩ := a1; exact ⟨v, iI 1, by rw [a1, mo_mo], Or.inr ⟨rfl, rfl⟩⟩
    | some v => rw [ee] at a1; exact ⟨v, iI 0, a1, Or.inl ⟨rfl, rfl⟩⟩
  have a2 := v4 40 k40 (mo z1 σ') F (ag.mo (by omega) _) (fc.mo _)
  obtain ⟨x2, z2, E2, V2⟩ : ∃ x2 z2, EvS 40 (some p2) (mo z1 σ') = some (x2, mo z2 σ') ∧ (e2 F = some x2 ∧ z2 = z1 ∨ e2 F = none ∧ z2 = iI 1) := by
    unfold OutS at a2
    cases ee : e2 F with
    | none => rw [ee] at a2; obtain ⟨v, a2⟩ := a2; exact ⟨v, iI 1, by rw [a2, mo_mo], Or.inr ⟨rfl, rfl⟩⟩
    | some v => rw [ee] at a2; exact ⟨v, z1, a2, Or.inl ⟨rfl, rfl⟩⟩
  refine ⟨z2, ?_⟩
  have e0 : EvC d (some a) σ' = sX15_holds (some a) (some 1) σ' := by
    unfold EvC
    rw [kd_y, if_neg (by omega), if_neg (by omega), if_pos hk']
  rw [e0]
  have kk : ∀ z, (mK (mo z σ') a).1 = 12 := fun z => hk'
  have ha1 : ¬ (a = 1 ∧ 2 = 0) := by omega
  have c2 : ∀ z, mI (mo z σ') a 2 = iI c := fun z => by
    show (if a = 1 ∧ 2 = 0 then z else mI σ' a 2) = _
    rw [if_neg ha1, y, q3]
  have d1 : mP σ' a 0 = some p1 := by rw [w, q1]
  have d2 : mP σ' a 1 = some p2 := by rw [w, q2]
  have m77 : ∀ t, sX15_holds_77 (some 1) t (mo z2 σ') = some (if z2 = iI 0 then (if t = iI 0 then iI 0 else iI 1) else iI 2, mo z2 σ') := fun t => by
    rw [hold77 (σ := mo z2 σ') fc.1, mo_0]
  unfold sX15_holds
  rw [pZ_y0 fc.1]
  show gR (mo (iI 0) σ') (some a) 12 0 _ = _
  rw [gR_y (kk _)]
  show cl (EvS 40 (mP σ' a 0) (mo (iI 0) σ')) _ = _
  rw [d1, E1, clw, gR_y (kk _)]
  show cl (EvS 40 (mP σ' a 1) (mo z1 σ')) _ = _
  rw [d2, E2, clw, gI_y (kk _), gI_y (kk _), c2]
  have fin : ∀ b : Bool, tstA (cmpA c) x1 x2 = b → (some (if z2 = iI 0 then (if (if b = true then iI 1 else iI 0) = iI 0 then iI 0 else iI 1) else iI 2, mo z2 σ') : Option (Int32 × Mem)) = some (cN (cmpV (cmpA c) e1 e2 F), mo z2 σ') := by
    intro b hb
    refine congrArg (fun z => some (z, mo z2 σ')) ?_
    unfold cmpV
    rcases V1 with ⟨V1, W1⟩ | ⟨V1, W1⟩
    · rcases V2 with ⟨V2, W2⟩ | ⟨V2, W2⟩
      · rw [V1, V2, W2, W1, if_pos rfl]
        show (if (if b = true then iI 1 else iI 0) = iI 0 then iI 0 else iI 1) = cN (some (tstA (cmpA c) x1 x2))
        rw [hb]
        cases b <;> decide
      · rw [V1, V2, W2, if_neg (by decide)]
        rfl
    · have : z2 = iI 1 := by rcases V2 with ⟨V2, W2⟩ | ⟨V2, W2⟩ <;> rw [W2]; exact W1
      rw [V1, this, if_neg (by decide)]
      rfl
  have nlt : ∀ u v : Int32, (v ≤ u) ↔ ¬ u < v := fun u v => by rw [Int32.le_iff_toInt_le, Int32.lt_iff_toInt_lt]; omega
  rcases cq with q | q | q <;> subst q
  · rw [if_pos rfl, m77, m77]
    by_cases t : x1 < x2
    · rw [if_neg (fun z => ((nlt x1 x2).mp z) t)]
      exact fin true (decide_eq_true t)
    · rw [if_pos ((nlt x1 x2).mpr t)]
      exact fin false (decide_eq_false t)
  · rw [if_neg (by decide), if_pos rfl, m77, m77]
    by_cases t : x2 < x1
    · rw [if_neg (fun z => ((nlt x2 x1).mp z) t)]
      exact fin true (decide_eq_true t)
    · rw [if_pos ((nlt x2 x1).mpr t)]
      exact fin false (decide_eq_false t)
  · rw [if_neg (by decide), if_neg (by decide), m77, m77]
    by_cases t : x1 = x2
    · rw [if_pos t]
      exact fin true (decide_eq_true t)
    · rw [if_neg t]
      exact fin false (decide_eq_false t)
theorem cnd_not {lo k : Nat} {σ : Mem} {a p : Nat} {e : CndV} (s : CndD k lo σ p e) (h1 : lo ≤ a) (h2 : a < mZ σ) (hk : (mK σ a).1 = 11) (q : mP σ a 0 = some p) : CndD (k + 1) lo σ a (notV e) := by
  obtain ⟨p0, u1, u2, u3, u4⟩ := s
  refine ⟨p0, h1, h2, by omega, fun d hd σ' F ag fc => ?_⟩
  obtain ⟨d, rfl⟩ : ∃ d0, d = d0 + 1 := ⟨d - 1, by omega⟩
  obtain ⟨x, y, w⟩ := ag a h1 h2
  have hk' : (mK σ' a).1 = 11 := by rw [x]; exact hk
  obtain ⟨z, hz⟩ := u4 d (by omega) σ' F ag fc
  refine ⟨z, ?_⟩
  have e0 : EvC (d + 1) (some a) σ' = sX14_holds_0 (gX13_holds d).1 (gX13_holds d).2 (some a) (some 1) σ' := by
    unfold EvC
    rw [kd_y, if_neg (by omega), if_pos hk']
    rfl
  rw [e0]
  unfold sX14_holds_0
  rw [gR_y hk', w, q]
  show cl (EvC d (some p) σ') _ = _
  rw [hz, clw]
  unfold notV
  cases e F with
  | none => exact if_pos rfl
  | some b =>
    cases b with
    | true => exact if_neg (by decide)
    | false => exact if_neg (by decide)
/-- joined: dB decides -/
def jnV (dB : Bool) (a b : CndV) : CndV := fun F => match a F with
  | none => none
  | some x => if x = dB then some x else b F
theorem jn_or (a b : CndV) : jnV true a b = orV a b := by
  funext F
  unfold jnV orV
  cases a F with
  | none => rfl
  | some x => cases x <;> rfl
theorem jn_and (a b : CndV) : jnV false a b = andV a b := by
  funext F
  unfold jnV andV
  cases a F with
  | none => rfl
  | some x => cases x <;> rfl
abbrev dN (dB : Bool) : Int32 := if dB = true then iI 1 else iI 0
theorem cN_some (b : Bool) : cN (some b) = dN b := by cases b <;> rfl
theorem dN_ne {a b : Bool} (h : a ≠ b) : ¬ dN a = dN b := by
  cases a <;> cases b <;> first | exact absurd rfl h | decide
/-- a chain of conditions from hd to ls -/
def SegC (k lo : Nat) (σ : Mem) (dB : Bool) (hd ls : Nat) (e : CndV) (f : Nat) : Prop := 3799 ≤ lo ∧ lo ≤ hd ∧ hd < mZ σ ∧ lo ≤ ls ∧ ls < mZ σ ∧ (mK σ hd).1 = 10 ∧ (mK σ ls).1 = 10 ∧ mI σ hd 1 = dN dB ∧ mP σ ls 2 = none
  ∧ ∀ d, k ≤ d → ∀ σ' F, AgmX ls 2 lo σ σ' → FcM σ' F → ∃ z, if e F = some (!dB) then (gX13_holds (d + 1)).1 (some hd) (some 1) σ' = sX13_holds_2 (gX13_holds d).1 (gX13_holds d).2 f (some hd) (some 1) (mP σ' ls 2) (mo z σ')
    else (gX13_holds (d + 1)).1 (some hd) (some 1) σ' = some (cN (e F), mo z σ')
/-- one step of a chain -/
theorem segc_step {d f : Nat} {σ2 : Mem} {dB : Bool} {hd x p : Nat} {b : Option Bool} {z : Int32} (k1 : (mK σ2 hd).1 = 10) (kx : (mK σ2 x).1 = 10) (q : mP σ2 x 0 = some p) (hdc : mI σ2 hd 1 = dN dB) (h2 : 2 ≤ hd) (hz : EvC d (some p) σ2 = some (cN b, mo z σ2)) :
    sX13_holds_2 (gX13_holds d).1 (gX13_holds d).2 (f + 1) (some hd) (some 1) (some x) σ2 = if b = some (!dB) then sX13_holds_2 (gX13_holds d).1 (gX13_holds d).2 f (some hd) (some 1) (mP σ2 x 2) (mo z σ2) else some (cN b, mo z σ2) := by
  show sX13_holds_2b (gX13_holds d).1 (gX13_holds d).2 (sX13_holds_2 (gX13_holds d).1 (gX13_holds d).2 f) (some hd) (some 1) (some x) σ2 = _
  generalize sX13_holds_2 (gX13_holds d).1 (gX13_holds d).2 f = K
  unfold sX13_holds_2b
  rw [if_neg (fun z => by cases z), gR_y kx, q]
  show cl (EvC d (some p) σ2) _ = _
  have m1 : mI (mo z σ2) hd 1 = dN dB := by
    show (if hd = 1 ∧ 1 = 0 then z else mI σ2 hd 1) = _
    rw [if_neg (by omega), hdc]
  rw [hz, clw]
  cases b with
  | none =>
    show (if cN none = iI 2 then _ else _) = _
    rw [if_pos (show cN none = iI 2 from rfl), if_neg (fun q => by cases q)]
  | some b =>
    rw [cN_some, if_neg (by cases b <;> decide), gI_y (σ := mo z σ2) k1, m1]
    by_cases c : b = dB
    · rw [if_pos (by rw [c]), if_neg (fun q => by subst c; cases b <;> cases q)]
    · rw [if_neg (dN_ne c), gR_y (σ := mo z σ2) kx, if_pos (by cases b <;> cases dB <;> first | rfl | exact absurd rfl c)]
      rfl
theorem segc_1 {k lo : Nat} {σ : Mem} {dB : Bool} {x p : Nat} {e : CndV} (hp : CndD k (x + 1) σ p e) (h0 : 3799 ≤ lo) (h1 : lo ≤ x) (hk : (mK σ x).1 = 10) (hn : mP σ x 2 = none) {f : Nat} (hf : FU = f + 1) : SegC k lo (up2 (mI σ) x 1 (dN dB), up2 (mP σ) x 0 (some p), σ.2.2) dB x x e f := by
  obtain ⟨p0, p1, p2, p3, p4⟩ := hp
  have hz : x < mZ σ := by omega
  refine ⟨h0, h1, hz, h1, hz, hk, hk, if_pos ⟨rfl, rfl⟩, (if_neg (by omega)).trans hn, fun d hd σ' F ag fc => ?_⟩
  obtain ⟨a1, a2, a3⟩ := ag x h1 hz
  have k' : (mK σ' x).1 = 10 := by rw [a1]; exact hk
  have ap : mP σ' x 0 = some p := (a3 0 (Or.inr (by omega))).trans (if_pos ⟨rfl, rfl⟩)
  have ad : mI σ' x 1 = dN dB := (a2 1).trans (if_pos ⟨rfl, rfl⟩)
  have ag2 : Agm (x + 1) σ σ' := fun b b0 b1 => by
    obtain ⟨c1, c2, c3⟩ := ag b (by omega) b1
    exact ⟨c1, fun j => (c2 j).trans (if_neg (by omega)), fun j => (c3 j (Or.inl (by omega))).trans (if_neg (by omega))⟩
  obtain ⟨z, hz'⟩ := p4 d hd σ' F ag2 fc
  refine ⟨z, ?_⟩
  have s0 : (gX13_holds (d + 1)).1 (some x) (some 1) σ' = sX13_holds_2 (gX13_holds d).1 (gX13_holds d).2 (f + 1) (some x) (some 1) (some x) σ' := by
    show sX13_holds_0 (gX13_holds d).1 (gX13_holds d).2 (some x) (some 1) σ' = _
    unfold sX13_holds_0
    rw [hf]
  rw [s0, segc_step k' k' ap ad (by omega) hz']
  by_cases c : e F = some (!dB)
  · rw [if_pos c, if_pos c]
  · rw [if_neg c, if_neg c]
theorem segc_done {k lo : Nat} {σ : Mem} {dB : Bool} {hd ls : Nat} {e : CndV} {f : Nat} (h : SegC k lo σ dB hd ls e (f + 1)) : CndD (k + 1) lo σ hd e := by
  obtain ⟨h0, h1, h2, h3, h4, k1, k2, hd1, hn, g⟩ := h
  refine ⟨h0, h1, h2, Or.inl k1, fun d hd' σ' F ag fc => ?_⟩
  obtain ⟨d, rfl⟩ : ∃ d0, d = d0 + 1 := ⟨d - 1, by omega⟩
  obtain ⟨z, g'⟩ := g d (by omega) σ' F ag.x fc
  have k1' : (mK σ' hd).1 = 10 := by rw [(ag hd h1 h2).1]; exact k1
  have dd : mI (mo z σ') hd 1 = dN dB := by
    show (if hd = 1 ∧ 1 = 0 then z else mI σ' hd 1) = _
    rw [if_neg (by omega), (ag hd h1 h2).2.1, hd1]
  have e1 : EvC (d + 1) (some hd) σ' = (gX13_holds (d + 1)).1 (some hd) (some 1) σ' := if_pos k1'
  have n' : mP σ' ls 2 = none := ((ag ls h3 h4).2.2 2).trans hn
  refine ⟨z, ?_⟩
  rw [e1]
  by_cases c : e F = some (!dB)
  · rw [if_pos c, n'] at g'
    rw [g', c]
    show sX13_holds_2b (gX13_holds d).1 (gX13_holds d).2 (sX13_holds_2 (gX13_holds d).1 (gX13_holds d).2 f) (some hd) (some 1) none (mo z σ') = _
    generalize sX13_holds_2 (gX13_holds d).1 (gX13_holds d).2 f = K
    unfold sX13_holds_2b
    rw [if_pos rfl, gI_y (σ := mo z σ') k1', dd]
    cases dB <;> rfl
  · rw [if_neg c] at g'
    exact g'
theorem segc_more {k lo : Nat} {σ σ3 : Mem} {dB : Bool} {hd ls x p : Nat} {e e2 : CndV} {f : Nat} {dc : Int32} (h : SegC k lo σ dB hd ls e (f + 1)) (hx : x = mZ σ) (hg : Agm lo (mNew σ 10 3) σ3) (hz : mZ σ + 1 ≤ mZ σ3) (hp : CndD k (x + 1) σ3 p e2) :
    SegC k lo (up2 (mI σ3) x 1 dc, up2 (up2 (mP σ3) x 0 (some p)) ls 2 (some x), σ3.2.2) dB hd x (jnV dB e e2) f := by
  obtain ⟨h0, h1, h2, h3, h4, k1, k2, hd1, hn, g⟩ := h
  obtain ⟨p0, p1, p2, p3, p4⟩ := hp
  subst hx
  have zn : mZ (mNew σ 10 3) = mZ σ + 1 := rfl
  have nK : ∀ b, b < mZ σ → mK (mNew σ 10 3) b = mK σ b := fun b hb => if_neg (by omega)
  have nI : ∀ b j, b < mZ σ → mI (mNew σ 10 3) b j = mI σ b j := fun b j hb => if_neg (by omega)
  have nP : ∀ b j, b < mZ σ → mP (mNew σ 10 3) b j = mP σ b j := fun b j hb => if_neg (by omega)
  have gx := hg (mZ σ) (by omega) (by omega)
  have kx : (mK σ3 (mZ σ)).1 = 10 := by rw [gx.1]; show (if mZ σ = mZ σ then (10, 3) else _ : Nat × Nat).1 = 10; rw [if_pos rfl]
  have px : mP σ3 (mZ σ) 2 = none := by rw [gx.2.2]; exact if_pos rfl
  have kd : ∀ b, lo ≤ b → b < mZ σ → mK σ3 b = mK σ b := fun b b0 b1 => ((hg b b0 (by omega)).1).trans (nK b b1)
  obtain ⟨N, hN⟩ : ∃ N : Mem, N = (up2 (mI σ3) (mZ σ) 1 dc, up2 (up2 (mP σ3) (mZ σ) 0 (some p)) ls 2 (some (mZ σ)), σ3.2.2) := ⟨_, rfl⟩
  have NI : ∀ b j, mI N b j = if b = mZ σ ∧ j = 1 then dc else mI σ3 b j := fun b j => by rw [hN]; rfl
  have NP : ∀ b j, mP N b j = if b = ls ∧ j = 2 then some (mZ σ) else if b = mZ σ ∧ j = 0 then some p else mP σ3 b j := fun b j => by rw [hN]; rfl
  have NK : mK N = mK σ3 := by rw [hN]
  have NZ : mZ N = mZ σ3 := by rw [hN]
  rw [← hN]
  have hd3 : mI σ3 hd 1 = dN dB := by rw [(hg hd h1 (by omega)).2.1, nI hd 1 h2, hd1]
  refine ⟨h0, h1, by omega, by omega, by omega, by rw [NK, kd hd h1 h2]; exact k1, by rw [NK]; exact kx, by rw [NI, if_neg (by omega)]; exact hd3, by rw [NP, if_neg (by omega), if_neg (by omega)]; exact px, fun d hd' σ' F ag fc => ?_⟩
  have ag1 : AgmX ls 2 lo σ σ' := fun b b0 b1 => by
    obtain ⟨c1, c2, c3⟩ := ag b b0 (by omega)
    obtain ⟨d1, d2, d3⟩ := hg b b0 (by omega)
    refine ⟨by rw [c1, NK, d1, nK b b1], fun j => by rw [c2, NI, if_neg (by omega), d2, nI b j b1], fun j hj => ?_⟩
    rw [c3 j (Or.inl (by omega)), NP, if_neg (by omega), if_neg (by omega), d3, nP b j b1]
  have ag2 : Agm (mZ σ + 1) σ3 σ' := fun b b0 b1 => by
    obtain ⟨c1, c2, c3⟩ := ag b (by omega) (by omega)
    refine ⟨by rw [c1, NK], fun j => by rw [c2, NI, if_neg (by omega)], fun j => ?_⟩
    rw [c3 j (Or.inl (by omega)), NP, if_neg (by omega), if_neg (by omega)]
  obtain ⟨z, old⟩ := g d hd' σ' F ag1 fc
  have agx := ag (mZ σ) (by omega) (by omega)
  have kx' : (mK σ' (mZ σ)).1 = 10 := by rw [agx.1, NK]; exact kx
  have k1' : (mK σ' hd).1 = 10 := by rw [(ag hd h1 (by omega)).1, NK, kd hd h1 h2]; exact k1
  have qx : mP σ' (mZ σ) 0 = some p := by rw [agx.2.2 0 (Or.inr (by omega)), NP, if_neg (by omega), if_pos ⟨rfl, rfl⟩]
  have hd1' : mI σ' hd 1 = dN dB := by rw [(ag hd h1 (by omega)).2.1, NI, if_neg (by omega)]; exact hd3
  have nx : mP σ' ls 2 = some (mZ σ) := by
    rw [(ag ls h3 (by omega)).2.2 2 (Or.inl (by omega)), NP, if_pos ⟨rfl, rfl⟩]
  by_cases c : e F = some (!dB)
  · rw [if_pos c, nx] at old
    obtain ⟨z2, hz2⟩ := p4 d hd' (mo z σ') F (ag2.mo (by omega) _) (fc.mo _)
    have dd : mI (mo z σ') hd 1 = dN dB := by
      show (if hd = 1 ∧ 1 = 0 then z else mI σ' hd 1) = _
      rw [if_neg (by omega)]; exact hd1'
    have j : jnV dB e e2 F = e2 F := by
      unfold jnV
      rw [c]
      cases dB <;> rfl
    refine ⟨z2, ?_⟩
    rw [j, old, segc_step (σ2 := mo z σ') k1' kx' qx dd (by omega) hz2, mo_mo]
    by_cases c2 : e2 F = some (!dB)
    · rw [if_pos c2, if_pos c2]
      rfl
    · rw [if_neg c2, if_neg c2]
  · rw [if_neg c] at old
    have j : jnV dB e e2 F = e F := by
      unfold jnV
      cases ee : e F with
      | none => rfl
      | some b =>
        show (if b = dB then some b else e2 F) = some b
        rw [if_pos (by rw [ee] at c; cases b <;> cases dB <;> first | rfl | exact absurd rfl c)]
    refine ⟨z, ?_⟩
    rw [j, if_neg c]
    exact old
