/-! DEPS: ya -/
/-! YQ: what TermLog's sums and conditions tell: objects -/
section
variable {β : Type} {σ : Mem} {a ci k : Nat}
theorem gI_y (h : (mK σ a).1 = ci) {f : Int32 → Option β} : gI σ (some a) ci k f = f (mI σ a k) := if_pos h
theorem gR_y (h : (mK σ a).1 = ci) {f : Option Nat → Option β} : gR σ (some a) ci k f = f (mP σ a k) := if_pos h
theorem pI_y (h : (mK σ a).1 = ci) {v : Int32} {f : Mem → Option β} : pI σ (some a) ci k v f = f (up2 (mI σ) a k v, σ.2) := if_pos h
theorem pR_y (h : (mK σ a).1 = ci) {v : Option Nat} {f : Mem → Option β} : pR σ (some a) ci k v f = f (mI σ, up2 (mP σ) a k v, σ.2.2) := if_pos h
theorem pZ_y0 (h : (mK σ a).1 = ci) {f : Mem → Option β} : pZ σ (some a) ci k (iI 0) f = f (up2 (mI σ) a k (iI 0), σ.2) := if_pos ⟨h, Or.inl rfl⟩
theorem pZ_y1 (h : (mK σ a).1 = ci) {f : Mem → Option β} : pZ σ (some a) ci k (iI 1) f = f (up2 (mI σ) a k (iI 1), σ.2) := if_pos ⟨h, Or.inr rfl⟩
theorem cV_y (h : (mK σ a).1 = ci) {f : Option β} : cV σ (some a) ci f = f := if_pos h
theorem clw {γ : Type} (a : γ) (σ : Mem) (f : γ → Mem → Option β) : cl (some (a, σ)) f = f a σ := rfl
theorem kd_y : kdO σ (some a) = (mK σ a).1 := rfl
end
/-- the Moment's flag is z -/
def mo (z : Int32) (σ : Mem) : Mem := (up2 (mI σ) 1 0 z, σ.2)
theorem mo_mo {y z : Int32} {σ : Mem} : mo y (mo z σ) = mo y σ := by
  refine Prod.ext ?_ rfl
  funext b j
  show (if b = 1 ∧ j = 0 then y else if b = 1 ∧ j = 0 then z else mI σ b j) = if b = 1 ∧ j = 0 then y else mI σ b j
  split <;> rfl
theorem mo_0 {z : Int32} {σ : Mem} : mI (mo z σ) 1 0 = z := by
  show (if 1 = 1 ∧ 0 = 0 then z else mI σ 1 0) = z
  rw [if_pos ⟨rfl, rfl⟩]
theorem mo_me {σ : Mem} : mo (mI σ 1 0) σ = σ := by
  refine Prod.ext ?_ rfl
  funext b j
  show (if b = 1 ∧ j = 0 then mI σ 1 0 else mI σ b j) = mI σ b j
  split
  · rename_i c; rw [c.1, c.2]
  · rfl
/-- the Moment holds the facts F -/
def FcM (σ : Mem) (F : Fct) : Prop := (mK σ 1).1 = 1 ∧ ∀ w : Int, 0 ≤ w → w < 7 → mI σ 1 (w + 1).toNat = iI (F w)
theorem FcM.mo {σ : Mem} {F : Fct} (h : FcM σ F) (z : Int32) : FcM (mo z σ) F := by
  refine ⟨h.1, fun w a b => ?_⟩
  show (if 1 = 1 ∧ (w + 1).toNat = 0 then z else mI σ 1 (w + 1).toNat) = _
  rw [if_neg (by omega)]
  exact h.2 w a b
/-- alike at the texts' cells -/
def Agm (lo : Nat) (σ σ' : Mem) : Prop := ∀ b, lo ≤ b → b < mZ σ → mK σ' b = mK σ b ∧ (∀ j, mI σ' b j = mI σ b j) ∧ ∀ j, mP σ' b j = mP σ b j
/-- alike, but what comes behind ls -/
def AgmX (ls s lo : Nat) (σ σ' : Mem) : Prop := ∀ b, lo ≤ b → b < mZ σ → mK σ' b = mK σ b ∧ (∀ j, mI σ' b j = mI σ b j) ∧ ∀ j, (b ≠ ls ∨ j ≠ s) → mP σ' b j = mP σ b j
theorem Agm.mo {lo : Nat} {σ σ' : Mem} (h0 : 2 ≤ lo) (h : Agm lo σ σ') (z : Int32) : Agm lo σ (mo z σ') := by
  intro b b0 b1
  obtain ⟨x, y, w⟩ := h b b0 b1
  refine ⟨x, fun j => ?_, w⟩
  show (if b = 1 ∧ j = 0 then z else mI σ' b j) = _
  rw [if_neg (by omega)]
  exact y j
theorem Agm.x {lo ls s : Nat} {σ σ' : Mem} (h : Agm lo σ σ') : AgmX ls s lo σ σ' := fun b b0 b1 => ⟨(h b b0 b1).1, (h b b0 b1).2.1, fun j _ => (h b b0 b1).2.2 j⟩
theorem Agm.dn {lo lo' : Nat} {σ σ' : Mem} (hl : lo ≤ lo') (h : Agm lo σ σ') : Agm lo' σ σ' := fun b b0 b1 => h b (by omega) b1
theorem AgmX.dn {lo lo' ls s : Nat} {σ σ' : Mem} (hl : lo ≤ lo') (h : AgmX ls s lo σ σ') : AgmX ls s lo' σ σ' := fun b b0 b1 => h b (by omega) b1
theorem Agm.trans {lo : Nat} {σ σ' σ'' : Mem} (h : Agm lo σ σ') (hz : mZ σ ≤ mZ σ') (h' : Agm lo σ' σ'') : Agm lo σ σ'' := fun b b0 b1 =>
  ⟨(h' b b0 (by omega)).1.trans (h b b0 b1).1, fun j => ((h' b b0 (by omega)).2.1 j).trans ((h b b0 b1).2.1 j), fun j => ((h' b b0 (by omega)).2.2 j).trans ((h b b0 b1).2.2 j)⟩
/-- a sum's worth, by its class -/
noncomputable def EvS (d : Nat) (a : Option Nat) (σ : Mem) : Option (Int32 × Mem) := if kdO σ a = 5 then gX7_worth d a (some 1) σ else if kdO σ a = 8 then sX10_worth a (some 1) σ else if kdO σ a = 9 then sX11_worth a (some 1) σ else none
def OutS (o : Option (Int32 × Mem)) (x : Option Int32) (σ : Mem) : Prop := match x with
  | some v => o = some (v, σ)
  | none => ∃ v, o = some (v, mo (iI 1) σ)
/-- the object a of σ, made of cells from lo on, comes to e -/
def SumD (k lo : Nat) (σ : Mem) (a : Nat) (e : SumV) : Prop := 3799 ≤ lo ∧ lo ≤ a ∧ a < mZ σ ∧ (((mK σ a).1 = 5 ∨ (mK σ a).1 = 8 ∨ (mK σ a).1 = 9)) ∧ ∀ d, k ≤ d → ∀ σ' F, Agm lo σ σ' → FcM σ' F → OutS (EvS d (some a) σ') (e F) σ'
theorem SumD.up {k lo : Nat} {σ σ' : Mem} {a : Nat} {e : SumV} (h : SumD k lo σ a e) (g : Agm lo σ σ') (hz : mZ σ ≤ mZ σ') : SumD k lo σ' a e := by
  obtain ⟨h0, h1, h2, h3, h4⟩ := h
  refine ⟨h0, h1, by omega, by rw [(g a h1 h2).1]; exact h3, fun d hd σ'' F ag fc => h4 d hd σ'' F (g.trans hz ag) fc⟩
theorem SumD.lo {k lo lo' k' : Nat} {σ : Mem} {a : Nat} {e : SumV} (h : SumD k lo σ a e) (h0 : 3799 ≤ lo') (hl : lo' ≤ lo) (hk : k ≤ k') : SumD k' lo' σ a e := by
  obtain ⟨h0', h1, h2, h3, h4⟩ := h
  exact ⟨h0, by omega, h2, h3, fun d hd σ' F ag fc => h4 d (by omega) σ' F (ag.dn hl) fc⟩
theorem sum_num {lo : Nat} {σ : Mem} {a : Nat} {v : Int32} (h0 : 3799 ≤ lo) (h1 : lo ≤ a) (h2 : a < mZ σ) (hk : (mK σ a).1 = 8) (hv : mI σ a 0 = v) : SumD 0 lo σ a (fun _ => some v) := by
  refine ⟨h0, h1, h2, by omega, fun d hd σ' F ag fc => ?_⟩
  obtain ⟨x, y, w⟩ := ag a h1 h2
  show EvS d (some a) σ' = some (v, σ')
  have hk' : (mK σ' a).1 = 8 := by rw [x]; exact hk
  unfold EvS
  rw [kd_y, if_neg (by omega), if_pos hk']
  unfold sX10_worth
  rw [gI_y hk', y, hv]
theorem val_is {σ : Mem} {F : Fct} (fc : FcM σ F) {c : Int} (c0 : 0 ≤ c) (c1 : c ≤ 255) (hc : factA c ≠ -1) : sX2_value (some 1) (iI c) σ = some (iI (F (factA c)), σ) := by
  have g : ∀ (k : Nat) (f : Int32 → Option (Int32 × Mem)), gI σ (some 1) 1 k f = f (mI σ 1 k) := fun k f => gI_y fc.1
  have q : c = 102 ∨ c = 116 ∨ c = 107 ∨ c = 110 ∨ c = 113 ∨ c = 115 ∨ c = 119 := by
    unfold factA at hc
    omega
  have e0 := fc.2 0 (by omega) (by omega)
  have e1 := fc.2 1 (by omega) (by omega)
  have e2 := fc.2 2 (by omega) (by omega)
  have e3 := fc.2 3 (by omega) (by omega)
  have e4 := fc.2 4 (by omega) (by omega)
  have e5 := fc.2 5 (by omega) (by omega)
  have e6 := fc.2 6 (by omega) (by omega)
  unfold sX2_value
  rcases q with q | q | q | q | q | q | q <;> subst q <;> (repeat rw [if_neg (by decide)]) <;> (try rw [if_pos rfl]) <;> rw [g]
  · exact congrArg (fun z => some (z, σ)) e0
  · exact congrArg (fun z => some (z, σ)) e1
  · exact congrArg (fun z => some (z, σ)) e2
  · exact congrArg (fun z => some (z, σ)) e3
  · exact congrArg (fun z => some (z, σ)) e4
  · exact congrArg (fun z => some (z, σ)) e5
  · exact congrArg (fun z => some (z, σ)) e6
theorem sum_let {lo : Nat} {σ : Mem} {a : Nat} {c : Int} (h0 : 3799 ≤ lo) (h1 : lo ≤ a) (h2 : a < mZ σ) (hk : (mK σ a).1 = 9) (hv : mI σ a 0 = iI c) (c0 : 0 ≤ c) (c1 : c ≤ 255) (hc : factA c ≠ -1) : SumD 0 lo σ a (fun F => some (iI (F (factA c)))) := by
  refine ⟨h0, h1, h2, by omega, fun d hd σ' F ag fc => ?_⟩
  obtain ⟨x, y, w⟩ := ag a h1 h2
  show EvS d (some a) σ' = some (iI (F (factA c)), σ')
  have hk' : (mK σ' a).1 = 9 := by rw [x]; exact hk
  unfold EvS
  rw [kd_y, if_neg (by omega), if_neg (by omega), if_pos hk']
  unfold sX11_worth
  rw [gI_y hk', y, hv, kd_y, if_pos fc.1, val_is fc c0 c1 hc]
  rfl
/-- the sign of a step -/
def sgQ (c : Int) : Int := if mulA c = -1 then addA c else mulA c
theorem wk_any (c x y : Int32) (σ : Mem) (h1 : (mK σ 1).1 = 1) : ∃ v, sX7_worked c x y (some 1) (mo (iI 1) σ) = some (v, mo (iI 1) σ) := by
  have p : ∀ f : Mem → Option (Int32 × Mem), pZ (mo (iI 1) σ) (some 1) 1 0 (iI 1) f = f (mo (iI 1) σ) := fun f => (pZ_y1 (σ := mo (iI 1) σ) h1).trans (congrArg f mo_mo)
  have k53 : ∃ v, sX7_worked_53 c x y (mo (iI 1) σ) = some (v, mo (iI 1) σ) := by
    unfold sX7_worked_53
    by_cases y0 : y = iI 0
    · rw [if_pos y0]; exact ⟨_, rfl⟩
    · rw [if_neg y0]
      split
      · exact ⟨_, if_neg y0⟩
      · exact ⟨_, if_neg y0⟩
  have k44 : ∃ v, sX7_worked_44 c x y (some 1) (mo (iI 1) σ) = some (v, mo (iI 1) σ) := by
    unfold sX7_worked_44
    by_cases y0 : y = iI 0
    · rw [if_pos y0, p]; exact k53
    · rw [if_neg y0]; exact k53
  unfold sX7_worked
  split
  · exact ⟨_, rfl⟩
  · split
    · exact ⟨_, rfl⟩
    · split
      · exact k44
      · split
        · exact ⟨_, rfl⟩
        · exact k44
theorem wk_is {c : Int} (hc : sgQ c ≠ -1) (x y : Int32) (σ : Mem) (h1 : (mK σ 1).1 = 1) : OutS (sX7_worked (iI c) x y (some 1) σ) (binA (sgQ c) x y) σ := by
  have p : ∀ f : Mem → Option (Int32 × Mem), pZ σ (some 1) 1 0 (iI 1) f = f (mo (iI 1) σ) := fun f => pZ_y1 h1
  have q : c = 42 ∨ c = 47 ∨ c = 37 ∨ c = 43 ∨ c = 45 := by
    unfold sgQ mulA addA at hc
    omega
  have no : ∀ {op : Int} {v : Int32}, ¬ ((op = 5 ∨ op = 6) ∧ y = iI 0) → binA op x y = some (reckA op x y) := fun h => if_neg h
  unfold sX7_worked
  rcases q with q | q | q | q | q <;> subst q
  · rw [if_pos rfl, show sgQ 42 = 4 from rfl, no (v := 0) (by omega)]; rfl
  · rw [if_neg (by decide), if_neg (by decide), if_neg (by decide), if_neg (by decide), show sgQ 47 = 5 from rfl]
    unfold sX7_worked_44 sX7_worked_53
    by_cases y0 : y = iI 0
    · rw [if_pos y0, p, if_pos y0, show binA 5 x y = none from if_pos ⟨Or.inl rfl, y0⟩]
      exact ⟨_, rfl⟩
    · rw [if_neg y0, if_neg y0, if_pos rfl, no (v := 0) (fun z => y0 z.2)]
      exact if_neg y0
  · rw [if_neg (by decide), if_neg (by decide), if_neg (by decide), if_neg (by decide), show sgQ 37 = 6 from rfl]
    unfold sX7_worked_44 sX7_worked_53
    by_cases y0 : y = iI 0
    · rw [if_pos y0, p, if_pos y0, show binA 6 x y = none from if_pos ⟨Or.inr rfl, y0⟩]
      exact ⟨_, rfl⟩
    · rw [if_neg y0, if_neg y0, if_neg (by decide), no (v := 0) (fun z => y0 z.2)]
      exact if_neg y0
  · rw [if_neg (by decide), if_pos rfl, show sgQ 43 = 2 from rfl, no (v := 0) (by omega)]; rfl
  · rw [if_neg (by decide), if_neg (by decide), if_neg (by decide), if_pos rfl, show sgQ 45 = 3 from rfl, no (v := 0) (by omega)]; rfl
/-- the chain of rows from hd to ls: its worth goes on behind ls -/
def SegS (k lo : Nat) (σ : Mem) (hd ls : Nat) (e : SumV) (f : Nat) : Prop := 3799 ≤ lo ∧ lo ≤ hd ∧ hd < mZ σ ∧ lo ≤ ls ∧ ls < mZ σ ∧ (mK σ hd).1 = 5 ∧ (mK σ ls).1 = 5 ∧ mP σ ls 2 = none
  ∧ ∀ d, k ≤ d → ∀ σ' F, AgmX ls 2 lo σ σ' → FcM σ' F → match e F with
    | some v => gX7_worth (d + 1) (some hd) (some 1) σ' = sX7_worth_14 (gX7_worth d) f (some 1) v (mP σ' ls 2) σ'
    | none => ∃ v, gX7_worth (d + 1) (some hd) (some 1) σ' = sX7_worth_14 (gX7_worth d) f (some 1) v (mP σ' ls 2) (mo (iI 1) σ')
theorem seg_1 {k lo : Nat} {σ : Mem} {x p : Nat} {e : SumV} (hp : SumD k (x + 1) σ p e) (h0 : 3799 ≤ lo) (h1 : lo ≤ x) (hk : (mK σ x).1 = 5) : SegS k lo (mI σ, up2 (mP σ) x 1 (some p), σ.2.2) x x e FU ∨ mP σ x 2 ≠ none := by
  by_cases hn : mP σ x 2 = none
  · refine Or.inl ?_
    obtain ⟨p0, p1, p2, p3, p4⟩ := hp
    have hz : x < mZ σ := by omega
    refine ⟨h0, h1, hz, h1, hz, hk, hk, (if_neg (by omega)).trans hn, fun d hd σ' F ag fc => ?_⟩
    obtain ⟨a1, a2, a3⟩ := ag x h1 hz
    have k' : (mK σ' x).1 = 5 := by rw [a1]; exact hk
    have ap : mP σ' x 1 = some p := (a3 1 (Or.inr (by omega))).trans (if_pos ⟨rfl, rfl⟩)
    have ag2 : Agm (x + 1) σ σ' := fun b b0 b1 => by
      obtain ⟨c1, c2, c3⟩ := ag b (by omega) b1
      exact ⟨c1, c2, fun j => (c3 j (Or.inl (by omega))).trans (if_neg (by omega))⟩
    have o := p4 d hd σ' F ag2 fc
    have st : ∀ z σ2, mP σ2 = mP σ' → mK σ2 = mK σ' → EvS d (some p) σ' = some (z, σ2) → gX7_worth (d + 1) (some x) (some 1) σ' = sX7_worth_14 (gX7_worth d) FU (some 1) z (mP σ' x 2) σ2 := by
      intro z σ2 e1 e2 ev
      show sX7_worth_0 (gX7_worth d) (some x) (some 1) σ' = _
      unfold sX7_worth_0
      rw [gR_y k', ap]
      show cl (EvS d (some p) σ') _ = _
      rw [ev, clw, gR_y (by rw [e2]; exact k'), e1]
    unfold OutS at o
    cases ee : e F with
    | some v => rw [ee] at o; exact st v σ' rfl rfl o
    | none =>
      rw [ee] at o
      obtain ⟨v, o⟩ := o
      exact ⟨v, st v _ rfl rfl o⟩
  · exact Or.inr hn
theorem seg_done {k lo : Nat} {σ : Mem} {hd ls : Nat} {e : SumV} {f : Nat} (h : SegS k lo σ hd ls e (f + 1)) : SumD (k + 1) lo σ hd e := by
  obtain ⟨h0, h1, h2, h3, h4, k1, k2, hn, g⟩ := h
  refine ⟨h0, h1, h2, Or.inl k1, fun d hd' σ' F ag fc => ?_⟩
  obtain ⟨d, rfl⟩ : ∃ d0, d = d0 + 1 := ⟨d - 1, by omega⟩
  have g' := g d (by omega) σ' F ag.x fc
  have k1' : (mK σ' hd).1 = 5 := by rw [(ag hd h1 h2).1]; exact k1
  have e1 : EvS (d + 1) (some hd) σ' = gX7_worth (d + 1) (some hd) (some 1) σ' := if_pos k1'
  have n' : mP σ' ls 2 = none := ((ag ls h3 h4).2.2 2).trans hn
  have e2 : ∀ v σ2, sX7_worth_14 (gX7_worth d) (f + 1) (some 1) v none σ2 = some (v, σ2) := fun v σ2 => by
    show sX7_worth_14b (gX7_worth d) (sX7_worth_14 (gX7_worth d) f) (some 1) v none σ2 = _
    generalize sX7_worth_14 (gX7_worth d) f = K
    unfold sX7_worth_14b
    rw [if_pos rfl]
  unfold OutS
  rw [e1]
  rw [n'] at g'
  cases ee : e F with
  | some v => rw [ee] at g'; exact g'.trans (e2 _ _)
  | none =>
    rw [ee] at g'
    obtain ⟨v, g'⟩ := g'
    exact ⟨v, g'.trans (e2 _ _)⟩
/-- a row more: x, made at the end of σ; its part p is read; then x is filled and hung on -/
theorem seg_more {k lo : Nat} {σ σ3 : Mem} {hd ls x p : Nat} {e e2 : SumV} {f : Nat} {c : Int} (h : SegS k lo σ hd ls e (f + 1)) (hc : sgQ c ≠ -1) (hx : x = mZ σ) (hg : Agm lo (mNew σ 5 3) σ3) (hz : mZ σ + 1 ≤ mZ σ3) (hp : SumD k (x + 1) σ3 p e2) :
    SegS k lo (up2 (mI σ3) x 0 (iI c), up2 (up2 (mP σ3) x 1 (some p)) ls 2 (some x), σ3.2.2) hd x (binV (sgQ c) e e2) f := by
  obtain ⟨h0, h1, h2, h3, h4, k1, k2, hn, g⟩ := h
  obtain ⟨p0, p1, p2, p3, p4⟩ := hp
  subst hx
  have zn : mZ (mNew σ 5 3) = mZ σ + 1 := rfl
  have nK : ∀ b, b < mZ σ → mK (mNew σ 5 3) b = mK σ b := fun b hb => if_neg (by omega)
  have nI : ∀ b j, b < mZ σ → mI (mNew σ 5 3) b j = mI σ b j := fun b j hb => if_neg (by omega)
  have nP : ∀ b j, b < mZ σ → mP (mNew σ 5 3) b j = mP σ b j := fun b j hb => if_neg (by omega)
  have gx := hg (mZ σ) (by omega) (by omega)
  have kx : (mK σ3 (mZ σ)).1 = 5 := by rw [gx.1]; show (if mZ σ = mZ σ then (5, 3) else _ : Nat × Nat).1 = 5; rw [if_pos rfl]
  have px : mP σ3 (mZ σ) 2 = none := by rw [gx.2.2]; exact if_pos rfl
  have kd : ∀ b, lo ≤ b → b < mZ σ → mK σ3 b = mK σ b := fun b b0 b1 => ((hg b b0 (by omega)).1).trans (nK b b1)
  obtain ⟨N, hN⟩ : ∃ N : Mem, N = (up2 (mI σ3) (mZ σ) 0 (iI c), up2 (up2 (mP σ3) (mZ σ) 1 (some p)) ls 2 (some (mZ σ)), σ3.2.2) := ⟨_, rfl⟩
  have NI : ∀ b j, mI N b j = if b = mZ σ ∧ j = 0 then iI c else mI σ3 b j := fun b j => by rw [hN]; rfl
  have NP : ∀ b j, mP N b j = if b = ls ∧ j = 2 then some (mZ σ) else if b = mZ σ ∧ j = 1 then some p else mP σ3 b j := fun b j => by rw [hN]; rfl
  have NK : mK N = mK σ3 := by rw [hN]
  have NZ : mZ N = mZ σ3 := by rw [hN]
  rw [← hN]
  refine ⟨h0, h1, by omega, by omega, by omega, by rw [NK, kd hd h1 h2]; exact k1, by rw [NK]; exact kx, by rw [NP, if_neg (by omega), if_neg (by omega)]; exact px, fun d hd' σ' F ag fc => ?_⟩
  have ag1 : AgmX ls 2 lo σ σ' := fun b b0 b1 => by
    obtain ⟨c1, c2, c3⟩ := ag b b0 (by omega)
    obtain ⟨d1, d2, d3⟩ := hg b b0 (by omega)
    refine ⟨by rw [c1, NK, d1, nK b b1], fun j => by rw [c2, NI, if_neg (by omega), d2, nI b j b1], fun j hj => ?_⟩
    rw [c3 j (Or.inl (by omega)), NP, if_neg (by omega), if_neg (by omega), d3, nP b j b1]
  have ag2 : Agm (mZ σ + 1) σ3 σ' := fun b b0 b1 => by
    obtain ⟨c1, c2, c3⟩ := ag b (by omega) (by omega)
    refine ⟨by rw [c1, NK], fun j => by rw [c2, NI, if_neg (by omega)], fun j => ?_⟩
    rw [c3 j (Or.inl (by omega)), NP, if_neg (by omega), if_neg (by omega)]
  have old := g d hd' σ' F ag1 fc
  have agx := ag (mZ σ) (by omega) (by omega)
  have kx' : (mK σ' (mZ σ)).1 = 5 := by rw [agx.1, NK]; exact kx
  have cx : mI σ' (mZ σ) 0 = iI c := by rw [agx.2.1, NI, if_pos ⟨rfl, rfl⟩]
  have qx : mP σ' (mZ σ) 1 = some p := by rw [agx.2.2 1 (Or.inr (by omega)), NP, if_neg (by omega), if_pos ⟨rfl, rfl⟩]
  have nx : mP σ' ls 2 = some (mZ σ) := by
    rw [(ag ls h3 (by omega)).2.2 2 (Or.inl (by omega)), NP, if_pos ⟨rfl, rfl⟩]
  rw [nx] at old
  have step : ∀ (v : Int32) (σ2 σ4 σ5 : Mem) (y w : Int32), mP σ2 = mP σ' → mK σ2 = mK σ' → mI σ2 (mZ σ) 0 = mI σ' (mZ σ) 0 → EvS d (some p) σ2 = some (y, σ4) → sX7_worked (iI c) v y (some 1) σ4 = some (w, σ5) → mP σ5 = mP σ' → mK σ5 = mK σ' →
      sX7_worth_14 (gX7_worth d) (f + 1) (some 1) v (some (mZ σ)) σ2 = sX7_worth_14 (gX7_worth d) f (some 1) w (mP σ' (mZ σ) 2) σ5 := by
    intro v σ2 σ4 σ5 y w a1 a2 a3 ev wk b1 b2
    show sX7_worth_14b (gX7_worth d) (sX7_worth_14 (gX7_worth d) f) (some 1) v (some (mZ σ)) σ2 = _
    generalize sX7_worth_14 (gX7_worth d) f = K
    unfold sX7_worth_14b
    rw [if_neg (fun z => by cases z), gI_y (by rw [a2]; exact kx'), gR_y (by rw [a2]; exact kx'), a1, qx, a3, cx]
    show cl (EvS d (some p) σ2) _ = _
    rw [ev, clw, wk, clw, gR_y (by rw [b2]; exact kx'), b1]
  have m1 : mI (mo (iI 1) σ') (mZ σ) 0 = mI σ' (mZ σ) 0 := if_neg (by omega)
  unfold binV
  cases ee : e F with
  | none =>
    rw [ee] at old
    obtain ⟨v, old⟩ := old
    have o := p4 d hd' (mo (iI 1) σ') F (ag2.mo (by omega) _) (fc.mo _)
    obtain ⟨y, hy⟩ : ∃ y, EvS d (some p) (mo (iI 1) σ') = some (y, mo (iI 1) σ') := by
      unfold OutS at o
      cases e9 : e2 F with
      | none => rw [e9] at o; obtain ⟨y, o⟩ := o; exact ⟨y, by rw [o, mo_mo]⟩
      | some y => rw [e9] at o; exact ⟨y, o⟩
    obtain ⟨w, hw⟩ := wk_any (iI c) v y σ' fc.1
    exact ⟨w, old.trans (step v _ _ _ y w rfl rfl m1 hy hw rfl rfl)⟩
  | some v =>
    rw [ee] at old
    have o := p4 d hd' σ' F ag2 fc
    unfold OutS at o
    cases e9 : e2 F with
    | none =>
      rw [e9] at o
      obtain ⟨y, o⟩ := o
      obtain ⟨w, hw⟩ := wk_any (iI c) v y σ' fc.1
      exact ⟨w, old.trans (step v _ _ _ y w rfl rfl rfl o hw rfl rfl)⟩
    | some y =>
      rw [e9] at o
      have wk := wk_is hc v y σ' fc.1
      unfold OutS at wk
      show match binA (sgQ c) v y with | some v => _ | none => _
      cases eb : binA (sgQ c) v y with
      | none =>
        rw [eb] at wk
        obtain ⟨w, wk⟩ := wk
        exact ⟨w, old.trans (step v _ _ _ y w rfl rfl rfl o wk rfl rfl)⟩
      | some w =>
        rw [eb] at wk
        exact old.trans (step v _ _ _ y w rfl rfl rfl o wk rfl rfl)
