/-! DEPS: ys -/
/-! YT: TermLog reads sums (printed by src/genyt.py) -/
/-- what a reading does: z is what it gave, res what it should -/
def OutR {α : Type} (rd : Nat) (n : Int) (lo : Nat) (σ : Mem) (o p s f C : Int) (V : Mem → Option Nat → α → Prop) (Bd : Mem → Option Nat → Prop) (z : Option (Option Nat × Mem)) (res : Res α) : Prop := match res with
  | .inl x => ∃ r σ' p' o', z = some (r, rdM rd p' o' x.1 x.2 σ') ∧ Grow lo σ σ' (3 * (n - p) + f) ∧ 0 ≤ p' ∧ p' ≤ n + C ∧ 1 ≤ x.1 ∧ x.1 ≤ 5 ∧ 0 ≤ x.2 ∧ x.2 ≤ n ∧ Bd σ' r
  | .inr x => ∃ r σ', z = some (r, rdM rd x.2 o 0 0 σ') ∧ Grow lo σ σ' (3 * (x.2 - p) - s) ∧ p ≤ x.2 ∧ x.2 ≤ n ∧ V σ' r x.1
def VS (k lo : Nat) (σ' : Mem) (r : Option Nat) (v : SumV) : Prop := ∃ a, r = some a ∧ SumD k lo σ' a v
def V5 (k lo : Nat) (σ' : Mem) (r : Option Nat) (v : SumV) : Prop := ∃ a, r = some a ∧ SumD k lo σ' a v ∧ (mK σ' a).1 = 5
def B0 (σ' : Mem) (r : Option Nat) : Prop := True
def B5 (σ' : Mem) (r : Option Nat) : Prop := ∃ a, r = some a ∧ (mK σ' a).1 = 5
theorem OutR.weak {α : Type} {rd : Nat} {n : Int} {lo : Nat} {σ : Mem} {o p s f C : Int} {V V' : Mem → Option Nat → α → Prop} {Bd Bd' : Mem → Option Nat → Prop} {z : Option (Option Nat × Mem)} {res : Res α} (h : OutR rd n lo σ o p s f C V Bd z res) (hV : ∀ σ' r v, V σ' r v → V' σ' r v) (hB : ∀ σ' r, Bd σ' r → Bd' σ' r) : OutR rd n lo σ o p s f C V' Bd' z res := by
  unfold OutR at *
  cases res with
  | inl x =>
    obtain ⟨r, σ', p', o', a1, a2, a3, a4, a5, a6, a7, a8, a9⟩ := h
    exact ⟨r, σ', p', o', a1, a2, a3, a4, a5, a6, a7, a8, hB _ _ a9⟩
  | inr x =>
    obtain ⟨r, σ', a1, a2, a3, a4, a5⟩ := h
    exact ⟨r, σ', a1, a2, a3, a4, hV _ _ _ a5⟩
theorem ixo1 {c : Int} (c0 : 0 ≤ c) (c1 : c ≤ 255) : (iI 0 ≤ ixo (lits 1) (iI c)) ↔ factA c ≠ -1 := by
  unfold ixo
  rw [iv_to (by omega) (by omega)]
  have e : ixoF (lits 1) c 0 = if 102 = c then 0 else if 116 = c then 1 else if 107 = c then 2 else if 110 = c then 3 else if 113 = c then 4 else if 115 = c then 5 else if 119 = c then 6 else -1 := rfl
  rw [e]
  unfold factA
  by_cases d1 : c = 102
  · subst d1; decide
  by_cases d2 : c = 116
  · subst d2; decide
  by_cases d3 : c = 107
  · subst d3; decide
  by_cases d4 : c = 110
  · subst d4; decide
  by_cases d5 : c = 113
  · subst d5; decide
  by_cases d6 : c = 115
  · subst d6; decide
  by_cases d7 : c = 119
  · subst d7; decide
  rw [if_neg (by omega), if_neg (by omega), if_neg (by omega), if_neg (by omega), if_neg (by omega), if_neg (by omega), if_neg (by omega), if_neg d1, if_neg d2, if_neg d3, if_neg d4, if_neg d5, if_neg d6, if_neg d7]
  decide
theorem cI_y {β : Type} {σ : Mem} {a : Nat} {f : Option β} : cI σ (some a) f = f := rfl
section
variable {rd : Nat} {n : Int} {T : Int → Int} {rf rp rs : Option Nat → Mem → Option (Option Nat × Mem)}
theorem f_44 {σ : Mem} {p o ft pl : Int} (h : RE rd n T σ) {r : Option Nat} : sX9_factor_44 rf rp rs (some rd) r (rdM rd p o ft pl σ) = some (r, rdM rd p (o - 1) ft pl σ) := by
  unfold sX9_factor_44
  rw [gI_r3 h, iv_sub, pI_r3 h]
theorem f_30b {σ : Mem} {p o ft pl : Int} (h : RE rd n T σ) (c1 : 1 ≤ ft) (c2 : ft ≤ 5) {r : Option Nat} : sX9_factor_30 rf rp rs (some rd) r (rdM rd p o ft pl σ) = some (r, rdM rd p (o - 1) ft pl σ) := by
  unfold sX9_factor_30
  rw [cV_r h, f_good1 h c1 c2, clw, if_pos rfl, f_44 h]
theorem f_30g {σ : Mem} {p o : Int} (h : RE rd n T σ) (p0 : 0 ≤ p) (p1 : p ≤ 100000) {r : Option Nat} : sX9_factor_30 rf rp rs (some rd) r (rdM rd p o 0 0 σ) = some (r, if hrA T n p = 93 then rdM rd (p + 1) (o - 1) 0 0 σ else rdM rd (p + 1) (o - 1) 1 p σ) := by
  unfold sX9_factor_30
  rw [cV_r h, f_good0 h, clw, if_neg iv_01, cV_r h, f_must h p0 p1 (by omega) (by omega), clw]
  by_cases c : hrA T n p = 93
  · rw [if_pos c, if_pos c, f_44 h]
  · rw [if_neg c, if_neg c, f_44 h]
theorem f_97 {σ : Mem} {p o ft pl : Int} (h : RE rd n T σ) (hr : Room σ 1) {c : Int32} : sX9_factor_97 rf rp rs (some rd) c (rdM rd p o ft pl σ) = some (some (mZ σ), rdM rd (p + 1) o ft pl (up2 (mI (mNew σ 9 1)) (mZ σ) 0 c, (mNew σ 9 1).2)) := by
  have k : (mK (mNew σ 9 1) (mZ σ)).1 = 9 := by show (if mZ σ = mZ σ then (9, 1) else _ : Nat × Nat).1 = 9; rw [if_pos rfl]
  unfold sX9_factor_97
  rw [gI_r2 h, iv_add, pI_r2 h, nO_r h.2.1 hr (by omega)]
  unfold sX11_init sX6_init
  rw [cI_y, cI_y, cI_y, clw, pI_ro (by have := h.2.1; omega) k]
  rfl
theorem f_factor {sm : Int → Int → Res SumV} {k : Nat} {σ : Mem} {o p : Int} (hs : o ≤ 5 → ∀ (σ : Mem) (p : Int), RE rd n T σ → 0 ≤ p → p ≤ n → Room σ (3 * (n - p) + 3) → OutR rd n (mZ σ) σ (o + 1) p 0 3 1 (VS k (mZ σ)) B0 (rs (some rd) (rdM rd p (o + 1) 0 0 σ)) (sm (o + 1) p))
    (h : RE rd n T σ) (p0 : 0 ≤ p) (p1 : p ≤ n) (o0 : 0 ≤ o) (o1 : o ≤ 6) (hr : Room σ (3 * (n - p) + 1)) : OutR rd n (mZ σ) σ o p 2 1 1 (VS k (mZ σ)) B0 (sX9_factor_0 rf rp rs (some rd) (rdM rd p o 0 0 σ)) (rFac T n sm o p) := by
  obtain ⟨b1, b2, b3, b4, b5, b6, b7, b8, b9, b10, b11⟩ := id h
  have r0 := h0_r (p := p) h
  have E : (iI (h0A T n p) = iI 91) = (h0A T n p = 91) := iv_eq (by omega) (by omega) (by omega) (by omega)
  have E0 : (iI (h0A T n p) = iI 0) = (h0A T n p = 0) := iv_eq (by omega) (by omega) (by omega) (by omega)
  unfold sX9_factor_0 rFac
  rw [cV_r h, f_here h p0 (by omega), clw]
  by_cases c : hrA T n p = 91
  · have hp := h0_in (c := 91) (by omega) c
    rw [if_pos (by rw [E]; exact (h0_eq (by omega)).mpr c), if_pos c, cV_r h, f_opens h o0 o1, clw]
    by_cases d : o = 6
    · rw [if_pos d, if_pos d, cV_r h, f_good1 h (by omega) (by omega), clw, if_pos rfl, f_30b h (by omega) (by omega)]
      exact ⟨none, σ, p + 1, _, rfl, Grow.rfl'.le (by omega), by omega, by omega, by show (1 : Int) ≤ 5; omega, by show (5 : Int) ≤ 5; omega, p0, p1, trivial⟩
    · rw [if_neg d, if_neg d, cV_r h, f_good0 h, clw, if_neg iv_01, cV_r h]
      have q := hs (by omega) σ (p + 1) h (by omega) (by omega) ⟨by have := hr.1; omega, by have := hr.2; omega⟩
      unfold OutR at q
      cases e : sm (o + 1) (p + 1) with
      | inl x =>
        rw [e] at q
        obtain ⟨r, σ', p', o', a1, a2, a3, a4, a5, a6, a7, a8, a9⟩ := q
        have h' := a2.re h b2
        refine ⟨r, σ', p', o' - 1, ?_, a2.le (by omega), a3, a4, a5, a6, a7, a8, trivial⟩
        rw [a1, clw, f_30b h' a5 a6]
      | inr x =>
        rw [e] at q
        obtain ⟨r, σ', a1, a2, a3, a4, a5⟩ := q
        have h' := a2.re h b2
        rw [a1, clw, f_30g h' (by omega) (by omega)]
        show OutR rd n (mZ σ) σ o p 2 1 1 (VS k (mZ σ)) B0 _ (if hrA T n x.2 = 93 then .inr (x.1, x.2 + 1) else .inl (1, x.2))
        by_cases g : hrA T n x.2 = 93
        · have hq := h0_in (c := 93) (by omega) g
          rw [if_pos g, if_pos g, show o + 1 - 1 = o by omega]
          exact ⟨r, σ', rfl, a2.le (by show 3 * (x.2 - (p + 1)) - 0 ≤ 3 * (x.2 + 1 - p) - 2; omega), by show p ≤ x.2 + 1; omega, by show x.2 + 1 ≤ n; omega, a5⟩
        · rw [if_neg g, if_neg g]
          exact ⟨r, σ', x.2 + 1, _, rfl, a2.le (by omega), by omega, by omega, by show (1 : Int) ≤ 1; omega, by show (1 : Int) ≤ 5; omega, by show 0 ≤ x.2; omega, a4, trivial⟩
  · rw [if_neg (by rw [E]; exact fun z => c ((h0_eq (by omega)).mp z)), if_neg c, cV_r h, f_dig h p0 (by omega), clw]
    have hr1 : Room σ 1 := ⟨by have := hr.1; omega, by have := hr.2; omega⟩
    by_cases d : isDig (hrA T n p)
    · have hp : p < n := h0_in (c := hrA T n p) (by unfold isDig at d; omega) rfl
      have Bd : ¬ bI (isDig (hrA T n p)) = iI 0 := by rw [bI_z]; exact fun z => z d
      have g1 : Grow (mZ σ) σ (mNew σ 8 1) 1 := grow_new (Nat.le_refl _) (by omega)
      have h1 := g1.re h b2
      have k1 : (mK (mNew σ 8 1) (mZ σ)).1 = 8 := by show (if mZ σ = mZ σ then (8, 1) else _ : Nat × Nat).1 = 8; rw [if_pos rfl]
      rw [if_neg Bd, if_pos d, nO_r b2 hr1 (by omega), cV_r h1]
      have nm := f_num (o := o) h1 p0 6 FU 0 p (by omega) (by omega) (by unfold FU; omega) (by omega) p1
      have init : ∀ (v : Int32) (p o ft pl : Int), sX10_init (some (mZ σ)) v (rdM rd p o ft pl (mNew σ 8 1)) = some ((), rdM rd p o ft pl (up2 (mI (mNew σ 8 1)) (mZ σ) 0 v, (mNew σ 8 1).2)) := by
        intro v p o ft pl
        unfold sX10_init sX6_init
        rw [cI_y, cI_y, clw, pI_ro (by omega) k1]
      have en : sX9_number (some rd) (rdM rd p o 0 0 (mNew σ 8 1)) = sX9_number_7 FU (some rd) (iI p) (iI 0) (rdM rd p o 0 0 (mNew σ 8 1)) := by
        unfold sX9_number
        rw [gI_r2 h1]
      have g2 : ∀ v, Grow (mZ σ) σ (up2 (mI (mNew σ 8 1)) (mZ σ) 0 v, (mNew σ 8 1).2) (1 + 0) := fun v => g1.trans (grow_I (Nat.le_refl _))
      rw [en]
      cases e : rNumL T n p 6 0 p with
      | inl x =>
        rw [e] at nm
        obtain ⟨u, n1, n2, n3, n4⟩ := nm
        rw [n1, clw, cI_y, init, clw]
        exact ⟨_, _, x.2 + 1, o, rfl, (g2 u).le (by omega), by omega, by omega, by omega, by omega, by omega, by omega, trivial⟩
      | inr x =>
        rw [e] at nm
        obtain ⟨n1, n2, n3, n4⟩ := nm
        have n5 := n4 d
        rw [n1, clw, cI_y, init, clw]
        have sd : SumD 0 (mZ σ) (up2 (mI (mNew σ 8 1)) (mZ σ) 0 (iI x.1), (mNew σ 8 1).2) (mZ σ) (fun _ => some (iI x.1)) := by
          refine sum_num (v := iI x.1) (by omega) (Nat.le_refl _) ?_ k1 ?_
          · show mZ σ < mZ σ + 1; omega
          · exact if_pos ⟨rfl, rfl⟩
        exact ⟨_, _, rfl, (g2 _).le (by show 1 + 0 ≤ 3 * (x.2 - p) - 2; omega), by show p ≤ x.2; omega, n3, mZ σ, rfl, sd.lo (by omega) (Nat.le_refl _) (by omega)⟩
    · have Bd : bI (isDig (hrA T n p)) = iI 0 := by rw [bI_z]; exact d
      have g9 : ∀ v, Grow (mZ σ) σ (up2 (mI (mNew σ 9 1)) (mZ σ) 0 v, (mNew σ 9 1).2) (1 + 0) := fun v => (grow_new (k := 9) (m := 1) (Nat.le_refl (mZ σ)) (by omega)).trans (grow_I (Nat.le_refl _))
      rw [if_pos Bd, if_neg d]
      have e88 : ∀ c, sX9_factor_88 rf rp rs (some rd) c (rdM rd p o 0 0 σ) = some (some (mZ σ), rdM rd (p + 1) o 1 p (up2 (mI (mNew σ 9 1)) (mZ σ) 0 c, (mNew σ 9 1).2)) := by
        intro c
        unfold sX9_factor_88
        rw [gI_r2 h, cV_r h, f_bad0 h, clw, f_97 h hr1]
      have out88 : ∀ c, OutR rd n (mZ σ) σ o p 2 1 1 (VS k (mZ σ)) B0 (sX9_factor_88 rf rp rs (some rd) c (rdM rd p o 0 0 σ)) (.inl (1, p)) := fun c =>
        ⟨_, _, p + 1, o, e88 c, (g9 c).le (by omega), by omega, by omega, by show (1 : Int) ≤ 1; omega, by show (1 : Int) ≤ 5; omega, p0, p1, trivial⟩
      by_cases z : h0A T n p = 0
      · have fz : factA (hrA T n p) = -1 := by
          unfold h0A at z
          unfold hrA
          split
          · rename_i y
            rw [if_pos y] at z
            rw [z]
            rfl
          · rfl
        rw [if_pos (by rw [E0]; exact z), if_pos fz]
        exact out88 _
      · have hp : p < n := by
          unfold h0A at z
          split at z
          · assumption
          · omega
        have eh : hrA T n p = h0A T n p := by unfold h0A hrA; rw [if_pos hp, if_pos hp]
        rw [if_neg (by rw [E0]; exact z), eh]
        have ix := ixo1 r0.1 r0.2
        by_cases y : factA (h0A T n p) = -1
        · rw [if_neg (fun w => (ix.mp w) y), if_pos y]
          exact out88 _
        · rw [if_pos (ix.mpr y), if_neg y, f_97 h hr1]
          have sd : SumD 0 (mZ σ) (up2 (mI (mNew σ 9 1)) (mZ σ) 0 (iI (h0A T n p)), (mNew σ 9 1).2) (mZ σ) (fun F => some (iI (F (factA (h0A T n p))))) := by
            refine sum_let (c := h0A T n p) (by omega) (Nat.le_refl _) ?_ ?_ ?_ r0.1 r0.2 y
            · show mZ σ < mZ σ + 1; omega
            · show (if mZ σ = mZ σ then (9, 1) else _ : Nat × Nat).1 = 9; rw [if_pos rfl]
            · exact if_pos ⟨rfl, rfl⟩
          exact ⟨_, _, rfl, (g9 _).le (by show 1 + 0 ≤ 3 * (p + 1 - p) - 2; omega), by show p ≤ p + 1; omega, by show p + 1 ≤ n; omega, mZ σ, rfl, sd.lo (by omega) (Nat.le_refl _) (by omega)⟩
theorem pr_exit {σ : Mem} {p o ft pl : Int} (h : RE rd n T σ) (c1 : 1 ≤ ft) (c2 : ft ≤ 5) {fu : Nat} {v1 v2 : Option Nat} : sX9_product_15 rf rp rs (fu + 1) (some rd) v1 v2 (rdM rd p o ft pl σ) = some (v1, rdM rd p o ft pl σ) := by
  show sX9_product_15b rf rp rs (sX9_product_15 rf rp rs fu) (some rd) v1 v2 _ = _
  generalize sX9_product_15 rf rp rs fu = K
  unfold sX9_product_15b
  rw [cV_r h, f_good1 h c1 c2, clw, if_pos rfl]
theorem pr_test {σ : Mem} {p o : Int} (h : RE rd n T σ) (p0 : 0 ≤ p) (p1 : p ≤ n) {K : Option Nat → Option Nat → Option Nat → Mem → Option (Option Nat × Mem)} {v1 v2 : Option Nat} : sX9_product_15b rf rp rs K (some rd) v1 v2 (rdM rd p o 0 0 σ) = if mulA (hrA T n p) = -1 then some (v1, rdM rd p o 0 0 σ) else sX9_product_49 rf rp rs K (some rd) v1 v2 (rdM rd p o 0 0 σ) := by
  obtain ⟨b1, b2, b3, b4, b5, b6, b7, b8, b9, b10, b11⟩ := id h
  have r0 := h0_r (p := p) h
  have E : ∀ c : Int, 1 ≤ c → c ≤ 255 → ((iI (h0A T n p) = iI c) ↔ hrA T n p = c) := fun c c0 c1 => by
    have : (iI (h0A T n p) = iI c) = (h0A T n p = c) := iv_eq (by omega) (by omega) (by omega) (by omega)
    rw [this]
    exact h0_eq c0
  unfold sX9_product_15b
  rw [cV_r h, f_good0 h, clw, if_neg iv_01]
  rw [cV_r h, f_here h p0 (by omega), clw]
  by_cases d0 : hrA T n p = 42
  · rw [if_pos ((E 42 (by omega) (by omega)).mpr d0), if_neg (by rw [d0]; decide)]
  · rw [if_neg (fun z => d0 ((E 42 (by omega) (by omega)).mp z)), cV_r h, f_here h p0 (by omega), clw]
    by_cases d1 : hrA T n p = 47
    · rw [if_pos ((E 47 (by omega) (by omega)).mpr d1), if_neg (by rw [d1]; decide)]
    · rw [if_neg (fun z => d1 ((E 47 (by omega) (by omega)).mp z)), cV_r h, f_here h p0 (by omega), clw]
      by_cases d2 : hrA T n p = 37
      · rw [if_pos ((E 37 (by omega) (by omega)).mpr d2), if_neg (by rw [d2]; decide)]
      · rw [if_neg (fun z => d2 ((E 37 (by omega) (by omega)).mp z)), if_pos (by unfold mulA; rw [if_neg d0, if_neg d1, if_neg d2])]
theorem pr_init {σ : Mem} {p o ft pl : Int} {x : Nat} (hx : x ≠ rd) (k : (mK σ x).1 = 5) {c : Int32} {r : Option Nat} : sX7_init (some x) c r (rdM rd p o ft pl σ) = some ((), rdM rd p o ft pl (up2 (mI σ) x 0 c, up2 (mP σ) x 1 r, σ.2.2)) := by
  unfold sX7_init sX6_init
  rw [cI_y, cI_y, clw, pI_ro hx k, pR_ro (σ := (up2 (mI σ) x 0 c, σ.2)) k]
theorem pr_step {σ : Mem} {p o : Int} (h : RE rd n T σ) (p0 : 0 ≤ p) (p1 : p < n) (hr : Room σ 1) {K : Option Nat → Option Nat → Option Nat → Mem → Option (Option Nat × Mem)} {hd ls : Nat} {r : Option Nat} {σ3 : Mem} {p' o' ft pl : Int} (e : rf (some rd) (rdM rd (p + 1) o 0 0 (mNew σ 5 3)) = some (r, rdM rd p' o' ft pl σ3)) (kx : (mK σ3 (mZ σ)).1 = 5) (kl : (mK σ3 ls).1 = 5) :
    sX9_product_49 rf rp rs K (some rd) (some hd) (some ls) (rdM rd p o 0 0 σ) = K (some rd) (some hd) (some (mZ σ)) (rdM rd p' o' ft pl (up2 (mI σ3) (mZ σ) 0 (iI (hrA T n p)), up2 (up2 (mP σ3) (mZ σ) 1 r) ls 2 (some (mZ σ)), σ3.2.2)) := by
  obtain ⟨b1, b2, b3, b4, b5, b6, b7, b8, b9, b10, b11⟩ := id h
  have h1 : RE rd n T (mNew σ 5 3) := (grow_new (k := 5) (m := 3) (Nat.le_refl (mZ σ)) (by omega)).re h b2
  have eh : h0A T n p = hrA T n p := by unfold h0A hrA; rw [if_pos p1, if_pos p1]
  unfold sX9_product_49
  rw [cV_r h, f_here h p0 (by omega), clw, gI_r2 h, iv_add, pI_r2 h, nO_r b2 hr (by omega), cV_r h1, e, clw, eh, cI_y, pr_init (by omega) kx, clw, pR_ro (σ := (up2 (mI σ3) (mZ σ) 0 (iI (hrA T n p)), up2 (mP σ3) (mZ σ) 1 r, σ3.2.2)) kl, gR_ro (σ := (up2 (mI σ3) (mZ σ) 0 (iI (hrA T n p)), up2 (up2 (mP σ3) (mZ σ) 1 r) ls 2 (some (mZ σ)), σ3.2.2)) kl]
  show K (some rd) (some hd) (if ls = ls ∧ 2 = 2 then some (mZ σ) else _) _ = _
  rw [if_pos ⟨rfl, rfl⟩]
theorem pr_loop {rdf : Int → Res SumV} {k : Nat} {o : Int} (hf : ∀ (σ : Mem) (p : Int), RE rd n T σ → 0 ≤ p → p ≤ n → Room σ (3 * (n - p) + 1) → OutR rd n (mZ σ) σ o p 2 1 1 (VS k (mZ σ)) B0 (rf (some rd) (rdM rd p o 0 0 σ)) (rdf p)) :
    ∀ (fr fu : Nat) (σ : Mem) (p : Int) (e : SumV) (hd ls lo : Nat), RE rd n T σ → rd < lo → 0 ≤ p → p ≤ n → (n - p).toNat + 1 ≤ fr → (n - p).toNat + 2 ≤ fu → SegS k lo σ hd ls e fu → Room σ (3 * (n - p) + 1 + 1) →
    match rOps T n mulA rdf fr e p with
    | .inl x => ∃ σ' p' o', sX9_product_15 rf rp rs fu (some rd) (some hd) (some ls) (rdM rd p o 0 0 σ) = some (some hd, rdM rd p' o' x.1 x.2 σ') ∧ Grow lo σ σ' (3 * (n - p) + 1 + 1) ∧ 0 ≤ p' ∧ p' ≤ n + 1 ∧ 1 ≤ x.1 ∧ x.1 ≤ 5 ∧ 0 ≤ x.2 ∧ x.2 ≤ n ∧ (mK σ' hd).1 = 5
    | .inr x => ∃ σ', sX9_product_15 rf rp rs fu (some rd) (some hd) (some ls) (rdM rd p o 0 0 σ) = some (some hd, rdM rd x.2 o 0 0 σ') ∧ Grow lo σ σ' (3 * (x.2 - p)) ∧ p ≤ x.2 ∧ x.2 ≤ n ∧ SumD (k + 1) lo σ' hd x.1 ∧ (mK σ' hd).1 = 5
  | 0, fu, σ, p, e, hd, ls, lo, h, hl, p0, p1, i1, i2, sg, hr => by omega
  | fr + 1, 0, σ, p, e, hd, ls, lo, h, hl, p0, p1, i1, i2, sg, hr => by omega
  | fr + 1, fu + 1, σ, p, e, hd, ls, lo, h, hl, p0, p1, i1, i2, sg, hr => by
    obtain ⟨b1, b2, b3, b4, b5, b6, b7, b8, b9, b10, b11⟩ := id h
    obtain ⟨s1, s2, s3, s4, s5, s6, s7, s8, s9⟩ := id sg
    have eL : sX9_product_15 rf rp rs (fu + 1) (some rd) (some hd) (some ls) (rdM rd p o 0 0 σ) = _ := pr_test (K := sX9_product_15 rf rp rs fu) h p0 p1
    rw [eL]
    unfold rOps
    by_cases c : mulA (hrA T n p) = -1
    · rw [if_pos c, if_pos c]
      exact ⟨σ, rfl, Grow.rfl'.le (by show 0 ≤ 3 * (p - p); omega), Int.le_refl _, p1, seg_done sg, s6⟩
    · rw [if_neg c, if_neg c]
      have hp : p < n := h0_in (c := hrA T n p) (by unfold mulA at c; omega) rfl
      have g1 : Grow (mZ σ) σ (mNew σ 5 3) 1 := grow_new (Nat.le_refl _) (by omega)
      have h1 := g1.re h b2
      have hr1 : Room (mNew σ 5 3) (3 * (n - (p + 1)) + 1) := by
        constructor
        · have := hr.1
          show ((mZ σ + 1 : Nat) : Int) + _ ≤ _
          omega
        · have := hr.2
          show ((mY σ + 3 : Nat) : Int) + _ ≤ _
          omega
      have q := hf (mNew σ 5 3) (p + 1) h1 (by omega) (by omega) hr1
      have zn : mZ (mNew σ 5 3) = mZ σ + 1 := rfl
      unfold OutR at q
      have prep : ∀ (σ3 : Mem) (cc : Int), Grow (mZ (mNew σ 5 3)) (mNew σ 5 3) σ3 cc → Agm lo (mNew σ 5 3) σ3 ∧ (mK σ3 (mZ σ)).1 = 5 ∧ (mK σ3 ls).1 = 5 ∧ (mK σ3 hd).1 = 5 := by
        intro σ3 cc g
        have ag : Agm lo (mNew σ 5 3) σ3 := fun b b0 b1 => g.1 b b1
        have kd : ∀ b, b < mZ σ → mK σ3 b = mK σ b := fun b b1 => ((g.1 b (by omega)).1).trans (if_neg (by omega))
        refine ⟨ag, ?_, by rw [kd ls s5]; exact s7, by rw [kd hd s3]; exact s6⟩
        rw [(g.1 (mZ σ) (by omega)).1]
        show (if mZ σ = mZ σ then (5, 3) else _ : Nat × Nat).1 = 5
        rw [if_pos rfl]
      have gN : ∀ (σ3 : Mem) (cc : Int) (r : Option Nat), Grow (mZ (mNew σ 5 3)) (mNew σ 5 3) σ3 cc → Grow lo σ (up2 (mI σ3) (mZ σ) 0 (iI (hrA T n p)), up2 (up2 (mP σ3) (mZ σ) 1 r) ls 2 (some (mZ σ)), σ3.2.2) (1 + cc) := by
        intro σ3 cc r g
        have g2 := (g1.dn (lo' := lo) (by omega)).trans (g.dn (lo' := lo) (by omega))
        refine ⟨fun b hb => ?_, g2.2⟩
        obtain ⟨u1, u2, u3⟩ := g2.1 b hb
        refine ⟨u1, fun j => ?_, fun j => ?_⟩
        · show (if b = mZ σ ∧ j = 0 then _ else mI σ3 b j) = _
          rw [if_neg (by omega)]; exact u2 j
        · show (if b = ls ∧ j = 2 then _ else if b = mZ σ ∧ j = 1 then _ else mP σ3 b j) = _
          rw [if_neg (by omega), if_neg (by omega)]; exact u3 j
      have hr0 : Room σ 1 := ⟨by have := hr.1; omega, by have := hr.2; omega⟩
      cases e9 : rdf (p + 1) with
      | inl x =>
        rw [e9] at q
        obtain ⟨r, σ3, p', o', a1, a2, a3, a4, a5, a6, a7, a8, a9⟩ := q
        obtain ⟨pa, pb, pc, pd⟩ := prep σ3 _ a2
        obtain ⟨fu', rfl⟩ : ∃ u, fu = u + 1 := ⟨fu - 1, by omega⟩
        have gn := gN σ3 _ r a2
        have hn := gn.re h hl
        refine ⟨_, p', o', ?_, gn.le (by omega), a3, a4, a5, a6, a7, a8, ?_⟩
        · rw [pr_step h p0 hp hr0 a1 pb pc, pr_exit hn a5 a6]
        · exact pd
      | inr x =>
        rw [e9] at q
        obtain ⟨r, σ3, a1, a2, a3, a4, ⟨a, ra, a5⟩⟩ := q
        obtain ⟨pa, pb, pc, pd⟩ := prep σ3 _ a2
        subst ra
        have gn := gN σ3 _ (some a) a2
        have hn := gn.re h hl
        have sc : sgQ (hrA T n p) = mulA (hrA T n p) := by unfold sgQ; rw [if_neg c]
        have sg' := seg_more (c := hrA T n p) (x := mZ σ) sg (by rw [sc]; exact c) rfl pa (by have := a2.2.1; omega) a5
        rw [sc] at sg'
        have ih := pr_loop hf fr fu _ x.2 _ hd (mZ σ) lo hn hl (by omega) a4 (by omega) (by omega) sg' ⟨by have := hr.1; have := gn.2.2.1; omega, by have := hr.2; have := gn.2.2.2; omega⟩
        rw [pr_step h p0 hp hr0 a1 pb pc]
        show match rOps T n mulA rdf fr (binV (mulA (hrA T n p)) e x.1) x.2 with | .inl x => _ | .inr x => _
        cases e8 : rOps T n mulA rdf fr (binV (mulA (hrA T n p)) e x.1) x.2 with
        | inl y =>
          rw [e8] at ih
          obtain ⟨σ', p', o', i1, i2, i3⟩ := ih
          exact ⟨σ', p', o', i1, (gn.trans i2).le (by omega), i3⟩
        | inr y =>
          rw [e8] at ih
          obtain ⟨σ', i1, i2, i3, i4, i5⟩ := ih
          exact ⟨σ', i1, (gn.trans i2).le (by omega), by omega, i4, i5⟩
theorem pr_read {rdf : Int → Res SumV} {k : Nat} {o : Int} (hf : ∀ (σ : Mem) (p : Int), RE rd n T σ → 0 ≤ p → p ≤ n → Room σ (3 * (n - p) + 1) → OutR rd n (mZ σ) σ o p 2 1 1 (VS k (mZ σ)) B0 (rf (some rd) (rdM rd p o 0 0 σ)) (rdf p))
    {σ : Mem} {p : Int} (h : RE rd n T σ) (p0 : 0 ≤ p) (p1 : p ≤ n) (hr : Room σ (3 * (n - p) + 1 + 1)) : OutR rd n (mZ σ) σ o p (2 - 1) (1 + 1) 1 (V5 (k + 1) (mZ σ)) B5 (sX9_product_0 rf rp rs (some rd) (rdM rd p o 0 0 σ)) (rSeq T n mulA rdf p) := by
  obtain ⟨b1, b2, b3, b4, b5, b6, b7, b8, b9, b10, b11⟩ := id h
  have g1 : Grow (mZ σ) σ (mNew σ 5 3) 1 := grow_new (Nat.le_refl _) (by omega)
  have h1 := g1.re h b2
  have hr1 : Room (mNew σ 5 3) (3 * (n - p) + 1) := by
    constructor
    · have := hr.1
      show ((mZ σ + 1 : Nat) : Int) + _ ≤ _
      omega
    · have := hr.2
      show ((mY σ + 3 : Nat) : Int) + _ ≤ _
      omega
  have q := hf (mNew σ 5 3) p h1 p0 p1 hr1
  have zn : mZ (mNew σ 5 3) = mZ σ + 1 := rfl
  have hr0 : Room σ 1 := ⟨by have := hr.1; omega, by have := hr.2; omega⟩
  have prep : ∀ (σ3 : Mem) (cc : Int), Grow (mZ (mNew σ 5 3)) (mNew σ 5 3) σ3 cc → (mK σ3 (mZ σ)).1 = 5 ∧ mP σ3 (mZ σ) 2 = none := by
    intro σ3 cc g
    refine ⟨?_, ?_⟩
    · rw [(g.1 (mZ σ) (by omega)).1]
      show (if mZ σ = mZ σ then (5, 3) else _ : Nat × Nat).1 = 5
      rw [if_pos rfl]
    · rw [(g.1 (mZ σ) (by omega)).2.2]
      exact if_pos rfl
  have gN : ∀ (σ3 : Mem) (cc : Int) (r : Option Nat), Grow (mZ (mNew σ 5 3)) (mNew σ 5 3) σ3 cc → Grow (mZ σ) σ (up2 (mI σ3) (mZ σ) 0 (iI 0), up2 (mP σ3) (mZ σ) 1 r, σ3.2.2) (1 + cc) := by
    intro σ3 cc r g
    have g2 := g1.trans (g.dn (lo' := mZ σ) (by omega))
    refine ⟨fun b hb => ?_, g2.2⟩
    obtain ⟨u1, u2, u3⟩ := g2.1 b hb
    refine ⟨u1, fun j => ?_, fun j => ?_⟩
    · show (if b = mZ σ ∧ j = 0 then _ else mI σ3 b j) = _
      rw [if_neg (by omega)]; exact u2 j
    · show (if b = mZ σ ∧ j = 1 then _ else mP σ3 b j) = _
      rw [if_neg (by omega)]; exact u3 j
  have st : ∀ (r : Option Nat) (σ3 : Mem) (p' o' ft pl : Int), rf (some rd) (rdM rd p o 0 0 (mNew σ 5 3)) = some (r, rdM rd p' o' ft pl σ3) → (mK σ3 (mZ σ)).1 = 5 → sX9_product_0 rf rp rs (some rd) (rdM rd p o 0 0 σ) = sX9_product_15 rf rp rs FU (some rd) (some (mZ σ)) (some (mZ σ)) (rdM rd p' o' ft pl (up2 (mI σ3) (mZ σ) 0 (iI 0), up2 (mP σ3) (mZ σ) 1 r, σ3.2.2)) := by
    intro r σ3 p' o' ft pl e kx
    unfold sX9_product_0
    rw [nO_r b2 hr0 (by omega), cV_r h1, e, clw, cI_y, pr_init (by omega) kx, clw]
  unfold OutR rSeq
  unfold OutR at q
  cases e9 : rdf p with
  | inl x =>
    rw [e9] at q
    obtain ⟨r, σ3, p', o', a1, a2, a3, a4, a5, a6, a7, a8, a9⟩ := q
    obtain ⟨pb, pc⟩ := prep σ3 _ a2
    have gn := gN σ3 _ r a2
    have hn := gn.re h b2
    obtain ⟨fu, hfu⟩ : ∃ u, FU = u + 1 := ⟨999999, by unfold FU; omega⟩
    refine ⟨some (mZ σ), _, p', o', ?_, gn.le (by omega), a3, a4, a5, a6, a7, a8, mZ σ, rfl, pb⟩
    rw [st _ _ _ _ _ _ a1 pb, hfu, pr_exit hn a5 a6]
  | inr x =>
    rw [e9] at q
    obtain ⟨r, σ3, a1, a2, a3, a4, ⟨a, ra, a5⟩⟩ := q
    subst ra
    obtain ⟨pb, pc⟩ := prep σ3 _ a2
    have gn := gN σ3 _ (some a) a2
    have hn := gn.re h b2
    have a5' : SumD k (mZ σ + 1) (up2 (mI σ3) (mZ σ) 0 (iI 0), σ3.2) a x.1 := a5.up (fun b b0 b1 => ⟨rfl, fun j => if_neg (by omega), fun j => rfl⟩) (Nat.le_refl _)
    have sg := (seg_1 (lo := mZ σ) (x := mZ σ) a5' (by omega) (Nat.le_refl _) pb).resolve_right (fun z => z pc)
    rw [st _ _ _ _ _ _ a1 pb]
    have lp := pr_loop (rf := rf) (rp := rp) (rs := rs) hf ((n - x.2).toNat + 1) FU _ x.2 x.1 (mZ σ) (mZ σ) (mZ σ) hn b2 (by omega) a4 (Nat.le_refl _) (by unfold FU; omega) sg ⟨by have := hr.1; have := gn.2.2.1; omega, by have := hr.2; have := gn.2.2.2; omega⟩
    show OutR rd n (mZ σ) σ o p (2 - 1) (1 + 1) 1 (V5 (k + 1) (mZ σ)) B5 (sX9_product_15 rf rp rs FU (some rd) (some (mZ σ)) (some (mZ σ)) _) (rOps T n mulA rdf ((n - x.2).toNat + 1) x.1 x.2)
    unfold OutR
    cases e8 : rOps T n mulA rdf ((n - x.2).toNat + 1) x.1 x.2 with
    | inl y =>
      rw [e8] at lp
      obtain ⟨σ', p', o', i1, i2, i3, i4, i5, i6, i7, i8, i9⟩ := lp
      exact ⟨some (mZ σ), σ', p', o', i1, (gn.trans i2).le (by omega), i3, i4, i5, i6, i7, i8, mZ σ, rfl, i9⟩
    | inr y =>
      rw [e8] at lp
      obtain ⟨σ', i1, i2, i3, i4, i5, i6⟩ := lp
      exact ⟨some (mZ σ), σ', i1, (gn.trans i2).le (by omega), by omega, i4, mZ σ, rfl, i5, i6⟩
theorem su_exit {σ : Mem} {p o ft pl : Int} (h : RE rd n T σ) (c1 : 1 ≤ ft) (c2 : ft ≤ 5) {fu : Nat} {v1 v2 : Option Nat} : sX9_sum_15 rf rp rs (fu + 1) (some rd) v1 v2 (rdM rd p o ft pl σ) = some (v1, rdM rd p o ft pl σ) := by
  show sX9_sum_15b rf rp rs (sX9_sum_15 rf rp rs fu) (some rd) v1 v2 _ = _
  generalize sX9_sum_15 rf rp rs fu = K
  unfold sX9_sum_15b
  rw [cV_r h, f_good1 h c1 c2, clw, if_pos rfl]
theorem su_test {σ : Mem} {p o : Int} (h : RE rd n T σ) (p0 : 0 ≤ p) (p1 : p ≤ n) {K : Option Nat → Option Nat → Option Nat → Mem → Option (Option Nat × Mem)} {v1 v2 : Option Nat} : sX9_sum_15b rf rp rs K (some rd) v1 v2 (rdM rd p o 0 0 σ) = if addA (hrA T n p) = -1 then some (v1, rdM rd p o 0 0 σ) else sX9_sum_40 rf rp rs K (some rd) v1 v2 (rdM rd p o 0 0 σ) := by
  obtain ⟨b1, b2, b3, b4, b5, b6, b7, b8, b9, b10, b11⟩ := id h
  have r0 := h0_r (p := p) h
  have E : ∀ c : Int, 1 ≤ c → c ≤ 255 → ((iI (h0A T n p) = iI c) ↔ hrA T n p = c) := fun c c0 c1 => by
    have : (iI (h0A T n p) = iI c) = (h0A T n p = c) := iv_eq (by omega) (by omega) (by omega) (by omega)
    rw [this]
    exact h0_eq c0
  unfold sX9_sum_15b
  rw [cV_r h, f_good0 h, clw, if_neg iv_01]
  rw [cV_r h, f_here h p0 (by omega), clw]
  by_cases d0 : hrA T n p = 43
  · rw [if_pos ((E 43 (by omega) (by omega)).mpr d0), if_neg (by rw [d0]; decide)]
  · rw [if_neg (fun z => d0 ((E 43 (by omega) (by omega)).mp z)), cV_r h, f_here h p0 (by omega), clw]
    by_cases d1 : hrA T n p = 45
    · rw [if_pos ((E 45 (by omega) (by omega)).mpr d1), if_neg (by rw [d1]; decide)]
    · rw [if_neg (fun z => d1 ((E 45 (by omega) (by omega)).mp z)), if_pos (by unfold addA; rw [if_neg d0, if_neg d1])]
theorem su_init {σ : Mem} {p o ft pl : Int} {x : Nat} (hx : x ≠ rd) (k : (mK σ x).1 = 5) {c : Int32} {r : Option Nat} : sX7_init (some x) c r (rdM rd p o ft pl σ) = some ((), rdM rd p o ft pl (up2 (mI σ) x 0 c, up2 (mP σ) x 1 r, σ.2.2)) := by
  unfold sX7_init sX6_init
  rw [cI_y, cI_y, clw, pI_ro hx k, pR_ro (σ := (up2 (mI σ) x 0 c, σ.2)) k]
theorem su_step {σ : Mem} {p o : Int} (h : RE rd n T σ) (p0 : 0 ≤ p) (p1 : p < n) (hr : Room σ 1) {K : Option Nat → Option Nat → Option Nat → Mem → Option (Option Nat × Mem)} {hd ls : Nat} {r : Option Nat} {σ3 : Mem} {p' o' ft pl : Int} (e : rp (some rd) (rdM rd (p + 1) o 0 0 (mNew σ 5 3)) = some (r, rdM rd p' o' ft pl σ3)) (kx : (mK σ3 (mZ σ)).1 = 5) (kl : (mK σ3 ls).1 = 5) :
    sX9_sum_40 rf rp rs K (some rd) (some hd) (some ls) (rdM rd p o 0 0 σ) = K (some rd) (some hd) (some (mZ σ)) (rdM rd p' o' ft pl (up2 (mI σ3) (mZ σ) 0 (iI (hrA T n p)), up2 (up2 (mP σ3) (mZ σ) 1 r) ls 2 (some (mZ σ)), σ3.2.2)) := by
  obtain ⟨b1, b2, b3, b4, b5, b6, b7, b8, b9, b10, b11⟩ := id h
  have h1 : RE rd n T (mNew σ 5 3) := (grow_new (k := 5) (m := 3) (Nat.le_refl (mZ σ)) (by omega)).re h b2
  have eh : h0A T n p = hrA T n p := by unfold h0A hrA; rw [if_pos p1, if_pos p1]
  unfold sX9_sum_40
  rw [cV_r h, f_here h p0 (by omega), clw, gI_r2 h, iv_add, pI_r2 h, nO_r b2 hr (by omega), cV_r h1, e, clw, eh, cI_y, su_init (by omega) kx, clw, pR_ro (σ := (up2 (mI σ3) (mZ σ) 0 (iI (hrA T n p)), up2 (mP σ3) (mZ σ) 1 r, σ3.2.2)) kl, gR_ro (σ := (up2 (mI σ3) (mZ σ) 0 (iI (hrA T n p)), up2 (up2 (mP σ3) (mZ σ) 1 r) ls 2 (some (mZ σ)), σ3.2.2)) kl]
  show K (some rd) (some hd) (if ls = ls ∧ 2 = 2 then some (mZ σ) else _) _ = _
  rw [if_pos ⟨rfl, rfl⟩]
theorem su_loop {rdf : Int → Res SumV} {k : Nat} {o : Int} (hf : ∀ (σ : Mem) (p : Int), RE rd n T σ → 0 ≤ p → p ≤ n → Room σ (3 * (n - p) + 2) → OutR rd n (mZ σ) σ o p 1 2 1 (VS k (mZ σ)) B0 (rp (some rd) (rdM rd p o 0 0 σ)) (rdf p)) :
    ∀ (fr fu : Nat) (σ : Mem) (p : Int) (e : SumV) (hd ls lo : Nat), RE rd n T σ → rd < lo → 0 ≤ p → p ≤ n → (n - p).toNat + 1 ≤ fr → (n - p).toNat + 2 ≤ fu → SegS k lo σ hd ls e fu → Room σ (3 * (n - p) + 2 + 1) →
    match rOps T n addA rdf fr e p with
    | .inl x => ∃ σ' p' o', sX9_sum_15 rf rp rs fu (some rd) (some hd) (some ls) (rdM rd p o 0 0 σ) = some (some hd, rdM rd p' o' x.1 x.2 σ') ∧ Grow lo σ σ' (3 * (n - p) + 2 + 1) ∧ 0 ≤ p' ∧ p' ≤ n + 1 ∧ 1 ≤ x.1 ∧ x.1 ≤ 5 ∧ 0 ≤ x.2 ∧ x.2 ≤ n ∧ (mK σ' hd).1 = 5
    | .inr x => ∃ σ', sX9_sum_15 rf rp rs fu (some rd) (some hd) (some ls) (rdM rd p o 0 0 σ) = some (some hd, rdM rd x.2 o 0 0 σ') ∧ Grow lo σ σ' (3 * (x.2 - p)) ∧ p ≤ x.2 ∧ x.2 ≤ n ∧ SumD (k + 1) lo σ' hd x.1 ∧ (mK σ' hd).1 = 5
  | 0, fu, σ, p, e, hd, ls, lo, h, hl, p0, p1, i1, i2, sg, hr => by omega
  | fr + 1, 0, σ, p, e, hd, ls, lo, h, hl, p0, p1, i1, i2, sg, hr => by omega
  | fr + 1, fu + 1, σ, p, e, hd, ls, lo, h, hl, p0, p1, i1, i2, sg, hr => by
    obtain ⟨b1, b2, b3, b4, b5, b6, b7, b8, b9, b10, b11⟩ := id h
    obtain ⟨s1, s2, s3, s4, s5, s6, s7, s8, s9⟩ := id sg
    have eL : sX9_sum_15 rf rp rs (fu + 1) (some rd) (some hd) (some ls) (rdM rd p o 0 0 σ) = _ := su_test (K := sX9_sum_15 rf rp rs fu) h p0 p1
    rw [eL]
    unfold rOps
    by_cases c : addA (hrA T n p) = -1
    · rw [if_pos c, if_pos c]
      exact ⟨σ, rfl, Grow.rfl'.le (by show 0 ≤ 3 * (p - p); omega), Int.le_refl _, p1, seg_done sg, s6⟩
    · rw [if_neg c, if_neg c]
      have hp : p < n := h0_in (c := hrA T n p) (by unfold addA at c; omega) rfl
      have g1 : Grow (mZ σ) σ (mNew σ 5 3) 1 := grow_new (Nat.le_refl _) (by omega)
      have h1 := g1.re h b2
      have hr1 : Room (mNew σ 5 3) (3 * (n - (p + 1)) + 2) := by
        constructor
        · have := hr.1
          show ((mZ σ + 1 : Nat) : Int) + _ ≤ _
          omega
        · have := hr.2
          show ((mY σ + 3 : Nat) : Int) + _ ≤ _
          omega
      have q := hf (mNew σ 5 3) (p + 1) h1 (by omega) (by omega) hr1
      have zn : mZ (mNew σ 5 3) = mZ σ + 1 := rfl
      unfold OutR at q
      have prep : ∀ (σ3 : Mem) (cc : Int), Grow (mZ (mNew σ 5 3)) (mNew σ 5 3) σ3 cc → Agm lo (mNew σ 5 3) σ3 ∧ (mK σ3 (mZ σ)).1 = 5 ∧ (mK σ3 ls).1 = 5 ∧ (mK σ3 hd).1 = 5 := by
        intro σ3 cc g
        have ag : Agm lo (mNew σ 5 3) σ3 := fun b b0 b1 => g.1 b b1
        have kd : ∀ b, b < mZ σ → mK σ3 b = mK σ b := fun b b1 => ((g.1 b (by omega)).1).trans (if_neg (by omega))
        refine ⟨ag, ?_, by rw [kd ls s5]; exact s7, by rw [kd hd s3]; exact s6⟩
        rw [(g.1 (mZ σ) (by omega)).1]
        show (if mZ σ = mZ σ then (5, 3) else _ : Nat × Nat).1 = 5
        rw [if_pos rfl]
      have gN : ∀ (σ3 : Mem) (cc : Int) (r : Option Nat), Grow (mZ (mNew σ 5 3)) (mNew σ 5 3) σ3 cc → Grow lo σ (up2 (mI σ3) (mZ σ) 0 (iI (hrA T n p)), up2 (up2 (mP σ3) (mZ σ) 1 r) ls 2 (some (mZ σ)), σ3.2.2) (1 + cc) := by
        intro σ3 cc r g
        have g2 := (g1.dn (lo' := lo) (by omega)).trans (g.dn (lo' := lo) (by omega))
        refine ⟨fun b hb => ?_, g2.2⟩
        obtain ⟨u1, u2, u3⟩ := g2.1 b hb
        refine ⟨u1, fun j => ?_, fun j => ?_⟩
        · show (if b = mZ σ ∧ j = 0 then _ else mI σ3 b j) = _
          rw [if_neg (by omega)]; exact u2 j
        · show (if b = ls ∧ j = 2 then _ else if b = mZ σ ∧ j = 1 then _ else mP σ3 b j) = _
          rw [if_neg (by omega), if_neg (by omega)]; exact u3 j
      have hr0 : Room σ 1 := ⟨by have := hr.1; omega, by have := hr.2; omega⟩
      cases e9 : rdf (p + 1) with
      | inl x =>
        rw [e9] at q
        obtain ⟨r, σ3, p', o', a1, a2, a3, a4, a5, a6, a7, a8, a9⟩ := q
        obtain ⟨pa, pb, pc, pd⟩ := prep σ3 _ a2
        obtain ⟨fu', rfl⟩ : ∃ u, fu = u + 1 := ⟨fu - 1, by omega⟩
        have gn := gN σ3 _ r a2
        have hn := gn.re h hl
        refine ⟨_, p', o', ?_, gn.le (by omega), a3, a4, a5, a6, a7, a8, ?_⟩
        · rw [su_step h p0 hp hr0 a1 pb pc, su_exit hn a5 a6]
        · exact pd
      | inr x =>
        rw [e9] at q
        obtain ⟨r, σ3, a1, a2, a3, a4, ⟨a, ra, a5⟩⟩ := q
        obtain ⟨pa, pb, pc, pd⟩ := prep σ3 _ a2
        subst ra
        have gn := gN σ3 _ (some a) a2
        have hn := gn.re h hl
        have sc : sgQ (hrA T n p) = addA (hrA T n p) := by unfold sgQ mulA; unfold addA at c ⊢; omega
        have sg' := seg_more (c := hrA T n p) (x := mZ σ) sg (by rw [sc]; exact c) rfl pa (by have := a2.2.1; omega) a5
        rw [sc] at sg'
        have ih := su_loop hf fr fu _ x.2 _ hd (mZ σ) lo hn hl (by omega) a4 (by omega) (by omega) sg' ⟨by have := hr.1; have := gn.2.2.1; omega, by have := hr.2; have := gn.2.2.2; omega⟩
        rw [su_step h p0 hp hr0 a1 pb pc]
        show match rOps T n addA rdf fr (binV (addA (hrA T n p)) e x.1) x.2 with | .inl x => _ | .inr x => _
        cases e8 : rOps T n addA rdf fr (binV (addA (hrA T n p)) e x.1) x.2 with
        | inl y =>
          rw [e8] at ih
          obtain ⟨σ', p', o', i1, i2, i3⟩ := ih
          exact ⟨σ', p', o', i1, (gn.trans i2).le (by omega), i3⟩
        | inr y =>
          rw [e8] at ih
          obtain ⟨σ', i1, i2, i3, i4, i5⟩ := ih
          exact ⟨σ', i1, (gn.trans i2).le (by omega), by omega, i4, i5⟩
theorem su_read {rdf : Int → Res SumV} {k : Nat} {o : Int} (hf : ∀ (σ : Mem) (p : Int), RE rd n T σ → 0 ≤ p → p ≤ n → Room σ (3 * (n - p) + 2) → OutR rd n (mZ σ) σ o p 1 2 1 (VS k (mZ σ)) B0 (rp (some rd) (rdM rd p o 0 0 σ)) (rdf p))
    {σ : Mem} {p : Int} (h : RE rd n T σ) (p0 : 0 ≤ p) (p1 : p ≤ n) (hr : Room σ (3 * (n - p) + 2 + 1)) : OutR rd n (mZ σ) σ o p (1 - 1) (2 + 1) 1 (V5 (k + 1) (mZ σ)) B5 (sX9_sum_0 rf rp rs (some rd) (rdM rd p o 0 0 σ)) (rSeq T n addA rdf p) := by
  obtain ⟨b1, b2, b3, b4, b5, b6, b7, b8, b9, b10, b11⟩ := id h
  have g1 : Grow (mZ σ) σ (mNew σ 5 3) 1 := grow_new (Nat.le_refl _) (by omega)
  have h1 := g1.re h b2
  have hr1 : Room (mNew σ 5 3) (3 * (n - p) + 2) := by
    constructor
    · have := hr.1
      show ((mZ σ + 1 : Nat) : Int) + _ ≤ _
      omega
    · have := hr.2
      show ((mY σ + 3 : Nat) : Int) + _ ≤ _
      omega
  have q := hf (mNew σ 5 3) p h1 p0 p1 hr1
  have zn : mZ (mNew σ 5 3) = mZ σ + 1 := rfl
  have hr0 : Room σ 1 := ⟨by have := hr.1; omega, by have := hr.2; omega⟩
  have prep : ∀ (σ3 : Mem) (cc : Int), Grow (mZ (mNew σ 5 3)) (mNew σ 5 3) σ3 cc → (mK σ3 (mZ σ)).1 = 5 ∧ mP σ3 (mZ σ) 2 = none := by
    intro σ3 cc g
    refine ⟨?_, ?_⟩
    · rw [(g.1 (mZ σ) (by omega)).1]
      show (if mZ σ = mZ σ then (5, 3) else _ : Nat × Nat).1 = 5
      rw [if_pos rfl]
    · rw [(g.1 (mZ σ) (by omega)).2.2]
      exact if_pos rfl
  have gN : ∀ (σ3 : Mem) (cc : Int) (r : Option Nat), Grow (mZ (mNew σ 5 3)) (mNew σ 5 3) σ3 cc → Grow (mZ σ) σ (up2 (mI σ3) (mZ σ) 0 (iI 0), up2 (mP σ3) (mZ σ) 1 r, σ3.2.2) (1 + cc) := by
    intro σ3 cc r g
    have g2 := g1.trans (g.dn (lo' := mZ σ) (by omega))
    refine ⟨fun b hb => ?_, g2.2⟩
    obtain ⟨u1, u2, u3⟩ := g2.1 b hb
    refine ⟨u1, fun j => ?_, fun j => ?_⟩
    · show (if b = mZ σ ∧ j = 0 then _ else mI σ3 b j) = _
      rw [if_neg (by omega)]; exact u2 j
    · show (if b = mZ σ ∧ j = 1 then _ else mP σ3 b j) = _
      rw [if_neg (by omega)]; exact u3 j
  have st : ∀ (r : Option Nat) (σ3 : Mem) (p' o' ft pl : Int), rp (some rd) (rdM rd p o 0 0 (mNew σ 5 3)) = some (r, rdM rd p' o' ft pl σ3) → (mK σ3 (mZ σ)).1 = 5 → sX9_sum_0 rf rp rs (some rd) (rdM rd p o 0 0 σ) = sX9_sum_15 rf rp rs FU (some rd) (some (mZ σ)) (some (mZ σ)) (rdM rd p' o' ft pl (up2 (mI σ3) (mZ σ) 0 (iI 0), up2 (mP σ3) (mZ σ) 1 r, σ3.2.2)) := by
    intro r σ3 p' o' ft pl e kx
    unfold sX9_sum_0
    rw [nO_r b2 hr0 (by omega), cV_r h1, e, clw, cI_y, su_init (by omega) kx, clw]
  unfold OutR rSeq
  unfold OutR at q
  cases e9 : rdf p with
  | inl x =>
    rw [e9] at q
    obtain ⟨r, σ3, p', o', a1, a2, a3, a4, a5, a6, a7, a8, a9⟩ := q
    obtain ⟨pb, pc⟩ := prep σ3 _ a2
    have gn := gN σ3 _ r a2
    have hn := gn.re h b2
    obtain ⟨fu, hfu⟩ : ∃ u, FU = u + 1 := ⟨999999, by unfold FU; omega⟩
    refine ⟨some (mZ σ), _, p', o', ?_, gn.le (by omega), a3, a4, a5, a6, a7, a8, mZ σ, rfl, pb⟩
    rw [st _ _ _ _ _ _ a1 pb, hfu, su_exit hn a5 a6]
  | inr x =>
    rw [e9] at q
    obtain ⟨r, σ3, a1, a2, a3, a4, ⟨a, ra, a5⟩⟩ := q
    subst ra
    obtain ⟨pb, pc⟩ := prep σ3 _ a2
    have gn := gN σ3 _ (some a) a2
    have hn := gn.re h b2
    have a5' : SumD k (mZ σ + 1) (up2 (mI σ3) (mZ σ) 0 (iI 0), σ3.2) a x.1 := a5.up (fun b b0 b1 => ⟨rfl, fun j => if_neg (by omega), fun j => rfl⟩) (Nat.le_refl _)
    have sg := (seg_1 (lo := mZ σ) (x := mZ σ) a5' (by omega) (Nat.le_refl _) pb).resolve_right (fun z => z pc)
    rw [st _ _ _ _ _ _ a1 pb]
    have lp := su_loop (rf := rf) (rp := rp) (rs := rs) hf ((n - x.2).toNat + 1) FU _ x.2 x.1 (mZ σ) (mZ σ) (mZ σ) hn b2 (by omega) a4 (Nat.le_refl _) (by unfold FU; omega) sg ⟨by have := hr.1; have := gn.2.2.1; omega, by have := hr.2; have := gn.2.2.2; omega⟩
    show OutR rd n (mZ σ) σ o p (1 - 1) (2 + 1) 1 (V5 (k + 1) (mZ σ)) B5 (sX9_sum_15 rf rp rs FU (some rd) (some (mZ σ)) (some (mZ σ)) _) (rOps T n addA rdf ((n - x.2).toNat + 1) x.1 x.2)
    unfold OutR
    cases e8 : rOps T n addA rdf ((n - x.2).toNat + 1) x.1 x.2 with
    | inl y =>
      rw [e8] at lp
      obtain ⟨σ', p', o', i1, i2, i3, i4, i5, i6, i7, i8, i9⟩ := lp
      exact ⟨some (mZ σ), σ', p', o', i1, (gn.trans i2).le (by omega), i3, i4, i5, i6, i7, i8, mZ σ, rfl, i9⟩
    | inr y =>
      rw [e8] at lp
      obtain ⟨σ', i1, i2, i3, i4, i5, i6⟩ := lp
      exact ⟨some (mZ σ), σ', i1, (gn.trans i2).le (by omega), by omega, i4, mZ σ, rfl, i5, i6⟩
end
