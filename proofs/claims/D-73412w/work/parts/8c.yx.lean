/-! DEPS: yw -/
/-! YX: TermLog reads a text -/
section
variable {rd : Nat} {n : Int} {T : Int → Int}
/-- how a clause's reading ends -/
def OutC (rd : Nat) (n : Int) (tx : Nat) (σ : Mem) (p f : Int) (l : List Cls) (z : Option (Unit × Mem)) (res : Res Cls) : Prop := match res with
  | .inl x => ∃ σ' p' o', z = some ((), rdM rd p' o' x.1 x.2 σ') ∧ Grow tx σ σ' (3 * (n - p) + f) ∧ 1 ≤ x.1 ∧ x.1 ≤ 5 ∧ 0 ≤ x.2 ∧ x.2 ≤ n
  | .inr x => ∃ σ' o', z = some ((), rdM rd x.2 o' 0 0 σ') ∧ Grow tx σ σ' (3 * (x.2 - p)) ∧ p ≤ x.2 ∧ x.2 ≤ n ∧ TS rd tx σ' ∧ TL tx σ' (l ++ [x.1])
theorem wr_TS {σ : Mem} {tx i : Nat} {c : Int32} {v t : Option Nat} (h : TS rd tx σ) : TS rd tx (wrQ σ tx i c v t) := by
  obtain ⟨t1, t2, t3, ⟨t4, t5, t6⟩, ⟨t7, t8, t9⟩, t10⟩ := h
  have NP : ∀ b j, mP (wrQ σ tx i c v t) b j = if b = tx + 3 ∧ j = i then t else if b = tx + 2 ∧ j = i then v else mP σ b j := fun b j => rfl
  exact ⟨by rw [NP, if_neg (by omega), if_neg (by omega)]; exact t1, t2, t3, ⟨by rw [NP, if_neg (by omega), if_neg (by omega)]; exact t4, by rw [NP, if_neg (by omega), if_neg (by omega)]; exact t5, by rw [NP, if_neg (by omega), if_neg (by omega)]; exact t6⟩, ⟨t7, t8, t9⟩, t10⟩
theorem f_88b {σ : Mem} {p o ft pl : Int} (h : RE rd n T σ) (c1 : 1 ≤ ft) (c2 : ft ≤ 5) {c : Int32} {v : Option Nat} : sX9_clause_88 (some rd) c v (rdM rd p o ft pl σ) = sX9_clause_129 (some rd) c v none (rdM rd p o ft pl σ) := by
  unfold sX9_clause_88 sX9_clause_114
  rw [cV_r h, f_good1 h c1 c2, clw, if_pos rfl, cV_r h, f_good1 h c1 c2, clw, if_pos rfl]
theorem f_tail {σ : Mem} {p : Int} {tx : Nat} {c : Int} {e : SumV} {v : Option Nat} {l : List Cls} (h : RE rd n T σ) (hs : TS rd tx σ) (hl : TL tx σ l) (l16 : l.length < 16) (p0 : 0 ≤ p) (p1 : p ≤ n) (hr : Room σ (3 * (n - p) + 4)) (hc : c = 100 ∨ c = 108 ∨ c = 101 ∨ c = 120)
    (kv : v = none ∨ ∃ a, v = some a ∧ a < mZ σ ∧ (mK σ a).1 = 5) (hv : c ≠ 120 → ∃ a, v = some a ∧ SumD 14 (tx + 4) σ a e ∧ (mK σ a).1 = 5) : OutC rd n tx σ p 4 l (sX9_clause_88 (some rd) (iI c) v (rdM rd p 0 0 0 σ)) (rTail T n c e p) := by
  obtain ⟨b1, b2, b3, b4, b5, b6, b7, b8, b9, b10, b11⟩ := id h
  obtain ⟨t1, t2, t3, t4, t5, t10⟩ := id hs
  have kv' : kdO σ v = 5 ∨ v = none := by
    rcases kv with kv | ⟨a, a1, a2, a3⟩
    · exact Or.inr kv
    · subst a1; exact Or.inl a3
  unfold sX9_clause_88 sX9_clause_114 rTail
  rw [cV_r h, f_good0 h, clw, if_neg iv_01, cV_r h, f_here h p0 (by omega), clw]
  by_cases c40 : hrA T n p = 40
  · have hp := h0_in (c := 40) (by omega) c40
    rw [if_pos c40, if_pos ((E1c h (by omega) (by omega)).mpr c40), cV_r h, f_good0 h, clw, if_neg iv_01, cV_r h]
    have q := f_cond40 h p0 hp hr
    unfold OutR at q
    have lft : ∀ σ' cc, Grow (mZ σ) σ σ' cc → TL tx σ' l ∧ TS rd tx σ' ∧ (kdO σ' v = 5 ∨ v = none) ∧ (c ≠ 120 → ∃ a, v = some a ∧ SumD 14 (tx + 4) σ' a e ∧ (mK σ' a).1 = 5) := by
      intro σ' cc g
      have ag : Agm (tx + 4) σ σ' := fun b b0 b1 => g.1 b b1
      refine ⟨hl.up (fun b b0 b1 => g.1 b b1) g.2.1 t10, hs.up g t10, ?_, fun n => ?_⟩
      · rcases kv with kv | ⟨a, a1, a2, a3⟩
        · exact Or.inr kv
        · subst a1
          exact Or.inl (by rw [kd_y, (g.1 a a2).1]; exact a3)
      · obtain ⟨a, a1, a2, a3⟩ := hv n
        exact ⟨a, a1, a2.up ag g.2.1, by rw [(g.1 a a2.2.2.1).1]; exact a3⟩
    cases e9 : rCnd T n (rPiece T n 7) 0 p with
    | inl x =>
      rw [e9] at q
      obtain ⟨r, σ', p', o', a1, a2, a3, a4, a5, a6, a7, a8, a9⟩ := q
      obtain ⟨x1, x2, x3, x4⟩ := lft σ' _ a2
      have h' := a2.re h b2
      have kt : kdO σ' r = 10 ∨ r = none := by
        rcases a9 with z | ⟨a, z, y⟩
        · exact Or.inr z
        · subst z; exact Or.inl y
      rw [a1, clw, f_129 h' x2 x1.1 l16 x3 kt]
      exact ⟨_, p', o', rfl, ((a2.dn (by omega)).trans grow_wr).le (by omega), a5, a6, a7, a8⟩
    | inr x =>
      rw [e9] at q
      obtain ⟨r, σ', a1, a2, a3, a4, ⟨a, ra, a5, a6⟩⟩ := q
      subst ra
      obtain ⟨x1, x2, x3, x4⟩ := lft σ' _ a2
      have h' := a2.re h b2
      rw [a1, clw, f_129 (t := some a) h' x2 x1.1 l16 x3 (Or.inl a6)]
      have z := a2.2.1
      refine ⟨_, 0, rfl, ((a2.dn (by omega)).trans grow_wr).le (by show 3 * (x.2 - p) - 2 + 0 ≤ 3 * (x.2 - p); omega), a3, a4, wr_TS x2, ?_⟩
      exact TL_add (e := e) (by omega) x1 l16 hc x4 ⟨a, rfl, a5.lo (by omega) t10 (by omega), a6⟩
  · rw [if_neg c40, if_neg (fun z => c40 ((E1c h (by omega) (by omega)).mp z)), gI_r2 h, cV_r h, f_bad0 h, clw, cV_r h, f_good1 h (by omega) (by omega), clw, if_pos rfl, f_129 h hs hl.1 l16 kv' (Or.inr rfl)]
    exact ⟨_, p, 0, rfl, grow_wr.le (by omega), by show (1 : Int) ≤ 1; omega, by show (1 : Int) ≤ 5; omega, p0, p1⟩
theorem ixo0 {c : Int} (c0 : 0 ≤ c) (c1 : c ≤ 255) : (iI 0 ≤ ixo (lits 0) (iI c)) ↔ (c = 100 ∨ c = 108 ∨ c = 101 ∨ c = 120) := by
  unfold ixo
  rw [iv_to (by omega) (by omega)]
  have e : ixoF (lits 0) c 0 = if 100 = c then 0 else if 108 = c then 1 else if 101 = c then 2 else if 120 = c then 3 else -1 := rfl
  rw [e]
  by_cases d1 : c = 100
  · subst d1; decide
  by_cases d2 : c = 108
  · subst d2; decide
  by_cases d3 : c = 101
  · subst d3; decide
  by_cases d4 : c = 120
  · subst d4; decide
  rw [if_neg (by omega), if_neg (by omega), if_neg (by omega), if_neg (by omega)]
  constructor
  · intro z; exact absurd z (by decide)
  · intro z; omega
theorem f_51b {σ : Mem} {p o ft pl : Int} (h : RE rd n T σ) (c1 : 1 ≤ ft) (c2 : ft ≤ 5) {c : Int32} : sX9_clause_51 (some rd) c (rdM rd p o ft pl σ) = some ((), rdM rd p o ft pl σ) := by
  unfold sX9_clause_51
  rw [cV_r h, f_good1 h c1 c2, clw, if_pos rfl]
theorem f_18 {σ : Mem} {p o : Int} (h : RE rd n T σ) {c : Int32} : sX9_clause_18 (some rd) c (rdM rd p o 0 0 σ) = some ((), rdM rd p o 1 p σ) := by
  unfold sX9_clause_18
  rw [gI_r2 h, cV_r h, f_bad0 h, clw, f_51b h (by omega) (by omega)]
theorem f_clause {σ : Mem} {p o : Int} {tx : Nat} {l : List Cls} (h : RE rd n T σ) (hs : TS rd tx σ) (hl : TL tx σ l) (p0 : 0 ≤ p) (p1 : p ≤ n) (hr : Room σ (3 * (n - p) + 4)) : OutC rd n tx σ p 4 l (sX9_clause (some rd) (rdM rd p o 0 0 σ)) (rCls T n l.length p) := by
  obtain ⟨b1, b2, b3, b4, b5, b6, b7, b8, b9, b10, b11⟩ := id h
  obtain ⟨t1, t2, t3, t4, t5, t10⟩ := id hs
  have r0 := h0_r (p := p) h
  have E0 : (iI (h0A T n p) = iI 0) = (h0A T n p = 0) := iv_eq (by omega) (by omega) (by omega) (by omega)
  unfold sX9_clause rCls
  rw [cV_r h, f_here h p0 (by omega), clw]
  have no : ∀ x : Int, x = 1 → OutC rd n tx σ p 4 l (sX9_clause_18 (some rd) (iI (h0A T n p)) (rdM rd p o 0 0 σ)) (.inl (x, p)) := by
    intro x hx
    subst hx
    exact ⟨σ, p, o, f_18 h, Grow.rfl'.le (by omega), by show (1 : Int) ≤ 1; omega, by show (1 : Int) ≤ 5; omega, p0, p1⟩
  by_cases z : h0A T n p = 0
  · have nc : ¬ (hrA T n p = 100 ∨ hrA T n p = 108 ∨ hrA T n p = 101 ∨ hrA T n p = 120) := by
      unfold h0A at z
      unfold hrA
      split
      · rename_i y; rw [if_pos y] at z; omega
      · omega
    rw [if_pos (by rw [E0]; exact z), if_pos nc]
    exact no 1 rfl
  · have hp : p < n := by
      unfold h0A at z
      split at z
      · assumption
      · omega
    have eh : h0A T n p = hrA T n p := by unfold h0A hrA; rw [if_pos hp, if_pos hp]
    rw [if_neg (by rw [E0]; exact z)]
    have ix := ixo0 r0.1 r0.2
    by_cases c : hrA T n p = 100 ∨ hrA T n p = 108 ∨ hrA T n p = 101 ∨ hrA T n p = 120
    · rw [if_pos (ix.mpr (by rw [eh]; exact c)), if_neg (fun y => y c), gR_r h, t1, gI_ro (by omega) t3, hl.1]
      have E16 : (iI (l.length : Int) = iI 16) = ((l.length : Int) = 16) := iv_eq (by omega) (by have := hl.2.1; omega) (by omega) (by omega)
      by_cases m16 : (l.length : Int) = 16
      · rw [if_pos (by rw [E16]; exact m16), if_pos m16, gI_r2 h, cV_r h, f_bad0 h, clw, f_51b h (by omega) (by omega)]
        exact ⟨σ, p, o, rfl, Grow.rfl'.le (by omega), by show (1 : Int) ≤ 4; omega, by show (4 : Int) ≤ 5; omega, p0, p1⟩
      · have l16 : l.length < 16 := by have := hl.2.1; omega
        rw [if_neg (by rw [E16]; exact m16), if_neg m16, eh]
        have hr' : Room σ (3 * (n - (p + 1)) + 4) := ⟨by have := hr.1; omega, by have := hr.2; omega⟩
        have r1 : hrA T n p ≤ 255 := by rw [← eh]; exact r0.2
        have E120 : (iI (hrA T n p) = iI 120) = (hrA T n p = 120) := iv_eq (by omega) (by omega) (by omega) (by omega)
        unfold sX9_clause_51
        rw [cV_r h, f_good0 h, clw, if_neg iv_01, gI_r2 h, iv_add, pI_r2 h, pI_r3 h]
        have wk : ∀ (z : Option (Unit × Mem)) (res : Res Cls), OutC rd n tx σ (p + 1) 4 l z res → OutC rd n tx σ p 4 l z res := by
          intro z res w
          unfold OutC at *
          cases res with
          | inl x => obtain ⟨σ', p', o', w1, w2, w3⟩ := w; exact ⟨σ', p', o', w1, w2.le (by omega), w3⟩
          | inr x => obtain ⟨σ', o', w1, w2, w3, w4⟩ := w; exact ⟨σ', o', w1, w2.le (by omega), by omega, w4⟩
        by_cases c120 : hrA T n p = 120
        · rw [if_pos (by rw [E120]; exact c120), if_pos c120]
          refine wk _ _ ?_
          have := f_tail (c := 120) (e := fun _ => none) (v := none) h hs hl l16 (p := p + 1) (by omega) (by omega) hr' (Or.inr (Or.inr (Or.inr rfl))) (Or.inl rfl) (fun y => absurd rfl y)
          rw [← c120] at this ⊢
          exact this
        · rw [if_neg (by rw [E120]; exact c120), if_neg c120, cV_r h]
          have q := f_sum40 (o := 0) (by omega) (by omega) h (p := p + 1) (by omega) (by omega) ⟨by have := hr.1; omega, by have := hr.2; omega⟩
          unfold OutR at q
          cases e9 : rSum T n 7 0 (p + 1) with
          | inl x =>
            rw [e9] at q
            obtain ⟨r, σ', p', o', a1, a2, a3, a4, a5, a6, a7, a8, ⟨a, ra, a9⟩⟩ := q
            subst ra
            have h' := a2.re h b2
            have s' := hs.up a2 t10
            have l' := hl.up (fun b b0 b1 => a2.1 b b1) a2.2.1 t10
            rw [a1, clw, f_88b h' a5 a6, f_129 (v := some a) h' s' l'.1 l16 (Or.inl a9) (Or.inr rfl)]
            exact ⟨_, p', o', rfl, ((a2.dn (by omega)).trans grow_wr).le (by omega), a5, a6, a7, a8⟩
          | inr x =>
            rw [e9] at q
            obtain ⟨r, σ', a1, a2, a3, a4, ⟨a, ra, a5, a6⟩⟩ := q
            subst ra
            have h' := a2.re h b2
            have s' := hs.up a2 t10
            have l' := hl.up (fun b b0 b1 => a2.1 b b1) a2.2.1 t10
            have zz := a2.2
            rw [a1, clw]
            show OutC rd n tx σ p 4 l _ (rTail T n (hrA T n p) x.1 x.2)
            have q2 := f_tail (c := hrA T n p) (e := x.1) (v := some a) h' s' l' l16 (p := x.2) (by omega) a4 ⟨by have := hr.1; omega, by have := hr.2; omega⟩ c (Or.inr ⟨a, rfl, a5.2.2.1, a6⟩) (fun _ => ⟨a, rfl, a5.lo (by omega) t10 (by omega), a6⟩)
            unfold OutC at q2 ⊢
            cases e8 : rTail T n (hrA T n p) x.1 x.2 with
            | inl y =>
              rw [e8] at q2
              obtain ⟨σ2, p', o', w1, w2, w3⟩ := q2
              exact ⟨σ2, p', o', w1, ((a2.dn (by omega)).trans w2).le (by omega), w3⟩
            | inr y =>
              rw [e8] at q2
              obtain ⟨σ2, o', w1, w2, w3, w4⟩ := q2
              exact ⟨σ2, o', w1, ((a2.dn (by omega)).trans w2).le (by omega), by omega, w4⟩
    · rw [if_neg (fun y => c (by rw [← eh]; exact ix.mp y)), if_pos c]
      exact no 1 rfl
/-- how a text's reading ends -/
def OutX (rd : Nat) (n : Int) (tx : Nat) (σ : Mem) (p f : Int) (z : Option (Int32 × Mem)) (res : (Int × Int) ⊕ List Cls) : Prop := match res with
  | .inl x => ∃ σ' p' o' ft pl, z = some (iI (-1000 * x.1 - x.2), rdM rd p' o' ft pl σ') ∧ Grow tx σ σ' (3 * (n - p) + f) ∧ 1 ≤ x.1 ∧ x.1 ≤ 5 ∧ 0 ≤ x.2 ∧ x.2 ≤ n
  | .inr l => ∃ σ' p' o', z = some (iI (l.length : Int), rdM rd p' o' 0 0 σ') ∧ Grow tx σ σ' (3 * (n - p) + f) ∧ TS rd tx σ' ∧ TL tx σ' l
theorem f_54b {σ : Mem} {p o ft pl : Int} (h : RE rd n T σ) (c1 : 1 ≤ ft) (c2 : ft ≤ 5) : sX9_read_54 (some rd) (rdM rd p o ft pl σ) = some (iI (-1000 * ft - pl), rdM rd p o ft pl σ) := by
  unfold sX9_read_54
  rw [cV_r h, f_good1 h c1 c2, clw, if_pos rfl, gI_r4 h, gI_r5 h, iv_mul, iv_sub]
theorem f_54g {σ : Mem} {p o : Int} {tx : Nat} {l : List Cls} (h : RE rd n T σ) (hs : TS rd tx σ) (hl : TL tx σ l) : sX9_read_54 (some rd) (rdM rd p o 0 0 σ) = some (iI (l.length : Int), rdM rd p o 0 0 σ) := by
  have := hs.2.1
  unfold sX9_read_54
  rw [cV_r h, f_good0 h, clw, if_neg iv_01, gR_r h, hs.1, gI_ro (by omega) hs.2.2.1, hl.1]
theorem f_r2z {σ : Mem} {fu : Nat} : ∀ {s : Mem}, sX9_read_2 (fu + 1) (some rd) (iI 0) s = sX9_read_54 (some rd) s := fun {s} => by
  show sX9_read_2b (sX9_read_2 fu) _ _ _ = _
  generalize sX9_read_2 fu = K
  unfold sX9_read_2b
  rw [if_pos rfl]
theorem f_r2b {σ : Mem} {p o ft pl : Int} {fu : Nat} (h : RE rd n T σ) (c1 : 1 ≤ ft) (c2 : ft ≤ 5) : sX9_read_2 (fu + 1) (some rd) (iI 1) (rdM rd p o ft pl σ) = some (iI (-1000 * ft - pl), rdM rd p o ft pl σ) := by
  show sX9_read_2b (sX9_read_2 fu) _ _ _ = _
  generalize sX9_read_2 fu = K
  unfold sX9_read_2b
  rw [if_neg iv_01, cV_r h, f_good1 h c1 c2, clw, if_pos rfl, f_54b h c1 c2]
theorem f_read {tx : Nat} : ∀ (f fu : Nat) (σ : Mem) (p o : Int) (l : List Cls), RE rd n T σ → TS rd tx σ → TL tx σ l → 0 ≤ p → p ≤ n → (n - p).toNat + 1 ≤ f → (n - p).toNat + 3 ≤ fu → Room σ (3 * (n - p) + 4) → OutX rd n tx σ p 4 (sX9_read_2 fu (some rd) (iI 1) (rdM rd p o 0 0 σ)) (rText T n f l p)
  | 0, fu, σ, p, o, l, h, hs, hl, p0, p1, i1, i2, hr => by omega
  | f + 1, fu, σ, p, o, l, h, hs, hl, p0, p1, i1, i2, hr => by
    obtain ⟨fu, rfl⟩ : ∃ u, fu = u + 2 := ⟨fu - 2, by omega⟩
    obtain ⟨b1, b2, b3, b4, b5, b6, b7, b8, b9, b10, b11⟩ := id h
    obtain ⟨t1, t2, t3, t4, t5, t10⟩ := id hs
    have q := f_clause (o := o) h hs hl p0 p1 hr
    show OutX rd n tx σ p 4 (sX9_read_2b (sX9_read_2 (fu + 1)) (some rd) (iI 1) _) _
    unfold sX9_read_2b rText
    rw [if_neg iv_01, cV_r h, f_good0 h, clw, if_neg iv_01, cV_r h]
    unfold OutC at q
    cases e : rCls T n l.length p with
    | inl x =>
      rw [e] at q
      obtain ⟨σ', p', o', a1, a2, a3, a4, a5, a6⟩ := q
      have h' := a2.re h t2
      rw [a1, clw, cV_r h', f_good1 h' a3 a4, clw, if_pos rfl]
      have e3 : sX9_read_39 (sX9_read_2 (fu + 1)) (some rd) (rdM rd p' o' x.1 x.2 σ') = sX9_read_2 (fu + 1) (some rd) (iI 0) (rdM rd p' o' x.1 x.2 σ') := by
        generalize sX9_read_2 (fu + 1) = K
        unfold sX9_read_39 sX9_read_40
        rw [if_pos rfl]
      rw [e3, f_r2z (σ := σ), f_54b h' a3 a4]
      exact ⟨σ', p', o', x.1, x.2, rfl, a2, a3, a4, a5, a6⟩
    | inr x =>
      rw [e] at q
      obtain ⟨σ', o', a1, a2, a3, a4, a5, a6⟩ := q
      have h' := a2.re h t2
      have zz := a2.2
      have En : (iI n ≤ iI x.2) = (n ≤ x.2) := iv_le (by omega) (by omega) (by omega) (by omega)
      rw [a1, clw, cV_r h', f_good0 h', clw, if_neg iv_01, gI_r2 h', gI_r0 h']
      show OutX rd n tx σ p 4 _ (if x.2 < n then (if hrA T n x.2 = 59 then rText T n f (l ++ [x.1]) (x.2 + 1) else .inl (1, x.2)) else .inr (l ++ [x.1]))
      by_cases d : x.2 < n
      · rw [if_pos d, if_neg (by rw [En]; omega)]
        have e4 : sX9_read_40 (sX9_read_2 (fu + 1)) (some rd) (iI 1) (rdM rd x.2 o' 0 0 σ') = sX9_read_2 (fu + 1) (some rd) (iI 1) (if hrA T n x.2 = 59 then rdM rd (x.2 + 1) o' 0 0 σ' else rdM rd (x.2 + 1) o' 1 x.2 σ') := by
          generalize sX9_read_2 (fu + 1) = K
          unfold sX9_read_40
          rw [if_neg iv_01, cV_r h', f_must h' (by omega) (by omega) (by omega) (by omega), clw]
        rw [e4]
        by_cases g : hrA T n x.2 = 59
        · rw [if_pos g, if_pos g]
          have ih := f_read f (fu + 1) σ' (x.2 + 1) o' (l ++ [x.1]) h' a5 a6 (by omega) (by omega) (by omega) (by omega) ⟨by have := hr.1; omega, by have := hr.2; omega⟩
          unfold OutX at ih ⊢
          cases e8 : rText T n f (l ++ [x.1]) (x.2 + 1) with
          | inl y =>
            rw [e8] at ih
            obtain ⟨σ2, p', o2, ft, pl, w1, w2, w3⟩ := ih
            exact ⟨σ2, p', o2, ft, pl, w1, (a2.trans w2).le (by omega), w3⟩
          | inr y =>
            rw [e8] at ih
            obtain ⟨σ2, p', o2, w1, w2, w3⟩ := ih
            exact ⟨σ2, p', o2, w1, (a2.trans w2).le (by omega), w3⟩
        · rw [if_neg g, if_neg g, f_r2b h' (by omega) (by omega)]
          exact ⟨σ', _, o', 1, x.2, rfl, a2.le (by omega), by show (1 : Int) ≤ 1; omega, by show (1 : Int) ≤ 5; omega, by show 0 ≤ x.2; omega, a4⟩
      · rw [if_neg d, if_pos (by rw [En]; omega)]
        have e3 : sX9_read_39 (sX9_read_2 (fu + 1)) (some rd) (rdM rd x.2 o' 0 0 σ') = sX9_read_2 (fu + 1) (some rd) (iI 0) (rdM rd x.2 o' 0 0 σ') := by
          generalize sX9_read_2 (fu + 1) = K
          unfold sX9_read_39 sX9_read_40
          rw [if_pos rfl]
        rw [e3, f_r2z (σ := σ), f_54g h' a5 a6]
        exact ⟨σ', x.2, o', rfl, a2.le (by omega), a5, a6⟩
end
