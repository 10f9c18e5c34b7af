/-! DEPS: yv -/
/-! YW: TermLog reads a clause -/
section
variable {rd : Nat} {n : Int} {T : Int → Int} {rc ri rq : Option Nat → Mem → Option (Option Nat × Mem)}
theorem f_p30 {σ : Mem} {p o ft pl : Int} (h : RE rd n T σ) (hr : Room σ 1) {t : Option Nat} : sX9_piece_30 rc ri rq (some rd) t (rdM rd p o ft pl σ) = some (some (mZ σ), rdM rd p (o - 1) ft pl (mI (mNew σ 11 1), up2 (mP (mNew σ 11 1)) (mZ σ) 0 t, (mNew σ 11 1).2.2)) := by
  have k : (mK (mNew σ 11 1) (mZ σ)).1 = 11 := by show (if mZ σ = mZ σ then (11, 1) else _ : Nat × Nat).1 = 11; rw [if_pos rfl]
  unfold sX9_piece_30 sX14_init sX12_init
  rw [gI_r3 h, iv_sub, pI_r3 h, nO_r h.2.1 hr (by omega), cI_y, cI_y, cI_y, clw, pR_ro k, clw]
theorem f_piece : ∀ (d D : Nat) (o : Int), 7 ≤ (d : Int) + o → 0 ≤ o → o ≤ 6 → 3 * d ≤ D → ∀ (σ : Mem) (p : Int), RE rd n T σ → 0 ≤ p → p ≤ n → Room σ (3 * (n - p) + 4) → OutR rd n (mZ σ) σ o p 2 4 2 (VC (2 * d) (mZ σ)) B0 ((gX9_condition (D + 1)).2.1 (some rd) (rdM rd p o 0 0 σ)) (rPiece T n d o p)
  | 0, D, o, h1, h2, h3, h4, σ, p, h, p0, p1, hr => by omega
  | d + 1, D, o, h1, h2, h3, h4, σ, p, h, p0, p1, hr => by
    obtain ⟨D, rfl⟩ : ∃ D', D = D' + 3 := ⟨D - 3, by omega⟩
    obtain ⟨b1, b2, b3, b4, b5, b6, b7, b8, b9, b10, b11⟩ := id h
    show OutR rd n (mZ σ) σ o p 2 4 2 (VC (2 * (d + 1)) (mZ σ)) B0 (sX9_piece_0 (gX9_condition (D + 3)).1 (gX9_condition (D + 3)).2.1 (gX9_condition (D + 3)).2.2 (some rd) (rdM rd p o 0 0 σ)) (rPiece T n (d + 1) o p)
    unfold rPiece
    have hr0 : Room σ 1 := ⟨by have := hr.1; omega, by have := hr.2; omega⟩
    by_cases c33 : hrA T n p = 33
    · have hp := h0_in (c := 33) (by omega) c33
      rw [if_pos c33]
      unfold sX9_piece_0
      rw [cV_r h, f_here h p0 (by omega), clw, if_pos ((E1c h (by omega) (by omega)).mpr c33), cV_r h, f_opens h h2 h3, clw]
      by_cases d6 : o = 6
      · rw [if_pos d6, if_pos d6, cV_r h, f_good1 h (by omega) (by omega), clw, if_pos rfl, f_p30 h hr0]
        have g1 : Grow (mZ σ) σ (mI (mNew σ 11 1), up2 (mP (mNew σ 11 1)) (mZ σ) 0 none, (mNew σ 11 1).2.2) (1 + 0) := (grow_new (k := 11) (m := 1) (Nat.le_refl (mZ σ)) (by omega)).trans (grow_P (Nat.le_refl _))
        exact ⟨_, _, p + 1, _, rfl, g1.le (by omega), by omega, by omega, by show (1 : Int) ≤ 5; omega, by show (5 : Int) ≤ 5; omega, p0, p1, trivial⟩
      · have q := f_piece d (D + 2) (o + 1) (by omega) (by omega) (by omega) (by omega) σ (p + 1) h (by omega) (by omega) ⟨by have := hr.1; omega, by have := hr.2; omega⟩
        rw [if_neg d6, if_neg d6, cV_r h, f_good0 h, clw, if_neg iv_01, cV_r h]
        have e3 : ∀ X, cl ((gX9_condition (D + 3)).2.1 (some rd) (rdM rd (p + 1) (o + 1) 0 0 σ)) X = cl ((gX9_condition (D + 2 + 1)).2.1 (some rd) (rdM rd (p + 1) (o + 1) 0 0 σ)) (β := Option Nat × Mem) X := fun X => rfl
        rw [e3]
        unfold OutR at q
        cases e : rPiece T n d (o + 1) (p + 1) with
        | inl x =>
          rw [e] at q
          obtain ⟨r, σ', p', o', a1, a2, a3, a4, a5, a6, a7, a8, a9⟩ := q
          have h' := a2.re h b2
          have zz := a2.2
          have hr1 : Room σ' 1 := ⟨by have := hr.1; omega, by have := hr.2; omega⟩
          have g1 : Grow (mZ σ') σ' (mI (mNew σ' 11 1), up2 (mP (mNew σ' 11 1)) (mZ σ') 0 r, (mNew σ' 11 1).2.2) (1 + 0) := (grow_new (k := 11) (m := 1) (Nat.le_refl (mZ σ')) (by omega)).trans (grow_P (Nat.le_refl _))
          rw [a1, clw, f_p30 h' hr1]
          exact ⟨_, _, p', _, rfl, (a2.trans (g1.dn a2.2.1)).le (by omega), a3, a4, a5, a6, a7, a8, trivial⟩
        | inr x =>
          rw [e] at q
          obtain ⟨r, σ', a1, a2, a3, a4, ⟨a, ra, a5⟩⟩ := q
          subst ra
          have h' := a2.re h b2
          have zz := a2.2
          have hr1 : Room σ' 1 := ⟨by have := hr.1; omega, by have := hr.2; omega⟩
          have g1 : Grow (mZ σ') σ' (mI (mNew σ' 11 1), up2 (mP (mNew σ' 11 1)) (mZ σ') 0 (some a), (mNew σ' 11 1).2.2) (1 + 0) := (grow_new (k := 11) (m := 1) (Nat.le_refl (mZ σ')) (by omega)).trans (grow_P (Nat.le_refl _))
          rw [a1, clw, f_p30 h' hr1, show o + 1 - 1 = o by omega]
          refine ⟨_, _, rfl, (a2.trans (g1.dn a2.2.1)).le (by show 3 * (x.2 - (p + 1)) - 2 + (1 + 0) ≤ 3 * (x.2 - p) - 2; omega), by show p ≤ x.2; omega, a4, mZ σ', rfl, ?_⟩
          have up := a5.up (σ' := (mI (mNew σ' 11 1), up2 (mP (mNew σ' 11 1)) (mZ σ') 0 (some a), (mNew σ' 11 1).2.2)) (fun b b0 b1 => g1.1 b b1) g1.2.1
          refine (cnd_not up a2.2.1 ?_ ?_ ?_).lo (by omega) (Nat.le_refl _) (by omega)
          · show mZ σ' < mZ σ' + 1; omega
          · show (if mZ σ' = mZ σ' then (11, 1) else _ : Nat × Nat).1 = 11; rw [if_pos rfl]
          · exact if_pos ⟨rfl, rfl⟩
    · rw [if_neg c33]
      by_cases c40 : hrA T n p = 40
      · have hp := h0_in (c := 40) (by omega) c40
        rw [if_pos c40]
        unfold sX9_piece_0
        rw [cV_r h, f_here h p0 (by omega), clw, if_neg (fun z => c33 ((E1c h (by omega) (by omega)).mp z)), if_pos ((E1c h (by omega) (by omega)).mpr c40), cV_r h]
        have q : OutR rd n (mZ σ) σ o p 2 4 2 (V10 (2 * d + 1 + 1) (mZ σ)) B10 ((gX9_condition (D + 3)).1 (some rd) (rdM rd p o 0 0 σ)) (rCnd T n (rPiece T n d) o p) := by
          refine f_cond (rc := (gX9_condition (D + 2)).1) (ri := (gX9_condition (D + 2)).2.1) (rq := (gX9_condition (D + 2)).2.2) (fun o5 σ p h p0 p1 hr => ?_) h p0 hp h2 h3 hr
          exact f_pieces (rc := (gX9_condition (D + 1)).1) (ri := (gX9_condition (D + 1)).2.1) (rq := (gX9_condition (D + 1)).2.2) (fun σ p h p0 p1 hr => f_piece d D (o + 1) (by omega) (by omega) (by omega) (by omega) σ p h p0 p1 hr) h p0 p1 hr
        have e9 : ∀ Z : Option (Option Nat × Mem), cl Z (fun x9 s10 => some (x9, s10)) = Z := fun Z => by
          cases Z with
          | none => rfl
          | some z => rfl
        rw [e9]
        exact q.weak (fun σ' r v q => by obtain ⟨a, q1, q2, q3⟩ := q; exact ⟨a, q1, q2⟩) (fun _ _ _ => trivial)
      · rw [if_neg c40]
        exact (f_cmp h p0 p1 h2 h3 hr c33 c40).weak (fun σ' r v q => by obtain ⟨a, q1, q2⟩ := q; exact ⟨a, q1, q2.lo q2.1 (Nat.le_refl _) (by omega)⟩) (fun _ _ z => z)
theorem f_cond40 {σ : Mem} {p : Int} (h : RE rd n T σ) (p0 : 0 ≤ p) (p1 : p < n) (hr : Room σ (3 * (n - p) + 4)) : OutR rd n (mZ σ) σ 0 p 2 4 2 (V10 16 (mZ σ)) B10 (sX9_condition 40 (some rd) (rdM rd p 0 0 0 σ)) (rCnd T n (rPiece T n 7) 0 p) := by
  refine f_cond (rc := (gX9_condition 39).1) (ri := (gX9_condition 39).2.1) (rq := (gX9_condition 39).2.2) (k := 15) (o := 0) (fun o5 σ p h p0 p1 hr => ?_) h p0 p1 (by omega) (by omega) hr
  exact f_pieces (rc := (gX9_condition 38).1) (ri := (gX9_condition 38).2.1) (rq := (gX9_condition 38).2.2) (k := 14) (fun σ p h p0 p1 hr => f_piece 7 37 (0 + 1) (by omega) (by omega) (by omega) (by omega) σ p h p0 p1 hr) h p0 p1 hr
/-- a text's cells -/
def TS (rd tx : Nat) (σ : Mem) : Prop := mP σ rd 1 = some tx ∧ rd < tx ∧ (mK σ tx).1 = 4 ∧ (mP σ tx 0 = some (tx + 1) ∧ mP σ tx 1 = some (tx + 2) ∧ mP σ tx 2 = some (tx + 3)) ∧ (mK σ (tx + 1) = (20, 16) ∧ mK σ (tx + 2) = (24, 16) ∧ mK σ (tx + 3) = (25, 16)) ∧ tx + 4 ≤ mZ σ
theorem TS.up {rd tx : Nat} {σ σ' : Mem} {c : Int} {lo : Nat} (t : TS rd tx σ) (g : Grow lo σ σ' c) (hl : tx + 4 ≤ lo) : TS rd tx σ' := by
  obtain ⟨t1, t2, t3, ⟨t4, t5, t6⟩, ⟨t7, t8, t9⟩, t10⟩ := t
  obtain ⟨g1, g2, g3⟩ := g
  exact ⟨by rw [(g1 rd (by omega)).2.2]; exact t1, t2, by rw [(g1 tx (by omega)).1]; exact t3, ⟨by rw [(g1 tx (by omega)).2.2]; exact t4, by rw [(g1 tx (by omega)).2.2]; exact t5, by rw [(g1 tx (by omega)).2.2]; exact t6⟩, ⟨by rw [(g1 _ (by omega)).1]; exact t7, by rw [(g1 _ (by omega)).1]; exact t8, by rw [(g1 _ (by omega)).1]; exact t9⟩, by omega⟩
/-- a clause in a text -/
def ClL (tx : Nat) (σ : Mem) (i : Nat) (x : Cls) : Prop := mI σ (tx + 1) i = iI x.1 ∧ (x.1 = 100 ∨ x.1 = 108 ∨ x.1 = 101 ∨ x.1 = 120) ∧ (x.1 ≠ 120 → ∃ a, mP σ (tx + 2) i = some a ∧ SumD 14 (tx + 4) σ a x.2.1 ∧ (mK σ a).1 = 5) ∧ ∃ a, mP σ (tx + 3) i = some a ∧ CndD 16 (tx + 4) σ a x.2.2 ∧ (mK σ a).1 = 10
def TL (tx : Nat) (σ : Mem) (l : List Cls) : Prop := mI σ tx 3 = iI (l.length : Int) ∧ l.length ≤ 16 ∧ ∀ (i : Nat) (h : i < l.length), ClL tx σ i l[i]
theorem TL.up {tx : Nat} {σ σ' : Mem} {l : List Cls} (t : TL tx σ l) (g : ∀ b, tx ≤ b → b < mZ σ → mK σ' b = mK σ b ∧ (∀ j, mI σ' b j = mI σ b j) ∧ ∀ j, mP σ' b j = mP σ b j) (hz : mZ σ ≤ mZ σ') (hl : tx + 4 ≤ mZ σ) : TL tx σ' l := by
  obtain ⟨t1, t2, t3⟩ := t
  refine ⟨by rw [(g tx (Nat.le_refl _) (by omega)).2.1]; exact t1, t2, fun i hi => ?_⟩
  obtain ⟨c1, c2, c3, ⟨a, c4, c5, c6⟩⟩ := t3 i hi
  have ag : Agm (tx + 4) σ σ' := fun b b0 b1 => g b (by omega) b1
  refine ⟨by rw [(g (tx + 1) (by omega) (by omega)).2.1]; exact c1, c2, fun n => ?_, a, by rw [(g (tx + 3) (by omega) (by omega)).2.2]; exact c4, c5.up ag hz, by rw [(ag a (by have := c5.2.1; omega) c5.2.2.1).1]; exact c6⟩
  obtain ⟨a, d4, d5, d6⟩ := c3 n
  exact ⟨a, by rw [(g (tx + 2) (by omega) (by omega)).2.2]; exact d4, d5.up ag hz, by rw [(ag a (by have := d5.2.1; omega) d5.2.2.1).1]; exact d6⟩
/-- a clause is written -/
def wrQ (σ : Mem) (tx : Nat) (i : Nat) (c : Int32) (v t : Option Nat) : Mem := (up2 (up2 (mI σ) (tx + 1) i c) tx 3 (iI ((i : Int) + 1)), up2 (up2 (mP σ) (tx + 2) i v) (tx + 3) i t, σ.2.2)
theorem grow_wr {σ : Mem} {tx i : Nat} {c : Int32} {v t : Option Nat} : Grow tx σ (wrQ σ tx i c v t) 0 := by
  refine ⟨fun b hb => ⟨rfl, fun j => ?_, fun j => ?_⟩, Nat.le_refl _, ?_, ?_, fun _ h => h⟩
  · show (if b = tx ∧ j = 3 then _ else if b = tx + 1 ∧ j = i then _ else mI σ b j) = _
    rw [if_neg (by omega), if_neg (by omega)]
  · show (if b = tx + 3 ∧ j = i then _ else if b = tx + 2 ∧ j = i then _ else mP σ b j) = _
    rw [if_neg (by omega), if_neg (by omega)]
  · show (mZ σ : Int) ≤ _; omega
  · show (mY σ : Int) ≤ _; omega
theorem sI_ro {β : Type} {σ : Mem} {p o ft pl : Int} {a m : Nat} {i : Int} {v : Int32} (ha : a ≠ rd) (hk : mK σ a = (20, m)) (i0 : 0 ≤ i) (i1 : i < m) (m1 : m ≤ 100000) {f : Mem → Option β} : sI (rdM rd p o ft pl σ) (some a) (iI i) v f = f (rdM rd p o ft pl (up2 (mI σ) a i.toNat v, σ.2)) := by
  rw [sI_x (σ := rdM rd p o ft pl σ) (n := m) hk i0 i1 m1]
  refine congrArg f (Prod.ext ?_ rfl)
  funext b j
  show (if b = a ∧ j = i.toNat then v else if b = rd ∧ 2 ≤ j ∧ j ≤ 5 then _ else mI σ b j) = if b = rd ∧ 2 ≤ j ∧ j ≤ 5 then _ else if b = a ∧ j = i.toNat then v else mI σ b j
  by_cases c : b = a ∧ j = i.toNat
  · rw [if_pos c, if_neg (by omega), if_pos c]
  · rw [if_neg c, if_neg c]
theorem sR_ro {β : Type} {σ : Mem} {p o ft pl : Int} {a m kd ci : Nat} {i : Int} {v : Option Nat} (hk : mK σ a = (kd, m)) (i0 : 0 ≤ i) (i1 : i < m) (m1 : m ≤ 100000) (hv : kdO σ v = ci ∨ v = none) {f : Mem → Option β} : sR (rdM rd p o ft pl σ) (some a) kd (iI i) ci v f = f (rdM rd p o ft pl (mI σ, up2 (mP σ) a i.toNat v, σ.2.2)) := by
  have c : ((mK (rdM rd p o ft pl σ) a).1 = kd ∧ inR (iI i) (mK (rdM rd p o ft pl σ) a).2) ∧ (kdO (rdM rd p o ft pl σ) v = ci ∨ v = none) := by
    refine ⟨⟨?_, ?_⟩, ?_⟩
    · show (mK σ a).1 = kd
      rw [hk]
    · show inR (iI i) (mK σ a).2
      rw [hk, iv_in (by omega) (by omega)]
      exact ⟨i0, i1⟩
    · cases v with
      | none => exact Or.inr rfl
      | some b => exact hv
  refine (if_pos c).trans ?_
  rw [iv_ix i0 (by omega)]
  rfl
theorem f_129 {σ : Mem} {p o ft pl : Int} {tx i : Nat} {c : Int32} {v t : Option Nat} (h : RE rd n T σ) (hs : TS rd tx σ) (hi : mI σ tx 3 = iI (i : Int)) (i1 : i < 16) (hv : kdO σ v = 5 ∨ v = none) (ht : kdO σ t = 10 ∨ t = none) : sX9_clause_129 (some rd) c v t (rdM rd p o ft pl σ) = some ((), rdM rd p o ft pl (wrQ σ tx i c v t)) := by
  obtain ⟨t1, t2, t3, ⟨t4, t5, t6⟩, ⟨t7, t8, t9⟩, t10⟩ := hs
  obtain ⟨A, hA⟩ : ∃ A : Mem, A = (up2 (mI σ) (tx + 1) i c, σ.2) := ⟨_, rfl⟩
  have hAI : ∀ j, mI A tx j = mI σ tx j := fun j => by rw [hA]; exact if_neg (by omega)
  have hA1 : RE rd n T A := by rw [hA]; exact (grow_I (lo := tx) (by omega)).re h t2
  have hA2 : A.2 = σ.2 := by rw [hA]
  have aP : mP A = mP σ := by rw [hA]
  have aK : mK A = mK σ := by rw [hA]
  obtain ⟨D, hD⟩ : ∃ D : Mem, D = (mI A, up2 (mP A) (tx + 2) i v, A.2.2) := ⟨_, rfl⟩
  have hD1 : RE rd n T D := by rw [hD]; exact (grow_P (lo := tx) (by omega)).re hA1 t2
  have dI : mI D = mI A := by rw [hD]
  have dK : mK D = mK σ := by rw [hD]; exact aK
  have dP : ∀ b j, b < tx + 2 → mP D b j = mP σ b j := fun b j hb => by rw [hD, ← aP]; exact if_neg (by omega)
  obtain ⟨E, hE⟩ : ∃ E : Mem, E = (mI D, up2 (mP D) (tx + 3) i t, D.2.2) := ⟨_, rfl⟩
  have hE1 : RE rd n T E := by rw [hE]; exact (grow_P (lo := tx) (by omega)).re hD1 t2
  have eI : mI E = mI A := by rw [hE]; exact dI
  have eK : mK E = mK σ := by rw [hE]; exact dK
  have eP : ∀ b j, b < tx + 2 → mP E b j = mP σ b j := fun b j hb => by rw [hE, ← dP b j hb]; exact if_neg (by omega)
  have kv : kdO A v = 5 ∨ v = none := by
    cases v with
    | none => exact Or.inr rfl
    | some b => rcases hv with hv | hv; exact Or.inl (by rw [kd_y, aK]; exact hv); cases hv
  have kt : kdO D t = 10 ∨ t = none := by
    cases t with
    | none => exact Or.inr rfl
    | some b => rcases ht with ht | ht; exact Or.inl (by rw [kd_y, dK]; exact ht); cases ht
  unfold sX9_clause_129
  rw [gR_r h, t1, gR_ro t3, t4, gR_r h, t1, gI_ro (by omega) t3, hi, sI_ro (by omega) t7 (by omega) (by omega) (by omega), Int.toNat_natCast, ← hA,
    gR_r hA1, aP, t1, gR_ro (by rw [aK]; exact t3), aP, t5, gR_r hA1, aP, t1, gI_ro (by omega) (by rw [aK]; exact t3), hAI, hi, sR_ro (by rw [aK]; exact t8) (by omega) (by omega) (by omega) kv, Int.toNat_natCast, ← hD,
    gR_r hD1, dP _ _ (by omega), t1, gR_ro (by rw [dK]; exact t3), dP _ _ (by omega), t6, gR_r hD1, dP _ _ (by omega), t1, gI_ro (by omega) (by rw [dK]; exact t3), dI, hAI, hi, sR_ro (by rw [dK]; exact t9) (by omega) (by omega) (by omega) kt, Int.toNat_natCast, ← hE,
    gR_r hE1, eP _ _ (by omega), t1, gI_ro (by omega) (by rw [eK]; exact t3), eI, hAI, hi, iv_add, pI_ro (by omega) (by rw [eK]; exact t3), hE, hD, hA]
  rfl
theorem TL_add {tx : Nat} {σ : Mem} {l : List Cls} {c : Int} {e : SumV} {x : CndV} {v t : Option Nat} (hz : tx + 4 ≤ mZ σ) (h : TL tx σ l) (hl : l.length < 16) (hc : c = 100 ∨ c = 108 ∨ c = 101 ∨ c = 120) (hv : c ≠ 120 → ∃ a, v = some a ∧ SumD 14 (tx + 4) σ a e ∧ (mK σ a).1 = 5) (ht : ∃ a, t = some a ∧ CndD 16 (tx + 4) σ a x ∧ (mK σ a).1 = 10) : TL tx (wrQ σ tx l.length (iI c) v t) (l ++ [(c, e, x)]) := by
  obtain ⟨t1, t2, t3⟩ := h
  obtain ⟨N, hN⟩ : ∃ N : Mem, N = wrQ σ tx l.length (iI c) v t := ⟨_, rfl⟩
  have NI : ∀ b j, mI N b j = if b = tx ∧ j = 3 then iI ((l.length : Int) + 1) else if b = tx + 1 ∧ j = l.length then iI c else mI σ b j := fun b j => by rw [hN]; rfl
  have NP : ∀ b j, mP N b j = if b = tx + 3 ∧ j = l.length then t else if b = tx + 2 ∧ j = l.length then v else mP σ b j := fun b j => by rw [hN]; rfl
  have NK : mK N = mK σ := by rw [hN]; rfl
  have NZ : mZ N = mZ σ := by rw [hN]; rfl
  rw [← hN]
  have ag : Agm (tx + 4) σ N := fun b b0 b1 => ⟨by rw [NK], fun j => by rw [NI, if_neg (by omega), if_neg (by omega)], fun j => by rw [NP, if_neg (by omega), if_neg (by omega)]⟩
  have ln : (l ++ [(c, e, x)]).length = l.length + 1 := by rw [List.length_append]; rfl
  refine ⟨by rw [NI, if_pos ⟨rfl, rfl⟩, ln]; rfl, by omega, fun i hi => ?_⟩
  by_cases d : i < l.length
  · rw [List.getElem_append_left d]
    obtain ⟨c1, c2, c3, ⟨a, c4, c5, c6⟩⟩ := t3 i d
    refine ⟨by rw [NI, if_neg (by omega), if_neg (by omega)]; exact c1, c2, fun n => ?_, a, by rw [NP, if_neg (by omega), if_neg (by omega)]; exact c4, c5.up ag (by omega), by rw [NK]; exact c6⟩
    obtain ⟨a, d4, d5, d6⟩ := c3 n
    exact ⟨a, by rw [NP, if_neg (by omega), if_neg (by omega)]; exact d4, d5.up ag (by omega), by rw [NK]; exact d6⟩
  · have di : i = l.length := by omega
    subst di
    rw [List.getElem_concat_length rfl]
    obtain ⟨a, a1, a2, a3⟩ := ht
    refine ⟨by rw [NI, if_neg (by omega), if_pos ⟨rfl, rfl⟩], hc, fun n => ?_, a, by rw [NP, if_pos ⟨rfl, rfl⟩]; exact a1, a2.up ag (by omega), by rw [NK]; exact a3⟩
    obtain ⟨b, e1, e2, e3⟩ := hv n
    exact ⟨b, by rw [NP, if_neg (by omega), if_pos ⟨rfl, rfl⟩]; exact e1, e2.up ag (by omega), by rw [NK]; exact e3⟩
end
