/-! DEPS: yt -/
/-! YU: TermLog reads conditions (printed by src/genyu.py) -/
def VC (k lo : Nat) (σ' : Mem) (r : Option Nat) (v : CndV) : Prop := ∃ a, r = some a ∧ CndD k lo σ' a v
def V10 (k lo : Nat) (σ' : Mem) (r : Option Nat) (v : CndV) : Prop := ∃ a, r = some a ∧ CndD k lo σ' a v ∧ (mK σ' a).1 = 10
def B10 (σ' : Mem) (r : Option Nat) : Prop := r = none ∨ ∃ a, r = some a ∧ (mK σ' a).1 = 10
section
variable {rd : Nat} {n : Int} {T : Int → Int}
theorem f_sum : ∀ (d D : Nat) (o : Int), 7 ≤ (d : Int) + o → 0 ≤ o → o ≤ 6 → 3 * d ≤ D → ∀ (σ : Mem) (p : Int), RE rd n T σ → 0 ≤ p → p ≤ n → Room σ (3 * (n - p) + 3) → OutR rd n (mZ σ) σ o p 0 3 1 (V5 (2 * d) (mZ σ)) B5 ((gX9_factor D).2.2 (some rd) (rdM rd p o 0 0 σ)) (rSum T n d o p)
  | 0, D, o, h1, h2, h3, h4, σ, p, h, p0, p1, hr => by omega
  | d + 1, D, o, h1, h2, h3, h4, σ, p, h, p0, p1, hr => by
    obtain ⟨D, rfl⟩ : ∃ D', D = D' + 3 := ⟨D - 3, by omega⟩
    have hF : ∀ (σ : Mem) (p : Int), RE rd n T σ → 0 ≤ p → p ≤ n → Room σ (3 * (n - p) + 1) → OutR rd n (mZ σ) σ o p 2 1 1 (VS (2 * d) (mZ σ)) B0 ((gX9_factor (D + 1)).1 (some rd) (rdM rd p o 0 0 σ)) (rFac T n (rSum T n d) o p) := by
      intro σ p h p0 p1 hr
      refine f_factor (rf := (gX9_factor D).1) (rp := (gX9_factor D).2.1) (rs := (gX9_factor D).2.2) (fun o5 σ p h p0 p1 hr => ?_) h p0 p1 h2 h3 hr
      exact (f_sum d D (o + 1) (by omega) (by omega) (by omega) (by omega) σ p h p0 p1 hr).weak (fun σ' r v q => by obtain ⟨a, q1, q2, q3⟩ := q; exact ⟨a, q1, q2⟩) (fun _ _ _ => trivial)
    have hP : ∀ (σ : Mem) (p : Int), RE rd n T σ → 0 ≤ p → p ≤ n → Room σ (3 * (n - p) + 2) → OutR rd n (mZ σ) σ o p 1 2 1 (VS (2 * d + 1) (mZ σ)) B0 ((gX9_factor (D + 2)).2.1 (some rd) (rdM rd p o 0 0 σ)) (rSeq T n mulA (rFac T n (rSum T n d) o) p) := by
      intro σ p h p0 p1 hr
      have q : OutR rd n (mZ σ) σ o p 1 2 1 (V5 (2 * d + 1) (mZ σ)) B5 ((gX9_factor (D + 2)).2.1 (some rd) (rdM rd p o 0 0 σ)) (rSeq T n mulA (rFac T n (rSum T n d) o) p) :=
        pr_read (rf := (gX9_factor (D + 1)).1) (rp := (gX9_factor (D + 1)).2.1) (rs := (gX9_factor (D + 1)).2.2) hF h p0 p1 ⟨by have := hr.1; omega, by have := hr.2; omega⟩
      exact q.weak (fun σ' r v q => by obtain ⟨a, q1, q2, q3⟩ := q; exact ⟨a, q1, q2⟩) (fun _ _ _ => trivial)
    have q : OutR rd n (mZ σ) σ o p 0 3 1 (V5 (2 * d + 1 + 1) (mZ σ)) B5 ((gX9_factor (D + 3)).2.2 (some rd) (rdM rd p o 0 0 σ)) (rSeq T n addA (rSeq T n mulA (rFac T n (rSum T n d) o)) p) :=
      su_read (rf := (gX9_factor (D + 2)).1) (rp := (gX9_factor (D + 2)).2.1) (rs := (gX9_factor (D + 2)).2.2) hP h p0 p1 ⟨by have := hr.1; omega, by have := hr.2; omega⟩
    exact q
theorem f_sum40 {σ : Mem} {o p : Int} (o0 : 0 ≤ o) (o1 : o ≤ 6) (h : RE rd n T σ) (p0 : 0 ≤ p) (p1 : p ≤ n) (hr : Room σ (3 * (n - p) + 3)) : OutR rd n (mZ σ) σ o p 0 3 1 (V5 14 (mZ σ)) B5 (sX9_sum 40 (some rd) (rdM rd p o 0 0 σ)) (rSum T n 7 o p) :=
  f_sum 7 40 o (by omega) o0 o1 (by omega) σ p h p0 p1 hr
variable {rc ri rq : Option Nat → Mem → Option (Option Nat × Mem)}
theorem f_c93 {σ : Mem} {p o ft pl : Int} (h : RE rd n T σ) {r : Option Nat} : sX9_condition_93 rc ri rq (some rd) r (rdM rd p o ft pl σ) = some (r, rdM rd p (o - 1) ft pl σ) := by
  unfold sX9_condition_93
  rw [gI_r3 h, iv_sub, pI_r3 h]
theorem f_c80b {σ : Mem} {p o ft pl : Int} (h : RE rd n T σ) (c1 : 1 ≤ ft) (c2 : ft ≤ 5) {r : Option Nat} : sX9_condition_80 rc ri rq (some rd) r (rdM rd p o ft pl σ) = some (r, rdM rd p (o - 1) ft pl σ) := by
  unfold sX9_condition_80
  rw [cV_r h, f_good1 h c1 c2, clw, if_pos rfl, f_c93 h]
theorem f_c80g {σ : Mem} {p o : Int} (h : RE rd n T σ) (p0 : 0 ≤ p) (p1 : p ≤ 100000) {r : Option Nat} : sX9_condition_80 rc ri rq (some rd) r (rdM rd p o 0 0 σ) = some (r, if hrA T n p = 41 then rdM rd (p + 1) (o - 1) 0 0 σ else rdM rd (p + 1) (o - 1) 1 p σ) := by
  unfold sX9_condition_80
  rw [cV_r h, f_good0 h, clw, if_neg iv_01, cV_r h, f_must h p0 p1 (by omega) (by omega), clw]
  by_cases c : hrA T n p = 41
  · rw [if_pos c, if_pos c, f_c93 h]
  · rw [if_neg c, if_neg c, f_c93 h]
theorem f_init13 {σ : Mem} {p o ft pl : Int} {x : Nat} (hx : x ≠ rd) (k : (mK σ x).1 = 10) {c : Int32} {r : Option Nat} : sX13_init (some x) r c (rdM rd p o ft pl σ) = some ((), rdM rd p o ft pl (up2 (mI σ) x 1 c, up2 (mP σ) x 0 r, σ.2.2)) := by
  unfold sX13_init sX12_init
  rw [cI_y, cI_y, clw, pR_ro k, pI_ro (σ := (mI σ, up2 (mP σ) x 0 r, σ.2.2)) hx k]
theorem E1c {σ : Mem} (h : RE rd n T σ) {p c : Int} (c0 : 1 ≤ c) (c1 : c ≤ 255) : (iI (h0A T n p) = iI c) ↔ hrA T n p = c := by
  have r0 := h0_r (p := p) h
  have : (iI (h0A T n p) = iI c) = (h0A T n p = c) := iv_eq (by omega) (by omega) (by omega) (by omega)
  rw [this]
  exact h0_eq c0
theorem pi_exit {σ : Mem} {p o ft pl : Int} (h : RE rd n T σ) (c1 : 1 ≤ ft) (c2 : ft ≤ 5) {fu : Nat} {v1 v2 : Option Nat} : sX9_pieces_15 rc ri rq (fu + 1) (some rd) v1 v2 (rdM rd p o ft pl σ) = some (v1, (rdM rd p o ft pl σ)) := by
  show sX9_pieces_15b rc ri rq (sX9_pieces_15 rc ri rq fu) (some rd) v1 v2 _ = _
  generalize sX9_pieces_15 rc ri rq fu = K
  unfold sX9_pieces_15b
  rw [cV_r h, f_good1 h c1 c2, clw, if_pos rfl]
theorem pi_stop {σ : Mem} {p o : Int} (h : RE rd n T σ) (p0 : 0 ≤ p) (p1 : p ≤ n) (c : ¬ hrA T n p = 38) {fu : Nat} {v1 v2 : Option Nat} : sX9_pieces_15 rc ri rq (fu + 1) (some rd) v1 v2 (rdM rd p o 0 0 σ) = some (v1, (rdM rd p o 0 0 σ)) := by
  obtain ⟨b1, b2, b3, b4, b5, b6, b7, b8, b9, b10, b11⟩ := id h
  show sX9_pieces_15b rc ri rq (sX9_pieces_15 rc ri rq fu) (some rd) v1 v2 _ = _
  generalize sX9_pieces_15 rc ri rq fu = K
  unfold sX9_pieces_15b
  rw [cV_r h, f_good0 h, clw, if_neg iv_01, cV_r h, f_here h p0 (by omega), clw, if_neg (fun z => c ((E1c h (by omega) (by omega)).mp z))]
theorem pi_step {σ : Mem} {p o : Int} (h : RE rd n T σ) (p0 : 0 ≤ p) (p1 : p < n) (c : hrA T n p = 38) (hr : Room σ 1) {fu : Nat} {hd ls : Nat} {r : Option Nat} {σ3 : Mem} {p' o' ft pl : Int} (e : ri (some rd) (rdM rd (p + 1) o 0 0 (mNew σ 10 3)) = some (r, rdM rd p' o' ft pl σ3)) (kx : (mK σ3 (mZ σ)).1 = 10) (kl : (mK σ3 ls).1 = 10) :
    sX9_pieces_15 rc ri rq (fu + 1) (some rd) (some hd) (some ls) (rdM rd p o 0 0 σ) = sX9_pieces_15 rc ri rq fu (some rd) (some hd) (some (mZ σ)) (rdM rd p' o' ft pl (up2 (mI σ3) (mZ σ) 1 (iI 0), up2 (up2 (mP σ3) (mZ σ) 0 r) ls 2 (some (mZ σ)), σ3.2.2)) := by
  obtain ⟨b1, b2, b3, b4, b5, b6, b7, b8, b9, b10, b11⟩ := id h
  have h1 : RE rd n T (mNew σ 10 3) := (grow_new (k := 10) (m := 3) (Nat.le_refl (mZ σ)) (by omega)).re h b2
  show sX9_pieces_15b rc ri rq (sX9_pieces_15 rc ri rq fu) (some rd) (some hd) (some ls) _ = _
  generalize sX9_pieces_15 rc ri rq fu = K
  unfold sX9_pieces_15b
  rw [cV_r h, f_good0 h, clw, if_neg iv_01, cV_r h, f_here h p0 (by omega), clw, if_pos ((E1c h (by omega) (by omega)).mpr c), gI_r2 h, iv_add, pI_r2 h, nO_r b2 hr (by omega), cV_r h1, e, clw, cI_y, f_init13 (by omega) kx, clw, pR_ro (σ := (up2 (mI σ3) (mZ σ) 1 (iI 0), up2 (mP σ3) (mZ σ) 0 r, σ3.2.2)) kl, gR_ro (σ := (up2 (mI σ3) (mZ σ) 1 (iI 0), up2 (up2 (mP σ3) (mZ σ) 0 r) ls 2 (some (mZ σ)), σ3.2.2)) kl]
  show K (some rd) (some hd) (if ls = ls ∧ 2 = 2 then some (mZ σ) else _) _ = _
  rw [if_pos ⟨rfl, rfl⟩]
theorem pi_loop {rdf : Int → Res CndV} {k : Nat} {o : Int} (hf : ∀ (σ : Mem) (p : Int), RE rd n T σ → 0 ≤ p → p ≤ n → Room σ (3 * (n - p) + 4) → OutR rd n (mZ σ) σ o p 2 4 2 (VC k (mZ σ)) B0 (ri (some rd) (rdM rd p o 0 0 σ)) (rdf p)) :
    ∀ (fr fu fc : Nat) (σ : Mem) (p : Int) (e : CndV) (hd ls lo : Nat), RE rd n T σ → rd < lo → 0 ≤ p → p ≤ n → (n - p).toNat + 1 ≤ fr → (n - p).toNat + 2 ≤ fu → (n - p).toNat + 2 ≤ fc → SegC k lo σ false hd ls e fc → Room σ (3 * (n - p) + 4 + 1) →
    match rJoin T n 38 andV rdf fr e p with
    | .inl x => ∃ σ' p' o', sX9_pieces_15 rc ri rq fu (some rd) (some hd) (some ls) (rdM rd p o 0 0 σ) = some ((some hd), (rdM rd p' o' x.1 x.2 σ')) ∧ Grow lo σ σ' (3 * (n - p) + 4 + 1) ∧ 0 ≤ p' ∧ p' ≤ n + 2 ∧ 1 ≤ x.1 ∧ x.1 ≤ 5 ∧ 0 ≤ x.2 ∧ x.2 ≤ n ∧ (mK σ' hd).1 = 10
    | .inr x => ∃ σ', sX9_pieces_15 rc ri rq fu (some rd) (some hd) (some ls) (rdM rd p o 0 0 σ) = some ((some hd), (rdM rd x.2 o 0 0 σ')) ∧ Grow lo σ σ' (3 * (x.2 - p)) ∧ p ≤ x.2 ∧ x.2 ≤ n ∧ CndD (k + 1) lo σ' hd x.1 ∧ (mK σ' hd).1 = 10
  | 0, fu, fc, σ, p, e, hd, ls, lo, h, hl, p0, p1, i1, i2, i3, sg, hr => by omega
  | fr + 1, fu, fc, σ, p, e, hd, ls, lo, h, hl, p0, p1, i1, i2, i3, sg, hr => by
    obtain ⟨b1, b2, b3, b4, b5, b6, b7, b8, b9, b10, b11⟩ := id h
    obtain ⟨fu, rfl⟩ : ∃ u, fu = u + 1 := ⟨fu - 1, by omega⟩
    obtain ⟨fc, rfl⟩ : ∃ u, fc = u + 1 := ⟨fc - 1, by omega⟩
    obtain ⟨s1, s2, s3, s4, s5, s6, s7, s8, s9, s10⟩ := id sg
    unfold rJoin
    by_cases c : hrA T n p = 38
    · rw [if_pos c]
      have hp : p < n := h0_in (c := 38) (by omega) c
      have g1 : Grow (mZ σ) σ (mNew σ 10 3) 1 := grow_new (Nat.le_refl _) (by omega)
      have h1 := g1.re h b2
      have hr1 : Room (mNew σ 10 3) (3 * (n - (p + 1)) + 4) := by
        constructor
        · have := hr.1
          show ((mZ σ + 1 : Nat) : Int) + _ ≤ _
          omega
        · have := hr.2
          show ((mY σ + 3 : Nat) : Int) + _ ≤ _
          omega
      have q := hf (mNew σ 10 3) (p + 1) h1 (by omega) (by omega) hr1
      have zn : mZ (mNew σ 10 3) = mZ σ + 1 := rfl
      unfold OutR at q
      have prep : ∀ (σ3 : Mem) (cc : Int), Grow (mZ (mNew σ 10 3)) (mNew σ 10 3) σ3 cc → Agm lo (mNew σ 10 3) σ3 ∧ (mK σ3 (mZ σ)).1 = 10 ∧ (mK σ3 ls).1 = 10 ∧ (mK σ3 hd).1 = 10 := by
        intro σ3 cc g
        have ag : Agm lo (mNew σ 10 3) σ3 := fun b b0 b1 => g.1 b b1
        have kd : ∀ b, b < mZ σ → mK σ3 b = mK σ b := fun b b1 => ((g.1 b (by omega)).1).trans (if_neg (by omega))
        refine ⟨ag, ?_, by rw [kd ls s5]; exact s7, by rw [kd hd s3]; exact s6⟩
        rw [(g.1 (mZ σ) (by omega)).1]
        show (if mZ σ = mZ σ then (10, 3) else _ : Nat × Nat).1 = 10
        rw [if_pos rfl]
      have gN : ∀ (σ3 : Mem) (cc : Int) (r : Option Nat), Grow (mZ (mNew σ 10 3)) (mNew σ 10 3) σ3 cc → Grow lo σ (up2 (mI σ3) (mZ σ) 1 (iI 0), up2 (up2 (mP σ3) (mZ σ) 0 r) ls 2 (some (mZ σ)), σ3.2.2) (1 + cc) := by
        intro σ3 cc r g
        have g2 := (g1.dn (lo' := lo) (by omega)).trans (g.dn (lo' := lo) (by omega))
        refine ⟨fun b hb => ?_, g2.2⟩
        obtain ⟨u1, u2, u3⟩ := g2.1 b hb
        refine ⟨u1, fun j => ?_, fun j => ?_⟩
        · show (if b = mZ σ ∧ j = 1 then _ else mI σ3 b j) = _
          rw [if_neg (by omega)]; exact u2 j
        · show (if b = ls ∧ j = 2 then _ else if b = mZ σ ∧ j = 0 then _ else mP σ3 b j) = _
          rw [if_neg (by omega), if_neg (by omega)]; exact u3 j
      have hr0 : Room σ 1 := ⟨by have := hr.1; omega, by have := hr.2; omega⟩
      cases e9 : rdf (p + 1) with
      | inl x =>
        rw [e9] at q
        obtain ⟨r, σ3, p', o', a1, a2, a3, a4, a5, a6, a7, a8, a9⟩ := q
        obtain ⟨pa, pb, pc, pd⟩ := prep σ3 _ a2
        obtain ⟨fu', rfl⟩ : ∃ u, fu = u + 1 := ⟨fu - 1, by omega⟩
        have gn := gN σ3 _ r a2
        have hn := gn.re h hl
        refine ⟨_, p', o', ?_, gn.le (by omega), a3, a4, a5, a6, a7, a8, ?_⟩
        · rw [pi_step h p0 hp c hr0 a1 pb pc, pi_exit hn a5 a6]
        · exact pd
      | inr x =>
        rw [e9] at q
        obtain ⟨r, σ3, a1, a2, a3, a4, ⟨a, ra, a5⟩⟩ := q
        obtain ⟨pa, pb, pc, pd⟩ := prep σ3 _ a2
        subst ra
        have gn := gN σ3 _ (some a) a2
        have hn := gn.re h hl
        have sg' := segc_more (dc := iI 0) (x := mZ σ) sg rfl pa (by have := a2.2.1; omega) a5
        rw [jn_and] at sg'
        have ih := pi_loop hf fr fu fc _ x.2 _ hd (mZ σ) lo hn hl (by omega) a4 (by omega) (by omega) (by omega) sg' ⟨by have := hr.1; have := gn.2.2.1; omega, by have := hr.2; have := gn.2.2.2; omega⟩
        rw [pi_step h p0 hp c hr0 a1 pb pc]
        show match rJoin T n 38 andV rdf fr (andV e x.1) x.2 with | .inl x => _ | .inr x => _
        cases e8 : rJoin T n 38 andV rdf fr (andV e x.1) x.2 with
        | inl y =>
          rw [e8] at ih
          obtain ⟨σ', p', o', i1, i2, i3⟩ := ih
          exact ⟨σ', p', o', i1, (gn.trans i2).le (by omega), i3⟩
        | inr y =>
          rw [e8] at ih
          obtain ⟨σ', i1, i2, i3, i4, i5⟩ := ih
          exact ⟨σ', i1, (gn.trans i2).le (by omega), by omega, i4, i5⟩
    · rw [if_neg c, pi_stop h p0 p1 c]
      exact ⟨σ, rfl, Grow.rfl'.le (by show 0 ≤ 3 * (p - p); omega), Int.le_refl _, p1, segc_done sg, s6⟩
/-- the first piece of a chain and the chain -/
theorem pi_read {rdf : Int → Res CndV} {k : Nat} {o : Int} (hf : ∀ (σ : Mem) (p : Int), RE rd n T σ → 0 ≤ p → p ≤ n → Room σ (3 * (n - p) + 4) → OutR rd n (mZ σ) σ o p 2 4 2 (VC k (mZ σ)) B0 (ri (some rd) (rdM rd p o 0 0 σ)) (rdf p))
    {σ : Mem} {p : Int} (h : RE rd n T σ) (p0 : 0 ≤ p) (p1 : p ≤ n) (hr : Room σ (3 * (n - p) + 4 + 1)) (Z : Option (Option Nat × Mem))
    (hZ : ∀ (r : Option Nat) (σ3 : Mem) (p' o' ft pl : Int), ri (some rd) (rdM rd p o 0 0 (mNew σ 10 3)) = some (r, rdM rd p' o' ft pl σ3) → (mK σ3 (mZ σ)).1 = 10 → Z = sX9_pieces_15 rc ri rq FU (some rd) (some (mZ σ)) (some (mZ σ)) (rdM rd p' o' ft pl (up2 (mI σ3) (mZ σ) 1 (iI 0), up2 (mP σ3) (mZ σ) 0 r, σ3.2.2))) :
    match rChn T n 38 andV rdf p with
    | .inl x => ∃ σ' p' o', Z = some ((some (mZ σ)), (rdM rd p' o' x.1 x.2 σ')) ∧ Grow (mZ σ) σ σ' (3 * (n - p) + 4 + 1) ∧ 0 ≤ p' ∧ p' ≤ n + 2 ∧ 1 ≤ x.1 ∧ x.1 ≤ 5 ∧ 0 ≤ x.2 ∧ x.2 ≤ n ∧ (mK σ' (mZ σ)).1 = 10
    | .inr x => ∃ σ', Z = some ((some (mZ σ)), (rdM rd x.2 o 0 0 σ')) ∧ Grow (mZ σ) σ σ' (3 * (x.2 - p) - (2 - 1)) ∧ p ≤ x.2 ∧ x.2 ≤ n ∧ CndD (k + 1) (mZ σ) σ' (mZ σ) x.1 ∧ (mK σ' (mZ σ)).1 = 10 := by
  obtain ⟨b1, b2, b3, b4, b5, b6, b7, b8, b9, b10, b11⟩ := id h
  have g1 : Grow (mZ σ) σ (mNew σ 10 3) 1 := grow_new (Nat.le_refl _) (by omega)
  have h1 := g1.re h b2
  have hr1 : Room (mNew σ 10 3) (3 * (n - p) + 4) := by
    constructor
    · have := hr.1
      show ((mZ σ + 1 : Nat) : Int) + _ ≤ _
      omega
    · have := hr.2
      show ((mY σ + 3 : Nat) : Int) + _ ≤ _
      omega
  have q := hf (mNew σ 10 3) p h1 p0 p1 hr1
  have zn : mZ (mNew σ 10 3) = mZ σ + 1 := rfl
  have prep : ∀ (σ3 : Mem) (cc : Int), Grow (mZ (mNew σ 10 3)) (mNew σ 10 3) σ3 cc → (mK σ3 (mZ σ)).1 = 10 ∧ mP σ3 (mZ σ) 2 = none := by
    intro σ3 cc g
    refine ⟨?_, ?_⟩
    · rw [(g.1 (mZ σ) (by omega)).1]
      show (if mZ σ = mZ σ then (10, 3) else _ : Nat × Nat).1 = 10
      rw [if_pos rfl]
    · rw [(g.1 (mZ σ) (by omega)).2.2]
      exact if_pos rfl
  have gN : ∀ (σ3 : Mem) (cc : Int) (r : Option Nat), Grow (mZ (mNew σ 10 3)) (mNew σ 10 3) σ3 cc → Grow (mZ σ) σ (up2 (mI σ3) (mZ σ) 1 (iI 0), up2 (mP σ3) (mZ σ) 0 r, σ3.2.2) (1 + cc) := by
    intro σ3 cc r g
    have g2 := g1.trans (g.dn (lo' := mZ σ) (by omega))
    refine ⟨fun b hb => ?_, g2.2⟩
    obtain ⟨u1, u2, u3⟩ := g2.1 b hb
    refine ⟨u1, fun j => ?_, fun j => ?_⟩
    · show (if b = mZ σ ∧ j = 1 then _ else mI σ3 b j) = _
      rw [if_neg (by omega)]; exact u2 j
    · show (if b = mZ σ ∧ j = 0 then _ else mP σ3 b j) = _
      rw [if_neg (by omega)]; exact u3 j
  unfold rChn
  unfold OutR at q
  cases e9 : rdf p with
  | inl x =>
    rw [e9] at q
    obtain ⟨r, σ3, p', o', a1, a2, a3, a4, a5, a6, a7, a8, a9⟩ := q
    obtain ⟨pb, pc⟩ := prep σ3 _ a2
    have gn := gN σ3 _ r a2
    have hn := gn.re h b2
    obtain ⟨fu, hfu⟩ : ∃ u, FU = u + 1 := ⟨999999, by unfold FU; omega⟩
    refine ⟨_, p', o', ?_, gn.le (by omega), a3, a4, a5, a6, a7, a8, pb⟩
    rw [hZ _ _ _ _ _ _ a1 pb, hfu, pi_exit hn a5 a6]
  | inr x =>
    rw [e9] at q
    obtain ⟨r, σ3, a1, a2, a3, a4, ⟨a, ra, a5⟩⟩ := q
    subst ra
    obtain ⟨pb, pc⟩ := prep σ3 _ a2
    have gn := gN σ3 _ (some a) a2
    have hn := gn.re h b2
    obtain ⟨fc, hfc, hfb⟩ : ∃ u, FU = u + 1 ∧ 99999 ≤ u := ⟨999999, by unfold FU; omega, by omega⟩
    have sg : SegC k (mZ σ) (up2 (mI σ3) (mZ σ) 1 (iI 0), up2 (mP σ3) (mZ σ) 0 (some a), σ3.2.2) false (mZ σ) (mZ σ) x.1 fc := segc_1 (dB := false) a5 (by omega) (Nat.le_refl _) pb pc hfc
    rw [hZ _ _ _ _ _ _ a1 pb]
    have lp := pi_loop (rc := rc) (ri := ri) (rq := rq) hf ((n - x.2).toNat + 1) FU fc _ x.2 x.1 (mZ σ) (mZ σ) (mZ σ) hn b2 (by omega) a4 (Nat.le_refl _) (by unfold FU; omega) (by omega) sg ⟨by have := hr.1; have := gn.2.2.1; omega, by have := hr.2; have := gn.2.2.2; omega⟩
    have key : rChn T n 38 andV rdf p = rJoin T n 38 andV rdf ((n - x.2).toNat + 1) x.1 x.2 := by unfold rChn; rw [e9]
    unfold rChn at key
    rw [e9] at key
    rw [key]
    cases e8 : rJoin T n 38 andV rdf ((n - x.2).toNat + 1) x.1 x.2 with
    | inl y =>
      rw [e8] at lp
      obtain ⟨σ', p', o', i1, i2, i3⟩ := lp
      exact ⟨σ', p', o', i1, (gn.trans i2).le (by omega), i3⟩
    | inr y =>
      rw [e8] at lp
      obtain ⟨σ', i1, i2, i3, i4⟩ := lp
      exact ⟨σ', i1, (gn.trans i2).le (by omega), by omega, i4⟩
theorem co_exit {σ : Mem} {p o ft pl : Int} (h : RE rd n T σ) (c1 : 1 ≤ ft) (c2 : ft ≤ 5) {fu : Nat} {v1 v2 : Option Nat} : sX9_condition_30 rc ri rq (fu + 1) (some rd) v1 v2 (rdM rd p o ft pl σ) = sX9_condition_80 rc ri rq (some rd) v1 (rdM rd p o ft pl σ) := by
  show sX9_condition_30b rc ri rq (sX9_condition_30 rc ri rq fu) (some rd) v1 v2 _ = _
  generalize sX9_condition_30 rc ri rq fu = K
  unfold sX9_condition_30b
  rw [cV_r h, f_good1 h c1 c2, clw, if_pos rfl]
theorem co_stop {σ : Mem} {p o : Int} (h : RE rd n T σ) (p0 : 0 ≤ p) (p1 : p ≤ n) (c : ¬ hrA T n p = 124) {fu : Nat} {v1 v2 : Option Nat} : sX9_condition_30 rc ri rq (fu + 1) (some rd) v1 v2 (rdM rd p o 0 0 σ) = sX9_condition_80 rc ri rq (some rd) v1 (rdM rd p o 0 0 σ) := by
  obtain ⟨b1, b2, b3, b4, b5, b6, b7, b8, b9, b10, b11⟩ := id h
  show sX9_condition_30b rc ri rq (sX9_condition_30 rc ri rq fu) (some rd) v1 v2 _ = _
  generalize sX9_condition_30 rc ri rq fu = K
  unfold sX9_condition_30b
  rw [cV_r h, f_good0 h, clw, if_neg iv_01, cV_r h, f_here h p0 (by omega), clw, if_neg (fun z => c ((E1c h (by omega) (by omega)).mp z))]
theorem co_step {σ : Mem} {p o : Int} (h : RE rd n T σ) (p0 : 0 ≤ p) (p1 : p < n) (c : hrA T n p = 124) (hr : Room σ 1) {fu : Nat} {hd ls : Nat} {r : Option Nat} {σ3 : Mem} {p' o' ft pl : Int} (e : rq (some rd) (rdM rd (p + 1) o 0 0 (mNew σ 10 3)) = some (r, rdM rd p' o' ft pl σ3)) (kx : (mK σ3 (mZ σ)).1 = 10) (kl : (mK σ3 ls).1 = 10) :
    sX9_condition_30 rc ri rq (fu + 1) (some rd) (some hd) (some ls) (rdM rd p o 0 0 σ) = sX9_condition_30 rc ri rq fu (some rd) (some hd) (some (mZ σ)) (rdM rd p' o' ft pl (up2 (mI σ3) (mZ σ) 1 (iI 1), up2 (up2 (mP σ3) (mZ σ) 0 r) ls 2 (some (mZ σ)), σ3.2.2)) := by
  obtain ⟨b1, b2, b3, b4, b5, b6, b7, b8, b9, b10, b11⟩ := id h
  have h1 : RE rd n T (mNew σ 10 3) := (grow_new (k := 10) (m := 3) (Nat.le_refl (mZ σ)) (by omega)).re h b2
  show sX9_condition_30b rc ri rq (sX9_condition_30 rc ri rq fu) (some rd) (some hd) (some ls) _ = _
  generalize sX9_condition_30 rc ri rq fu = K
  unfold sX9_condition_30b
  rw [cV_r h, f_good0 h, clw, if_neg iv_01, cV_r h, f_here h p0 (by omega), clw, if_pos ((E1c h (by omega) (by omega)).mpr c), gI_r2 h, iv_add, pI_r2 h, nO_r b2 hr (by omega), cV_r h1, e, clw, cI_y, f_init13 (by omega) kx, clw, pR_ro (σ := (up2 (mI σ3) (mZ σ) 1 (iI 1), up2 (mP σ3) (mZ σ) 0 r, σ3.2.2)) kl, gR_ro (σ := (up2 (mI σ3) (mZ σ) 1 (iI 1), up2 (up2 (mP σ3) (mZ σ) 0 r) ls 2 (some (mZ σ)), σ3.2.2)) kl]
  show K (some rd) (some hd) (if ls = ls ∧ 2 = 2 then some (mZ σ) else _) _ = _
  rw [if_pos ⟨rfl, rfl⟩]
theorem co_loop {rdf : Int → Res CndV} {k : Nat} {o : Int} (hf : ∀ (σ : Mem) (p : Int), RE rd n T σ → 0 ≤ p → p ≤ n → Room σ (3 * (n - p) + 5) → OutR rd n (mZ σ) σ o p 1 5 2 (VC k (mZ σ)) B0 (rq (some rd) (rdM rd p o 0 0 σ)) (rdf p)) :
    ∀ (fr fu fc : Nat) (σ : Mem) (p : Int) (e : CndV) (hd ls lo : Nat), RE rd n T σ → rd < lo → 0 ≤ p → p ≤ n → (n - p).toNat + 1 ≤ fr → (n - p).toNat + 2 ≤ fu → (n - p).toNat + 2 ≤ fc → SegC k lo σ true hd ls e fc → Room σ (3 * (n - p) + 5 + 1) →
    match rJoin T n 124 orV rdf fr e p with
    | .inl x => ∃ σ' p' o', sX9_condition_30 rc ri rq fu (some rd) (some hd) (some ls) (rdM rd p o 0 0 σ) = sX9_condition_80 rc ri rq (some rd) (some hd) (rdM rd p' o' x.1 x.2 σ') ∧ Grow lo σ σ' (3 * (n - p) + 5 + 1) ∧ 0 ≤ p' ∧ p' ≤ n + 2 ∧ 1 ≤ x.1 ∧ x.1 ≤ 5 ∧ 0 ≤ x.2 ∧ x.2 ≤ n ∧ (mK σ' hd).1 = 10
    | .inr x => ∃ σ', sX9_condition_30 rc ri rq fu (some rd) (some hd) (some ls) (rdM rd p o 0 0 σ) = sX9_condition_80 rc ri rq (some rd) (some hd) (rdM rd x.2 o 0 0 σ') ∧ Grow lo σ σ' (3 * (x.2 - p)) ∧ p ≤ x.2 ∧ x.2 ≤ n ∧ CndD (k + 1) lo σ' hd x.1 ∧ (mK σ' hd).1 = 10
  | 0, fu, fc, σ, p, e, hd, ls, lo, h, hl, p0, p1, i1, i2, i3, sg, hr => by omega
  | fr + 1, fu, fc, σ, p, e, hd, ls, lo, h, hl, p0, p1, i1, i2, i3, sg, hr => by
    obtain ⟨b1, b2, b3, b4, b5, b6, b7, b8, b9, b10, b11⟩ := id h
    obtain ⟨fu, rfl⟩ : ∃ u, fu = u + 1 := ⟨fu - 1, by omega⟩
    obtain ⟨fc, rfl⟩ : ∃ u, fc = u + 1 := ⟨fc - 1, by omega⟩
    obtain ⟨s1, s2, s3, s4, s5, s6, s7, s8, s9, s10⟩ := id sg
    unfold rJoin
    by_cases c : hrA T n p = 124
    · rw [if_pos c]
      have hp : p < n := h0_in (c := 124) (by omega) c
      have g1 : Grow (mZ σ) σ (mNew σ 10 3) 1 := grow_new (Nat.le_refl _) (by omega)
      have h1 := g1.re h b2
      have hr1 : Room (mNew σ 10 3) (3 * (n - (p + 1)) + 5) := by
        constructor
        · have := hr.1
          show ((mZ σ + 1 : Nat) : Int) + _ ≤ _
          omega
        · have := hr.2
          show ((mY σ + 3 : Nat) : Int) + _ ≤ _
          omega
      have q := hf (mNew σ 10 3) (p + 1) h1 (by omega) (by omega) hr1
      have zn : mZ (mNew σ 10 3) = mZ σ + 1 := rfl
      unfold OutR at q
      have prep : ∀ (σ3 : Mem) (cc : Int), Grow (mZ (mNew σ 10 3)) (mNew σ 10 3) σ3 cc → Agm lo (mNew σ 10 3) σ3 ∧ (mK σ3 (mZ σ)).1 = 10 ∧ (mK σ3 ls).1 = 10 ∧ (mK σ3 hd).1 = 10 := by
        intro σ3 cc g
        have ag : Agm lo (mNew σ 10 3) σ3 := fun b b0 b1 => g.1 b b1
        have kd : ∀ b, b < mZ σ → mK σ3 b = mK σ b := fun b b1 => ((g.1 b (by omega)).1).trans (if_neg (by omega))
        refine ⟨ag, ?_, by rw [kd ls s5]; exact s7, by rw [kd hd s3]; exact s6⟩
        rw [(g.1 (mZ σ) (by omega)).1]
        show (if mZ σ = mZ σ then (10, 3) else _ : Nat × Nat).1 = 10
        rw [if_pos rfl]
      have gN : ∀ (σ3 : Mem) (cc : Int) (r : Option Nat), Grow (mZ (mNew σ 10 3)) (mNew σ 10 3) σ3 cc → Grow lo σ (up2 (mI σ3) (mZ σ) 1 (iI 1), up2 (up2 (mP σ3) (mZ σ) 0 r) ls 2 (some (mZ σ)), σ3.2.2) (1 + cc) := by
        intro σ3 cc r g
        have g2 := (g1.dn (lo' := lo) (by omega)).trans (g.dn (lo' := lo) (by omega))
        refine ⟨fun b hb => ?_, g2.2⟩
        obtain ⟨u1, u2, u3⟩ := g2.1 b hb
        refine ⟨u1, fun j => ?_, fun j => ?_⟩
        · show (if b = mZ σ ∧ j = 1 then _ else mI σ3 b j) = _
          rw [if_neg (by omega)]; exact u2 j
        · show (if b = ls ∧ j = 2 then _ else if b = mZ σ ∧ j = 0 then _ else mP σ3 b j) = _
          rw [if_neg (by omega), if_neg (by omega)]; exact u3 j
      have hr0 : Room σ 1 := ⟨by have := hr.1; omega, by have := hr.2; omega⟩
      cases e9 : rdf (p + 1) with
      | inl x =>
        rw [e9] at q
        obtain ⟨r, σ3, p', o', a1, a2, a3, a4, a5, a6, a7, a8, a9⟩ := q
        obtain ⟨pa, pb, pc, pd⟩ := prep σ3 _ a2
        obtain ⟨fu', rfl⟩ : ∃ u, fu = u + 1 := ⟨fu - 1, by omega⟩
        have gn := gN σ3 _ r a2
        have hn := gn.re h hl
        refine ⟨_, p', o', ?_, gn.le (by omega), a3, a4, a5, a6, a7, a8, ?_⟩
        · rw [co_step h p0 hp c hr0 a1 pb pc, co_exit hn a5 a6]
        · exact pd
      | inr x =>
        rw [e9] at q
        obtain ⟨r, σ3, a1, a2, a3, a4, ⟨a, ra, a5⟩⟩ := q
        obtain ⟨pa, pb, pc, pd⟩ := prep σ3 _ a2
        subst ra
        have gn := gN σ3 _ (some a) a2
        have hn := gn.re h hl
        have sg' := segc_more (dc := iI 1) (x := mZ σ) sg rfl pa (by have := a2.2.1; omega) a5
        rw [jn_or] at sg'
        have ih := co_loop hf fr fu fc _ x.2 _ hd (mZ σ) lo hn hl (by omega) a4 (by omega) (by omega) (by omega) sg' ⟨by have := hr.1; have := gn.2.2.1; omega, by have := hr.2; have := gn.2.2.2; omega⟩
        rw [co_step h p0 hp c hr0 a1 pb pc]
        show match rJoin T n 124 orV rdf fr (orV e x.1) x.2 with | .inl x => _ | .inr x => _
        cases e8 : rJoin T n 124 orV rdf fr (orV e x.1) x.2 with
        | inl y =>
          rw [e8] at ih
          obtain ⟨σ', p', o', i1, i2, i3⟩ := ih
          exact ⟨σ', p', o', i1, (gn.trans i2).le (by omega), i3⟩
        | inr y =>
          rw [e8] at ih
          obtain ⟨σ', i1, i2, i3, i4, i5⟩ := ih
          exact ⟨σ', i1, (gn.trans i2).le (by omega), by omega, i4, i5⟩
    · rw [if_neg c, co_stop h p0 p1 c]
      exact ⟨σ, rfl, Grow.rfl'.le (by show 0 ≤ 3 * (p - p); omega), Int.le_refl _, p1, segc_done sg, s6⟩
/-- the first piece of a chain and the chain -/
theorem co_read {rdf : Int → Res CndV} {k : Nat} {o : Int} (hf : ∀ (σ : Mem) (p : Int), RE rd n T σ → 0 ≤ p → p ≤ n → Room σ (3 * (n - p) + 5) → OutR rd n (mZ σ) σ o p 1 5 2 (VC k (mZ σ)) B0 (rq (some rd) (rdM rd p o 0 0 σ)) (rdf p))
    {σ : Mem} {p : Int} (h : RE rd n T σ) (p0 : 0 ≤ p) (p1 : p ≤ n) (hr : Room σ (3 * (n - p) + 5 + 1)) (Z : Option (Option Nat × Mem))
    (hZ : ∀ (r : Option Nat) (σ3 : Mem) (p' o' ft pl : Int), rq (some rd) (rdM rd p o 0 0 (mNew σ 10 3)) = some (r, rdM rd p' o' ft pl σ3) → (mK σ3 (mZ σ)).1 = 10 → Z = sX9_condition_30 rc ri rq FU (some rd) (some (mZ σ)) (some (mZ σ)) (rdM rd p' o' ft pl (up2 (mI σ3) (mZ σ) 1 (iI 1), up2 (mP σ3) (mZ σ) 0 r, σ3.2.2))) :
    match rChn T n 124 orV rdf p with
    | .inl x => ∃ σ' p' o', Z = sX9_condition_80 rc ri rq (some rd) (some (mZ σ)) (rdM rd p' o' x.1 x.2 σ') ∧ Grow (mZ σ) σ σ' (3 * (n - p) + 5 + 1) ∧ 0 ≤ p' ∧ p' ≤ n + 2 ∧ 1 ≤ x.1 ∧ x.1 ≤ 5 ∧ 0 ≤ x.2 ∧ x.2 ≤ n ∧ (mK σ' (mZ σ)).1 = 10
    | .inr x => ∃ σ', Z = sX9_condition_80 rc ri rq (some rd) (some (mZ σ)) (rdM rd x.2 o 0 0 σ') ∧ Grow (mZ σ) σ σ' (3 * (x.2 - p) - (1 - 1)) ∧ p ≤ x.2 ∧ x.2 ≤ n ∧ CndD (k + 1) (mZ σ) σ' (mZ σ) x.1 ∧ (mK σ' (mZ σ)).1 = 10 := by
  obtain ⟨b1, b2, b3, b4, b5, b6, b7, b8, b9, b10, b11⟩ := id h
  have g1 : Grow (mZ σ) σ (mNew σ 10 3) 1 := grow_new (Nat.le_refl _) (by omega)
  have h1 := g1.re h b2
  have hr1 : Room (mNew σ 10 3) (3 * (n - p) + 5) := by
    constructor
    · have := hr.1
      show ((mZ σ + 1 : Nat) : Int) + _ ≤ _
      omega
    · have := hr.2
      show ((mY σ + 3 : Nat) : Int) + _ ≤ _
      omega
  have q := hf (mNew σ 10 3) p h1 p0 p1 hr1
  have zn : mZ (mNew σ 10 3) = mZ σ + 1 := rfl
  have prep : ∀ (σ3 : Mem) (cc : Int), Grow (mZ (mNew σ 10 3)) (mNew σ 10 3) σ3 cc → (mK σ3 (mZ σ)).1 = 10 ∧ mP σ3 (mZ σ) 2 = none := by
    intro σ3 cc g
    refine ⟨?_, ?_⟩
    · rw [(g.1 (mZ σ) (by omega)).1]
      show (if mZ σ = mZ σ then (10, 3) else _ : Nat × Nat).1 = 10
      rw [if_pos rfl]
    · rw [(g.1 (mZ σ) (by omega)).2.2]
      exact if_pos rfl
  have gN : ∀ (σ3 : Mem) (cc : Int) (r : Option Nat), Grow (mZ (mNew σ 10 3)) (mNew σ 10 3) σ3 cc → Grow (mZ σ) σ (up2 (mI σ3) (mZ σ) 1 (iI 1), up2 (mP σ3) (mZ σ) 0 r, σ3.2.2) (1 + cc) := by
    intro σ3 cc r g
    have g2 := g1.trans (g.dn (lo' := mZ σ) (by omega))
    refine ⟨fun b hb => ?_, g2.2⟩
    obtain ⟨u1, u2, u3⟩ := g2.1 b hb
    refine ⟨u1, fun j => ?_, fun j => ?_⟩
    · show (if b = mZ σ ∧ j = 1 then _ else mI σ3 b j) = _
      rw [if_neg (by omega)]; exact u2 j
    · show (if b = mZ σ ∧ j = 0 then _ else mP σ3 b j) = _
      rw [if_neg (by omega)]; exact u3 j
  unfold rChn
  unfold OutR at q
  cases e9 : rdf p with
  | inl x =>
    rw [e9] at q
    obtain ⟨r, σ3, p', o', a1, a2, a3, a4, a5, a6, a7, a8, a9⟩ := q
    obtain ⟨pb, pc⟩ := prep σ3 _ a2
    have gn := gN σ3 _ r a2
    have hn := gn.re h b2
    obtain ⟨fu, hfu⟩ : ∃ u, FU = u + 1 := ⟨999999, by unfold FU; omega⟩
    refine ⟨_, p', o', ?_, gn.le (by omega), a3, a4, a5, a6, a7, a8, pb⟩
    rw [hZ _ _ _ _ _ _ a1 pb, hfu, co_exit hn a5 a6]
  | inr x =>
    rw [e9] at q
    obtain ⟨r, σ3, a1, a2, a3, a4, ⟨a, ra, a5⟩⟩ := q
    subst ra
    obtain ⟨pb, pc⟩ := prep σ3 _ a2
    have gn := gN σ3 _ (some a) a2
    have hn := gn.re h b2
    obtain ⟨fc, hfc, hfb⟩ : ∃ u, FU = u + 1 ∧ 99999 ≤ u := ⟨999999, by unfold FU; omega, by omega⟩
    have sg : SegC k (mZ σ) (up2 (mI σ3) (mZ σ) 1 (iI 1), up2 (mP σ3) (mZ σ) 0 (some a), σ3.2.2) true (mZ σ) (mZ σ) x.1 fc := segc_1 (dB := true) a5 (by omega) (Nat.le_refl _) pb pc hfc
    rw [hZ _ _ _ _ _ _ a1 pb]
    have lp := co_loop (rc := rc) (ri := ri) (rq := rq) hf ((n - x.2).toNat + 1) FU fc _ x.2 x.1 (mZ σ) (mZ σ) (mZ σ) hn b2 (by omega) a4 (Nat.le_refl _) (by unfold FU; omega) (by omega) sg ⟨by have := hr.1; have := gn.2.2.1; omega, by have := hr.2; have := gn.2.2.2; omega⟩
    have key : rChn T n 124 orV rdf p = rJoin T n 124 orV rdf ((n - x.2).toNat + 1) x.1 x.2 := by unfold rChn; rw [e9]
    unfold rChn at key
    rw [e9] at key
    rw [key]
    cases e8 : rJoin T n 124 orV rdf ((n - x.2).toNat + 1) x.1 x.2 with
    | inl y =>
      rw [e8] at lp
      obtain ⟨σ', p', o', i1, i2, i3⟩ := lp
      exact ⟨σ', p', o', i1, (gn.trans i2).le (by omega), i3⟩
    | inr y =>
      rw [e8] at lp
      obtain ⟨σ', i1, i2, i3, i4⟩ := lp
      exact ⟨σ', i1, (gn.trans i2).le (by omega), by omega, i4⟩
end
