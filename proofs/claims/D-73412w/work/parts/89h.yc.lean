/-! DEPS: yb -/
/-! YC: the twin's law out of its codes -/
/-- a clause's four rows -/
abbrev ClsT (M : Mem) (c : Int → Int) (i : Nat) (x : Cls) : Prop := ∃ fr hf to : Int, mI M 3786 i = iI x.1 ∧ mI M 3787 i = iI fr ∧ mI M 3788 i = iI hf ∧ mI M 3789 i = iI to ∧ 0 ≤ fr ∧ 0 ≤ hf ∧ hf ≤ 260 ∧ to ≤ 260 ∧ (x.1 = 100 ∨ x.1 = 108 ∨ x.1 = 101 ∨ x.1 = 120) ∧ (x.1 ≠ 120 → RunS c fr hf x.2.1) ∧ RunS c hf to (numV x.2.2)
/-- the rest M holds the text l as codes -/
def TxtT (M : Mem) (l : List Cls) : Prop := (mP M 3772 23 = some 3786 ∧ mP M 3772 24 = some 3787 ∧ mP M 3772 25 = some 3788 ∧ mP M 3772 26 = some 3789 ∧ mK M 3786 = (20, 16) ∧ mK M 3787 = (20, 16) ∧ mK M 3788 = (20, 16) ∧ mK M 3789 = (20, 16))
  ∧ mI M 3772 15 = iI (l.length : Int) ∧ l.length ≤ 16 ∧ ∃ c, CodT M c ∧ ∀ (i : Nat) (h : i < l.length), ClsT M c i l[i]
section
variable {β : Type} {g mi mn F : Row} {S : Nat → Int32} {M : Mem}
theorem gI_tw {s : Nat} (hT : LT M) (hs : s ≠ 29) {f : Int32 → Option β} : gI (tw g mi mn F S M) (some 3772) 6 s f = f (mI M 3772 s) := by
  refine (if_pos hT.1.1).trans (congrArg f ?_)
  show twI g mi mn F S (mI M) 3772 s = mI M 3772 s
  unfold twI
  rw [if_neg (by omega), if_neg (by omega), if_neg (by omega), if_neg (by omega), if_neg (by omega), if_neg (by omega)]
theorem gR_tw {s a : Nat} (hT : LT M) (h : mP M 3772 s = some a) {f : Option Nat → Option β} : gR (tw g mi mn F S M) (some 3772) 6 s f = f (some a) := (if_pos hT.1.1).trans (congrArg f h)
theorem aI_tw {a len : Nat} {e : Int} {f : Int32 → Option β} (hk : mK M a = (20, len)) (h9 : len ≤ 100000) (ha : a ≠ 3772 ∧ a ≠ 3773 ∧ a ≠ 3776 ∧ a ≠ 3777 ∧ a ≠ 3790 ∧ a ≠ 3791) (h0 : 0 ≤ e) (h1 : e < len) : aI (tw g mi mn F S M) (some a) (iI e) f = f (mI M a e.toNat) := by
  rw [aI_x (σ := tw g mi mn F S M) (n := len) hk h0 h1 h9]
  refine congrArg f ?_
  show twI g mi mn F S (mI M) a e.toNat = mI M a e.toNat
  unfold twI
  rw [if_neg (by omega), if_neg (by omega), if_neg (by omega), if_neg (by omega), if_neg (by omega), if_neg (by omega)]
theorem clq {γ : Type} (a : γ) (σ : Mem) (f : γ → Mem → Option β) : cl (some (a, σ)) f = f a σ := rfl
theorem numV_one {x : CndV} {F : Fct} : (numV x F).getD (iI 0) = iI 1 ↔ x F = some true := by
  unfold numV
  cases x F with
  | none => exact ⟨fun q => absurd q iv_10, fun q => by cases q⟩
  | some z => cases z with
    | true => exact ⟨fun _ => rfl, fun _ => rfl⟩
    | false => exact ⟨fun q => absurd q iv_10, fun q => by cases q⟩
theorem law_drop {l : List Cls} {i : Nat} (h : i < l.length) (c : Int) (F : Fct) : lawOf (l.drop i) c F = if l[i].1 = c ∧ l[i].2.2 F = some true then some ((l[i].2.1 F).getD (iI 0)) else lawOf (l.drop (i + 1)) c F := by
  rw [List.drop_eq_getElem_cons h]
  rfl
theorem m_by_3 (hT : LT M) {l : List Cls} (ht : TxtT M l) {F0 : Row} (hF : ag7 F F0) {c lo hi wo : Int} (c0 : -1000 ≤ c) (c1 : c ≤ 119) (lo0 : -1000 ≤ lo) (lo1 : lo ≤ 1000) (hi0 : -1000 ≤ hi) (hi1 : hi ≤ 1000) : ∀ (j i : Nat) (S : Nat → Int32) (fu : Nat), l.length - i = j → i ≤ l.length → j < fu →
    ∃ S', sX8_byLaw_3 fu (some 3772) (iI c) (iI lo) (iI hi) (iI wo) (iI (i : Int)) (tw g mi mn F S M) = some (iI (tellA (lawOf (l.drop i)) c lo hi wo F0), tw g mi mn F S' M)
  | 0, i, S, fu + 1, e1, e2, e3 => by
    obtain ⟨⟨p1, p2, p3, p4, k1, k2, k3, k4⟩, h15, hl, cc, hc, hcl⟩ := ht
    refine ⟨S, ?_⟩
    show sX8_byLaw_3b (sX8_byLaw_3 fu) _ _ _ _ _ _ _ = _
    generalize sX8_byLaw_3 fu = K
    unfold sX8_byLaw_3b
    rw [gI_tw hT (by omega), h15, if_pos (by rw [iv_le (by omega) (by omega) (by omega) (by omega)]; omega), List.drop_of_length_le (by omega)]
    rfl
  | j + 1, i, S, fu + 1, e1, e2, e3 => by
    have ht' := ht
    obtain ⟨⟨p1, p2, p3, p4, k1, k2, k3, k4⟩, h15, hl, cc, hc, hcl⟩ := ht'
    have hi' : i < l.length := by omega
    obtain ⟨fr, hf, to, a1, a2, a3, a4, b1, b2, b3, b4, b5, r1, r2⟩ := hcl i hi'
    have ih := fun S' => m_by_3 (wo := wo) hT ht hF c0 c1 lo0 lo1 hi0 hi1 j (i + 1) S' fu (by omega) (by omega) (by omega)
    have l1 := r2.1
    have tl : ∀ z, lawOf (l.drop i) c F0 = z → tellA (lawOf (l.drop i)) c lo hi wo F0 = match z with | none => wo | some v => if v.toInt < lo then lo else if hi < v.toInt then hi else v.toInt := by
      intro z hz
      unfold tellA
      rw [hz]
      rfl
    have tl2 : lawOf (l.drop i) c F0 = lawOf (l.drop (i + 1)) c F0 → tellA (lawOf (l.drop i)) c lo hi wo F0 = tellA (lawOf (l.drop (i + 1))) c lo hi wo F0 := by
      intro hz
      unfold tellA
      rw [hz]
    show ∃ S', sX8_byLaw_3b (sX8_byLaw_3 fu) _ _ _ _ _ _ _ = _
    generalize sX8_byLaw_3 fu = K at ih ⊢
    unfold sX8_byLaw_3b sX8_byLaw_91
    rw [gI_tw hT (by omega), h15, if_neg (by rw [iv_le (by omega) (by omega) (by omega) (by omega)]; omega), gR_tw hT p1, aI_tw k1 (by omega) (by omega) (by omega) (by omega), Int.toNat_natCast, a1]
    by_cases ca : l[i].1 = c
    · rw [if_pos (congrArg iI ca), gR_tw hT p3, aI_tw k3 (by omega) (by omega) (by omega) (by omega), Int.toNat_natCast, a3, gR_tw hT p4, aI_tw k4 (by omega) (by omega) (by omega) (by omega), Int.toNat_natCast, a4]
      obtain ⟨S1, x1⟩ := m_reckonsTo (g := g) (mi := mi) (mn := mn) (S := S) hT hc hF r2 b2 b4
      have cv : ∀ (S : Nat → Int32) (f : Option (Int32 × Mem)), cV (tw g mi mn F S M) (some 3772) 6 f = f := fun S f => if_pos hT.1.1
      rw [cv, x1, clq]
      by_cases cx : l[i].2.2 F0 = some true
      · have n120 : l[i].1 ≠ 120 := by omega
        have r1' := r1 n120
        have l2 := r1'.1
        obtain ⟨S2, x2⟩ := m_reckonsTo (g := g) (mi := mi) (mn := mn) (S := S1) hT hc hF r1' b1 b3
        refine ⟨S2, ?_⟩
        rw [if_pos (numV_one.mpr cx), gR_tw hT p2, aI_tw k2 (by omega) (by omega) (by omega) (by omega), Int.toNat_natCast, a2, gR_tw hT p3, aI_tw k3 (by omega) (by omega) (by omega) (by omega), Int.toNat_natCast, a3, cv, x2, clq]
        have := law_drop hi' c F0
        rw [if_pos ⟨ca, cx⟩] at this
        rw [tl _ this]
        obtain ⟨v, hv⟩ : ∃ v, (l[i].2.1 F0).getD (iI 0) = v := ⟨_, rfl⟩
        rw [hv]
        have rg := iv_rg v
        have ev := iv_of v
        show (if iI lo ≤ v then _ else _) = some (iI (if v.toInt < lo then lo else if hi < v.toInt then hi else v.toInt), _)
        have q1 : (iI lo ≤ v) = (lo ≤ v.toInt) := by
          conv => lhs; rw [← ev]
          exact iv_le (by omega) (by omega) rg.1 rg.2
        have q2 : (v ≤ iI hi) = (v.toInt ≤ hi) := by
          conv => lhs; rw [← ev]
          exact iv_le rg.1 rg.2 (by omega) (by omega)
        by_cases d1 : lo ≤ v.toInt
        · rw [if_pos (show iI lo ≤ v by rw [q1]; exact d1), if_neg (show ¬ v.toInt < lo by omega)]
          by_cases d2 : v.toInt ≤ hi
          · rw [if_pos (show v ≤ iI hi by rw [q2]; exact d2), if_neg (show ¬ hi < v.toInt by omega), ev]
          · rw [if_neg (show ¬ v ≤ iI hi by rw [q2]; exact d2), if_pos (show hi < v.toInt by omega)]
        · rw [if_neg (show ¬ iI lo ≤ v by rw [q1]; exact d1), if_pos (show v.toInt < lo by omega)]
      · have := law_drop hi' c F0
        rw [if_neg (fun q => cx q.2)] at this
        rw [if_neg (fun q => cx (numV_one.mp q)), tl2 this, iv_add]
        exact ih S1
    · have := law_drop hi' c F0
      rw [if_neg (fun q => ca q.1)] at this
      rw [if_neg (by rw [iv_eq (by omega) (by omega) (by omega) (by omega)]; exact ca), tl2 this, iv_add]
      exact ih S
theorem m_any_2 (hT : LT M) {l : List Cls} (ht : TxtT M l) {F0 : Row} (hF : ag7 F F0) {c : Int} (c0 : -1000 ≤ c) (c1 : c ≤ 1000) : ∀ (j i : Nat) (S : Nat → Int32) (fu : Nat), l.length - i = j → i ≤ l.length → j < fu →
    ∃ S', sX8_holdsAny_2 fu (some 3772) (iI c) (iI (i : Int)) (tw g mi mn F S M) = some (bI ((lawOf (l.drop i) c F0).isSome = true), tw g mi mn F S' M)
  | 0, i, S, fu + 1, e1, e2, e3 => by
    obtain ⟨⟨p1, p2, p3, p4, k1, k2, k3, k4⟩, h15, hl, cc, hc, hcl⟩ := ht
    refine ⟨S, ?_⟩
    show sX8_holdsAny_2b (sX8_holdsAny_2 fu) _ _ _ _ = _
    generalize sX8_holdsAny_2 fu = K
    unfold sX8_holdsAny_2b
    rw [gI_tw hT (by omega), h15, if_pos (by rw [iv_le (by omega) (by omega) (by omega) (by omega)]; omega), List.drop_of_length_le (by omega), rZ0, bI_f (by show ¬ (none : Option Int32).isSome = true; decide)]
  | j + 1, i, S, fu + 1, e1, e2, e3 => by
    have ht' := ht
    obtain ⟨⟨p1, p2, p3, p4, k1, k2, k3, k4⟩, h15, hl, cc, hc, hcl⟩ := ht'
    have hi' : i < l.length := by omega
    obtain ⟨fr, hf, to, a1, a2, a3, a4, b1, b2, b3, b4, b5, r1, r2⟩ := hcl i hi'
    have ih := fun S' => m_any_2 hT ht hF c0 c1 j (i + 1) S' fu (by omega) (by omega) (by omega)
    have l1 := r2.1
    show ∃ S', sX8_holdsAny_2b (sX8_holdsAny_2 fu) _ _ _ _ = _
    generalize sX8_holdsAny_2 fu = K at ih ⊢
    unfold sX8_holdsAny_2b sX8_holdsAny_42
    rw [gI_tw hT (by omega), h15, if_neg (by rw [iv_le (by omega) (by omega) (by omega) (by omega)]; omega), gR_tw hT p1, aI_tw k1 (by omega) (by omega) (by omega) (by omega), Int.toNat_natCast, a1]
    by_cases ca : l[i].1 = c
    · rw [if_pos (congrArg iI ca), gR_tw hT p3, aI_tw k3 (by omega) (by omega) (by omega) (by omega), Int.toNat_natCast, a3, gR_tw hT p4, aI_tw k4 (by omega) (by omega) (by omega) (by omega), Int.toNat_natCast, a4]
      obtain ⟨S1, x1⟩ := m_reckonsTo (g := g) (mi := mi) (mn := mn) (S := S) hT hc hF r2 b2 b4
      have cv : ∀ (S : Nat → Int32) (f : Option (Int32 × Mem)), cV (tw g mi mn F S M) (some 3772) 6 f = f := fun S f => if_pos hT.1.1
      rw [cv, x1, clq]
      by_cases cx : l[i].2.2 F0 = some true
      · refine ⟨S1, ?_⟩
        have := law_drop hi' c F0
        rw [if_pos ⟨ca, cx⟩] at this
        rw [if_pos (numV_one.mpr cx), rZ1, this, bI_t (show (some ((l[i].2.1 F0).getD (iI 0))).isSome = true from rfl)]
      · have := law_drop hi' c F0
        rw [if_neg (fun q => cx q.2)] at this
        rw [if_neg (fun q => cx (numV_one.mp q)), this, iv_add]
        exact ih S1
    · have := law_drop hi' c F0
      rw [if_neg (fun q => ca q.1)] at this
      rw [if_neg (by rw [iv_eq (by omega) (by omega) (by omega) (by omega)]; exact ca), this, iv_add]
      exact ih S
end
/-- the codes of a text are its law -/
theorem TxtT.law {M : Mem} {l : List Cls} (hT : LT M) (ht : TxtT M l) : LawT M (lawOf l) := by
  intro g mi mn F S F0 hF
  refine ⟨fun c lo hi wo c0 c1 lo0 lo1 hi0 hi1 => ?_, fun c c0 c1 => ?_⟩
  · have hl := ht.2.2.1
    obtain ⟨S', x⟩ := m_by_3 (g := g) (mi := mi) (mn := mn) (wo := wo) hT ht hF c0 c1 lo0 lo1 hi0 hi1 l.length 0 S FU (by omega) (by omega) (by unfold FU; omega)
    exact ⟨S', x⟩
  · have hl := ht.2.2.1
    obtain ⟨S', x⟩ := m_any_2 (g := g) (mi := mi) (mn := mn) hT ht hF c0 c1 l.length 0 S FU (by omega) (by omega) (by unfold FU; omega)
    exact ⟨S', x⟩
