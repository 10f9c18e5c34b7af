/-! DEPS: yx wd ve -/
/-! YY: what TermLog's text tells -/
def K2M (M : Mem) : Prop := ∀ b, (mK M b).1 = 2 → b = 2 ∨ b = 1257 ∨ b = 2512
/-- M holds the text l -/
def TxtL (M : Mem) (l : List Cls) : Prop := K2M M ∧ ∃ tx, mP M 0 5 = some tx ∧ (3799 ≤ tx ∨ tx = 3768 ∧ l = []) ∧ (mK M tx).1 = 4 ∧ (mP M tx 0 = some (tx + 1) ∧ mP M tx 1 = some (tx + 2) ∧ mP M tx 2 = some (tx + 3)) ∧ (mK M (tx + 1) = (20, 16) ∧ mK M (tx + 2) = (24, 16) ∧ mK M (tx + 3) = (25, 16)) ∧ tx + 4 ≤ mZ M ∧ TL tx M l
section
variable {M σ : Mem} {F : Fct} {tx : Nat}
theorem told_is {a lo : Nat} {e : SumV} (s : SumD 14 lo M a e) (hk : (mK M a).1 = 5) (ag : Agm lo M σ) (fc : FcM σ F) : ∃ z, sX6_told (some a) (some 1) σ = some ((e F).getD (iI 0), mo z σ) := by
  obtain ⟨h0, h1, h2, h3, h4⟩ := s
  have o := h4 40 (by omega) (mo (iI 0) σ) F (ag.mo (by omega) _) (fc.mo _)
  unfold sX6_told
  rw [pZ_y0 fc.1]
  show ∃ z, cl (EvS 40 (some a) (mo (iI 0) σ)) _ = _
  unfold OutS at o
  cases ee : e F with
  | some v =>
    rw [ee] at o
    refine ⟨iI 0, ?_⟩
    rw [o, clw, gI_y (σ := mo (iI 0) σ) fc.1, mo_0, if_pos rfl]
    rfl
  | none =>
    rw [ee] at o
    obtain ⟨v, o⟩ := o
    refine ⟨iI 1, ?_⟩
    rw [o, clw, mo_mo, gI_y (σ := mo (iI 1) σ) fc.1, mo_0, if_neg iv_01]
    rfl
theorem aI_mo {z : Int32} {a m : Nat} {i : Nat} (ha : a ≠ 1) (hk : mK σ a = (20, m)) (h1 : i < m) (h2 : m ≤ 100000) {β : Type} {f : Int32 → Option β} : aI (mo z σ) (some a) (iI (i : Int)) f = f (mI σ a i) := by
  rw [aI_x (σ := mo z σ) (n := m) hk (by omega) (by omega) h2, Int.toNat_natCast]
  refine congrArg f ?_
  show (if a = 1 ∧ i = 0 then z else mI σ a i) = _
  rw [if_neg (by omega)]
theorem aR_mo {z : Int32} {a m kd : Nat} {i : Nat} (hk : mK σ a = (kd, m)) (h1 : i < m) (h2 : m ≤ 100000) {β : Type} {f : Option Nat → Option β} : aR (mo z σ) (some a) kd (iI (i : Int)) f = f (mP σ a i) := by
  have c : (mK (mo z σ) a).1 = kd ∧ inR (iI (i : Int)) (mK (mo z σ) a).2 := by
    show (mK σ a).1 = kd ∧ inR (iI (i : Int)) (mK σ a).2
    rw [hk, iv_in (by omega) (by omega)]
    exact ⟨rfl, by omega, by show (i : Int) < (m : Int); omega⟩
  refine (if_pos c).trans ?_
  rw [iv_ix (by omega) (by omega), Int.toNat_natCast]
  rfl
theorem gI_moo {z : Int32} {a ci k : Nat} (ha : a ≠ 1) (hk : (mK σ a).1 = ci) {β : Type} {f : Int32 → Option β} : gI (mo z σ) (some a) ci k f = f (mI σ a k) := by
  rw [gI_y (σ := mo z σ) hk]
  refine congrArg f ?_
  show (if a = 1 ∧ k = 0 then z else mI σ a k) = _
  rw [if_neg (by omega)]
theorem gR_moo {z : Int32} {a ci k : Nat} (hk : (mK σ a).1 = ci) {β : Type} {f : Option Nat → Option β} : gR (mo z σ) (some a) ci k f = f (mP σ a k) := gR_y (σ := mo z σ) hk
/-- the text, as σ holds it -/
def TxS (tx : Nat) (M σ : Mem) (l : List Cls) : Prop :=
  (3768 ≤ tx) ∧
  (tx + 4 ≤ mZ M) ∧
  ((mK M tx).1 = 4) ∧
  (mP M tx 0 = some (tx + 1) ∧ mP M tx 1 = some (tx + 2) ∧ mP M tx 2 = some (tx + 3)) ∧
  (mK M (tx + 1) = (20, 16) ∧ mK M (tx + 2) = (24, 16) ∧ mK M (tx + 3) = (25, 16)) ∧
  (TL tx M l) ∧
  (Agm tx M σ)
theorem TxS.lo {tx : Nat} {M σ : Mem} {l : List Cls} (self : TxS tx M σ l) : 3768 ≤ tx := self.1
theorem TxS.z {tx : Nat} {M σ : Mem} {l : List Cls} (self : TxS tx M σ l) : tx + 4 ≤ mZ M := self.2.1
theorem TxS.k {tx : Nat} {M σ : Mem} {l : List Cls} (self : TxS tx M σ l) : (mK M tx).1 = 4 := self.2.2.1
theorem TxS.r {tx : Nat} {M σ : Mem} {l : List Cls} (self : TxS tx M σ l) : mP M tx 0 = some (tx + 1) ∧ mP M tx 1 = some (tx + 2) ∧ mP M tx 2 = some (tx + 3) := self.2.2.2.1
theorem TxS.a {tx : Nat} {M σ : Mem} {l : List Cls} (self : TxS tx M σ l) : mK M (tx + 1) = (20, 16) ∧ mK M (tx + 2) = (24, 16) ∧ mK M (tx + 3) = (25, 16) := self.2.2.2.2.1
theorem TxS.t {tx : Nat} {M σ : Mem} {l : List Cls} (self : TxS tx M σ l) : TL tx M l := self.2.2.2.2.2.1
theorem TxS.g {tx : Nat} {M σ : Mem} {l : List Cls} (self : TxS tx M σ l) : Agm tx M σ := self.2.2.2.2.2.2
theorem tells_3 {l : List Cls} (hx : TxS tx M σ l) (fc : FcM σ F) {c : Int} {no : Int32} (c0 : -1000 ≤ c) (c1 : c ≤ 119) : ∀ (j i fu : Nat) (z : Int32), l.length - i = j → i ≤ l.length → j < fu →
    ∃ z', sX5_tells_3 fu (some tx) (iI c) no (some 1) (iI (i : Int)) (mo z σ) = some ((lawOf (l.drop i) c F).getD no, mo z' σ)
  | 0, i, 0, z, e1, e2, e3 => by omega
  | j + 1, i, 0, z, e1, e2, e3 => by omega
  | 0, i, fu + 1, z, e1, e2, e3 => by
    obtain ⟨x1, x2, x3, ⟨r1, r2, r3⟩, ⟨a1, a2, a3⟩, ⟨t1, t2, t3⟩, ag⟩ := hx
    have gt := ag tx (Nat.le_refl _) (by omega)
    refine ⟨z, ?_⟩
    show sX5_tells_3b (sX5_tells_3 fu) _ _ _ _ _ _ = _
    generalize sX5_tells_3 fu = K
    unfold sX5_tells_3b
    rw [gI_moo (by omega) (by rw [gt.1]; exact x3), gt.2.1, t1, if_pos (by rw [iv_le (by omega) (by omega) (by omega) (by omega)]; omega), List.drop_of_length_le (by omega)]
    rfl
  | j + 1, i, fu + 1, z, e1, e2, e3 => by
    obtain ⟨x1, x2, x3, ⟨r1, r2, r3⟩, ⟨a1, a2, a3⟩, ⟨t1, t2, t3⟩, ag⟩ := id hx
    have gt := ag tx (Nat.le_refl _) (by omega)
    have g1 := ag (tx + 1) (by omega) (by omega)
    have g2 := ag (tx + 2) (by omega) (by omega)
    have g3 := ag (tx + 3) (by omega) (by omega)
    have hi : i < l.length := by omega
    have En : ¬ (iI (l.length : Int) ≤ iI (i : Int)) := by rw [iv_le (by omega) (by omega) (by omega) (by omega)]; omega
    have i16 : i < 16 := by omega
    have j1 : l.length - (i + 1) = j := by omega
    have j2 : i + 1 ≤ l.length := by omega
    have j3 : j < fu := by omega
    obtain ⟨c1', c2, c3, ⟨q, c4, c5, c6⟩⟩ := t3 i hi
    have ih := fun z => tells_3 hx fc (c := c) (no := no) c0 c1 j (i + 1) fu z j1 j2 j3
    have kt : (mK σ tx).1 = 4 := by rw [gt.1]; exact x3
    have Ec : (iI l[i].1 = iI c) = (l[i].1 = c) := iv_eq (by omega) (by omega) (by omega) (by omega)
    show ∃ z', sX5_tells_3b (sX5_tells_3 fu) _ _ _ _ _ _ = _
    generalize sX5_tells_3 fu = K at ih ⊢
    have e50 : ∀ s : Mem, sX5_tells_50 K (some tx) (iI c) no (some 1) (iI (i : Int)) s = K (some tx) (iI c) no (some 1) (iI ((i + 1 : Nat) : Int)) s := fun s => by
      unfold sX5_tells_50
      rw [iv_add]
      rfl
    unfold sX5_tells_3b
    rw [gI_moo (by omega) kt, gt.2.1, t1, if_neg En, gR_moo kt, gt.2.2, r1, aI_mo (by omega) (by rw [g1.1]; exact a1) i16 (by omega), g1.2.1, c1']
    have ld := law_drop2 hi c F
    by_cases cc : l[i].1 = c
    · rw [if_pos (by rw [Ec]; exact cc), gR_moo kt, gt.2.2, r3, aR_mo (by rw [g3.1]; exact a3) i16 (by omega), g3.2.2, c4]
      obtain ⟨h0, h1, h2, h3, h4⟩ := c5
      obtain ⟨z1, ev⟩ := h4 40 (by omega) (mo z σ) F ((ag.dn (by omega)).mo (by omega) _) (fc.mo _)
      show ∃ z', cl (EvC 40 (some q) (mo z σ)) _ = _
      rw [ev, clw, mo_mo]
      by_cases cx : l[i].2.2 F = some true
      · obtain ⟨q', d4, d5, d6⟩ := c3 (by omega)
        obtain ⟨z2, tv⟩ := told_is d5 d6 ((ag.dn (by omega)).mo (by omega) z1) (fc.mo z1)
        have kq : kdO (mo z1 σ) (some q') = 5 := by
          show (mK σ q').1 = 5
          rw [(ag q' (by have := d5.2.1; omega) d5.2.2.1).1]; exact d6
        refine ⟨z2, ?_⟩
        rw [if_pos (cN_1.mpr cx), gR_moo kt, gt.2.2, r2, aR_mo (by rw [g2.1]; exact a2) i16 (by omega), g2.2.2, d4, if_pos kq, tv, clw, ld, if_pos ⟨cc, cx⟩, mo_mo]
        rfl
      · rw [if_neg (fun y => cx (cN_1.mp y)), e50, ld, if_neg (fun y => cx y.2)]
        exact ih z1
    · rw [if_neg (by rw [Ec]; exact cc), e50, ld, if_neg (fun y => cc y.1)]
      exact ih z
where
  law_drop2 {l : List Cls} {i : Nat} (h : i < l.length) (c : Int) (F : Fct) : lawOf (l.drop i) c F = if l[i].1 = c ∧ l[i].2.2 F = some true then some ((l[i].2.1 F).getD (iI 0)) else lawOf (l.drop (i + 1)) c F := by
    rw [List.drop_eq_getElem_cons h]
    rfl
theorem law_drop3 {l : List Cls} {i : Nat} (h : i < l.length) (c : Int) (F : Fct) : lawOf (l.drop i) c F = if l[i].1 = c ∧ l[i].2.2 F = some true then some ((l[i].2.1 F).getD (iI 0)) else lawOf (l.drop (i + 1)) c F := by
  rw [List.drop_eq_getElem_cons h]
  rfl
theorem says_2 {l : List Cls} (hx : TxS tx M σ l) (fc : FcM σ F) {c : Int} (c0 : -1000 ≤ c) (c1 : c ≤ 1000) : ∀ (j i fu : Nat) (z : Int32), l.length - i = j → i ≤ l.length → j < fu →
    ∃ z', sX5_says_2 fu (some tx) (iI c) (some 1) (iI (i : Int)) (mo z σ) = some (bI ((lawOf (l.drop i) c F).isSome = true), mo z' σ)
  | 0, i, 0, z, e1, e2, e3 => by omega
  | j + 1, i, 0, z, e1, e2, e3 => by omega
  | 0, i, fu + 1, z, e1, e2, e3 => by
    obtain ⟨x1, x2, x3, ⟨r1, r2, r3⟩, ⟨a1, a2, a3⟩, ⟨t1, t2, t3⟩, ag⟩ := hx
    have gt := ag tx (Nat.le_refl _) (by omega)
    refine ⟨z, ?_⟩
    show sX5_says_2b (sX5_says_2 fu) _ _ _ _ _ = _
    generalize sX5_says_2 fu = K
    unfold sX5_says_2b
    rw [gI_moo (by omega) (by rw [gt.1]; exact x3), gt.2.1, t1, if_pos (by rw [iv_le (by omega) (by omega) (by omega) (by omega)]; omega), List.drop_of_length_le (by omega), rZ0, bI_f (by show ¬ (none : Option Int32).isSome = true; decide)]
  | j + 1, i, fu + 1, z, e1, e2, e3 => by
    obtain ⟨x1, x2, x3, ⟨r1, r2, r3⟩, ⟨a1, a2, a3⟩, ⟨t1, t2, t3⟩, ag⟩ := id hx
    have gt := ag tx (Nat.le_refl _) (by omega)
    have g1 := ag (tx + 1) (by omega) (by omega)
    have g3 := ag (tx + 3) (by omega) (by omega)
    have hi : i < l.length := by omega
    have En : ¬ (iI (l.length : Int) ≤ iI (i : Int)) := by rw [iv_le (by omega) (by omega) (by omega) (by omega)]; omega
    have i16 : i < 16 := by omega
    have j1 : l.length - (i + 1) = j := by omega
    have j2 : i + 1 ≤ l.length := by omega
    have j3 : j < fu := by omega
    obtain ⟨c1', c2, c3, ⟨q, c4, c5, c6⟩⟩ := t3 i hi
    have ih := fun z => says_2 hx fc (c := c) c0 c1 j (i + 1) fu z j1 j2 j3
    have kt : (mK σ tx).1 = 4 := by rw [gt.1]; exact x3
    have Ec : (iI l[i].1 = iI c) = (l[i].1 = c) := iv_eq (by omega) (by omega) (by omega) (by omega)
    show ∃ z', sX5_says_2b (sX5_says_2 fu) _ _ _ _ _ = _
    generalize sX5_says_2 fu = K at ih ⊢
    have e50 : ∀ s : Mem, sX5_says_36 K (some tx) (iI c) (some 1) (iI (i : Int)) s = K (some tx) (iI c) (some 1) (iI ((i + 1 : Nat) : Int)) s := fun s => by
      unfold sX5_says_36
      rw [iv_add]
      rfl
    unfold sX5_says_2b
    rw [gI_moo (by omega) kt, gt.2.1, t1, if_neg En, gR_moo kt, gt.2.2, r1, aI_mo (by omega) (by rw [g1.1]; exact a1) i16 (by omega), g1.2.1, c1']
    have ld := law_drop3 hi c F
    by_cases cc : l[i].1 = c
    · rw [if_pos (by rw [Ec]; exact cc), gR_moo kt, gt.2.2, r3, aR_mo (by rw [g3.1]; exact a3) i16 (by omega), g3.2.2, c4]
      obtain ⟨h0, h1, h2, h3, h4⟩ := c5
      obtain ⟨z1, ev⟩ := h4 40 (by omega) (mo z σ) F ((ag.dn (by omega)).mo (by omega) _) (fc.mo _)
      show ∃ z', cl (EvC 40 (some q) (mo z σ)) _ = _
      rw [ev, clw, mo_mo]
      by_cases cx : l[i].2.2 F = some true
      · refine ⟨z1, ?_⟩
        rw [if_pos (cN_1.mpr cx), rZ1, ld, if_pos ⟨cc, cx⟩, bI_t (by rfl)]
      · rw [if_neg (fun y => cx (cN_1.mp y)), e50, ld, if_neg (fun y => cx y.2)]
        exact ih z1
    · rw [if_neg (by rw [Ec]; exact cc), e50, ld, if_neg (fun y => cc y.1)]
      exact ih z
end
theorem TxtL.law {M : Mem} {l : List Cls} (h : TxtL M l) : LawL M (lawOf l) := by
  obtain ⟨k2, tx, p5, lo, k, r, a, hz, t⟩ := h
  refine ⟨tx, p5, k, fun B h C Hd Mo F hL hF => ?_⟩
  have hB := k2 B hL.kB.1
  have lo : 3768 ≤ tx := by rcases lo with z | z; omega; omega
  have ag : Agm tx M (tl B h C Hd Mo M) := fun b b0 b1 => ⟨rfl, fun j => tl_out (by omega) (by omega), fun j => rfl⟩
  have hx : TxS tx M (tl B h C Hd Mo M) l := ⟨lo, hz, k, r, a, t, ag⟩
  have fc : FcM (tl B h C Hd Mo M) F := ⟨hL.k0.2.2, fun w w0 w1 => by
    have : mI (tl B h C Hd Mo M) 1 (w + 1).toNat = iI (Mo (((w + 1).toNat : Nat) : Int)) := by
      show tlI B h C Hd Mo (mI M) 1 (w + 1).toNat = _
      unfold tlI
      rw [if_pos rfl]
    rw [this, show (((w + 1).toNat : Nat) : Int) = w + 1 by omega, hF w w0 w1]⟩
  have back : ∀ z : Int32, mo z (tl B h C Hd Mo M) = tl B h C Hd (st Mo 0 z.toInt) M := by
    intro z
    have e1 := pI_mo (B := B) (h := h) (C := C) (Hd := Hd) (Mo := Mo) (M := M) hL (k := 0) (v := z.toInt) (f := some)
    rw [iv_of, pI_y (σ := tl B h C Hd Mo M) hL.k0.2.2] at e1
    exact Option.some.inj e1
  have fx : ∀ z : Int32, ∀ w : Int, 0 ≤ w → w < 7 → st Mo 0 z.toInt (w + 1) = F w := fun z w w0 w1 => by
    rw [st_ne (by omega)]; exact hF w w0 w1
  have me := mo_me (σ := tl B h C Hd Mo M)
  refine ⟨fun c no c0 c1 => ?_, fun c c0 c1 => ?_⟩
  · obtain ⟨z, hz⟩ := tells_3 hx fc (c := c) (no := iI no) c0 c1 l.length 0 FU (mI (tl B h C Hd Mo M) 1 0) (by omega) (by omega) (by have := t.2.1; unfold FU; omega)
    refine ⟨_, fx z, ?_⟩
    rw [← back z]
    rw [me] at hz
    exact hz
  · obtain ⟨z, hz⟩ := says_2 hx fc (c := c) c0 c1 l.length 0 FU (mI (tl B h C Hd Mo M) 1 0) (by omega) (by omega) (by have := t.2.1; unfold FU; omega)
    refine ⟨_, fx z, ?_⟩
    rw [← back z]
    rw [me] at hz
    exact hz
