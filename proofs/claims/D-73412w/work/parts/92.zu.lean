/-! DEPS: zt -/
/-! ZU: the world and its acts -/
def GoodR (R : Int) (g : Row) : Prop := ∃ hs FL D, InvS g hs FL R D ∧ g 11131 ≤ 9999
def Wld (σ : Mem) (h k g gk : Row) (l : List Cls) (t b : Int) (T : Nat → Int32) (R : Int) : Prop :=
  (Stt σ) ∧
  (LSd σ h k l t b T) ∧
  (TSd σ g gk l t b T) ∧
  (Rel h g) ∧
  (GoodR R g) ∧
  (b = 1 → Rel (st k 11138 0) (st gk 11138 0) ∧ GoodR R gk) ∧
  (0 ≤ t ∧ t ≤ 260) ∧
  (b = 0 ∨ b = 1)
theorem Wld.s {σ : Mem} {h k g gk : Row} {l : List Cls} {t b : Int} {T : Nat → Int32} {R : Int} (self : Wld σ h k g gk l t b T R) : Stt σ := self.1
theorem Wld.L {σ : Mem} {h k g gk : Row} {l : List Cls} {t b : Int} {T : Nat → Int32} {R : Int} (self : Wld σ h k g gk l t b T R) : LSd σ h k l t b T := self.2.1
theorem Wld.W {σ : Mem} {h k g gk : Row} {l : List Cls} {t b : Int} {T : Nat → Int32} {R : Int} (self : Wld σ h k g gk l t b T R) : TSd σ g gk l t b T := self.2.2.1
theorem Wld.r {σ : Mem} {h k g gk : Row} {l : List Cls} {t b : Int} {T : Nat → Int32} {R : Int} (self : Wld σ h k g gk l t b T R) : Rel h g := self.2.2.2.1
theorem Wld.I {σ : Mem} {h k g gk : Row} {l : List Cls} {t b : Int} {T : Nat → Int32} {R : Int} (self : Wld σ h k g gk l t b T R) : GoodR R g := self.2.2.2.2.1
theorem Wld.kp {σ : Mem} {h k g gk : Row} {l : List Cls} {t b : Int} {T : Nat → Int32} {R : Int} (self : Wld σ h k g gk l t b T R) : b = 1 → Rel (st k 11138 0) (st gk 11138 0) ∧ GoodR R gk := self.2.2.2.2.2.1
theorem Wld.tr {σ : Mem} {h k g gk : Row} {l : List Cls} {t b : Int} {T : Nat → Int32} {R : Int} (self : Wld σ h k g gk l t b T R) : 0 ≤ t ∧ t ≤ 260 := self.2.2.2.2.2.2.1
theorem Wld.br {σ : Mem} {h k g gk : Row} {l : List Cls} {t b : Int} {T : Nat → Int32} {R : Int} (self : Wld σ h k g gk l t b T R) : b = 0 ∨ b = 1 := self.2.2.2.2.2.2.2
theorem i32 (x : Int32) : ∃ n : Int, x = iI n ∧ -2147483648 ≤ n ∧ n ≤ 2147483647 := ⟨x.toInt, (iv_of x).symm, by have := Int32.le_toInt x; omega, by have := Int32.toInt_lt x; omega⟩
section
variable {g g' : Row} {hs : His} {FL : Int → ELog} {R R' : Int} {D : DK} {Λ : Law}
theorem GoodR.ex (I : InvS g hs FL R D) (h9 : g 11131 ≤ 9999) (E : Ex g' hs R' D) : GoodR R' g' := by
  obtain ⟨h', FL', _, I'⟩ := E
  have a := I.dd.2.2
  have b := I'.dd.2.2
  exact ⟨h', FL', D, I', by omega⟩
theorem GoodR.is (I : InvS g hs FL R D) (h9 : g 11131 ≤ 9999) (I' : InvS g' hs FL R' D) : GoodR R' g' := GoodR.ex I h9 I'.ex
theorem GoodR.up (H : GoodR R g) (h : R ≤ R') (h9 : R' ≤ 1000000) : GoodR R' g := by
  obtain ⟨hs, FL, D, I, q⟩ := H
  exact ⟨hs, FL, D, I.mono h h9, q⟩
theorem GoodR.held (H : GoodR R g) {v : Int} (v0 : 0 ≤ v) : GoodR R (st g 11138 v) := by
  obtain ⟨hs, FL, D, I, q⟩ := H
  exact ⟨hs, FL, _, I.heldV v0, by rw [st_ne (by omega)]; exact q⟩
theorem good_crash {n : Int} (H : GoodR R g) : GoodR R (crashS g n).2 := by
  obtain ⟨hs, FL, D, I, h9⟩ := id H
  unfold crashS
  split
  · rename_i c; exact GoodR.is I h9 (I.crash c.1.1 c.1.2)
  · exact H
theorem up01 (I : InvS g hs FL R D) {n : Int} (n0 : 0 ≤ n) (n1 : n < 7) : 0 ≤ g (244 * n + 0) ∧ g (244 * n + 0) ≤ 1 := by
  obtain ⟨⟨s1, s2⟩, _⟩ := I.na n n0 n1
  exact ⟨s1.1, s1.2.1⟩
theorem good_come {n : Int} (H : GoodR R g) : GoodR R (comeS Λ g n).2 := by
  obtain ⟨hs, FL, D, I, h9⟩ := id H
  unfold comeS
  split
  · rename_i c
    have u := up01 I c.1.1 c.1.2
    exact GoodR.is I h9 (I.come c.1.1 c.1.2 (by have := c.2; omega))
  · exact H
theorem good_cut {a b : Int} {z : Prop} [Decidable z] (H : GoodR R g) : GoodR R (cutS g a b z).2 := by
  obtain ⟨hs, FL, D, I, h9⟩ := id H
  unfold cutS
  split
  · rename_i c; exact GoodR.is I h9 (I.cuts c.1.1 c.1.2 c.2.1.1 c.2.1.2)
  · exact H
theorem good_compact {n : Int} (H : GoodR R g) : GoodR R (compactS g n).2 := by
  obtain ⟨hs, FL, D, I, h9⟩ := id H
  unfold compactS
  split
  · rename_i c; exact GoodR.is I h9 (I.comp c.1.1.1 c.1.1.2)
  · exact H
theorem good_write {n k v : Int} (H : GoodR R g) : GoodR R (writeS Λ g n k v).2 := by
  obtain ⟨hs, FL, D, I, h9⟩ := id H
  unfold writeS
  split
  · exact H
  rename_i c1
  have c1 := Decidable.not_not.mp c1
  split
  · exact H
  rename_i c2
  have c2 := Decidable.not_not.mp c2
  split
  · exact H
  · exact GoodR.ex I h9 (I.put c1.1.1 c1.1.2 c2.2 (by omega) (by omega) (by omega) (fun _ => by omega) (fun q => absurd q (by omega)))
theorem good_change {n c : Int} (H : GoodR R g) : GoodR R (changeS Λ g n c).2 := by
  obtain ⟨hs, FL, D, I, h9⟩ := id H
  unfold changeS
  split
  · exact H
  rename_i c1
  have c1 := Decidable.not_not.mp c1
  split
  · exact H
  rename_i c2
  have c2 := Decidable.not_not.mp c2
  split
  · exact H
  split
  · exact H
  · rename_i c3 c4
    have n0 : newA g n = 0 := Decidable.byContradiction fun z => c4 (Or.inl z)
    have ch : cfgHeld g n := Decidable.byContradiction fun z => c4 (Or.inr (Or.inl z))
    have hL := I.lg c1.1.1 c1.1.2
    have ol := oldR hL
    exact GoodR.ex I h9 (I.put c1.1.1 c1.1.2 c2.2 (by omega) (by omega) (by omega) (fun q => absurd q (by omega)) (fun _ => ⟨ch, n0, rfl, by omega⟩))
theorem good_ask {n k : Int} (H : GoodR R g) (hR : R + 1 ≤ 1000000) : GoodR (R + 1) (askS Λ g n k).2 := by
  obtain ⟨hs, FL, D, I, h9⟩ := id H
  have H1 := H.up (show R ≤ R + 1 by omega) hR
  unfold askS
  split
  · exact H1
  rename_i c1
  have c1 := Decidable.not_not.mp c1
  split
  · exact H1
  rename_i c2
  have c2 := Decidable.not_not.mp c2
  split
  · exact H1
  split
  · exact H1
  · rename_i c3 c4
    have hG := I.gl
    obtain ⟨_, _, _, _, _, _, _, _, _, _, _, _⟩ := hG
    exact GoodR.is I h9 (I.asks c1.1.1 c1.1.2 c2.2 (by omega) (by omega) (by omega) hR)
theorem good_found {c : Int} (H : GoodR R g) : GoodR R (foundS Λ g c).2 := by
  obtain ⟨hs, FL, D, I, h9⟩ := id H
  have hG := I.gl
  obtain ⟨_, _, _, _, _, _, _, _, _, _, _, _⟩ := hG
  unfold foundS
  split
  · rename_i q
    have I2 := InvS.found (Λ := Λ) (g := g) (R := R) (c := c) (by omega) (by omega) (by omega) I.dd.2.1 I.rr
    have := I2.dd.2.2
    have this : foundG Λ g c 11131 = 0 := this
    exact ⟨_, _, _, I2, by show foundG Λ g c 11131 ≤ 9999; omega⟩
  · exact H
theorem good_seed {v : Int} (H : GoodR R g) : GoodR R (seedS g v).2 := by
  obtain ⟨hs, FL, D, I, h9⟩ := id H
  unfold seedS
  split
  · rename_i q
    exact GoodR.is I h9 (I.seed q.1 q.2)
  · exact H
theorem good_tick (H : GoodR R g) (hR : R + 7 ≤ 1000000) : GoodR (R + 7) (if g 11131 < 9999 then tickG Λ g else g) := by
  obtain ⟨hs, FL, D, I, h9⟩ := id H
  by_cases c : g 11131 < 9999
  · rw [if_pos c]
    obtain ⟨K, h', FL', _, I'⟩ := I.tick1 (Λ := Λ) c hR
    have := I'.dd.2.2
    have this : tickG Λ g 11131 = g 11131 + 1 := this
    exact ⟨_, _, _, I', by omega⟩
  · rw [if_neg c]
    exact H.up (by omega) hR
theorem good_ticksF : ∀ (f : Nat) (g : Row) (R : Int), GoodR R g → R + 7 * f ≤ 1000000 → GoodR (R + 7 * f) (ticksF Λ f g)
  | 0, g, R, H, hR => by
    rw [show R + 7 * ((0 : Nat) : Int) = R by omega]
    exact H
  | f + 1, g, R, H, hR => by
    have q := good_ticksF f _ _ (good_tick (Λ := Λ) H (by omega)) (by omega)
    rw [show R + 7 + 7 * (f : Int) = R + 7 * ((f + 1 : Nat) : Int) by omega] at q
    exact q
end
section
variable {σ : Mem} {h k g gk : Row} {l : List Cls} {t b : Int} {T : Nat → Int32} {R : Int}
theorem act_W {R' : Int} {g' : Row} {v : Int32} {f0 f8 : Mem → Option (Int32 × Mem)} (H : Wld σ h k g gk l t b T R) (hI : GoodR R' g') (hR : R ≤ R') (h9 : R' ≤ 1000000)
    (hL : ∀ (N : Mem) (C Hd Mo : Row), LyC 2 N → mP N 0 1 = some 2 → LawL N (lawOf l) → ∃ h' C' Hd' Mo', f0 (tl 2 h C Hd Mo N) = some (v, tl 2 h' C' Hd' Mo' N) ∧ Rel h' g')
    (hT : ∀ (N : Mem) (mi mn F : Row) (S : Nat → Int32), LT N → LawT N (lawOf l) → clip mi = mi → ∃ mi' mn' F' S', clip mi' = mi' ∧ f8 (tw g mi mn F S N) = some (v, tw g' mi' mn' F' S' N)) :
    ∃ σ1 σ2 h', f0 σ = some (v, σ1) ∧ cV σ1 (some 3772) 6 (f8 σ1) = some (v, σ2) ∧ Chg σ σ2 tch ∧ Wld σ2 h' k g' gk l t b T R' := by
  obtain ⟨σ1, σ2, h', a1, a2, a3, a4, a5, a6⟩ := act_w H.s H.L H.W hL hT
  exact ⟨σ1, σ2, h', a1, a2, a3, H.s.to a3.1, a5, a6, a4, hI, fun q => ⟨(H.kp q).1, (H.kp q).2.up hR h9⟩, H.tr, H.br⟩
/-- how an act comes out -/
def Acts (σ : Mem) (k gk : Row) (l : List Cls) (t b : Int) (T : Nat → Int32) (R : Int) (f0 f8 : Mem → Option (Int32 × Mem)) (P : Int32 → Prop) : Prop :=
  ∃ v σ1 σ2 h' g', f0 σ = some (v, σ1) ∧ cV σ1 (some 3772) 6 (f8 σ1) = some (v, σ2) ∧ P v ∧ Chg σ σ2 tch ∧ Wld σ2 h' k g' gk l t b T R
theorem w_crash (H : Wld σ h k g gk l t b T R) {n : Int} (c0 : -2147483648 ≤ n) (c1 : n ≤ 2147483647) : Acts σ k gk l t b T R (fun s => sX0_crash (some 0) (iI n) s) (fun s => sX8_crash (some 3772) (iI n) s) (fun v => v = iI 0 ∨ v = iI 1) := by
  obtain ⟨hs, FL, D, I, h9⟩ := id H.I
  obtain ⟨σ1, σ2, h', a1, a2, a3, a4⟩ := act_W (f0 := fun s => sX0_crash (some 0) (iI n) s) (f8 := fun s => sX8_crash (some 3772) (iI n) s) H (good_crash (n := n) H.I) (Int.le_refl _) I.rr.2 (fun N C Hd Mo y1 y2 y3 => by
    obtain ⟨h', x, r⟩ := t_crash (C := C) (Hd := Hd) (Mo := Mo) y1 y2 H.r I c0 c1
    exact ⟨h', C, Hd, Mo, x, r⟩) (fun N mi mn F S y1 y2 y3 => ⟨mi, mn, F, S, y3, m_crash y1 I c0 c1⟩)
  refine ⟨_, σ1, σ2, h', _, a1, a2, ?_, a3, a4⟩
  unfold crashS
  split
  · exact Or.inr rfl
  · exact Or.inl rfl
theorem w_come (H : Wld σ h k g gk l t b T R) {n : Int} (c0 : -2147483648 ≤ n) (c1 : n ≤ 2147483647) : Acts σ k gk l t b T R (fun s => sX0_comeUp (some 0) (iI n) s) (fun s => sX8_comeUp (some 3772) (iI n) s) (fun v => v = iI 0 ∨ v = iI 1) := by
  obtain ⟨hs, FL, D, I, h9⟩ := id H.I
  obtain ⟨σ1, σ2, h', a1, a2, a3, a4⟩ := act_W (f0 := fun s => sX0_comeUp (some 0) (iI n) s) (f8 := fun s => sX8_comeUp (some 3772) (iI n) s) H (good_come (Λ := lawOf l) (n := n) H.I) (Int.le_refl _) I.rr.2 (fun N C Hd Mo y1 y2 y3 => by
    obtain ⟨h', C', Mo', x, r⟩ := t_comeUp (C := C) (Hd := Hd) (Mo := Mo) y1 y2 y3 H.r I c0 c1
    exact ⟨h', C', Hd, Mo', x, r⟩) (fun N mi mn F S y1 y2 y3 => by
    obtain ⟨F', S', x⟩ := m_comeUp (mi := mi) (mn := mn) (F := F) (S := S) y1 y2 I c0 c1
    exact ⟨mi, mn, F', S', y3, x⟩)
  refine ⟨_, σ1, σ2, h', _, a1, a2, ?_, a3, a4⟩
  unfold comeS
  split
  · exact Or.inr rfl
  · exact Or.inl rfl
theorem w_cut (H : Wld σ h k g gk l t b T R) {n m : Int} {z : Int32} (c0 : -2147483648 ≤ n) (c1 : n ≤ 2147483647) (d0 : -2147483648 ≤ m) (d1 : m ≤ 2147483647) : Acts σ k gk l t b T R (fun s => sX0_cut (some 0) (iI n) (iI m) z s) (fun s => sX8_cut (some 3772) (iI n) (iI m) z s) (fun v => v = iI 0 ∨ v = iI 1) := by
  obtain ⟨hs, FL, D, I, h9⟩ := id H.I
  obtain ⟨σ1, σ2, h', a1, a2, a3, a4⟩ := act_W (f0 := fun s => sX0_cut (some 0) (iI n) (iI m) z s) (f8 := fun s => sX8_cut (some 3772) (iI n) (iI m) z s) H (good_cut (a := n) (b := m) (z := ¬ z = iI 0) H.I) (Int.le_refl _) I.rr.2 (fun N C Hd Mo y1 y2 y3 => by
    obtain ⟨h', x, r⟩ := t_cut (C := C) (Hd := Hd) (Mo := Mo) (z := z) y1 y2 H.r I c0 c1 d0 d1
    exact ⟨h', C, Hd, Mo, x, r⟩) (fun N mi mn F S y1 y2 y3 => ⟨mi, mn, F, S, y3, m_cut y1 I c0 c1 d0 d1⟩)
  refine ⟨_, σ1, σ2, h', _, a1, a2, ?_, a3, a4⟩
  unfold cutS
  split
  · exact Or.inr rfl
  · exact Or.inl rfl
theorem w_compact (H : Wld σ h k g gk l t b T R) {n : Int} (c0 : -2147483648 ≤ n) (c1 : n ≤ 2147483647) : Acts σ k gk l t b T R (fun s => sX0_compact (some 0) (iI n) s) (fun s => sX8_compact (some 3772) (iI n) s) (fun v => v = iI 0 ∨ v = iI 1) := by
  obtain ⟨hs, FL, D, I, h9⟩ := id H.I
  obtain ⟨σ1, σ2, h', a1, a2, a3, a4⟩ := act_W (f0 := fun s => sX0_compact (some 0) (iI n) s) (f8 := fun s => sX8_compact (some 3772) (iI n) s) H (good_compact (n := n) H.I) (Int.le_refl _) I.rr.2 (fun N C Hd Mo y1 y2 y3 => by
    obtain ⟨h', x, r⟩ := t_compact (C := C) (Hd := Hd) (Mo := Mo) y1 y2 H.r I c0 c1
    exact ⟨h', C, Hd, Mo, x, r⟩) (fun N mi mn F S y1 y2 y3 => ⟨mi, mn, F, S, y3, m_compact y1 I c0 c1⟩)
  refine ⟨_, σ1, σ2, h', _, a1, a2, ?_, a3, a4⟩
  unfold compactS
  split
  · exact Or.inr rfl
  · exact Or.inl rfl
theorem w_write (H : Wld σ h k g gk l t b T R) {n m v : Int} (c0 : -2147483648 ≤ n) (c1 : n ≤ 2147483647) (d0 : -2147483648 ≤ m) (d1 : m ≤ 2147483647) (v0 : -2147483648 ≤ v) (v1 : v ≤ 2147483647) : Acts σ k gk l t b T R (fun s => sX0_write (some 0) (iI n) (iI m) (iI v) s) (fun s => sX8_write (some 3772) (iI n) (iI m) (iI v) s) (fun _ => True) := by
  obtain ⟨hs, FL, D, I, h9⟩ := id H.I
  obtain ⟨σ1, σ2, h', a1, a2, a3, a4⟩ := act_W (f0 := fun s => sX0_write (some 0) (iI n) (iI m) (iI v) s) (f8 := fun s => sX8_write (some 3772) (iI n) (iI m) (iI v) s) H (good_write (Λ := lawOf l) (n := n) (k := m) (v := v) H.I) (Int.le_refl _) I.rr.2 (fun N C Hd Mo y1 y2 y3 => by
    obtain ⟨h', C', Mo', x, r⟩ := t_write (C := C) (Hd := Hd) (Mo := Mo) y1 y2 y3 H.r I c0 c1 d0 d1 v0 v1
    exact ⟨h', C', Hd, Mo', x, r⟩) (fun N mi mn F S y1 y2 y3 => by
    obtain ⟨mn', F', S', x⟩ := m_write (mi := mi) (mn := mn) (F := F) (S := S) y1 y2 I c0 c1 d0 d1 v0 v1
    exact ⟨mi, mn', F', S', y3, x⟩)
  exact ⟨_, σ1, σ2, h', _, a1, a2, trivial, a3, a4⟩
theorem w_change (H : Wld σ h k g gk l t b T R) {n m : Int} (c0 : -2147483648 ≤ n) (c1 : n ≤ 2147483647) (d0 : -2147483648 ≤ m) (d1 : m ≤ 2147483647) : Acts σ k gk l t b T R (fun s => sX0_change (some 0) (iI n) (iI m) s) (fun s => sX8_change (some 3772) (iI n) (iI m) s) (fun _ => True) := by
  obtain ⟨hs, FL, D, I, h9⟩ := id H.I
  obtain ⟨σ1, σ2, h', a1, a2, a3, a4⟩ := act_W (f0 := fun s => sX0_change (some 0) (iI n) (iI m) s) (f8 := fun s => sX8_change (some 3772) (iI n) (iI m) s) H (good_change (Λ := lawOf l) (n := n) (c := m) H.I) (Int.le_refl _) I.rr.2 (fun N C Hd Mo y1 y2 y3 => by
    obtain ⟨h', C', Mo', x, r⟩ := t_change (C := C) (Hd := Hd) (Mo := Mo) y1 y2 y3 H.r I c0 c1 d0 d1
    exact ⟨h', C', Hd, Mo', x, r⟩) (fun N mi mn F S y1 y2 y3 => by
    obtain ⟨mn', F', S', x⟩ := m_change (mi := mi) (mn := mn) (F := F) (S := S) y1 y2 I c0 c1 d0 d1
    exact ⟨mi, mn', F', S', y3, x⟩)
  exact ⟨_, σ1, σ2, h', _, a1, a2, trivial, a3, a4⟩
theorem w_ask (H : Wld σ h k g gk l t b T R) (hR : R + 1 ≤ 1000000) {n m : Int} (c0 : -2147483648 ≤ n) (c1 : n ≤ 2147483647) (d0 : -2147483648 ≤ m) (d1 : m ≤ 2147483647) : Acts σ k gk l t b T (R + 1) (fun s => sX0_ask (some 0) (iI n) (iI m) s) (fun s => sX8_ask (some 3772) (iI n) (iI m) s) (fun _ => True) := by
  obtain ⟨hs, FL, D, I, h9⟩ := id H.I
  obtain ⟨σ1, σ2, h', a1, a2, a3, a4⟩ := act_W (f0 := fun s => sX0_ask (some 0) (iI n) (iI m) s) (f8 := fun s => sX8_ask (some 3772) (iI n) (iI m) s) H (good_ask (Λ := lawOf l) (n := n) (k := m) H.I hR) (by omega) hR (fun N C Hd Mo y1 y2 y3 => by
    obtain ⟨h', C', Mo', x, r⟩ := t_ask (C := C) (Hd := Hd) (Mo := Mo) y1 y2 y3 H.r I c0 c1 d0 d1 hR
    exact ⟨h', C', Hd, Mo', x, r⟩) (fun N mi mn F S y1 y2 y3 => by
    obtain ⟨mn', F', S', x⟩ := m_ask (mi := mi) (mn := mn) (F := F) (S := S) y1 y2 I c0 c1 d0 d1 hR
    exact ⟨mi, mn', F', S', y3, x⟩)
  exact ⟨_, σ1, σ2, h', _, a1, a2, trivial, a3, a4⟩
theorem w_seed (H : Wld σ h k g gk l t b T R) {n : Int} (c0 : -2147483648 ≤ n) (c1 : n ≤ 2147483647) : Acts σ k gk l t b T R (fun s => sX0_seed (some 0) (iI n) s) (fun s => sX8_seed (some 3772) (iI n) s) (fun _ => True) := by
  obtain ⟨hs, FL, D, I, h9⟩ := id H.I
  obtain ⟨σ1, σ2, h', a1, a2, a3, a4⟩ := act_W (f0 := fun s => sX0_seed (some 0) (iI n) s) (f8 := fun s => sX8_seed (some 3772) (iI n) s) H (good_seed (v := n) H.I) (Int.le_refl _) I.rr.2 (fun N C Hd Mo y1 y2 y3 => by
    obtain ⟨h', x, r⟩ := t_seed (C := C) (Hd := Hd) (Mo := Mo) y1 y2 H.r I.bd c0 c1
    exact ⟨h', C, Hd, Mo, x, r⟩) (fun N mi mn F S y1 y2 y3 => ⟨mi, mn, F, S, y3, m_seed y1 c0 c1⟩)
  exact ⟨_, σ1, σ2, h', _, a1, a2, trivial, a3, a4⟩
/-- a row that is 0 before its start -/
def cut0 (g : Row) : Row := fun x => if x < 0 then 0 else g x
theorem w_found (H : Wld σ h k g gk l t b T R) {n : Int} (c0 : -2147483648 ≤ n) (c1 : n ≤ 2147483647) : Acts σ k gk l t b T R (fun s => sX0_found (some 0) (iI n) s) (fun s => sX8_found (some 3772) (iI n) s) (fun _ => True) := by
  obtain ⟨hs, FL, D, I, h9⟩ := id H.I
  have hG := I.gl
  obtain ⟨_, _, _, _, _, _, _, _, _, _, _, _⟩ := hG
  have e32 := H.r.gl 11132 (by omega) (by omega)
  have e38 := H.r.gl 11138 (by omega) (by omega)
  have k32 : cut0 g 11132 = g 11132 := if_neg (by omega)
  have k38 : cut0 g 11138 = g 11138 := if_neg (by omega)
  by_cases d : 1 ≤ n ∧ n ≤ 127
  · have eS : (foundS (lawOf l) (cut0 g) n).2 = foundG (lawOf l) (cut0 g) n := by unfold foundS; rw [if_pos d]
    have I2 := InvS.found (Λ := lawOf l) (g := cut0 g) (R := R) (c := n) (by omega) (by omega) (by rw [k32]; omega) (by rw [k38]; exact I.dd.2.1) I.rr
    have q31 := I2.dd.2.2
    have q31 : foundG (lawOf l) (cut0 g) n 11131 = 0 := q31
    have Gd : GoodR R (foundS (lawOf l) (cut0 g) n).2 := by rw [eS]; exact ⟨_, _, _, I2, by omega⟩
    obtain ⟨σ1, σ2, h', a1, a2, a3, a4⟩ := act_W (f0 := fun s => sX0_found (some 0) (iI n) s) (f8 := fun s => sX8_found (some 3772) (iI n) s) H Gd (Int.le_refl _) I.rr.2 (fun N C Hd Mo y1 y2 y3 => by
      obtain ⟨h', Mo', x, r, _⟩ := t_found (h := h) (g := cut0 g) (C := C) (Hd := Hd) (Mo := Mo) y1 y2 y3 c0 c1 (by rw [k32]; omega) (by rw [k32]; exact e32) (by rw [k38]; exact e38)
      exact ⟨h', C, Hd, Mo', x, r d⟩) (fun N mi mn F S y1 y2 y3 => by
      obtain ⟨F', S', x⟩ := m_found (g := cut0 g) (mi := mi) (mn := mn) (F := F) (S := S) y1 y2 c0 c1 (by rw [k32]; omega) (fun x hx => if_pos hx)
      have et : tw g mi mn F S N = tw (cut0 g) mi mn F S N := tw_ext (fun x x0 x1 => (if_neg (by omega)).symm)
      refine ⟨mi, mn, F', S', y3, ?_⟩
      show sX8_found (some 3772) (iI n) (tw g mi mn F S N) = _
      rw [et]
      exact x)
    exact ⟨_, σ1, σ2, h', _, a1, a2, trivial, a3, a4⟩
  · have eS : foundS (lawOf l) g n = (0, g) := by unfold foundS; rw [if_neg d]
    have eS0 : foundS (lawOf l) (cut0 g) n = (0, cut0 g) := by unfold foundS; rw [if_neg d]
    obtain ⟨σ1, σ2, h', a1, a2, a3, a4⟩ := act_W (f0 := fun s => sX0_found (some 0) (iI n) s) (f8 := fun s => sX8_found (some 3772) (iI n) s) (v := iI 0) H H.I (Int.le_refl _) I.rr.2 (fun N C Hd Mo y1 y2 y3 => by
      obtain ⟨h', Mo', x, _, r⟩ := t_found (h := h) (g := g) (C := C) (Hd := Hd) (Mo := Mo) y1 y2 y3 c0 c1 (by omega) e32 e38
      rw [eS] at x
      exact ⟨h', C, Hd, Mo', x, by rw [r d]; exact H.r⟩) (fun N mi mn F S y1 y2 y3 => by
      obtain ⟨F', S', x⟩ := m_found (g := cut0 g) (mi := mi) (mn := mn) (F := F) (S := S) y1 y2 c0 c1 (by rw [k32]; omega) (fun x hx => if_pos hx)
      have et : ∀ F S, tw g mi mn F S N = tw (cut0 g) mi mn F S N := fun F S => tw_ext (fun x x0 x1 => (if_neg (by omega)).symm)
      rw [eS0] at x
      refine ⟨mi, mn, F', S', y3, ?_⟩
      show sX8_found (some 3772) (iI n) (tw g mi mn F S N) = _
      rw [et, et]
      exact x)
    exact ⟨_, σ1, σ2, h', _, a1, a2, trivial, a3, a4⟩
end
