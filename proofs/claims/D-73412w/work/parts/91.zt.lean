/-! DEPS: zs xe wi -/
/-! ZT: both sides in one memory: what is seen of each, and what leaves it -/
/-- the cluster at B is seen as h -/
def CLv (B : Nat) (h : Row) (σ : Mem) : Prop := ∃ (C Hd : Row) (s : Int32), ∀ a j, B ≤ a → a < B + 1255 → mI σ a j = tlE B h C Hd s (mI σ a j) a j
theorem tlE_2 {B : Nat} {h C Hd : Row} {s d : Int32} {a j : Nat} : tlE B h C Hd s (tlE B h C Hd s d a j) a j = tlE B h C Hd s d a j := by
  unfold tlE
  cases plc (a - B) j with
  | some p => rfl
  | none =>
    show (if a = B + 1183 then iI (C j) else if a = B + 1184 then iI (Hd j) else if a = B + 1183 then iI (C j) else if a = B + 1184 then iI (Hd j) else d) = _
    split
    · rfl
    · split
      · rfl
      · rfl
section
variable {B : Nat} {h C Hd Mo : Row} {σ σ' N : Mem}
theorem CLv.of (b2 : 2 ≤ B) (e : σ = tl B h C Hd Mo N) : CLv B h σ := ⟨C, Hd, mI N B 13, fun a j h1 h2 => by
  subst e
  show tlI B h C Hd Mo (mI N) a j = tlE B h C Hd (mI N B 13) (tlI B h C Hd Mo (mI N) a j) a j
  rw [tl_in (by omega) (by omega), tlE_2]⟩
theorem CLv.to (v : CLv B h σ) (e : ∀ a j, B ≤ a → a < B + 1255 → mI σ' a j = mI σ a j) : CLv B h σ' := by
  obtain ⟨C, Hd, s, v⟩ := v
  exact ⟨C, Hd, s, fun a j h1 h2 => by rw [e a j h1 h2]; exact v a j h1 h2⟩
theorem CLv.rep (b2 : 2 ≤ B) (v : CLv B h σ) : ∃ (C Hd Mo : Row) (s : Int32), σ = tl B h C Hd Mo (shM σ B s) := by
  obtain ⟨C, Hd, s, v⟩ := v
  refine ⟨C, Hd, fun x => (mI σ 1 x.toNat).toInt, s, Prod.ext ?_ rfl⟩
  funext a j
  show mI σ a j = tlI B h C Hd (fun x => (mI σ 1 x.toNat).toInt) (up2 (mI σ) B 13 s) a j
  by_cases c1 : a = 1
  · subst c1
    rw [tl_one]
    exact (iv_of _).symm
  · by_cases c2 : a < B ∨ B + 1255 ≤ a
    · rw [tl_out c1 c2]
      exact (if_neg (by omega)).symm
    · rw [tl_in c1 (by omega), v a j (by omega) (by omega)]
      have e : up2 (mI σ) B 13 s B 13 = s := if_pos ⟨rfl, rfl⟩
      rw [e]
      by_cases c3 : a = B ∧ j = 13
      · have hp : plc (a - B) j = some 11138 := by rw [c3.1, c3.2, Nat.sub_self]; rfl
        unfold tlE
        rw [hp]
      · have e2 : up2 (mI σ) B 13 s a j = mI σ a j := if_neg c3
        rw [e2, ← v a j (by omega) (by omega)]
theorem CLv.v38 (x : CLv B h σ) (v : Int) : CLv B (st h 11138 v) σ := by
  obtain ⟨C, Hd, s, x⟩ := x
  refine ⟨C, Hd, iI (h 11138) - iI v + s, fun a j h1 h2 => ?_⟩
  have q := x a j h1 h2
  unfold tlE at q ⊢
  cases e2 : plc (a - B) j with
  | none => rw [e2] at q; exact q
  | some p =>
    rw [e2] at q
    have q : mI σ a j = if p = 11138 then iI (h p) + s else iI (valT p (h p)) := q
    show mI σ a j = if p = 11138 then iI (st h 11138 v p) + (iI (h 11138) - iI v + s) else iI (valT p (st h 11138 v p))
    by_cases c3 : p = 11138
    · rw [if_pos c3] at q ⊢
      rw [q, c3, st_eq, ← Int32.add_assoc, iv_sub, iv_add, show v + (h 11138 - v) = h 11138 by omega]
    · rw [if_neg c3] at q ⊢
      rw [q, st_ne c3]
end
/-- the twin is seen as g -/
def TWv (g : Row) (σ : Mem) : Prop := ∃ (mi mn F : Row) (S : Nat → Int32), clip mi = mi ∧ σ = tw g mi mn F S σ
section
variable {g mi mn F : Row} {S : Nat → Int32} {σ σ' N : Mem}
theorem tw_2 {σ : Mem} (e : σ = tw g mi mn F S N) : σ = tw g mi mn F S σ := by
  subst e
  refine Prod.ext ?_ rfl
  funext a j
  show twI g mi mn F S (mI N) a j = twI g mi mn F S (twI g mi mn F S (mI N)) a j
  unfold twI
  split
  · rfl
  split
  · rfl
  split
  · rfl
  split
  · rfl
  split
  · rfl
  split
  · rfl
  · rfl
theorem TWv.of (hm : clip mi = mi) (e : σ = tw g mi mn F S N) : TWv g σ := ⟨mi, mn, F, S, hm, tw_2 e⟩
/-- a twin's place -/
abbrev twP (a j : Nat) : Prop := (a = 3773 ∧ j < 11138) ∨ a = 3776 ∨ a = 3777 ∨ a = 3791 ∨ a = 3790 ∨ (a = 3772 ∧ j = 29)
theorem tw_no {I : Nat → Nat → Int32} {a j : Nat} (h : ¬ twP a j) : twI g mi mn F S I a j = I a j := by
  unfold twP at h
  unfold twI
  rw [if_neg (by omega), if_neg (by omega), if_neg (by omega), if_neg (by omega), if_neg (by omega), if_neg (by omega)]
theorem tw_in {I I' : Nat → Nat → Int32} {a j : Nat} (h : twP a j) : twI g mi mn F S I a j = twI g mi mn F S I' a j := by
  unfold twP at h
  unfold twI
  split
  · rfl
  split
  · rfl
  split
  · rfl
  split
  · rfl
  split
  · rfl
  split
  · rfl
  · omega
theorem TWv.to (v : TWv g σ) (e : ∀ a j, twP a j → mI σ' a j = mI σ a j) : TWv g σ' := by
  obtain ⟨mi, mn, F, S, hm, v⟩ := v
  refine ⟨mi, mn, F, S, hm, Prod.ext ?_ rfl⟩
  funext a j
  show mI σ' a j = twI g mi mn F S (mI σ') a j
  by_cases c : twP a j
  · rw [e a j c, tw_in (I' := mI σ) c]
    exact congrFun (congrFun (congrArg Prod.fst v) a) j
  · rw [tw_no c]
end
/-! what stands still -/
def Stt (σ : Mem) : Prop :=
  (LT σ) ∧
  (LT2 σ) ∧
  (LPt σ) ∧
  (LZ σ) ∧
  (LyC 2 σ ∧ LyC 1257 σ ∧ LyC 2512 σ) ∧
  (mP σ 0 1 = some 2 ∧ mP σ 0 2 = some 1257 ∧ mP σ 0 3 = some 2512 ∧ mP σ 0 4 = some 3767) ∧
  (mK σ 3767 = (21, 260) ∧ mK σ 3778 = (21, 260)) ∧
  (K2M σ) ∧
  (3799 ≤ mZ σ)
theorem Stt.lt {σ : Mem} (self : Stt σ) : LT σ := self.1
theorem Stt.lt2 {σ : Mem} (self : Stt σ) : LT2 σ := self.2.1
theorem Stt.lp {σ : Mem} (self : Stt σ) : LPt σ := self.2.2.1
theorem Stt.lz {σ : Mem} (self : Stt σ) : LZ σ := self.2.2.2.1
theorem Stt.ly {σ : Mem} (self : Stt σ) : LyC 2 σ ∧ LyC 1257 σ ∧ LyC 2512 σ := self.2.2.2.2.1
theorem Stt.p0 {σ : Mem} (self : Stt σ) : mP σ 0 1 = some 2 ∧ mP σ 0 2 = some 1257 ∧ mP σ 0 3 = some 2512 ∧ mP σ 0 4 = some 3767 := self.2.2.2.2.2.1
theorem Stt.kt {σ : Mem} (self : Stt σ) : mK σ 3767 = (21, 260) ∧ mK σ 3778 = (21, 260) := self.2.2.2.2.2.2.1
theorem Stt.k2 {σ : Mem} (self : Stt σ) : K2M σ := self.2.2.2.2.2.2.2.1
theorem Stt.zz {σ : Mem} (self : Stt σ) : 3799 ≤ mZ σ := self.2.2.2.2.2.2.2.2
theorem Stt.to {σ σ' : Mem} (h : Stt σ) (e : σ'.2 = σ.2) : Stt σ' := by
  obtain ⟨I, X⟩ := σ
  obtain ⟨I', X'⟩ := σ'
  have e : X' = X := e
  subst e
  exact h
/-- TermLog is seen as h (and kept k), its text l, t bytes fed, b whether it kept, its tape T -/
def LSd (σ : Mem) (h k : Row) (l : List Cls) (t b : Int) (T : Nat → Int32) : Prop :=
  (CLv 2 h σ) ∧
  (∃ k1, CLv 1257 k1 σ) ∧
  (CLv 2512 k σ) ∧
  (TxtL σ l) ∧
  (mI σ 0 6 = iI t) ∧
  (mI σ 0 7 = iI b) ∧
  (∀ j, mI σ 3767 j = T j)
theorem LSd.c {σ : Mem} {h k : Row} {l : List Cls} {t b : Int} {T : Nat → Int32} (self : LSd σ h k l t b T) : CLv 2 h σ := self.1
theorem LSd.c1 {σ : Mem} {h k : Row} {l : List Cls} {t b : Int} {T : Nat → Int32} (self : LSd σ h k l t b T) : ∃ k1, CLv 1257 k1 σ := self.2.1
theorem LSd.c2 {σ : Mem} {h k : Row} {l : List Cls} {t b : Int} {T : Nat → Int32} (self : LSd σ h k l t b T) : CLv 2512 k σ := self.2.2.1
theorem LSd.tx {σ : Mem} {h k : Row} {l : List Cls} {t b : Int} {T : Nat → Int32} (self : LSd σ h k l t b T) : TxtL σ l := self.2.2.2.1
theorem LSd.w6 {σ : Mem} {h k : Row} {l : List Cls} {t b : Int} {T : Nat → Int32} (self : LSd σ h k l t b T) : mI σ 0 6 = iI t := self.2.2.2.2.1
theorem LSd.w7 {σ : Mem} {h k : Row} {l : List Cls} {t b : Int} {T : Nat → Int32} (self : LSd σ h k l t b T) : mI σ 0 7 = iI b := self.2.2.2.2.2.1
theorem LSd.tp {σ : Mem} {h k : Row} {l : List Cls} {t b : Int} {T : Nat → Int32} (self : LSd σ h k l t b T) : ∀ j, mI σ 3767 j = T j := self.2.2.2.2.2.2
def TSd (σ : Mem) (g gk : Row) (l : List Cls) (t b : Int) (T : Nat → Int32) : Prop :=
  (TWv g σ) ∧
  (b = 1 → ∀ j : Nat, j < 11138 → mI σ 3775 j = iI (gk j)) ∧
  (TxtT σ l) ∧
  (mI σ 3772 6 = iI t) ∧
  (mI σ 3772 44 = iI b) ∧
  (∀ j, mI σ 3778 j = T j)
theorem TSd.c {σ : Mem} {g gk : Row} {l : List Cls} {t b : Int} {T : Nat → Int32} (self : TSd σ g gk l t b T) : TWv g σ := self.1
theorem TSd.k {σ : Mem} {g gk : Row} {l : List Cls} {t b : Int} {T : Nat → Int32} (self : TSd σ g gk l t b T) : b = 1 → ∀ j : Nat, j < 11138 → mI σ 3775 j = iI (gk j) := self.2.1
theorem TSd.tx {σ : Mem} {g gk : Row} {l : List Cls} {t b : Int} {T : Nat → Int32} (self : TSd σ g gk l t b T) : TxtT σ l := self.2.2.1
theorem TSd.w6 {σ : Mem} {g gk : Row} {l : List Cls} {t b : Int} {T : Nat → Int32} (self : TSd σ g gk l t b T) : mI σ 3772 6 = iI t := self.2.2.2.1
theorem TSd.w44 {σ : Mem} {g gk : Row} {l : List Cls} {t b : Int} {T : Nat → Int32} (self : TSd σ g gk l t b T) : mI σ 3772 44 = iI b := self.2.2.2.2.1
theorem TSd.tp {σ : Mem} {g gk : Row} {l : List Cls} {t b : Int} {T : Nat → Int32} (self : TSd σ g gk l t b T) : ∀ j, mI σ 3778 j = T j := self.2.2.2.2.2
section
variable {σ σ' : Mem} {h k g gk : Row} {l : List Cls} {t b : Int} {T : Nat → Int32}
abbrev smC (σ σ' : Mem) (b : Nat) : Prop := mK σ' b = mK σ b ∧ (∀ j, mI σ' b j = mI σ b j) ∧ ∀ j, mP σ' b j = mP σ b j
/-- TermLog's cells as they were -/
theorem LSd.to (L : LSd σ h k l t b T) (k2 : K2M σ') (hz : mZ σ ≤ mZ σ') (z0 : 3799 ≤ mZ σ) (e : ∀ b, (b < 3772 ∨ 3799 ≤ b) → b < mZ σ → b ≠ 1 → (b = 0 → mP σ' 0 5 = mP σ 0 5 ∧ mI σ' 0 6 = mI σ 0 6 ∧ mI σ' 0 7 = mI σ 0 7) ∧ (b ≠ 0 → smC σ σ' b)) : LSd σ' h k l t b T := by
  have i : ∀ a j, 2 ≤ a → a < 3772 → mI σ' a j = mI σ a j := fun a j h1 h2 => ((e a (Or.inl h2) (by omega) (by omega)).2 (by omega)).2.1 j
  have z := (e 0 (by omega) (by omega) (by omega)).1 rfl
  refine ⟨L.c.to (fun a j h1 h2 => i a j (by omega) (by omega)), ?_, L.c2.to (fun a j h1 h2 => i a j (by omega) (by omega)), L.tx.up k2 z.1 hz (fun b hb h9 => (e b (by omega) h9 (by omega)).2 (by omega)), z.2.1.trans L.w6, z.2.2.trans L.w7, fun j => (i 3767 j (by omega) (by omega)).trans (L.tp j)⟩
  obtain ⟨k1, v⟩ := L.c1
  exact ⟨k1, v.to (fun a j h1 h2 => i a j (by omega) (by omega))⟩
/-- the twin's text as it was -/
theorem TxtT.to (t : TxtT σ l) (h72 : mI σ' 3772 15 = mI σ 3772 15 ∧ ∀ j, mP σ' 3772 j = mP σ 3772 j) (e : ∀ b, 3785 ≤ b → b ≤ 3789 → smC σ σ' b) : TxtT σ' l := by
  obtain ⟨⟨p1, p2, p3, p4, k1, k2, k3, k4⟩, a15, l16, c, ⟨c1, c2, c3, c4⟩, cl⟩ := t
  have eK := fun b h1 h2 => (e b h1 h2).1
  have eI := fun b h1 h2 => (e b h1 h2).2.1
  have eP := h72.2
  refine ⟨⟨by rw [eP]; exact p1, by rw [eP]; exact p2, by rw [eP]; exact p3, by rw [eP]; exact p4, by rw [eK _ (by omega) (by omega)]; exact k1, by rw [eK _ (by omega) (by omega)]; exact k2, by rw [eK _ (by omega) (by omega)]; exact k3, by rw [eK _ (by omega) (by omega)]; exact k4⟩, by rw [h72.1]; exact a15, l16, c, ⟨by rw [eP]; exact c1, by rw [eK _ (by omega) (by omega)]; exact c2, fun k hk => by rw [eI _ (by omega) (by omega)]; exact c3 k hk, c4⟩, fun i hi => ?_⟩
  obtain ⟨fr, hf, to, a1, a2, a3, a4, r⟩ := cl i hi
  exact ⟨fr, hf, to, by rw [eI _ (by omega) (by omega)]; exact a1, by rw [eI _ (by omega) (by omega)]; exact a2, by rw [eI _ (by omega) (by omega)]; exact a3, by rw [eI _ (by omega) (by omega)]; exact a4, r⟩
theorem TSd.to (W : TSd σ g gk l t b T) (e : ∀ b, 3772 ≤ b → b < 3799 → smC σ σ' b) : TSd σ' g gk l t b T := by
  have i : ∀ a j, 3772 ≤ a → a < 3799 → mI σ' a j = mI σ a j := fun a j h1 h2 => (e a h1 h2).2.1 j
  refine ⟨W.c.to (fun a j q => i a j (by unfold twP at q; omega) (by unfold twP at q; omega)), fun hb j hj => (i _ _ (by omega) (by omega)).trans (W.k hb j hj), W.tx.to ⟨i _ _ (by omega) (by omega), (e 3772 (by omega) (by omega)).2.2⟩ (fun b h1 h2 => e b (by omega) (by omega)), (i _ _ (by omega) (by omega)).trans W.w6, (i _ _ (by omega) (by omega)).trans W.w44, fun j => (i _ _ (by omega) (by omega)).trans (W.tp j)⟩
/-- what an act may touch -/
abbrev tch (a j : Nat) : Prop := a = 1 ∨ (2 ≤ a ∧ a < 1257) ∨ (a = 0 ∧ j = 8) ∨ twP a j
theorem chg_sm {P : Nat → Nat → Prop} (c : Chg σ σ' P) {b : Nat} (h : ∀ j, ¬ P b j) : smC σ σ' b := ⟨mK_2 c.1 b, fun j => c.2 b j (h j), fun j => mP_2 c.1 b j⟩
/-- TermLog's part changes by itself -/
theorem LSd.act {h' C Hd Mo : Row} {N : Mem} (S : Stt σ) (L : LSd σ h k l t b T) (e : σ' = tl 2 h' C Hd Mo N) (c : Chg σ σ' (fun a j => a = 1 ∨ (2 ≤ a ∧ a < 1257) ∨ (a = 0 ∧ j = 8))) : LSd σ' h' k l t b T := by
  have i : ∀ a j, 1257 ≤ a → mI σ' a j = mI σ a j := fun a j h1 => c.2 a j (by omega)
  have K2' : K2M σ' := (S.to c.1).k2
  have mZe : mZ σ' = mZ σ := by show σ'.2.2.2.1 = σ.2.2.2.1; rw [c.1]
  refine ⟨CLv.of (by omega) e, ?_, L.c2.to (fun a j h1 h2 => i a j (by omega)), L.tx.up K2' (mP_2 c.1 0 5) (by omega) (fun b hb h9 => chg_sm c (fun j => by omega)), (c.2 0 6 (by omega)).trans L.w6, (c.2 0 7 (by omega)).trans L.w7, fun j => (i 3767 j (by omega)).trans (L.tp j)⟩
  obtain ⟨k1, v⟩ := L.c1
  exact ⟨k1, v.to (fun a j h1 h2 => i a j (by omega))⟩
theorem TSd.act {g' mi mn F : Row} {S : Nat → Int32} {N : Mem} (W : TSd σ g gk l t b T) (hm : clip mi = mi) (e : σ' = tw g' mi mn F S N) (c : Chg σ σ' twP) : TSd σ' g' gk l t b T :=
  ⟨TWv.of hm e, fun hb j hj => (c.2 3775 j (by unfold twP; omega)).trans (W.k hb j hj), W.tx.to ⟨c.2 3772 15 (by unfold twP; omega), fun j => mP_2 c.1 _ _⟩ (fun b h1 h2 => chg_sm c (fun j => by unfold twP; omega)), (c.2 3772 6 (by unfold twP; omega)).trans W.w6, (c.2 3772 44 (by unfold twP; omega)).trans W.w44, fun j => (c.2 3778 j (by unfold twP; omega)).trans (W.tp j)⟩
theorem TSd.oth (W : TSd σ g gk l t b T) (c : Chg σ σ' (fun a j => a < 3772)) : TSd σ' g gk l t b T := W.to (fun b h1 h2 => chg_sm c (fun j => by omega))
theorem LSd.oth (S : Stt σ) (L : LSd σ h k l t b T) (c : Chg σ σ' (fun a j => 3772 ≤ a ∧ a < 3799)) : LSd σ' h k l t b T := by
  have mZe : mZ σ' = mZ σ := by show σ'.2.2.2.1 = σ.2.2.2.1; rw [c.1]
  have K2' : K2M σ' := (S.to c.1).k2
  exact L.to K2' (by omega) S.zz (fun b hb h9 hn => ⟨fun hz => ⟨mP_2 c.1 _ _, c.2 0 6 (by omega), c.2 0 7 (by omega)⟩, fun hz => chg_sm c (fun j => by omega)⟩)
theorem tl_chg {B : Nat} {h h' C Hd Mo C' Hd' Mo' : Row} {N : Mem} (b2 : 2 ≤ B) : Chg (tl B h C Hd Mo N) (tl B h' C' Hd' Mo' N) (fun a j => a = 1 ∨ (B ≤ a ∧ a < B + 1255)) := ⟨rfl, fun a j q => by
  show tlI B h' C' Hd' Mo' (mI N) a j = tlI B h C Hd Mo (mI N) a j
  rw [tl_out (by omega) (by omega), tl_out (by omega) (by omega)]⟩
theorem tw_chg {g g' mi mn F mi' mn' F' : Row} {S S' : Nat → Int32} {N : Mem} : Chg (tw g mi mn F S N) (tw g' mi' mn' F' S' N) twP := ⟨rfl, fun a j q => by
  show twI g' mi' mn' F' S' (mI N) a j = twI g mi mn F S (mI N) a j
  rw [tw_no q, tw_no q]⟩
theorem sh_txt (S : Stt σ) (L : LSd σ h k l t b T) {B : Nat} {s : Int32} (hB : B < 3768) : TxtL (shM σ B s) l := L.tx.up S.k2 rfl (Nat.le_refl _) (fun b hb h9 => ⟨rfl, fun j => if_neg (by omega), fun _ => rfl⟩)
/-- an act of both sides -/
theorem act_w {g' : Row} {v : Int32} {f0 f8 : Mem → Option (Int32 × Mem)} (S : Stt σ) (L : LSd σ h k l t b T) (W : TSd σ g gk l t b T)
    (hL : ∀ (N : Mem) (C Hd Mo : Row), LyC 2 N → mP N 0 1 = some 2 → LawL N (lawOf l) → ∃ h' C' Hd' Mo', f0 (tl 2 h C Hd Mo N) = some (v, tl 2 h' C' Hd' Mo' N) ∧ Rel h' g')
    (hT : ∀ (N : Mem) (mi mn F : Row) (S : Nat → Int32), LT N → LawT N (lawOf l) → clip mi = mi → ∃ mi' mn' F' S', clip mi' = mi' ∧ f8 (tw g mi mn F S N) = some (v, tw g' mi' mn' F' S' N)) :
    ∃ σ1 σ2 h', f0 σ = some (v, σ1) ∧ cV σ1 (some 3772) 6 (f8 σ1) = some (v, σ2) ∧ Chg σ σ2 tch ∧ Rel h' g' ∧ LSd σ2 h' k l t b T ∧ TSd σ2 g' gk l t b T := by
  obtain ⟨C, Hd, Mo, s, e⟩ := L.c.rep (by omega)
  obtain ⟨h', C', Hd', Mo', x1, r1⟩ := hL (shM σ 2 s) C Hd Mo S.ly.1 S.p0.1 (sh_txt S L (by omega)).law
  rw [← e] at x1
  obtain ⟨σ1, hσ1⟩ : ∃ σ1, σ1 = tl 2 h' C' Hd' Mo' (shM σ 2 s) := ⟨_, rfl⟩
  rw [← hσ1] at x1
  have c1 : Chg σ σ1 (fun a j => a = 1 ∨ (2 ≤ a ∧ a < 1257)) := by
    have q := tl_chg (B := 2) (h := h) (h' := h') (C := C) (Hd := Hd) (Mo := Mo) (C' := C') (Hd' := Hd') (Mo' := Mo') (N := shM σ 2 s) (by omega)
    rw [← e, ← hσ1] at q
    exact q.wk (fun a j z => by omega)
  have L1 := L.act S hσ1 (c1.wk (fun a j z => by omega))
  have W1 := W.oth (c1.wk (fun a j z => by omega))
  have S1 := S.to c1.1
  obtain ⟨mi, mn, F, S0, hm, e2⟩ := W1.c
  obtain ⟨mi', mn', F', S', hm', x2⟩ := hT σ1 mi mn F S0 S1.lt (W1.tx.law S1.lt) hm
  rw [← e2] at x2
  obtain ⟨σ2, hσ2⟩ : ∃ σ2, σ2 = tw g' mi' mn' F' S' σ1 := ⟨_, rfl⟩
  rw [← hσ2] at x2
  have c2 : Chg σ1 σ2 twP := by
    have q := tw_chg (g := g) (g' := g') (mi := mi) (mn := mn) (F := F) (S := S0) (mi' := mi') (mn' := mn') (F' := F') (S' := S') (N := σ1)
    rw [← e2, ← hσ2] at q
    exact q
  refine ⟨σ1, σ2, h', x1, (cV_y S1.lt.1.1).trans x2, (c1.wk (fun a j z => ?_)).thn (c2.wk (fun a j z => ?_)), r1, L1.oth S1 (c2.wk (fun a j z => ?_)), W1.act hm' hσ2 c2⟩
  · unfold tch; omega
  · unfold tch; exact Or.inr (Or.inr (Or.inr z))
  · unfold twP at z; omega
end
