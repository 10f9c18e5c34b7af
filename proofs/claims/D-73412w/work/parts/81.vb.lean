/-! DEPS: va -/
/-! VB: reading and writing the memory of a cluster (printed by src/genvb.py) -/
/-- how a place's worth lies in memory: who led is less by one -/
def valT (p v : Int) : Int := if 10028 ≤ p ∧ p < 11028 then v - 1 else v
def tlI (B : Nat) (h C Hd Mo : Row) (I : Nat → Nat → Int32) : Nat → Nat → Int32 := fun a j =>
  if a = 1 then iI (Mo j) else if a < B then I a j else match plc (a - B) j with
    | some p => if p = 11138 then iI (h p) + I B 13 else iI (valT p (h p))
    | none => if a = B + 1183 then iI (C j) else if a = B + 1184 then iI (Hd j) else I a j
def tl (B : Nat) (h C Hd Mo : Row) (M : Mem) : Mem := (tlI B h C Hd Mo (mI M), M.2)
/-- a node's cell -/
def ndA (B : Nat) (n : Int) : Nat := B + 1185 + 10 * n.toNat
/-- where a cluster's things lie -/
def LyC (B : Nat) (M : Mem) : Prop :=
  (2 ≤ B) ∧
  ((mK M 0).1 = 0 ∧ mP M 0 0 = some 1 ∧ (mK M 1).1 = 1) ∧
  ((mK M B).1 = 2 ∧ mP M B 0 = some (B + 1) ∧ mP M B 1 = some (B + 2) ∧ mP M B 2 = some (B + 163) ∧ mP M B 3 = some (B + 1164) ∧ mP M B 4 = some (B + 1181) ∧ mP M B 5 = some (B + 1182) ∧ mP M B 6 = some (B + 1183) ∧ mP M B 15 = some (B + 1184) ∧ mP M B 16 = some 0) ∧
  (mK M (B + 1) = (23, 7) ∧ ∀ k : Nat, k < 7 → mP M (B + 1) k = some (B + 1185 + 10 * k)) ∧
  (mK M (B + 2) = (22, 160) ∧ ∀ k : Nat, k < 160 → mP M (B + 2) k = some (B + 3 + k) ∧ mK M (B + 3 + k) = (20, 32)) ∧
  (mK M (B + 163) = (22, 1000) ∧ ∀ k : Nat, k < 1000 → mP M (B + 163) k = some (B + 164 + k) ∧ mK M (B + 164 + k) = (20, 4)) ∧
  (mK M (B + 1164) = (22, 16) ∧ ∀ k : Nat, k < 16 → mP M (B + 1164) k = some (B + 1165 + k) ∧ mK M (B + 1165 + k) = (20, 6)) ∧
  (mK M (B + 1181) = (20, 7) ∧ mK M (B + 1182) = (20, 1000) ∧ mK M (B + 1183) = (20, 32) ∧ mK M (B + 1184) = (20, 32)) ∧
  (∀ k : Nat, k < 7 → (mK M (B + 1185 + 10 * k)).1 = 3 ∧ ∀ w : Nat, w < 9 → mP M (B + 1185 + 10 * k) w = some (B + 1185 + 10 * k + (w + 1)) ∧ mK M (B + 1185 + 10 * k + (w + 1)) = (20, (fmA (w + 1)).1))
theorem LyC.b2 {B : Nat} {M : Mem} (self : LyC B M) : 2 ≤ B := self.1
theorem LyC.k0 {B : Nat} {M : Mem} (self : LyC B M) : (mK M 0).1 = 0 ∧ mP M 0 0 = some 1 ∧ (mK M 1).1 = 1 := self.2.1
theorem LyC.kB {B : Nat} {M : Mem} (self : LyC B M) : (mK M B).1 = 2 ∧ mP M B 0 = some (B + 1) ∧ mP M B 1 = some (B + 2) ∧ mP M B 2 = some (B + 163) ∧ mP M B 3 = some (B + 1164) ∧ mP M B 4 = some (B + 1181) ∧ mP M B 5 = some (B + 1182) ∧ mP M B 6 = some (B + 1183) ∧ mP M B 15 = some (B + 1184) ∧ mP M B 16 = some 0 := self.2.2.1
theorem LyC.kn {B : Nat} {M : Mem} (self : LyC B M) : mK M (B + 1) = (23, 7) ∧ ∀ k : Nat, k < 7 → mP M (B + 1) k = some (B + 1185 + 10 * k) := self.2.2.2.1
theorem LyC.ks {B : Nat} {M : Mem} (self : LyC B M) : mK M (B + 2) = (22, 160) ∧ ∀ k : Nat, k < 160 → mP M (B + 2) k = some (B + 3 + k) ∧ mK M (B + 3 + k) = (20, 32) := self.2.2.2.2.1
theorem LyC.kh {B : Nat} {M : Mem} (self : LyC B M) : mK M (B + 163) = (22, 1000) ∧ ∀ k : Nat, k < 1000 → mP M (B + 163) k = some (B + 164 + k) ∧ mK M (B + 164 + k) = (20, 4) := self.2.2.2.2.2.1
theorem LyC.kr {B : Nat} {M : Mem} (self : LyC B M) : mK M (B + 1164) = (22, 16) ∧ ∀ k : Nat, k < 16 → mP M (B + 1164) k = some (B + 1165 + k) ∧ mK M (B + 1165 + k) = (20, 6) := self.2.2.2.2.2.2.1
theorem LyC.kc {B : Nat} {M : Mem} (self : LyC B M) : mK M (B + 1181) = (20, 7) ∧ mK M (B + 1182) = (20, 1000) ∧ mK M (B + 1183) = (20, 32) ∧ mK M (B + 1184) = (20, 32) := self.2.2.2.2.2.2.2.1
theorem LyC.kd {B : Nat} {M : Mem} (self : LyC B M) : ∀ k : Nat, k < 7 → (mK M (B + 1185 + 10 * k)).1 = 3 ∧ ∀ w : Nat, w < 9 → mP M (B + 1185 + 10 * k) w = some (B + 1185 + 10 * k + (w + 1)) ∧ mK M (B + 1185 + 10 * k + (w + 1)) = (20, (fmA (w + 1)).1) := self.2.2.2.2.2.2.2.2
section
variable {β : Type} {B : Nat} {h C Hd Mo : Row} {M : Mem}
theorem tl_atA {a j : Nat} {p : Int} (b2 : 2 ≤ B) (hp : plc a j = some p) : tlI B h C Hd Mo (mI M) (B + a) j = if p = 11138 then iI (h p) + mI M B 13 else iI (valT p (h p)) := by
  unfold tlI
  rw [if_neg (by omega), if_neg (by omega), show B + a - B = a by omega, hp]
theorem tl_at {a j : Nat} {p : Int} (b2 : 2 ≤ B) (hp : plc a j = some p) (hn : ¬ p = 11138) : tlI B h C Hd Mo (mI M) (B + a) j = iI (valT p (h p)) := by
  rw [tl_atA b2 hp, if_neg hn]
/-- how many are held now lies with a hidden share of M's own word -/
theorem tl_at38 (b2 : 2 ≤ B) : tlI B h C Hd Mo (mI M) B 13 = iI (h 11138) + mI M B 13 := by
  unfold tlI
  rw [if_neg (by omega), if_neg (by omega), show B - B = 0 by omega]
  exact if_pos rfl
theorem tl_stA {a j : Nat} {p v : Int} (b2 : 2 ≤ B) (hp : plc a j = some p) : up2 (tlI B h C Hd Mo (mI M)) (B + a) j (if p = 11138 then iI v + mI M B 13 else iI (valT p v)) = tlI B (st h p v) C Hd Mo (mI M) := by
  funext b k
  unfold up2
  by_cases c : b = B + a ∧ k = j
  · rw [if_pos c, c.1, c.2]
    rw [tl_atA (h := st h p v) b2 hp, st_eq]
  · rw [if_neg c]
    unfold tlI
    by_cases c1 : b = 1
    · rw [if_pos c1, if_pos c1]
    · rw [if_neg c1, if_neg c1]
      by_cases c2 : b < B
      · rw [if_pos c2, if_pos c2]
      · rw [if_neg c2, if_neg c2]
        cases e : plc (b - B) k with
        | none => rfl
        | some q =>
          have : q ≠ p := by
            intro hq
            subst hq
            have := plc_inj e hp
            exact c ⟨by omega, this.2⟩
          show (if q = 11138 then iI (h q) + mI M B 13 else iI (valT q (h q))) = if q = 11138 then iI (st h p v q) + mI M B 13 else iI (valT q (st h p v q))
          rw [st_ne this]
/-- a place is written -/
theorem tl_st {a j : Nat} {p v : Int} (b2 : 2 ≤ B) (hp : plc a j = some p) (hn : ¬ p = 11138) : up2 (tlI B h C Hd Mo (mI M)) (B + a) j (iI (valT p v)) = tlI B (st h p v) C Hd Mo (mI M) := by
  have := tl_stA (B := B) (h := h) (C := C) (Hd := Hd) (Mo := Mo) (M := M) (v := v) b2 hp
  rw [if_neg hn] at this
  exact this
theorem sh_add {s : Int32} {a b : Int} : iI a + s + iI b = iI (a + b) + s := by
  rw [Int32.add_assoc, Int32.add_comm s, ← Int32.add_assoc, iv_add]
theorem sh_z {s : Int32} {a : Int} (hs : s = 0) : iI a + s = iI a := by
  rw [hs, Int32.add_zero]
theorem sh_addM {a b : Int} : iI a + mI M B 13 + iI b = iI (a + b) + mI M B 13 := sh_add
theorem sh_zM {a : Int} (hs : mI M B 13 = 0) : iI a + mI M B 13 = iI a := sh_z hs
theorem valT_o {p v : Int} (h : p < 10028 ∨ 11028 ≤ p) : valT p v = v := if_neg (by omega)
theorem valT_l {p v : Int} (h0 : 10028 ≤ p) (h1 : p < 11028) : valT p v = v - 1 := if_pos ⟨h0, h1⟩
theorem cV_cl (hL : LyC B M) {f : Option β} : cV (tl B h C Hd Mo M) (some B) 2 f = f := if_pos hL.kB.1
theorem cV_nd (hL : LyC B M) {n : Int} (n0 : 0 ≤ n) (n1 : n < 7) {f : Option β} : cV (tl B h C Hd Mo M) (some (ndA B n)) 3 f = f := if_pos (hL.kd n.toNat (by omega)).1
theorem cV_mo (hL : LyC B M) {f : Option β} : cV (tl B h C Hd Mo M) (some 1) 1 f = f := if_pos hL.k0.2.2
theorem cV_lt (hL : LyC B M) {f : Option β} : cV (tl B h C Hd Mo M) (some 0) 0 f = f := if_pos hL.k0.1
theorem gR_t0 (hL : LyC B M) {f : Option Nat → Option β} : gR (tl B h C Hd Mo M) (some 0) 0 0 f = f (some 1) := (if_pos hL.k0.1).trans (congrArg f hL.k0.2.1)
theorem aR_nd (hL : LyC B M) {n : Int} (n0 : 0 ≤ n) (n1 : n < 7) {f : Option Nat → Option β} : aR (tl B h C Hd Mo M) (some (B + 1)) 23 (iI n) f = f (some (ndA B n)) := by
  show (if (mK M (B + 1)).1 = 23 ∧ inR (iI n) (mK M (B + 1)).2 then f (mP M (B + 1) (ix (iI n))) else none) = _
  rw [hL.kn.1, if_pos ⟨rfl, by rw [iv_in (by omega) (by omega)]; exact ⟨n0, by show n < 7; omega⟩⟩, iv_ix n0 (by omega), hL.kn.2 _ (by omega)]
  rfl
theorem gR_c0 (hL : LyC B M) {f : Option Nat → Option β} : gR (tl B h C Hd Mo M) (some B) 2 0 f = f (some (B + 1)) := (if_pos hL.kB.1).trans (congrArg f hL.kB.2.1)
theorem gR_c1 (hL : LyC B M) {f : Option Nat → Option β} : gR (tl B h C Hd Mo M) (some B) 2 1 f = f (some (B + 2)) := (if_pos hL.kB.1).trans (congrArg f hL.kB.2.2.1)
theorem gR_c2 (hL : LyC B M) {f : Option Nat → Option β} : gR (tl B h C Hd Mo M) (some B) 2 2 f = f (some (B + 163)) := (if_pos hL.kB.1).trans (congrArg f hL.kB.2.2.2.1)
theorem gR_c3 (hL : LyC B M) {f : Option Nat → Option β} : gR (tl B h C Hd Mo M) (some B) 2 3 f = f (some (B + 1164)) := (if_pos hL.kB.1).trans (congrArg f hL.kB.2.2.2.2.1)
theorem gR_c4 (hL : LyC B M) {f : Option Nat → Option β} : gR (tl B h C Hd Mo M) (some B) 2 4 f = f (some (B + 1181)) := (if_pos hL.kB.1).trans (congrArg f hL.kB.2.2.2.2.2.1)
theorem gR_c5 (hL : LyC B M) {f : Option Nat → Option β} : gR (tl B h C Hd Mo M) (some B) 2 5 f = f (some (B + 1182)) := (if_pos hL.kB.1).trans (congrArg f hL.kB.2.2.2.2.2.2.1)
theorem gR_c6 (hL : LyC B M) {f : Option Nat → Option β} : gR (tl B h C Hd Mo M) (some B) 2 6 f = f (some (B + 1183)) := (if_pos hL.kB.1).trans (congrArg f hL.kB.2.2.2.2.2.2.2.1)
theorem gR_c15 (hL : LyC B M) {f : Option Nat → Option β} : gR (tl B h C Hd Mo M) (some B) 2 15 f = f (some (B + 1184)) := (if_pos hL.kB.1).trans (congrArg f hL.kB.2.2.2.2.2.2.2.2.1)
theorem gR_c16 (hL : LyC B M) {f : Option Nat → Option β} : gR (tl B h C Hd Mo M) (some B) 2 16 f = f (some (0)) := (if_pos hL.kB.1).trans (congrArg f hL.kB.2.2.2.2.2.2.2.2.2)
theorem gI_c13 (hL : LyC B M) {f : Int32 → Option β} : gI (tl B h C Hd Mo M) (some B) 2 13 f = f (iI (h 11138) + mI M B 13) := (if_pos hL.kB.1).trans (congrArg f (tl_at38 hL.b2))
theorem pI_c13 (hL : LyC B M) {v : Int} {f : Mem → Option β} : pI (tl B h C Hd Mo M) (some B) 2 13 (iI v + mI M B 13) f = f (tl B (st h 11138 v) C Hd Mo M) := by
  refine (if_pos hL.kB.1).trans (congrArg f (Prod.ext ?_ rfl))
  exact tl_stA (B := B) (h := h) (C := C) (Hd := Hd) (Mo := Mo) (M := M) (a := 0) (j := 13) (p := 11138) (v := v) hL.b2 rfl
theorem pI_c13z (hL : LyC B M) (hs : mI M B 13 = 0) {v : Int} {f : Mem → Option β} : pI (tl B h C Hd Mo M) (some B) 2 13 (iI v) f = f (tl B (st h 11138 v) C Hd Mo M) := by
  have := pI_c13 (h := h) (C := C) (Hd := Hd) (Mo := Mo) hL (v := v) (f := f)
  rw [hs, Int32.add_zero] at this
  exact this
theorem gI_c13z (hL : LyC B M) (hs : mI M B 13 = 0) {f : Int32 → Option β} : gI (tl B h C Hd Mo M) (some B) 2 13 f = f (iI (h 11138)) := by
  rw [gI_c13 hL, hs, Int32.add_zero]
theorem gI_c7 (hL : LyC B M) {f : Int32 → Option β} : gI (tl B h C Hd Mo M) (some B) 2 7 f = f (iI (h 11133)) := (if_pos hL.kB.1).trans (congrArg f ((tl_at (a := 0) hL.b2 rfl (by omega)).trans (congrArg iI (valT_o (by omega)))))
theorem pI_c7 (hL : LyC B M) {v : Int} {f : Mem → Option β} : pI (tl B h C Hd Mo M) (some B) 2 7 (iI v) f = f (tl B (st h 11133 v) C Hd Mo M) := by
  refine (if_pos hL.kB.1).trans (congrArg f (Prod.ext ?_ rfl))
  have := tl_st (B := B) (h := h) (C := C) (Hd := Hd) (Mo := Mo) (M := M) (a := 0) (j := 7) (p := 11133) (v := v) hL.b2 rfl (by omega)
  rw [valT_o (by omega)] at this
  exact this
theorem gI_c8 (hL : LyC B M) {f : Int32 → Option β} : gI (tl B h C Hd Mo M) (some B) 2 8 f = f (iI (h 11131)) := (if_pos hL.kB.1).trans (congrArg f ((tl_at (a := 0) hL.b2 rfl (by omega)).trans (congrArg iI (valT_o (by omega)))))
theorem pI_c8 (hL : LyC B M) {v : Int} {f : Mem → Option β} : pI (tl B h C Hd Mo M) (some B) 2 8 (iI v) f = f (tl B (st h 11131 v) C Hd Mo M) := by
  refine (if_pos hL.kB.1).trans (congrArg f (Prod.ext ?_ rfl))
  have := tl_st (B := B) (h := h) (C := C) (Hd := Hd) (Mo := Mo) (M := M) (a := 0) (j := 8) (p := 11131) (v := v) hL.b2 rfl (by omega)
  rw [valT_o (by omega)] at this
  exact this
theorem gI_c9 (hL : LyC B M) {f : Int32 → Option β} : gI (tl B h C Hd Mo M) (some B) 2 9 f = f (iI (h 11132)) := (if_pos hL.kB.1).trans (congrArg f ((tl_at (a := 0) hL.b2 rfl (by omega)).trans (congrArg iI (valT_o (by omega)))))
theorem pI_c9 (hL : LyC B M) {v : Int} {f : Mem → Option β} : pI (tl B h C Hd Mo M) (some B) 2 9 (iI v) f = f (tl B (st h 11132 v) C Hd Mo M) := by
  refine (if_pos hL.kB.1).trans (congrArg f (Prod.ext ?_ rfl))
  have := tl_st (B := B) (h := h) (C := C) (Hd := Hd) (Mo := Mo) (M := M) (a := 0) (j := 9) (p := 11132) (v := v) hL.b2 rfl (by omega)
  rw [valT_o (by omega)] at this
  exact this
theorem gI_c10 (hL : LyC B M) {f : Int32 → Option β} : gI (tl B h C Hd Mo M) (some B) 2 10 f = f (iI (h 11136)) := (if_pos hL.kB.1).trans (congrArg f ((tl_at (a := 0) hL.b2 rfl (by omega)).trans (congrArg iI (valT_o (by omega)))))
theorem pI_c10 (hL : LyC B M) {v : Int} {f : Mem → Option β} : pI (tl B h C Hd Mo M) (some B) 2 10 (iI v) f = f (tl B (st h 11136 v) C Hd Mo M) := by
  refine (if_pos hL.kB.1).trans (congrArg f (Prod.ext ?_ rfl))
  have := tl_st (B := B) (h := h) (C := C) (Hd := Hd) (Mo := Mo) (M := M) (a := 0) (j := 10) (p := 11136) (v := v) hL.b2 rfl (by omega)
  rw [valT_o (by omega)] at this
  exact this
theorem gI_c11 (hL : LyC B M) {f : Int32 → Option β} : gI (tl B h C Hd Mo M) (some B) 2 11 f = f (iI (h 11137)) := (if_pos hL.kB.1).trans (congrArg f ((tl_at (a := 0) hL.b2 rfl (by omega)).trans (congrArg iI (valT_o (by omega)))))
theorem pI_c11 (hL : LyC B M) {v : Int} {f : Mem → Option β} : pI (tl B h C Hd Mo M) (some B) 2 11 (iI v) f = f (tl B (st h 11137 v) C Hd Mo M) := by
  refine (if_pos hL.kB.1).trans (congrArg f (Prod.ext ?_ rfl))
  have := tl_st (B := B) (h := h) (C := C) (Hd := Hd) (Mo := Mo) (M := M) (a := 0) (j := 11) (p := 11137) (v := v) hL.b2 rfl (by omega)
  rw [valT_o (by omega)] at this
  exact this
theorem gI_c12 (hL : LyC B M) {f : Int32 → Option β} : gI (tl B h C Hd Mo M) (some B) 2 12 f = f (iI (h 11134)) := (if_pos hL.kB.1).trans (congrArg f ((tl_at (a := 0) hL.b2 rfl (by omega)).trans (congrArg iI (valT_o (by omega)))))
theorem pI_c12 (hL : LyC B M) {v : Int} {f : Mem → Option β} : pI (tl B h C Hd Mo M) (some B) 2 12 (iI v) f = f (tl B (st h 11134 v) C Hd Mo M) := by
  refine (if_pos hL.kB.1).trans (congrArg f (Prod.ext ?_ rfl))
  have := tl_st (B := B) (h := h) (C := C) (Hd := Hd) (Mo := Mo) (M := M) (a := 0) (j := 12) (p := 11134) (v := v) hL.b2 rfl (by omega)
  rw [valT_o (by omega)] at this
  exact this
theorem gI_c14 (hL : LyC B M) {f : Int32 → Option β} : gI (tl B h C Hd Mo M) (some B) 2 14 f = f (iI (h 11135)) := (if_pos hL.kB.1).trans (congrArg f ((tl_at (a := 0) hL.b2 rfl (by omega)).trans (congrArg iI (valT_o (by omega)))))
theorem pI_c14 (hL : LyC B M) {v : Int} {f : Mem → Option β} : pI (tl B h C Hd Mo M) (some B) 2 14 (iI v) f = f (tl B (st h 11135 v) C Hd Mo M) := by
  refine (if_pos hL.kB.1).trans (congrArg f (Prod.ext ?_ rfl))
  have := tl_st (B := B) (h := h) (C := C) (Hd := Hd) (Mo := Mo) (M := M) (a := 0) (j := 14) (p := 11135) (v := v) hL.b2 rfl (by omega)
  rw [valT_o (by omega)] at this
  exact this
theorem plc_n {n w : Int} {k : Nat} (n0 : 0 ≤ n) (n1 : n < 7) (hk : fmN k = some w) : plc (1185 + 10 * n.toNat) k = some (244 * n + w) := by
  unfold plc
  rw [if_neg (by omega), if_neg (by omega), if_neg (by omega), if_neg (by omega), if_neg (by omega), if_neg (by omega), if_pos (by omega), if_pos (by omega), hk]
  show some (244 * (((1185 + 10 * n.toNat - 1185) / 10 : Nat) : Int) + w) = _
  congr 2
  omega
theorem plc_a {n : Int} {o k : Nat} (n0 : 0 ≤ n) (n1 : n < 7) (o1 : 1 ≤ o) (o9 : o ≤ 9) (hk : k < (fmA o).1) : plc (1185 + 10 * n.toNat + o) k = some (244 * n + (fmA o).2.1 + (fmA o).2.2 * k) := by
  unfold plc
  have e : (1185 + 10 * n.toNat + o - 1185) % 10 = o := by omega
  rw [if_neg (by omega), if_neg (by omega), if_neg (by omega), if_neg (by omega), if_neg (by omega), if_neg (by omega), if_pos (by omega), if_neg (by omega), e, if_pos hk, show (1185 + 10 * n.toNat + o - 1185) / 10 = n.toNat by omega, Int.toNat_of_nonneg n0]
theorem gN_aux (hL : LyC B M) {n w : Int} {k : Nat} (n0 : 0 ≤ n) (n1 : n < 7) (hk : fmN k = some w) : tlI B h C Hd Mo (mI M) (ndA B n) k = iI (h (244 * n + w)) := by
  have r := fmN_r hk
  have e := tl_at (B := B) (h := h) (C := C) (Hd := Hd) (Mo := Mo) (M := M) hL.b2 (plc_n n0 n1 hk) (by omega)
  rw [valT_o (by omega)] at e
  rw [← e]
  unfold ndA
  rw [show B + 1185 + 10 * n.toNat = B + (1185 + 10 * n.toNat) by omega]
theorem gN (hL : LyC B M) {n w : Int} {k : Nat} (n0 : 0 ≤ n) (n1 : n < 7) (hk : fmN k = some w) {f : Int32 → Option β} : gI (tl B h C Hd Mo M) (some (ndA B n)) 3 k f = f (iI (h (244 * n + w))) := by
  exact (if_pos (hL.kd n.toNat (by omega)).1).trans (congrArg f (gN_aux hL n0 n1 hk))
theorem pN_aux (hL : LyC B M) {n w v : Int} {k : Nat} (n0 : 0 ≤ n) (n1 : n < 7) (hk : fmN k = some w) : (up2 (mI (tl B h C Hd Mo M)) (ndA B n) k (iI v), (tl B h C Hd Mo M).2) = tl B (st h (244 * n + w) v) C Hd Mo M := by
  have r := fmN_r hk
  have e := tl_st (B := B) (h := h) (C := C) (Hd := Hd) (Mo := Mo) (M := M) (v := v) hL.b2 (plc_n n0 n1 hk) (by omega)
  rw [valT_o (by omega)] at e
  have e2 : up2 (tlI B h C Hd Mo (mI M)) (ndA B n) k (iI v) = tlI B (st h (244 * n + w) v) C Hd Mo (mI M) := by
    rw [← e]
    unfold ndA
    rw [show B + 1185 + 10 * n.toNat = B + (1185 + 10 * n.toNat) by omega]
  exact congrArg (fun z => (z, M.2)) e2
theorem pN (hL : LyC B M) {n w v : Int} {k : Nat} (n0 : 0 ≤ n) (n1 : n < 7) (hk : fmN k = some w) {f : Mem → Option β} : pI (tl B h C Hd Mo M) (some (ndA B n)) 3 k (iI v) f = f (tl B (st h (244 * n + w) v) C Hd Mo M) :=
  (if_pos (hL.kd n.toNat (by omega)).1).trans (congrArg f (pN_aux hL n0 n1 hk))
theorem pZN (hL : LyC B M) {n v : Int} (n0 : 0 ≤ n) (n1 : n < 7) (hv : v = 0 ∨ v = 1) {f : Mem → Option β} : pZ (tl B h C Hd Mo M) (some (ndA B n)) 3 23 (iI v) f = f (tl B (st h (244 * n + 0) v) C Hd Mo M) := by
  refine (if_pos ⟨(hL.kd n.toNat (by omega)).1, ?_⟩).trans (congrArg f (pN_aux hL n0 n1 rfl))
  rcases hv with rfl | rfl
  · exact Or.inl rfl
  · exact Or.inr rfl
theorem pZ_0 (hL : LyC B M) {n : Int} (n0 : 0 ≤ n) (n1 : n < 7) {f : Mem → Option β} : pZ (tl B h C Hd Mo M) (some (ndA B n)) 3 23 (iI 0) f = f (tl B (st h (244 * n + 0) 0) C Hd Mo M) := pZN hL n0 n1 (Or.inl rfl)
theorem pZ_1 (hL : LyC B M) {n : Int} (n0 : 0 ≤ n) (n1 : n < 7) {f : Mem → Option β} : pZ (tl B h C Hd Mo M) (some (ndA B n)) 3 23 (iI 1) f = f (tl B (st h (244 * n + 0) 1) C Hd Mo M) := pZN hL n0 n1 (Or.inr rfl)
theorem gN_9 (hL : LyC B M) {n : Int} (n0 : 0 ≤ n) (n1 : n < 7) {f : Int32 → Option β} : gI (tl B h C Hd Mo M) (some (ndA B n)) 3 9 f = f (iI (h (244 * n + 1))) := gN hL n0 n1 rfl
theorem pN_9 (hL : LyC B M) {n v : Int} (n0 : 0 ≤ n) (n1 : n < 7) {f : Mem → Option β} : pI (tl B h C Hd Mo M) (some (ndA B n)) 3 9 (iI v) f = f (tl B (st h (244 * n + 1) v) C Hd Mo M) := pN hL n0 n1 rfl
theorem gN_10 (hL : LyC B M) {n : Int} (n0 : 0 ≤ n) (n1 : n < 7) {f : Int32 → Option β} : gI (tl B h C Hd Mo M) (some (ndA B n)) 3 10 f = f (iI (h (244 * n + 2))) := gN hL n0 n1 rfl
theorem pN_10 (hL : LyC B M) {n v : Int} (n0 : 0 ≤ n) (n1 : n < 7) {f : Mem → Option β} : pI (tl B h C Hd Mo M) (some (ndA B n)) 3 10 (iI v) f = f (tl B (st h (244 * n + 2) v) C Hd Mo M) := pN hL n0 n1 rfl
theorem gN_11 (hL : LyC B M) {n : Int} (n0 : 0 ≤ n) (n1 : n < 7) {f : Int32 → Option β} : gI (tl B h C Hd Mo M) (some (ndA B n)) 3 11 f = f (iI (h (244 * n + 4))) := gN hL n0 n1 rfl
theorem pN_11 (hL : LyC B M) {n v : Int} (n0 : 0 ≤ n) (n1 : n < 7) {f : Mem → Option β} : pI (tl B h C Hd Mo M) (some (ndA B n)) 3 11 (iI v) f = f (tl B (st h (244 * n + 4) v) C Hd Mo M) := pN hL n0 n1 rfl
theorem gN_12 (hL : LyC B M) {n : Int} (n0 : 0 ≤ n) (n1 : n < 7) {f : Int32 → Option β} : gI (tl B h C Hd Mo M) (some (ndA B n)) 3 12 f = f (iI (h (244 * n + 5))) := gN hL n0 n1 rfl
theorem pN_12 (hL : LyC B M) {n v : Int} (n0 : 0 ≤ n) (n1 : n < 7) {f : Mem → Option β} : pI (tl B h C Hd Mo M) (some (ndA B n)) 3 12 (iI v) f = f (tl B (st h (244 * n + 5) v) C Hd Mo M) := pN hL n0 n1 rfl
theorem gN_13 (hL : LyC B M) {n : Int} (n0 : 0 ≤ n) (n1 : n < 7) {f : Int32 → Option β} : gI (tl B h C Hd Mo M) (some (ndA B n)) 3 13 f = f (iI (h (244 * n + 6))) := gN hL n0 n1 rfl
theorem pN_13 (hL : LyC B M) {n v : Int} (n0 : 0 ≤ n) (n1 : n < 7) {f : Mem → Option β} : pI (tl B h C Hd Mo M) (some (ndA B n)) 3 13 (iI v) f = f (tl B (st h (244 * n + 6) v) C Hd Mo M) := pN hL n0 n1 rfl
theorem gN_14 (hL : LyC B M) {n : Int} (n0 : 0 ≤ n) (n1 : n < 7) {f : Int32 → Option β} : gI (tl B h C Hd Mo M) (some (ndA B n)) 3 14 f = f (iI (h (244 * n + 7))) := gN hL n0 n1 rfl
theorem pN_14 (hL : LyC B M) {n v : Int} (n0 : 0 ≤ n) (n1 : n < 7) {f : Mem → Option β} : pI (tl B h C Hd Mo M) (some (ndA B n)) 3 14 (iI v) f = f (tl B (st h (244 * n + 7) v) C Hd Mo M) := pN hL n0 n1 rfl
theorem gN_15 (hL : LyC B M) {n : Int} (n0 : 0 ≤ n) (n1 : n < 7) {f : Int32 → Option β} : gI (tl B h C Hd Mo M) (some (ndA B n)) 3 15 f = f (iI (h (244 * n + 8))) := gN hL n0 n1 rfl
theorem pN_15 (hL : LyC B M) {n v : Int} (n0 : 0 ≤ n) (n1 : n < 7) {f : Mem → Option β} : pI (tl B h C Hd Mo M) (some (ndA B n)) 3 15 (iI v) f = f (tl B (st h (244 * n + 8) v) C Hd Mo M) := pN hL n0 n1 rfl
theorem gN_16 (hL : LyC B M) {n : Int} (n0 : 0 ≤ n) (n1 : n < 7) {f : Int32 → Option β} : gI (tl B h C Hd Mo M) (some (ndA B n)) 3 16 f = f (iI (h (244 * n + 3))) := gN hL n0 n1 rfl
theorem pN_16 (hL : LyC B M) {n v : Int} (n0 : 0 ≤ n) (n1 : n < 7) {f : Mem → Option β} : pI (tl B h C Hd Mo M) (some (ndA B n)) 3 16 (iI v) f = f (tl B (st h (244 * n + 3) v) C Hd Mo M) := pN hL n0 n1 rfl
theorem gN_17 (hL : LyC B M) {n : Int} (n0 : 0 ≤ n) (n1 : n < 7) {f : Int32 → Option β} : gI (tl B h C Hd Mo M) (some (ndA B n)) 3 17 f = f (iI (h (244 * n + 9))) := gN hL n0 n1 rfl
theorem pN_17 (hL : LyC B M) {n v : Int} (n0 : 0 ≤ n) (n1 : n < 7) {f : Mem → Option β} : pI (tl B h C Hd Mo M) (some (ndA B n)) 3 17 (iI v) f = f (tl B (st h (244 * n + 9) v) C Hd Mo M) := pN hL n0 n1 rfl
theorem gN_18 (hL : LyC B M) {n : Int} (n0 : 0 ≤ n) (n1 : n < 7) {f : Int32 → Option β} : gI (tl B h C Hd Mo M) (some (ndA B n)) 3 18 f = f (iI (h (244 * n + 10))) := gN hL n0 n1 rfl
theorem pN_18 (hL : LyC B M) {n v : Int} (n0 : 0 ≤ n) (n1 : n < 7) {f : Mem → Option β} : pI (tl B h C Hd Mo M) (some (ndA B n)) 3 18 (iI v) f = f (tl B (st h (244 * n + 10) v) C Hd Mo M) := pN hL n0 n1 rfl
theorem gN_19 (hL : LyC B M) {n : Int} (n0 : 0 ≤ n) (n1 : n < 7) {f : Int32 → Option β} : gI (tl B h C Hd Mo M) (some (ndA B n)) 3 19 f = f (iI (h (244 * n + 11))) := gN hL n0 n1 rfl
theorem pN_19 (hL : LyC B M) {n v : Int} (n0 : 0 ≤ n) (n1 : n < 7) {f : Mem → Option β} : pI (tl B h C Hd Mo M) (some (ndA B n)) 3 19 (iI v) f = f (tl B (st h (244 * n + 11) v) C Hd Mo M) := pN hL n0 n1 rfl
theorem gN_20 (hL : LyC B M) {n : Int} (n0 : 0 ≤ n) (n1 : n < 7) {f : Int32 → Option β} : gI (tl B h C Hd Mo M) (some (ndA B n)) 3 20 f = f (iI (h (244 * n + 12))) := gN hL n0 n1 rfl
theorem pN_20 (hL : LyC B M) {n v : Int} (n0 : 0 ≤ n) (n1 : n < 7) {f : Mem → Option β} : pI (tl B h C Hd Mo M) (some (ndA B n)) 3 20 (iI v) f = f (tl B (st h (244 * n + 12) v) C Hd Mo M) := pN hL n0 n1 rfl
theorem gN_21 (hL : LyC B M) {n : Int} (n0 : 0 ≤ n) (n1 : n < 7) {f : Int32 → Option β} : gI (tl B h C Hd Mo M) (some (ndA B n)) 3 21 f = f (iI (h (244 * n + 13))) := gN hL n0 n1 rfl
theorem pN_21 (hL : LyC B M) {n v : Int} (n0 : 0 ≤ n) (n1 : n < 7) {f : Mem → Option β} : pI (tl B h C Hd Mo M) (some (ndA B n)) 3 21 (iI v) f = f (tl B (st h (244 * n + 13) v) C Hd Mo M) := pN hL n0 n1 rfl
theorem gN_22 (hL : LyC B M) {n : Int} (n0 : 0 ≤ n) (n1 : n < 7) {f : Int32 → Option β} : gI (tl B h C Hd Mo M) (some (ndA B n)) 3 22 f = f (iI (h (244 * n + 14))) := gN hL n0 n1 rfl
theorem pN_22 (hL : LyC B M) {n v : Int} (n0 : 0 ≤ n) (n1 : n < 7) {f : Mem → Option β} : pI (tl B h C Hd Mo M) (some (ndA B n)) 3 22 (iI v) f = f (tl B (st h (244 * n + 14) v) C Hd Mo M) := pN hL n0 n1 rfl
theorem gN_23 (hL : LyC B M) {n : Int} (n0 : 0 ≤ n) (n1 : n < 7) {f : Int32 → Option β} : gI (tl B h C Hd Mo M) (some (ndA B n)) 3 23 f = f (iI (h (244 * n + 0))) := gN hL n0 n1 rfl
theorem aI_a (hL : LyC B M) {a len : Nat} {e p : Int} {f : Int32 → Option β} (hk : mK M (B + a) = (20, len)) (h9 : len ≤ 100000) (e0 : 0 ≤ e) (e1 : e < len) (hp : plc a e.toNat = some p) (hn : ¬ p = 11138) : aI (tl B h C Hd Mo M) (some (B + a)) (iI e) f = f (iI (valT p (h p))) := by
  rw [aI_x (σ := tl B h C Hd Mo M) (n := len) hk e0 e1 h9]
  exact congrArg f (tl_at hL.b2 hp hn)
theorem sI_a (hL : LyC B M) {a len : Nat} {e p v : Int} {f : Mem → Option β} (hk : mK M (B + a) = (20, len)) (h9 : len ≤ 100000) (e0 : 0 ≤ e) (e1 : e < len) (hp : plc a e.toNat = some p) (hn : ¬ p = 11138) : sI (tl B h C Hd Mo M) (some (B + a)) (iI e) (iI (valT p v)) f = f (tl B (st h p v) C Hd Mo M) := by
  rw [sI_x (σ := tl B h C Hd Mo M) (n := len) hk e0 e1 h9]
  exact congrArg f (Prod.ext (tl_st hL.b2 hp hn) rfl)
theorem gR_n0 (hL : LyC B M) {n : Int} (n0 : 0 ≤ n) (n1 : n < 7) {f : Option Nat → Option β} : gR (tl B h C Hd Mo M) (some (ndA B n)) 3 0 f = f (some (ndA B n + 1)) := (if_pos (hL.kd n.toNat (by omega)).1).trans (congrArg f ((hL.kd n.toNat (by omega)).2 0 (by omega)).1)
theorem aI_n0 (hL : LyC B M) {n e : Int} (n0 : 0 ≤ n) (n1 : n < 7) (e0 : 0 ≤ e) (e1 : e < 48) {f : Int32 → Option β} : aI (tl B h C Hd Mo M) (some (ndA B n + 1)) (iI e) f = f (iI (h (244 * n + 52 + 4 * e))) := by
  have hp := plc_a (n := n) (o := 1) (k := e.toNat) n0 n1 (by omega) (by omega) (by show e.toNat < 48; omega)
  have hp : plc (1185 + 10 * n.toNat + 1) e.toNat = some (244 * n + 52 + 4 * e) := hp.trans (congrArg some (by show 244 * n + 52 + 4 * (e.toNat : Int) = _; omega))
  have := aI_a (f := f) (h := h) (C := C) (Hd := Hd) (Mo := Mo) hL (a := 1185 + 10 * n.toNat + 1) (len := 48) (by have := ((hL.kd n.toNat (by omega)).2 0 (by omega)).2; rw [show B + (1185 + 10 * n.toNat + 1) = B + 1185 + 10 * n.toNat + (0 + 1) by omega]; exact this) (by omega) e0 (by omega) hp (by omega)
  rw [valT_o (by omega)] at this
  rw [← this]
  unfold ndA
  rw [show B + 1185 + 10 * n.toNat + 1 = B + (1185 + 10 * n.toNat + 1) by omega]
theorem sI_n0 (hL : LyC B M) {n e v : Int} (n0 : 0 ≤ n) (n1 : n < 7) (e0 : 0 ≤ e) (e1 : e < 48) {f : Mem → Option β} : sI (tl B h C Hd Mo M) (some (ndA B n + 1)) (iI e) (iI v) f = f (tl B (st h (244 * n + 52 + 4 * e) v) C Hd Mo M) := by
  have hp := plc_a (n := n) (o := 1) (k := e.toNat) n0 n1 (by omega) (by omega) (by show e.toNat < 48; omega)
  have hp : plc (1185 + 10 * n.toNat + 1) e.toNat = some (244 * n + 52 + 4 * e) := hp.trans (congrArg some (by show 244 * n + 52 + 4 * (e.toNat : Int) = _; omega))
  have := sI_a (f := f) (h := h) (C := C) (Hd := Hd) (Mo := Mo) (v := v) hL (a := 1185 + 10 * n.toNat + 1) (len := 48) (by have := ((hL.kd n.toNat (by omega)).2 0 (by omega)).2; rw [show B + (1185 + 10 * n.toNat + 1) = B + 1185 + 10 * n.toNat + (0 + 1) by omega]; exact this) (by omega) e0 (by omega) hp (by omega)
  rw [valT_o (by omega)] at this
  rw [← this]
  unfold ndA
  rw [show B + 1185 + 10 * n.toNat + 1 = B + (1185 + 10 * n.toNat + 1) by omega]
theorem gR_n1 (hL : LyC B M) {n : Int} (n0 : 0 ≤ n) (n1 : n < 7) {f : Option Nat → Option β} : gR (tl B h C Hd Mo M) (some (ndA B n)) 3 1 f = f (some (ndA B n + 2)) := (if_pos (hL.kd n.toNat (by omega)).1).trans (congrArg f ((hL.kd n.toNat (by omega)).2 1 (by omega)).1)
theorem aI_n1 (hL : LyC B M) {n e : Int} (n0 : 0 ≤ n) (n1 : n < 7) (e0 : 0 ≤ e) (e1 : e < 48) {f : Int32 → Option β} : aI (tl B h C Hd Mo M) (some (ndA B n + 2)) (iI e) f = f (iI (h (244 * n + 52 + 4 * e + 1))) := by
  have hp := plc_a (n := n) (o := 2) (k := e.toNat) n0 n1 (by omega) (by omega) (by show e.toNat < 48; omega)
  have hp : plc (1185 + 10 * n.toNat + 2) e.toNat = some (244 * n + 52 + 4 * e + 1) := hp.trans (congrArg some (by show 244 * n + 53 + 4 * (e.toNat : Int) = _; omega))
  have := aI_a (f := f) (h := h) (C := C) (Hd := Hd) (Mo := Mo) hL (a := 1185 + 10 * n.toNat + 2) (len := 48) (by have := ((hL.kd n.toNat (by omega)).2 1 (by omega)).2; rw [show B + (1185 + 10 * n.toNat + 2) = B + 1185 + 10 * n.toNat + (1 + 1) by omega]; exact this) (by omega) e0 (by omega) hp (by omega)
  rw [valT_o (by omega)] at this
  rw [← this]
  unfold ndA
  rw [show B + 1185 + 10 * n.toNat + 2 = B + (1185 + 10 * n.toNat + 2) by omega]
theorem sI_n1 (hL : LyC B M) {n e v : Int} (n0 : 0 ≤ n) (n1 : n < 7) (e0 : 0 ≤ e) (e1 : e < 48) {f : Mem → Option β} : sI (tl B h C Hd Mo M) (some (ndA B n + 2)) (iI e) (iI v) f = f (tl B (st h (244 * n + 52 + 4 * e + 1) v) C Hd Mo M) := by
  have hp := plc_a (n := n) (o := 2) (k := e.toNat) n0 n1 (by omega) (by omega) (by show e.toNat < 48; omega)
  have hp : plc (1185 + 10 * n.toNat + 2) e.toNat = some (244 * n + 52 + 4 * e + 1) := hp.trans (congrArg some (by show 244 * n + 53 + 4 * (e.toNat : Int) = _; omega))
  have := sI_a (f := f) (h := h) (C := C) (Hd := Hd) (Mo := Mo) (v := v) hL (a := 1185 + 10 * n.toNat + 2) (len := 48) (by have := ((hL.kd n.toNat (by omega)).2 1 (by omega)).2; rw [show B + (1185 + 10 * n.toNat + 2) = B + 1185 + 10 * n.toNat + (1 + 1) by omega]; exact this) (by omega) e0 (by omega) hp (by omega)
  rw [valT_o (by omega)] at this
  rw [← this]
  unfold ndA
  rw [show B + 1185 + 10 * n.toNat + 2 = B + (1185 + 10 * n.toNat + 2) by omega]
theorem gR_n2 (hL : LyC B M) {n : Int} (n0 : 0 ≤ n) (n1 : n < 7) {f : Option Nat → Option β} : gR (tl B h C Hd Mo M) (some (ndA B n)) 3 2 f = f (some (ndA B n + 3)) := (if_pos (hL.kd n.toNat (by omega)).1).trans (congrArg f ((hL.kd n.toNat (by omega)).2 2 (by omega)).1)
theorem aI_n2 (hL : LyC B M) {n e : Int} (n0 : 0 ≤ n) (n1 : n < 7) (e0 : 0 ≤ e) (e1 : e < 48) {f : Int32 → Option β} : aI (tl B h C Hd Mo M) (some (ndA B n + 3)) (iI e) f = f (iI (h (244 * n + 52 + 4 * e + 2))) := by
  have hp := plc_a (n := n) (o := 3) (k := e.toNat) n0 n1 (by omega) (by omega) (by show e.toNat < 48; omega)
  have hp : plc (1185 + 10 * n.toNat + 3) e.toNat = some (244 * n + 52 + 4 * e + 2) := hp.trans (congrArg some (by show 244 * n + 54 + 4 * (e.toNat : Int) = _; omega))
  have := aI_a (f := f) (h := h) (C := C) (Hd := Hd) (Mo := Mo) hL (a := 1185 + 10 * n.toNat + 3) (len := 48) (by have := ((hL.kd n.toNat (by omega)).2 2 (by omega)).2; rw [show B + (1185 + 10 * n.toNat + 3) = B + 1185 + 10 * n.toNat + (2 + 1) by omega]; exact this) (by omega) e0 (by omega) hp (by omega)
  rw [valT_o (by omega)] at this
  rw [← this]
  unfold ndA
  rw [show B + 1185 + 10 * n.toNat + 3 = B + (1185 + 10 * n.toNat + 3) by omega]
theorem sI_n2 (hL : LyC B M) {n e v : Int} (n0 : 0 ≤ n) (n1 : n < 7) (e0 : 0 ≤ e) (e1 : e < 48) {f : Mem → Option β} : sI (tl B h C Hd Mo M) (some (ndA B n + 3)) (iI e) (iI v) f = f (tl B (st h (244 * n + 52 + 4 * e + 2) v) C Hd Mo M) := by
  have hp := plc_a (n := n) (o := 3) (k := e.toNat) n0 n1 (by omega) (by omega) (by show e.toNat < 48; omega)
  have hp : plc (1185 + 10 * n.toNat + 3) e.toNat = some (244 * n + 52 + 4 * e + 2) := hp.trans (congrArg some (by show 244 * n + 54 + 4 * (e.toNat : Int) = _; omega))
  have := sI_a (f := f) (h := h) (C := C) (Hd := Hd) (Mo := Mo) (v := v) hL (a := 1185 + 10 * n.toNat + 3) (len := 48) (by have := ((hL.kd n.toNat (by omega)).2 2 (by omega)).2; rw [show B + (1185 + 10 * n.toNat + 3) = B + 1185 + 10 * n.toNat + (2 + 1) by omega]; exact this) (by omega) e0 (by omega) hp (by omega)
  rw [valT_o (by omega)] at this
  rw [← this]
  unfold ndA
  rw [show B + 1185 + 10 * n.toNat + 3 = B + (1185 + 10 * n.toNat + 3) by omega]
theorem gR_n3 (hL : LyC B M) {n : Int} (n0 : 0 ≤ n) (n1 : n < 7) {f : Option Nat → Option β} : gR (tl B h C Hd Mo M) (some (ndA B n)) 3 3 f = f (some (ndA B n + 4)) := (if_pos (hL.kd n.toNat (by omega)).1).trans (congrArg f ((hL.kd n.toNat (by omega)).2 3 (by omega)).1)
theorem aI_n3 (hL : LyC B M) {n e : Int} (n0 : 0 ≤ n) (n1 : n < 7) (e0 : 0 ≤ e) (e1 : e < 48) {f : Int32 → Option β} : aI (tl B h C Hd Mo M) (some (ndA B n + 4)) (iI e) f = f (iI (h (244 * n + 52 + 4 * e + 3))) := by
  have hp := plc_a (n := n) (o := 4) (k := e.toNat) n0 n1 (by omega) (by omega) (by show e.toNat < 48; omega)
  have hp : plc (1185 + 10 * n.toNat + 4) e.toNat = some (244 * n + 52 + 4 * e + 3) := hp.trans (congrArg some (by show 244 * n + 55 + 4 * (e.toNat : Int) = _; omega))
  have := aI_a (f := f) (h := h) (C := C) (Hd := Hd) (Mo := Mo) hL (a := 1185 + 10 * n.toNat + 4) (len := 48) (by have := ((hL.kd n.toNat (by omega)).2 3 (by omega)).2; rw [show B + (1185 + 10 * n.toNat + 4) = B + 1185 + 10 * n.toNat + (3 + 1) by omega]; exact this) (by omega) e0 (by omega) hp (by omega)
  rw [valT_o (by omega)] at this
  rw [← this]
  unfold ndA
  rw [show B + 1185 + 10 * n.toNat + 4 = B + (1185 + 10 * n.toNat + 4) by omega]
theorem sI_n3 (hL : LyC B M) {n e v : Int} (n0 : 0 ≤ n) (n1 : n < 7) (e0 : 0 ≤ e) (e1 : e < 48) {f : Mem → Option β} : sI (tl B h C Hd Mo M) (some (ndA B n + 4)) (iI e) (iI v) f = f (tl B (st h (244 * n + 52 + 4 * e + 3) v) C Hd Mo M) := by
  have hp := plc_a (n := n) (o := 4) (k := e.toNat) n0 n1 (by omega) (by omega) (by show e.toNat < 48; omega)
  have hp : plc (1185 + 10 * n.toNat + 4) e.toNat = some (244 * n + 52 + 4 * e + 3) := hp.trans (congrArg some (by show 244 * n + 55 + 4 * (e.toNat : Int) = _; omega))
  have := sI_a (f := f) (h := h) (C := C) (Hd := Hd) (Mo := Mo) (v := v) hL (a := 1185 + 10 * n.toNat + 4) (len := 48) (by have := ((hL.kd n.toNat (by omega)).2 3 (by omega)).2; rw [show B + (1185 + 10 * n.toNat + 4) = B + 1185 + 10 * n.toNat + (3 + 1) by omega]; exact this) (by omega) e0 (by omega) hp (by omega)
  rw [valT_o (by omega)] at this
  rw [← this]
  unfold ndA
  rw [show B + 1185 + 10 * n.toNat + 4 = B + (1185 + 10 * n.toNat + 4) by omega]
theorem gR_n4 (hL : LyC B M) {n : Int} (n0 : 0 ≤ n) (n1 : n < 7) {f : Option Nat → Option β} : gR (tl B h C Hd Mo M) (some (ndA B n)) 3 4 f = f (some (ndA B n + 5)) := (if_pos (hL.kd n.toNat (by omega)).1).trans (congrArg f ((hL.kd n.toNat (by omega)).2 4 (by omega)).1)
theorem aI_n4 (hL : LyC B M) {n e : Int} (n0 : 0 ≤ n) (n1 : n < 7) (e0 : 0 ≤ e) (e1 : e < 8) {f : Int32 → Option β} : aI (tl B h C Hd Mo M) (some (ndA B n + 5)) (iI e) f = f (iI (h (244 * n + (15 + e)))) := by
  have hp := plc_a (n := n) (o := 5) (k := e.toNat) n0 n1 (by omega) (by omega) (by show e.toNat < 8; omega)
  have hp : plc (1185 + 10 * n.toNat + 5) e.toNat = some (244 * n + (15 + e)) := hp.trans (congrArg some (by show 244 * n + 15 + 1 * (e.toNat : Int) = _; omega))
  have := aI_a (f := f) (h := h) (C := C) (Hd := Hd) (Mo := Mo) hL (a := 1185 + 10 * n.toNat + 5) (len := 8) (by have := ((hL.kd n.toNat (by omega)).2 4 (by omega)).2; rw [show B + (1185 + 10 * n.toNat + 5) = B + 1185 + 10 * n.toNat + (4 + 1) by omega]; exact this) (by omega) e0 (by omega) hp (by omega)
  rw [valT_o (by omega)] at this
  rw [← this]
  unfold ndA
  rw [show B + 1185 + 10 * n.toNat + 5 = B + (1185 + 10 * n.toNat + 5) by omega]
theorem sI_n4 (hL : LyC B M) {n e v : Int} (n0 : 0 ≤ n) (n1 : n < 7) (e0 : 0 ≤ e) (e1 : e < 8) {f : Mem → Option β} : sI (tl B h C Hd Mo M) (some (ndA B n + 5)) (iI e) (iI v) f = f (tl B (st h (244 * n + (15 + e)) v) C Hd Mo M) := by
  have hp := plc_a (n := n) (o := 5) (k := e.toNat) n0 n1 (by omega) (by omega) (by show e.toNat < 8; omega)
  have hp : plc (1185 + 10 * n.toNat + 5) e.toNat = some (244 * n + (15 + e)) := hp.trans (congrArg some (by show 244 * n + 15 + 1 * (e.toNat : Int) = _; omega))
  have := sI_a (f := f) (h := h) (C := C) (Hd := Hd) (Mo := Mo) (v := v) hL (a := 1185 + 10 * n.toNat + 5) (len := 8) (by have := ((hL.kd n.toNat (by omega)).2 4 (by omega)).2; rw [show B + (1185 + 10 * n.toNat + 5) = B + 1185 + 10 * n.toNat + (4 + 1) by omega]; exact this) (by omega) e0 (by omega) hp (by omega)
  rw [valT_o (by omega)] at this
  rw [← this]
  unfold ndA
  rw [show B + 1185 + 10 * n.toNat + 5 = B + (1185 + 10 * n.toNat + 5) by omega]
theorem gR_n5 (hL : LyC B M) {n : Int} (n0 : 0 ≤ n) (n1 : n < 7) {f : Option Nat → Option β} : gR (tl B h C Hd Mo M) (some (ndA B n)) 3 5 f = f (some (ndA B n + 6)) := (if_pos (hL.kd n.toNat (by omega)).1).trans (congrArg f ((hL.kd n.toNat (by omega)).2 5 (by omega)).1)
theorem aI_n5 (hL : LyC B M) {n e : Int} (n0 : 0 ≤ n) (n1 : n < 7) (e0 : 0 ≤ e) (e1 : e < 8) {f : Int32 → Option β} : aI (tl B h C Hd Mo M) (some (ndA B n + 6)) (iI e) f = f (iI (h (244 * n + (23 + e)))) := by
  have hp := plc_a (n := n) (o := 6) (k := e.toNat) n0 n1 (by omega) (by omega) (by show e.toNat < 8; omega)
  have hp : plc (1185 + 10 * n.toNat + 6) e.toNat = some (244 * n + (23 + e)) := hp.trans (congrArg some (by show 244 * n + 23 + 1 * (e.toNat : Int) = _; omega))
  have := aI_a (f := f) (h := h) (C := C) (Hd := Hd) (Mo := Mo) hL (a := 1185 + 10 * n.toNat + 6) (len := 8) (by have := ((hL.kd n.toNat (by omega)).2 5 (by omega)).2; rw [show B + (1185 + 10 * n.toNat + 6) = B + 1185 + 10 * n.toNat + (5 + 1) by omega]; exact this) (by omega) e0 (by omega) hp (by omega)
  rw [valT_o (by omega)] at this
  rw [← this]
  unfold ndA
  rw [show B + 1185 + 10 * n.toNat + 6 = B + (1185 + 10 * n.toNat + 6) by omega]
theorem sI_n5 (hL : LyC B M) {n e v : Int} (n0 : 0 ≤ n) (n1 : n < 7) (e0 : 0 ≤ e) (e1 : e < 8) {f : Mem → Option β} : sI (tl B h C Hd Mo M) (some (ndA B n + 6)) (iI e) (iI v) f = f (tl B (st h (244 * n + (23 + e)) v) C Hd Mo M) := by
  have hp := plc_a (n := n) (o := 6) (k := e.toNat) n0 n1 (by omega) (by omega) (by show e.toNat < 8; omega)
  have hp : plc (1185 + 10 * n.toNat + 6) e.toNat = some (244 * n + (23 + e)) := hp.trans (congrArg some (by show 244 * n + 23 + 1 * (e.toNat : Int) = _; omega))
  have := sI_a (f := f) (h := h) (C := C) (Hd := Hd) (Mo := Mo) (v := v) hL (a := 1185 + 10 * n.toNat + 6) (len := 8) (by have := ((hL.kd n.toNat (by omega)).2 5 (by omega)).2; rw [show B + (1185 + 10 * n.toNat + 6) = B + 1185 + 10 * n.toNat + (5 + 1) by omega]; exact this) (by omega) e0 (by omega) hp (by omega)
  rw [valT_o (by omega)] at this
  rw [← this]
  unfold ndA
  rw [show B + 1185 + 10 * n.toNat + 6 = B + (1185 + 10 * n.toNat + 6) by omega]
theorem gR_n6 (hL : LyC B M) {n : Int} (n0 : 0 ≤ n) (n1 : n < 7) {f : Option Nat → Option β} : gR (tl B h C Hd Mo M) (some (ndA B n)) 3 6 f = f (some (ndA B n + 7)) := (if_pos (hL.kd n.toNat (by omega)).1).trans (congrArg f ((hL.kd n.toNat (by omega)).2 6 (by omega)).1)
theorem aI_n6 (hL : LyC B M) {n e : Int} (n0 : 0 ≤ n) (n1 : n < 7) (e0 : 0 ≤ e) (e1 : e < 7) {f : Int32 → Option β} : aI (tl B h C Hd Mo M) (some (ndA B n + 7)) (iI e) f = f (iI (h (244 * n + (31 + e)))) := by
  have hp := plc_a (n := n) (o := 7) (k := e.toNat) n0 n1 (by omega) (by omega) (by show e.toNat < 7; omega)
  have hp : plc (1185 + 10 * n.toNat + 7) e.toNat = some (244 * n + (31 + e)) := hp.trans (congrArg some (by show 244 * n + 31 + 1 * (e.toNat : Int) = _; omega))
  have := aI_a (f := f) (h := h) (C := C) (Hd := Hd) (Mo := Mo) hL (a := 1185 + 10 * n.toNat + 7) (len := 7) (by have := ((hL.kd n.toNat (by omega)).2 6 (by omega)).2; rw [show B + (1185 + 10 * n.toNat + 7) = B + 1185 + 10 * n.toNat + (6 + 1) by omega]; exact this) (by omega) e0 (by omega) hp (by omega)
  rw [valT_o (by omega)] at this
  rw [← this]
  unfold ndA
  rw [show B + 1185 + 10 * n.toNat + 7 = B + (1185 + 10 * n.toNat + 7) by omega]
theorem sI_n6 (hL : LyC B M) {n e v : Int} (n0 : 0 ≤ n) (n1 : n < 7) (e0 : 0 ≤ e) (e1 : e < 7) {f : Mem → Option β} : sI (tl B h C Hd Mo M) (some (ndA B n + 7)) (iI e) (iI v) f = f (tl B (st h (244 * n + (31 + e)) v) C Hd Mo M) := by
  have hp := plc_a (n := n) (o := 7) (k := e.toNat) n0 n1 (by omega) (by omega) (by show e.toNat < 7; omega)
  have hp : plc (1185 + 10 * n.toNat + 7) e.toNat = some (244 * n + (31 + e)) := hp.trans (congrArg some (by show 244 * n + 31 + 1 * (e.toNat : Int) = _; omega))
  have := sI_a (f := f) (h := h) (C := C) (Hd := Hd) (Mo := Mo) (v := v) hL (a := 1185 + 10 * n.toNat + 7) (len := 7) (by have := ((hL.kd n.toNat (by omega)).2 6 (by omega)).2; rw [show B + (1185 + 10 * n.toNat + 7) = B + 1185 + 10 * n.toNat + (6 + 1) by omega]; exact this) (by omega) e0 (by omega) hp (by omega)
  rw [valT_o (by omega)] at this
  rw [← this]
  unfold ndA
  rw [show B + 1185 + 10 * n.toNat + 7 = B + (1185 + 10 * n.toNat + 7) by omega]
theorem gR_n7 (hL : LyC B M) {n : Int} (n0 : 0 ≤ n) (n1 : n < 7) {f : Option Nat → Option β} : gR (tl B h C Hd Mo M) (some (ndA B n)) 3 7 f = f (some (ndA B n + 8)) := (if_pos (hL.kd n.toNat (by omega)).1).trans (congrArg f ((hL.kd n.toNat (by omega)).2 7 (by omega)).1)
theorem aI_n7 (hL : LyC B M) {n e : Int} (n0 : 0 ≤ n) (n1 : n < 7) (e0 : 0 ≤ e) (e1 : e < 7) {f : Int32 → Option β} : aI (tl B h C Hd Mo M) (some (ndA B n + 8)) (iI e) f = f (iI (h (244 * n + (38 + e)))) := by
  have hp := plc_a (n := n) (o := 8) (k := e.toNat) n0 n1 (by omega) (by omega) (by show e.toNat < 7; omega)
  have hp : plc (1185 + 10 * n.toNat + 8) e.toNat = some (244 * n + (38 + e)) := hp.trans (congrArg some (by show 244 * n + 38 + 1 * (e.toNat : Int) = _; omega))
  have := aI_a (f := f) (h := h) (C := C) (Hd := Hd) (Mo := Mo) hL (a := 1185 + 10 * n.toNat + 8) (len := 7) (by have := ((hL.kd n.toNat (by omega)).2 7 (by omega)).2; rw [show B + (1185 + 10 * n.toNat + 8) = B + 1185 + 10 * n.toNat + (7 + 1) by omega]; exact this) (by omega) e0 (by omega) hp (by omega)
  rw [valT_o (by omega)] at this
  rw [← this]
  unfold ndA
  rw [show B + 1185 + 10 * n.toNat + 8 = B + (1185 + 10 * n.toNat + 8) by omega]
theorem sI_n7 (hL : LyC B M) {n e v : Int} (n0 : 0 ≤ n) (n1 : n < 7) (e0 : 0 ≤ e) (e1 : e < 7) {f : Mem → Option β} : sI (tl B h C Hd Mo M) (some (ndA B n + 8)) (iI e) (iI v) f = f (tl B (st h (244 * n + (38 + e)) v) C Hd Mo M) := by
  have hp := plc_a (n := n) (o := 8) (k := e.toNat) n0 n1 (by omega) (by omega) (by show e.toNat < 7; omega)
  have hp : plc (1185 + 10 * n.toNat + 8) e.toNat = some (244 * n + (38 + e)) := hp.trans (congrArg some (by show 244 * n + 38 + 1 * (e.toNat : Int) = _; omega))
  have := sI_a (f := f) (h := h) (C := C) (Hd := Hd) (Mo := Mo) (v := v) hL (a := 1185 + 10 * n.toNat + 8) (len := 7) (by have := ((hL.kd n.toNat (by omega)).2 7 (by omega)).2; rw [show B + (1185 + 10 * n.toNat + 8) = B + 1185 + 10 * n.toNat + (7 + 1) by omega]; exact this) (by omega) e0 (by omega) hp (by omega)
  rw [valT_o (by omega)] at this
  rw [← this]
  unfold ndA
  rw [show B + 1185 + 10 * n.toNat + 8 = B + (1185 + 10 * n.toNat + 8) by omega]
theorem gR_n8 (hL : LyC B M) {n : Int} (n0 : 0 ≤ n) (n1 : n < 7) {f : Option Nat → Option β} : gR (tl B h C Hd Mo M) (some (ndA B n)) 3 8 f = f (some (ndA B n + 9)) := (if_pos (hL.kd n.toNat (by omega)).1).trans (congrArg f ((hL.kd n.toNat (by omega)).2 8 (by omega)).1)
theorem aI_n8 (hL : LyC B M) {n e : Int} (n0 : 0 ≤ n) (n1 : n < 7) (e0 : 0 ≤ e) (e1 : e < 7) {f : Int32 → Option β} : aI (tl B h C Hd Mo M) (some (ndA B n + 9)) (iI e) f = f (iI (h (244 * n + (45 + e)))) := by
  have hp := plc_a (n := n) (o := 9) (k := e.toNat) n0 n1 (by omega) (by omega) (by show e.toNat < 7; omega)
  have hp : plc (1185 + 10 * n.toNat + 9) e.toNat = some (244 * n + (45 + e)) := hp.trans (congrArg some (by show 244 * n + 45 + 1 * (e.toNat : Int) = _; omega))
  have := aI_a (f := f) (h := h) (C := C) (Hd := Hd) (Mo := Mo) hL (a := 1185 + 10 * n.toNat + 9) (len := 7) (by have := ((hL.kd n.toNat (by omega)).2 8 (by omega)).2; rw [show B + (1185 + 10 * n.toNat + 9) = B + 1185 + 10 * n.toNat + (8 + 1) by omega]; exact this) (by omega) e0 (by omega) hp (by omega)
  rw [valT_o (by omega)] at this
  rw [← this]
  unfold ndA
  rw [show B + 1185 + 10 * n.toNat + 9 = B + (1185 + 10 * n.toNat + 9) by omega]
theorem sI_n8 (hL : LyC B M) {n e v : Int} (n0 : 0 ≤ n) (n1 : n < 7) (e0 : 0 ≤ e) (e1 : e < 7) {f : Mem → Option β} : sI (tl B h C Hd Mo M) (some (ndA B n + 9)) (iI e) (iI v) f = f (tl B (st h (244 * n + (45 + e)) v) C Hd Mo M) := by
  have hp := plc_a (n := n) (o := 9) (k := e.toNat) n0 n1 (by omega) (by omega) (by show e.toNat < 7; omega)
  have hp : plc (1185 + 10 * n.toNat + 9) e.toNat = some (244 * n + (45 + e)) := hp.trans (congrArg some (by show 244 * n + 45 + 1 * (e.toNat : Int) = _; omega))
  have := sI_a (f := f) (h := h) (C := C) (Hd := Hd) (Mo := Mo) (v := v) hL (a := 1185 + 10 * n.toNat + 9) (len := 7) (by have := ((hL.kd n.toNat (by omega)).2 8 (by omega)).2; rw [show B + (1185 + 10 * n.toNat + 9) = B + 1185 + 10 * n.toNat + (8 + 1) by omega]; exact this) (by omega) e0 (by omega) hp (by omega)
  rw [valT_o (by omega)] at this
  rw [← this]
  unfold ndA
  rw [show B + 1185 + 10 * n.toNat + 9 = B + (1185 + 10 * n.toNat + 9) by omega]
theorem aR_s (hL : LyC B M) {i : Int} (i0 : 0 ≤ i) (i1 : i < 160) {f : Option Nat → Option β} : aR (tl B h C Hd Mo M) (some (B + 2)) 22 (iI i) f = f (some (B + 3 + i.toNat)) := by
  show (if (mK M (B + 2)).1 = 22 ∧ inR (iI i) (mK M (B + 2)).2 then f (mP M (B + 2) (ix (iI i))) else none) = _
  rw [hL.ks.1, if_pos ⟨rfl, by rw [iv_in (by omega) (by omega)]; exact ⟨i0, by show i < 160; omega⟩⟩, iv_ix i0 (by omega), (hL.ks.2 _ (by omega)).1]
theorem plc_s {i e : Int} (i0 : 0 ≤ i) (i1 : i < 160) (e0 : 0 ≤ e) (e1 : e < 32) : plc (3 + i.toNat) e.toNat = some (100000 + 32 * i + e) := by
  unfold plc
  rw [if_neg (by omega), if_pos (by omega), if_pos (by omega)]
  congr 1
  omega
theorem aI_s (hL : LyC B M) {i e : Int} (i0 : 0 ≤ i) (i1 : i < 160) (e0 : 0 ≤ e) (e1 : e < 32) {f : Int32 → Option β} : aI (tl B h C Hd Mo M) (some (B + 3 + i.toNat)) (iI e) f = f (iI (h (100000 + 32 * i + e))) := by
  have hp := plc_s (i := i) (e := e) i0 i1 e0 e1
  have := aI_a (f := f) (h := h) (C := C) (Hd := Hd) (Mo := Mo) hL (a := 3 + i.toNat) (len := 32) (by have := (hL.ks.2 i.toNat (by omega)).2; rw [show B + (3 + i.toNat) = B + 3 + i.toNat by omega]; exact this) (by omega) e0 (by omega) hp (by omega)
  rw [valT_o (by omega)] at this
  rw [← this, show B + (3 + i.toNat) = B + 3 + i.toNat by omega]
theorem sI_s (hL : LyC B M) {i e v : Int} (i0 : 0 ≤ i) (i1 : i < 160) (e0 : 0 ≤ e) (e1 : e < 32) {f : Mem → Option β} : sI (tl B h C Hd Mo M) (some (B + 3 + i.toNat)) (iI e) (iI v) f = f (tl B (st h (100000 + 32 * i + e) v) C Hd Mo M) := by
  have hp := plc_s (i := i) (e := e) i0 i1 e0 e1
  have := sI_a (f := f) (h := h) (C := C) (Hd := Hd) (Mo := Mo) (v := v) hL (a := 3 + i.toNat) (len := 32) (by have := (hL.ks.2 i.toNat (by omega)).2; rw [show B + (3 + i.toNat) = B + 3 + i.toNat by omega]; exact this) (by omega) e0 (by omega) hp (by omega)
  rw [valT_o (by omega)] at this
  rw [← this, show B + (3 + i.toNat) = B + 3 + i.toNat by omega]
theorem aR_h (hL : LyC B M) {i : Int} (i0 : 0 ≤ i) (i1 : i < 1000) {f : Option Nat → Option β} : aR (tl B h C Hd Mo M) (some (B + 163)) 22 (iI i) f = f (some (B + 164 + i.toNat)) := by
  show (if (mK M (B + 163)).1 = 22 ∧ inR (iI i) (mK M (B + 163)).2 then f (mP M (B + 163) (ix (iI i))) else none) = _
  rw [hL.kh.1, if_pos ⟨rfl, by rw [iv_in (by omega) (by omega)]; exact ⟨i0, by show i < 1000; omega⟩⟩, iv_ix i0 (by omega), (hL.kh.2 _ (by omega)).1]
theorem plc_h {i e : Int} (i0 : 0 ≤ i) (i1 : i < 1000) (e0 : 0 ≤ e) (e1 : e < 4) : plc (164 + i.toNat) e.toNat = some (6028 + 4 * i + e) := by
  unfold plc
  rw [if_neg (by omega), if_neg (by omega), if_pos (by omega), if_pos (by omega)]
  congr 1
  omega
theorem aI_h (hL : LyC B M) {i e : Int} (i0 : 0 ≤ i) (i1 : i < 1000) (e0 : 0 ≤ e) (e1 : e < 4) {f : Int32 → Option β} : aI (tl B h C Hd Mo M) (some (B + 164 + i.toNat)) (iI e) f = f (iI (h (6028 + 4 * i + e))) := by
  have hp := plc_h (i := i) (e := e) i0 i1 e0 e1
  have := aI_a (f := f) (h := h) (C := C) (Hd := Hd) (Mo := Mo) hL (a := 164 + i.toNat) (len := 4) (by have := (hL.kh.2 i.toNat (by omega)).2; rw [show B + (164 + i.toNat) = B + 164 + i.toNat by omega]; exact this) (by omega) e0 (by omega) hp (by omega)
  rw [valT_o (by omega)] at this
  rw [← this, show B + (164 + i.toNat) = B + 164 + i.toNat by omega]
theorem sI_h (hL : LyC B M) {i e v : Int} (i0 : 0 ≤ i) (i1 : i < 1000) (e0 : 0 ≤ e) (e1 : e < 4) {f : Mem → Option β} : sI (tl B h C Hd Mo M) (some (B + 164 + i.toNat)) (iI e) (iI v) f = f (tl B (st h (6028 + 4 * i + e) v) C Hd Mo M) := by
  have hp := plc_h (i := i) (e := e) i0 i1 e0 e1
  have := sI_a (f := f) (h := h) (C := C) (Hd := Hd) (Mo := Mo) (v := v) hL (a := 164 + i.toNat) (len := 4) (by have := (hL.kh.2 i.toNat (by omega)).2; rw [show B + (164 + i.toNat) = B + 164 + i.toNat by omega]; exact this) (by omega) e0 (by omega) hp (by omega)
  rw [valT_o (by omega)] at this
  rw [← this, show B + (164 + i.toNat) = B + 164 + i.toNat by omega]
theorem aR_r (hL : LyC B M) {i : Int} (i0 : 0 ≤ i) (i1 : i < 16) {f : Option Nat → Option β} : aR (tl B h C Hd Mo M) (some (B + 1164)) 22 (iI i) f = f (some (B + 1165 + i.toNat)) := by
  show (if (mK M (B + 1164)).1 = 22 ∧ inR (iI i) (mK M (B + 1164)).2 then f (mP M (B + 1164) (ix (iI i))) else none) = _
  rw [hL.kr.1, if_pos ⟨rfl, by rw [iv_in (by omega) (by omega)]; exact ⟨i0, by show i < 16; omega⟩⟩, iv_ix i0 (by omega), (hL.kr.2 _ (by omega)).1]
theorem plc_r {i e : Int} (i0 : 0 ≤ i) (i1 : i < 16) (e0 : 0 ≤ e) (e1 : e < 6) : plc (1165 + i.toNat) e.toNat = some (11028 + 6 * i + e) := by
  unfold plc
  rw [if_neg (by omega), if_neg (by omega), if_neg (by omega), if_pos (by omega), if_pos (by omega)]
  congr 1
  omega
theorem aI_r (hL : LyC B M) {i e : Int} (i0 : 0 ≤ i) (i1 : i < 16) (e0 : 0 ≤ e) (e1 : e < 6) {f : Int32 → Option β} : aI (tl B h C Hd Mo M) (some (B + 1165 + i.toNat)) (iI e) f = f (iI (h (11028 + 6 * i + e))) := by
  have hp := plc_r (i := i) (e := e) i0 i1 e0 e1
  have := aI_a (f := f) (h := h) (C := C) (Hd := Hd) (Mo := Mo) hL (a := 1165 + i.toNat) (len := 6) (by have := (hL.kr.2 i.toNat (by omega)).2; rw [show B + (1165 + i.toNat) = B + 1165 + i.toNat by omega]; exact this) (by omega) e0 (by omega) hp (by omega)
  rw [valT_o (by omega)] at this
  rw [← this, show B + (1165 + i.toNat) = B + 1165 + i.toNat by omega]
theorem sI_r (hL : LyC B M) {i e v : Int} (i0 : 0 ≤ i) (i1 : i < 16) (e0 : 0 ≤ e) (e1 : e < 6) {f : Mem → Option β} : sI (tl B h C Hd Mo M) (some (B + 1165 + i.toNat)) (iI e) (iI v) f = f (tl B (st h (11028 + 6 * i + e) v) C Hd Mo M) := by
  have hp := plc_r (i := i) (e := e) i0 i1 e0 e1
  have := sI_a (f := f) (h := h) (C := C) (Hd := Hd) (Mo := Mo) (v := v) hL (a := 1165 + i.toNat) (len := 6) (by have := (hL.kr.2 i.toNat (by omega)).2; rw [show B + (1165 + i.toNat) = B + 1165 + i.toNat by omega]; exact this) (by omega) e0 (by omega) hp (by omega)
  rw [valT_o (by omega)] at this
  rw [← this, show B + (1165 + i.toNat) = B + 1165 + i.toNat by omega]
theorem aI_c (hL : LyC B M) {e : Int} (e0 : 0 ≤ e) (e1 : e < 7) {f : Int32 → Option β} : aI (tl B h C Hd Mo M) (some (B + 1181)) (iI e) f = f (iI (h (11124 + e))) := by
  have hp : plc 1181 e.toNat = some (11124 + e) := by
    unfold plc
    rw [if_neg (by omega), if_neg (by omega), if_neg (by omega), if_neg (by omega), if_pos (by omega), if_pos (by omega)]
    congr 1
    omega
  have := aI_a (f := f) (h := h) (C := C) (Hd := Hd) (Mo := Mo) hL hL.kc.1 (by omega) e0 (by omega) hp (by omega)
  rw [valT_o (by omega)] at this
  exact this
theorem sI_c (hL : LyC B M) {e v : Int} (e0 : 0 ≤ e) (e1 : e < 7) {f : Mem → Option β} : sI (tl B h C Hd Mo M) (some (B + 1181)) (iI e) (iI v) f = f (tl B (st h (11124 + e) v) C Hd Mo M) := by
  have hp : plc 1181 e.toNat = some (11124 + e) := by
    unfold plc
    rw [if_neg (by omega), if_neg (by omega), if_neg (by omega), if_neg (by omega), if_pos (by omega), if_pos (by omega)]
    congr 1
    omega
  have := sI_a (f := f) (h := h) (C := C) (Hd := Hd) (Mo := Mo) (v := v) hL hL.kc.1 (by omega) e0 (by omega) hp (by omega)
  rw [valT_o (by omega)] at this
  exact this
theorem plc_l {e : Int} (e0 : 0 ≤ e) (e1 : e < 1000) : plc 1182 e.toNat = some (10028 + e) := by
  unfold plc
  rw [if_neg (by omega), if_neg (by omega), if_neg (by omega), if_neg (by omega), if_neg (by omega), if_pos (by omega), if_pos (by omega)]
  congr 1
  omega
theorem aI_l (hL : LyC B M) {e : Int} (e0 : 0 ≤ e) (e1 : e < 1000) {f : Int32 → Option β} : aI (tl B h C Hd Mo M) (some (B + 1182)) (iI e) f = f (iI (h (10028 + e) - 1)) := by
  have := aI_a (f := f) (h := h) (C := C) (Hd := Hd) (Mo := Mo) hL hL.kc.2.1 (by omega) e0 (by omega) (plc_l e0 e1) (by omega)
  rw [valT_l (by omega) (by omega)] at this
  exact this
theorem sI_l (hL : LyC B M) {e v : Int} (e0 : 0 ≤ e) (e1 : e < 1000) {f : Mem → Option β} : sI (tl B h C Hd Mo M) (some (B + 1182)) (iI e) (iI v) f = f (tl B (st h (10028 + e) (v + 1)) C Hd Mo M) := by
  have := sI_a (f := f) (h := h) (C := C) (Hd := Hd) (Mo := Mo) (v := v + 1) hL hL.kc.2.1 (by omega) e0 (by omega) (plc_l e0 e1) (by omega)
  rw [valT_l (by omega) (by omega), show v + 1 - 1 = v by omega] at this
  exact this
theorem plc_no {k : Nat} : plc 1183 k = none ∧ plc 1184 k = none := by
  unfold plc
  constructor
  · rw [if_neg (by omega), if_neg (by omega), if_neg (by omega), if_neg (by omega), if_neg (by omega), if_neg (by omega), if_neg (by omega)]
  · rw [if_neg (by omega), if_neg (by omega), if_neg (by omega), if_neg (by omega), if_neg (by omega), if_neg (by omega), if_neg (by omega)]
theorem aI_ca (hL : LyC B M) {e : Int} (e0 : 0 ≤ e) (e1 : e < 32) {f : Int32 → Option β} : aI (tl B h C Hd Mo M) (some (B + 1183)) (iI e) f = f (iI (C e)) := by
  have b2 := hL.b2
  rw [aI_x (σ := tl B h C Hd Mo M) (n := 32) hL.kc.2.2.1 e0 (by omega) (by omega)]
  refine congrArg f ?_
  show tlI B h C Hd Mo (mI M) (B + 1183) e.toNat = _
  unfold tlI
  rw [if_neg (by omega), if_neg (by omega), show B + 1183 - B = 1183 by omega, plc_no.1]
  show (if B + 1183 = B + 1183 then iI (C e.toNat) else _) = _
  rw [if_pos rfl, Int.toNat_of_nonneg e0]
theorem aI_ha (hL : LyC B M) {e : Int} (e0 : 0 ≤ e) (e1 : e < 32) {f : Int32 → Option β} : aI (tl B h C Hd Mo M) (some (B + 1184)) (iI e) f = f (iI (Hd e)) := by
  have b2 := hL.b2
  rw [aI_x (σ := tl B h C Hd Mo M) (n := 32) hL.kc.2.2.2 e0 (by omega) (by omega)]
  refine congrArg f ?_
  show tlI B h C Hd Mo (mI M) (B + 1184) e.toNat = _
  unfold tlI
  rw [if_neg (by omega), if_neg (by omega), show B + 1184 - B = 1184 by omega, plc_no.2]
  show (if B + 1184 = B + 1183 then _ else if B + 1184 = B + 1184 then iI (Hd e.toNat) else _) = _
  rw [if_neg (by omega), if_pos rfl, Int.toNat_of_nonneg e0]
theorem sI_ca (hL : LyC B M) {e v : Int} (e0 : 0 ≤ e) (e1 : e < 32) {f : Mem → Option β} : sI (tl B h C Hd Mo M) (some (B + 1183)) (iI e) (iI v) f = f (tl B h (st C e v) Hd Mo M) := by
  have b2 := hL.b2
  rw [sI_x (σ := tl B h C Hd Mo M) (n := 32) hL.kc.2.2.1 e0 (by omega) (by omega)]
  refine congrArg f (Prod.ext ?_ rfl)
  funext a k
  show up2 (tlI B h C Hd Mo (mI M)) (B + 1183) e.toNat (iI v) a k = tlI B h (st C e v) Hd Mo (mI M) a k
  unfold up2 tlI
  by_cases c : a = B + 1183
  · subst c
    rw [if_neg (show ¬ B + 1183 = 1 by omega), if_neg (show ¬ B + 1183 < B by omega), if_neg (show ¬ B + 1183 = 1 by omega), if_neg (show ¬ B + 1183 < B by omega), show B + 1183 - B = 1183 by omega, plc_no.1]
    show (if B + 1183 = B + 1183 ∧ k = e.toNat then iI v else if B + 1183 = B + 1183 then iI (C k) else _) = if B + 1183 = B + 1183 then iI (st C e v k) else _
    rw [if_pos rfl, if_pos rfl]
    by_cases d : k = e.toNat
    · rw [if_pos ⟨rfl, d⟩, d, Int.toNat_of_nonneg e0, st_eq]
    · rw [if_neg (fun q => d q.2), st_ne (by omega)]
  · rw [if_neg (fun q => c q.1)]
    split
    · rfl
    · split
      · rfl
      · split
        · rfl
        · first | rfl | rw [if_neg c, if_neg c]
theorem sI_ha (hL : LyC B M) {e v : Int} (e0 : 0 ≤ e) (e1 : e < 32) {f : Mem → Option β} : sI (tl B h C Hd Mo M) (some (B + 1184)) (iI e) (iI v) f = f (tl B h C (st Hd e v) Mo M) := by
  have b2 := hL.b2
  rw [sI_x (σ := tl B h C Hd Mo M) (n := 32) hL.kc.2.2.2 e0 (by omega) (by omega)]
  refine congrArg f (Prod.ext ?_ rfl)
  funext a k
  show up2 (tlI B h C Hd Mo (mI M)) (B + 1184) e.toNat (iI v) a k = tlI B h C (st Hd e v) Mo (mI M) a k
  unfold up2 tlI
  by_cases c : a = B + 1184
  · subst c
    rw [if_neg (show ¬ B + 1184 = 1 by omega), if_neg (show ¬ B + 1184 < B by omega), if_neg (show ¬ B + 1184 = 1 by omega), if_neg (show ¬ B + 1184 < B by omega), show B + 1184 - B = 1184 by omega, plc_no.2]
    show (if B + 1184 = B + 1184 ∧ k = e.toNat then iI v else if B + 1184 = B + 1183 then iI (C k) else if B + 1184 = B + 1184 then iI (Hd k) else _) = if B + 1184 = B + 1183 then iI (C k) else if B + 1184 = B + 1184 then iI (st Hd e v k) else _
    rw [if_neg (show ¬ B + 1184 = B + 1183 by omega), if_neg (show ¬ B + 1184 = B + 1183 by omega), if_pos rfl, if_pos rfl]
    by_cases d : k = e.toNat
    · rw [if_pos ⟨rfl, d⟩, d, Int.toNat_of_nonneg e0, st_eq]
    · rw [if_neg (fun q => d q.2), st_ne (by omega)]
  · rw [if_neg (fun q => c q.1)]
    split
    · rfl
    · split
      · rfl
      · split
        · rfl
        · split
          · rfl
          · first | rfl | rw [if_neg c, if_neg c]
theorem gI_mo (hL : LyC B M) {k : Nat} {f : Int32 → Option β} : gI (tl B h C Hd Mo M) (some 1) 1 k f = f (iI (Mo (k : Int))) := (if_pos hL.k0.2.2).trans (congrArg f (show tlI B h C Hd Mo (mI M) 1 k = _ from if_pos rfl))
theorem pI_mo (hL : LyC B M) {k : Nat} {v : Int} {f : Mem → Option β} : pI (tl B h C Hd Mo M) (some 1) 1 k (iI v) f = f (tl B h C Hd (st Mo (k : Int) v) M) := by
  refine (if_pos hL.k0.2.2).trans (congrArg f (Prod.ext ?_ rfl))
  funext a j
  show up2 (tlI B h C Hd Mo (mI M)) 1 k (iI v) a j = tlI B h C Hd (st Mo (k : Int) v) (mI M) a j
  unfold up2 tlI
  by_cases c : a = 1
  · subst c
    rw [if_pos rfl, if_pos rfl]
    by_cases d : j = k
    · rw [if_pos ⟨rfl, d⟩, d, st_eq]
    · rw [if_neg (fun q => d q.2), st_ne (by omega)]
  · rw [if_neg (fun q => c q.1), if_neg c, if_neg c]
end
