/-! DEPS: xc -/
/-! XD: the tape is fed -/
/-- a slot of the rest -/
def u1M (M : Mem) (a i : Nat) (v : Int32) : Mem := (up2 (mI M) a i v, M.2)
def byS (v : Int32) (k : Int) : Int32 := ((v >>> (iI k &&& 31)).toInt8.toInt32).toInt8.toInt32
def pushT (T : Nat → Int32) (t : Int) (v : Int32) : Nat → Int32 := fun j =>
  if (j : Int) = t then byS v 24 else if (j : Int) = t + 1 then byS v 16 else if (j : Int) = t + 2 then byS v 8 else if (j : Int) = t + 3 then byS v 0 else T j
def feedT (T : Nat → Int32) (t : Int) (a b c d e : Int32) : Nat → Int32 := pushT (pushT (pushT (pushT (pushT T t a) (t + 4) b) (t + 8) c) (t + 12) d) (t + 16) e
def feedS (t : Int) : Int := if t + 20 ≤ 260 then t + 20 else -1
/-- the rest M changes where P says alone -/
def Chg (M M' : Mem) (P : Nat → Nat → Prop) : Prop := M'.2 = M.2 ∧ ∀ b j, ¬ P b j → mI M' b j = mI M b j
section
variable {B : Nat} {h g C Hd Mo : Row} {M : Mem}
theorem tl_u1 {a i : Nat} {v : Int32} (b2 : 2 ≤ B) (ha : a ≠ 1 ∧ (a < B ∨ B + 1255 ≤ a)) : tl B h C Hd Mo (u1M M a i v) = u1M (tl B h C Hd Mo M) a i v := by
  refine Prod.ext ?_ rfl
  funext b j
  show tlI B h C Hd Mo (up2 (mI M) a i v) b j = up2 (tlI B h C Hd Mo (mI M)) a i v b j
  have eu : ∀ (I : Nat → Nat → Int32) (b j : Nat), up2 I a i v b j = if b = a ∧ j = i then v else I b j := fun _ _ _ => rfl
  by_cases c : b = a ∧ j = i
  · rw [eu, if_pos c, c.1, tl_out ha.1 ha.2, eu, if_pos ⟨rfl, c.2⟩]
  · rw [eu, if_neg c]
    by_cases c1 : b = 1
    · rw [c1, tl_one, tl_one]
    · by_cases c2 : b < B
      · rw [tl_out c1 (Or.inl c2), tl_out c1 (Or.inl c2), eu, if_neg c]
      · rw [tl_in c1 c2, tl_in c1 c2, eu, if_neg (by omega), eu, if_neg c]
theorem t_push_st (hL : LyC B M) (hB : B + 1255 ≤ 3767) (h4 : mP M 0 4 = some 3767) (hk : mK M 3767 = (21, 260)) {t k : Int} {v : Int32} {f : Nat} (t0 : 0 ≤ t) (t1 : t < 260) (k0 : 0 ≤ k) (k1 : k ≤ 24) (hw : mI M 0 6 = iI t) :
    sX0_push_3 (f + 1) (some 0) v (iI k) (tl B h C Hd Mo M) = sX0_push_3 f (some 0) v (iI (k - 8)) (tl B h C Hd Mo (wM (u1M M 3767 t.toNat (byS v k)) 6 (t + 1))) := by
  have b2 := hL.b2
  have hL1 : LyC B (u1M M 3767 t.toNat (byS v k)) := hL
  have gR4 : ∀ f : Option Nat → Option (Unit × Mem), gR (tl B h C Hd Mo M) (some 0) 0 4 f = f (some 3767) := fun f => (if_pos hL.k0.1).trans (congrArg f h4)
  have sb : ∀ f : Mem → Option (Unit × Mem), sB (tl B h C Hd Mo M) (some 3767) (iI t) ((v >>> (iI k &&& 31)).toInt8.toInt32) f = f (tl B h C Hd Mo (u1M M 3767 t.toNat (byS v k))) := by
    intro f
    rw [tl_u1 b2 (by omega)]
    show (if (mK M 3767).1 = 21 ∧ inR (iI t) (mK M 3767).2 then f (up2 (mI (tl B h C Hd Mo M)) 3767 (ix (iI t)) _, M.2) else none) = _
    rw [hk, if_pos ⟨rfl, by rw [iv_in (by omega) (by omega)]; exact ⟨t0, t1⟩⟩, iv_ix t0 (by omega)]
    rfl
  have w2 : mI (u1M M 3767 t.toNat (byS v k)) 0 6 = iI t := (show (if 0 = 3767 ∧ 6 = t.toNat then byS v k else mI M 0 6) = mI M 0 6 from if_neg (by omega)).trans hw
  show sX0_push_3b (sX0_push_3 f) _ _ _ _ = _
  unfold sX0_push_3b
  rw [if_neg (by rw [iv_lt (by omega) (by omega) (by omega) (by omega)]; omega), gR4, gI_t0 hL, hw, sb, gI_t0 hL1, w2, iv_add, pI_t0 hL1, iv_add, show k + -8 = k - 8 by omega]
theorem t_push_0 {v : Int32} {f : Nat} : sX0_push_3 (f + 1) (some 0) v (iI (-8)) M = some ((), M) := by
  show sX0_push_3b (sX0_push_3 f) _ _ _ _ = _
  unfold sX0_push_3b
  rw [if_pos (by rw [iv_lt (by omega) (by omega) (by omega) (by omega)]; omega)]
/-- where the tape and its word lie -/
abbrev tpP (a b j : Nat) (s : Nat) (c : Nat) : Prop := (c = a) ∨ (c = b ∧ s = j)
theorem FU6 : ∃ f : Nat, FU = f + 5 := ⟨999995, by unfold FU; omega⟩
theorem t_push (hL : LyC B M) (hB : B + 1255 ≤ 3767) (h4 : mP M 0 4 = some 3767) (hk : mK M 3767 = (21, 260)) {t : Int} {v : Int32} (t0 : 0 ≤ t) (t1 : t + 4 ≤ 260) (hw : mI M 0 6 = iI t) :
    ∃ M', sX0_push (some 0) v (tl B h C Hd Mo M) = some ((), tl B h C Hd Mo M') ∧ Chg M M' (fun b j => b = 3767 ∨ (b = 0 ∧ j = 6)) ∧ mI M' 3767 = pushT (mI M 3767) t v ∧ mI M' 0 6 = iI (t + 4) := by
  obtain ⟨f, hf⟩ := FU6
  have b2 := hL.b2
  have w1 : ∀ (X : Mem) (z : Int), mI (wM X 6 z) 0 6 = iI z := fun X z => show (if 0 = 0 ∧ 6 = 6 then iI z else mI X 0 6) = iI z from if_pos ⟨rfl, rfl⟩
  have x1 := t_push_st (h := h) (C := C) (Hd := Hd) (Mo := Mo) (v := v) (f := f + 4) hL hB h4 hk t0 (by omega) (show (0 : Int) ≤ 24 by omega) (by omega) hw
  obtain ⟨M1, hM1⟩ : ∃ M1, wM (u1M M 3767 t.toNat (byS v 24)) 6 (t + 1) = M1 := ⟨_, rfl⟩
  have a1 : LyC B M1 := by rw [← hM1]; exact hL
  have a2 : mP M1 0 4 = some 3767 := by rw [← hM1]; exact h4
  have a3 : mK M1 3767 = (21, 260) := by rw [← hM1]; exact hk
  have a4 : mI M1 0 6 = iI (t + 1) := by rw [← hM1]; exact w1 _ _
  rw [hM1] at x1
  have x2 := t_push_st (h := h) (C := C) (Hd := Hd) (Mo := Mo) (v := v) (f := f + 3) a1 hB a2 a3 (show 0 ≤ t + 1 by omega) (by omega) (show (0 : Int) ≤ 24 - 8 by omega) (by omega) a4
  obtain ⟨M2, hM2⟩ : ∃ M2, wM (u1M M1 3767 (t + 1).toNat (byS v (24 - 8))) 6 (t + 1 + 1) = M2 := ⟨_, rfl⟩
  have b1 : LyC B M2 := by rw [← hM2]; exact a1
  have b22 : mP M2 0 4 = some 3767 := by rw [← hM2]; exact a2
  have b3 : mK M2 3767 = (21, 260) := by rw [← hM2]; exact a3
  have b4 : mI M2 0 6 = iI (t + 1 + 1) := by rw [← hM2]; exact w1 _ _
  rw [hM2] at x2
  have x3 := t_push_st (h := h) (C := C) (Hd := Hd) (Mo := Mo) (v := v) (f := f + 2) b1 hB b22 b3 (show 0 ≤ t + 1 + 1 by omega) (by omega) (show (0 : Int) ≤ 24 - 8 - 8 by omega) (by omega) b4
  obtain ⟨M3, hM3⟩ : ∃ M3, wM (u1M M2 3767 (t + 1 + 1).toNat (byS v (24 - 8 - 8))) 6 (t + 1 + 1 + 1) = M3 := ⟨_, rfl⟩
  have c1 : LyC B M3 := by rw [← hM3]; exact b1
  have c22 : mP M3 0 4 = some 3767 := by rw [← hM3]; exact b22
  have c3 : mK M3 3767 = (21, 260) := by rw [← hM3]; exact b3
  have c4 : mI M3 0 6 = iI (t + 1 + 1 + 1) := by rw [← hM3]; exact w1 _ _
  rw [hM3] at x3
  have x4 := t_push_st (h := h) (C := C) (Hd := Hd) (Mo := Mo) (v := v) (f := f + 1) c1 hB c22 c3 (show 0 ≤ t + 1 + 1 + 1 by omega) (by omega) (show (0 : Int) ≤ 24 - 8 - 8 - 8 by omega) (by omega) c4
  obtain ⟨M4, hM4⟩ : ∃ M4, wM (u1M M3 3767 (t + 1 + 1 + 1).toNat (byS v (24 - 8 - 8 - 8))) 6 (t + 1 + 1 + 1 + 1) = M4 := ⟨_, rfl⟩
  rw [hM4] at x4
  have v0 : ∀ (X : Mem) (i : Nat) (y : Int32) (z : Int) (b j : Nat), mI (wM (u1M X 3767 i y) 6 z) b j = if b = 0 ∧ j = 6 then iI z else if b = 3767 ∧ j = i then y else mI X b j := fun X i y z b j => rfl
  refine ⟨M4, ?_, ⟨?_, fun b j hb => ?_⟩, ?_, ?_⟩
  · unfold sX0_push
    rw [hf, x1, x2, x3, x4]
    exact t_push_0
  · rw [← hM4]
    show M3.2 = M.2
    rw [← hM3]
    show M2.2 = M.2
    rw [← hM2]
    show M1.2 = M.2
    rw [← hM1]
    rfl
  · rw [← hM4, v0, if_neg (by omega), if_neg (by omega), ← hM3, v0, if_neg (by omega), if_neg (by omega), ← hM2, v0, if_neg (by omega), if_neg (by omega), ← hM1, v0, if_neg (by omega), if_neg (by omega)]
  · funext j
    rw [← hM4, v0, if_neg (by omega)]
    unfold pushT
    by_cases d3 : (j : Int) = t + 3
    · rw [if_pos (by omega), if_neg (by omega), if_neg (by omega), if_neg (by omega), if_pos d3]; rfl
    · rw [if_neg (by omega), ← hM3, v0, if_neg (by omega)]
      by_cases d2 : (j : Int) = t + 2
      · rw [if_pos (by omega), if_neg (by omega), if_neg (by omega), if_pos d2]; rfl
      · rw [if_neg (by omega), ← hM2, v0, if_neg (by omega)]
        by_cases d1 : (j : Int) = t + 1
        · rw [if_pos (by omega), if_neg (by omega), if_pos d1]; rfl
        · rw [if_neg (by omega), ← hM1, v0, if_neg (by omega)]
          by_cases d0 : (j : Int) = t
          · rw [if_pos (by omega), if_pos d0]
          · rw [if_neg (by omega), if_neg d0, if_neg d1, if_neg d2, if_neg d3]
  · rw [← hM4, w1, show t + 1 + 1 + 1 + 1 = t + 4 by omega]
theorem Chg.thn {M1 M2 : Mem} {P : Nat → Nat → Prop} (a : Chg M M1 P) (b : Chg M1 M2 P) : Chg M M2 P := ⟨b.1.trans a.1, fun x j q => (b.2 x j q).trans (a.2 x j q)⟩
theorem Chg.rfl' {P : Nat → Nat → Prop} : Chg M M P := ⟨rfl, fun _ _ _ => rfl⟩
theorem Chg.wk {M1 : Mem} {P Q : Nat → Nat → Prop} (a : Chg M M1 P) (q : ∀ x j, P x j → Q x j) : Chg M M1 Q := ⟨a.1, fun x j n => a.2 x j (fun p => n (q x j p))⟩
theorem ly_2 {M' : Mem} (e : M'.2 = M.2) (hL : LyC B M) : LyC B M' := by
  have eP : ∀ a k, mP M' a k = mP M a k := fun a k => by show M'.2.1 a k = M.2.1 a k; rw [e]
  have eK : ∀ a, mK M' a = mK M a := fun a => by show M'.2.2.1 a = M.2.2.1 a; rw [e]
  refine ⟨hL.b2, ?_, ?_, ?_, ?_, ?_, ?_, ?_, ?_⟩
  · simp only [eP, eK]; exact hL.k0
  · simp only [eP, eK]; exact hL.kB
  · simp only [eP, eK]; exact hL.kn
  · simp only [eP, eK]; exact hL.ks
  · simp only [eP, eK]; exact hL.kh
  · simp only [eP, eK]; exact hL.kr
  · simp only [eP, eK]; exact hL.kc
  · simp only [eP, eK]; exact hL.kd
theorem mP_2 {M' : Mem} (e : M'.2 = M.2) (a k : Nat) : mP M' a k = mP M a k := by show M'.2.1 a k = M.2.1 a k; rw [e]
theorem mK_2 {M' : Mem} (e : M'.2 = M.2) (a : Nat) : mK M' a = mK M a := by show M'.2.2.1 a = M.2.2.1 a; rw [e]
theorem t_feed (hL : LyC B M) (hB : B + 1255 ≤ 3767) (h4 : mP M 0 4 = some 3767) (hk : mK M 3767 = (21, 260)) {t : Int} {a b c d e : Int32} (t0 : 0 ≤ t) (t1 : t ≤ 260) (hw : mI M 0 6 = iI t) :
    ∃ M', sX0_feed (some 0) a b c d e (tl B h C Hd Mo M) = some (iI (feedS t), tl B h C Hd Mo M') ∧ Chg M M' (fun b j => b = 3767 ∨ (b = 0 ∧ j = 6)) ∧ (t + 20 ≤ 260 → mI M' 3767 = feedT (mI M 3767) t a b c d e ∧ mI M' 0 6 = iI (t + 20)) ∧ (¬ t + 20 ≤ 260 → M' = M) := by
  unfold feedS
  by_cases q : t + 20 ≤ 260
  · rw [if_pos q]
    obtain ⟨M1, x1, y1, z1, w1⟩ := t_push (h := h) (C := C) (Hd := Hd) (Mo := Mo) (v := a) hL hB h4 hk t0 (by omega) hw
    have l1 := ly_2 y1.1 hL
    obtain ⟨M2, x2, y2, z2, w2⟩ := t_push (h := h) (C := C) (Hd := Hd) (Mo := Mo) (v := b) l1 hB ((mP_2 y1.1 _ _).trans h4) ((mK_2 y1.1 _).trans hk) (show 0 ≤ t + 4 by omega) (by omega) w1
    have y12 := y1.thn y2
    have l2 := ly_2 y12.1 hL
    obtain ⟨M3, x3, y3, z3, w3⟩ := t_push (h := h) (C := C) (Hd := Hd) (Mo := Mo) (v := c) l2 hB ((mP_2 y12.1 _ _).trans h4) ((mK_2 y12.1 _).trans hk) (show 0 ≤ t + 4 + 4 by omega) (by omega) w2
    have y13 := y12.thn y3
    have l3 := ly_2 y13.1 hL
    obtain ⟨M4, x4, y4, z4, w4⟩ := t_push (h := h) (C := C) (Hd := Hd) (Mo := Mo) (v := d) l3 hB ((mP_2 y13.1 _ _).trans h4) ((mK_2 y13.1 _).trans hk) (show 0 ≤ t + 4 + 4 + 4 by omega) (by omega) w3
    have y14 := y13.thn y4
    have l4 := ly_2 y14.1 hL
    obtain ⟨M5, x5, y5, z5, w5⟩ := t_push (h := h) (C := C) (Hd := Hd) (Mo := Mo) (v := e) l4 hB ((mP_2 y14.1 _ _).trans h4) ((mK_2 y14.1 _).trans hk) (show 0 ≤ t + 4 + 4 + 4 + 4 by omega) (by omega) w4
    have y15 := y14.thn y5
    have l5 := ly_2 y15.1 hL
    refine ⟨M5, ?_, y15, fun _ => ⟨?_, ?_⟩, fun n => absurd q n⟩
    · unfold sX0_feed
      rw [gI_t0 hL, hw, iv_add, if_pos (by rw [iv_le (by omega) (by omega) (by omega) (by omega)]; exact q), cV_lt hL, x1, clp, cV_lt l1, x2, clp, cV_lt l2, x3, clp, cV_lt l3, x4, clp, cV_lt l4, x5, clp, gI_t0 l5, w5, show t + 4 + 4 + 4 + 4 + 4 = t + 20 by omega]
    · rw [z5, z4, z3, z2, z1]
      unfold feedT
      rw [show t + 4 + 4 = t + 8 by omega, show t + 8 + 4 = t + 12 by omega, show t + 12 + 4 = t + 16 by omega]
    · rw [w5, show t + 4 + 4 + 4 + 4 + 4 = t + 20 by omega]
  · rw [if_neg q]
    refine ⟨M, ?_, Chg.rfl', fun n => absurd n q, fun _ => rfl⟩
    unfold sX0_feed
    rw [gI_t0 hL, hw, iv_add, if_neg (by rw [iv_le (by omega) (by omega) (by omega) (by omega)]; exact q)]
end
section
variable {g mi mn F : Row} {S : Nat → Int32} {M : Mem}
theorem tw_u1 {a i : Nat} {v : Int32} (h : a ≠ 3772 ∧ a ≠ 3773 ∧ a ≠ 3776 ∧ a ≠ 3777 ∧ a ≠ 3790 ∧ a ≠ 3791) : tw g mi mn F S (u1M M a i v) = u1M (tw g mi mn F S M) a i v := by
  refine Prod.ext ?_ rfl
  funext b j
  show twI g mi mn F S (up2 (mI M) a i v) b j = up2 (twI g mi mn F S (mI M)) a i v b j
  have eu : ∀ (I : Nat → Nat → Int32), up2 I a i v b j = if b = a ∧ j = i then v else I b j := fun _ => rfl
  by_cases c : b = a ∧ j = i
  · rw [eu, if_pos c, c.1, tw_out h]
    exact if_pos ⟨rfl, c.2⟩
  · rw [eu, if_neg c]
    unfold twI
    rw [eu, if_neg c]
theorem m_push_st (hT : LT M) (h4 : mP M 3772 5 = some 3778) (hk : mK M 3778 = (21, 260)) {t k : Int} {v : Int32} {f : Nat} (t0 : 0 ≤ t) (t1 : t < 260) (k0 : 0 ≤ k) (k1 : k ≤ 3) (hw : mI M 3772 6 = iI t) :
    sX8_types_2 (f + 1) (some 3772) v (iI k) (tw g mi mn F S M) = sX8_types_2 f (some 3772) v (iI (k - 1)) (tw g mi mn F S (wT (u1M M 3778 t.toNat (byS v (8 * k))) 6 (t + 1))) := by
  have hL1 : LT (u1M M 3778 t.toNat (byS v (8 * k))) := hT
  have gR4 : ∀ f : Option Nat → Option (Unit × Mem), gR (tw g mi mn F S M) (some 3772) 6 5 f = f (some 3778) := fun f => (if_pos hT.1.1).trans (congrArg f h4)
  have sb : ∀ f : Mem → Option (Unit × Mem), sB (tw g mi mn F S M) (some 3778) (iI t) ((v >>> (iI (8 * k) &&& 31)).toInt8.toInt32) f = f (tw g mi mn F S (u1M M 3778 t.toNat (byS v (8 * k)))) := by
    intro f
    rw [tw_u1 (by omega)]
    show (if (mK M 3778).1 = 21 ∧ inR (iI t) (mK M 3778).2 then f (up2 (mI (tw g mi mn F S M)) 3778 (ix (iI t)) _, M.2) else none) = _
    rw [hk, if_pos ⟨rfl, by rw [iv_in (by omega) (by omega)]; exact ⟨t0, t1⟩⟩, iv_ix t0 (by omega)]
    rfl
  have w2 : mI (u1M M 3778 t.toNat (byS v (8 * k))) 3772 6 = iI t := (show (if 3772 = 3778 ∧ 6 = t.toNat then byS v (8 * k) else mI M 3772 6) = mI M 3772 6 from if_neg (by omega)).trans hw
  show sX8_types_2b (sX8_types_2 f) _ _ _ _ = _
  unfold sX8_types_2b
  rw [if_neg (by rw [iv_lt (by omega) (by omega) (by omega) (by omega)]; omega), gR4, gI_mw hT (by omega), hw, iv_mul, sb, gI_mw hL1 (by omega), w2, iv_add, pI_mw hL1 (by omega), iv_add, show k + -1 = k - 1 by omega]
theorem m_push_0 {v : Int32} {f : Nat} : sX8_types_2 (f + 1) (some 3772) v (iI (-1)) M = some ((), M) := by
  show sX8_types_2b (sX8_types_2 f) _ _ _ _ = _
  unfold sX8_types_2b
  rw [if_pos (by rw [iv_lt (by omega) (by omega) (by omega) (by omega)]; omega)]
theorem m_push (hT : LT M) (h4 : mP M 3772 5 = some 3778) (hk : mK M 3778 = (21, 260)) {t : Int} {v : Int32} (t0 : 0 ≤ t) (t1 : t + 4 ≤ 260) (hw : mI M 3772 6 = iI t) :
    ∃ M', sX8_types (some 3772) v (tw g mi mn F S M) = some ((), tw g mi mn F S M') ∧ Chg M M' (fun b j => b = 3778 ∨ (b = 3772 ∧ j = 6)) ∧ mI M' 3778 = pushT (mI M 3778) t v ∧ mI M' 3772 6 = iI (t + 4) := by
  obtain ⟨f, hf⟩ := FU6
  have w1 : ∀ (X : Mem) (z : Int), mI (wT X 6 z) 3772 6 = iI z := fun X z => show (if 3772 = 3772 ∧ 6 = 6 then iI z else mI X 3772 6) = iI z from if_pos ⟨rfl, rfl⟩
  have x1 := m_push_st (g := g) (mi := mi) (mn := mn) (F := F) (S := S) (v := v) (f := f + 4) hT h4 hk t0 (by omega) (show (0 : Int) ≤ 3 by omega) (by omega) hw
  obtain ⟨M1, hM1⟩ : ∃ M1, wT (u1M M 3778 t.toNat (byS v (8 * 3))) 6 (t + 1) = M1 := ⟨_, rfl⟩
  have a1 : LT M1 := by rw [← hM1]; exact hT
  have a2 : mP M1 3772 5 = some 3778 := by rw [← hM1]; exact h4
  have a3 : mK M1 3778 = (21, 260) := by rw [← hM1]; exact hk
  have a4 : mI M1 3772 6 = iI (t + 1) := by rw [← hM1]; exact w1 _ _
  rw [hM1] at x1
  have x2 := m_push_st (g := g) (mi := mi) (mn := mn) (F := F) (S := S) (v := v) (f := f + 3) a1 a2 a3 (show 0 ≤ t + 1 by omega) (by omega) (show (0 : Int) ≤ 3 - 1 by omega) (by omega) a4
  obtain ⟨M2, hM2⟩ : ∃ M2, wT (u1M M1 3778 (t + 1).toNat (byS v (8 * (3 - 1)))) 6 (t + 1 + 1) = M2 := ⟨_, rfl⟩
  have b1 : LT M2 := by rw [← hM2]; exact a1
  have b22 : mP M2 3772 5 = some 3778 := by rw [← hM2]; exact a2
  have b3 : mK M2 3778 = (21, 260) := by rw [← hM2]; exact a3
  have b4 : mI M2 3772 6 = iI (t + 1 + 1) := by rw [← hM2]; exact w1 _ _
  rw [hM2] at x2
  have x3 := m_push_st (g := g) (mi := mi) (mn := mn) (F := F) (S := S) (v := v) (f := f + 2) b1 b22 b3 (show 0 ≤ t + 1 + 1 by omega) (by omega) (show (0 : Int) ≤ 3 - 1 - 1 by omega) (by omega) b4
  obtain ⟨M3, hM3⟩ : ∃ M3, wT (u1M M2 3778 (t + 1 + 1).toNat (byS v (8 * (3 - 1 - 1)))) 6 (t + 1 + 1 + 1) = M3 := ⟨_, rfl⟩
  have c1 : LT M3 := by rw [← hM3]; exact b1
  have c22 : mP M3 3772 5 = some 3778 := by rw [← hM3]; exact b22
  have c3 : mK M3 3778 = (21, 260) := by rw [← hM3]; exact b3
  have c4 : mI M3 3772 6 = iI (t + 1 + 1 + 1) := by rw [← hM3]; exact w1 _ _
  rw [hM3] at x3
  have x4 := m_push_st (g := g) (mi := mi) (mn := mn) (F := F) (S := S) (v := v) (f := f + 1) c1 c22 c3 (show 0 ≤ t + 1 + 1 + 1 by omega) (by omega) (show (0 : Int) ≤ 3 - 1 - 1 - 1 by omega) (by omega) c4
  obtain ⟨M4, hM4⟩ : ∃ M4, wT (u1M M3 3778 (t + 1 + 1 + 1).toNat (byS v (8 * (3 - 1 - 1 - 1)))) 6 (t + 1 + 1 + 1 + 1) = M4 := ⟨_, rfl⟩
  rw [hM4] at x4
  have v0 : ∀ (X : Mem) (i : Nat) (y : Int32) (z : Int) (b j : Nat), mI (wT (u1M X 3778 i y) 6 z) b j = if b = 3772 ∧ j = 6 then iI z else if b = 3778 ∧ j = i then y else mI X b j := fun X i y z b j => rfl
  refine ⟨M4, ?_, ⟨?_, fun b j hb => ?_⟩, ?_, ?_⟩
  · unfold sX8_types
    rw [hf, x1, x2, x3, x4]
    exact m_push_0
  · rw [← hM4]
    show M3.2 = M.2
    rw [← hM3]
    show M2.2 = M.2
    rw [← hM2]
    show M1.2 = M.2
    rw [← hM1]
    rfl
  · rw [← hM4, v0, if_neg (by omega), if_neg (by omega), ← hM3, v0, if_neg (by omega), if_neg (by omega), ← hM2, v0, if_neg (by omega), if_neg (by omega), ← hM1, v0, if_neg (by omega), if_neg (by omega)]
  · funext j
    rw [← hM4, v0, if_neg (by omega)]
    unfold pushT
    by_cases d3 : (j : Int) = t + 3
    · rw [if_pos (by omega), if_neg (by omega), if_neg (by omega), if_neg (by omega), if_pos d3]; rfl
    · rw [if_neg (by omega), ← hM3, v0, if_neg (by omega)]
      by_cases d2 : (j : Int) = t + 2
      · rw [if_pos (by omega), if_neg (by omega), if_neg (by omega), if_pos d2]; rfl
      · rw [if_neg (by omega), ← hM2, v0, if_neg (by omega)]
        by_cases d1 : (j : Int) = t + 1
        · rw [if_pos (by omega), if_neg (by omega), if_pos d1]; rfl
        · rw [if_neg (by omega), ← hM1, v0, if_neg (by omega)]
          by_cases d0 : (j : Int) = t
          · rw [if_pos (by omega), if_pos d0]; rfl
          · rw [if_neg (by omega), if_neg d0, if_neg d1, if_neg d2, if_neg d3]
  · rw [← hM4, w1, show t + 1 + 1 + 1 + 1 = t + 4 by omega]
theorem lt_2 {M' : Mem} (e : M'.2 = M.2) (hT : LT M) : LT M' := by
  have eP : ∀ a k, mP M' a k = mP M a k := fun a k => mP_2 e a k
  have eK : ∀ a, mK M' a = mK M a := fun a => mK_2 e a
  unfold LT at hT ⊢
  simp only [eP, eK]
  exact hT
theorem cV_lm {β : Type} (hT : LT M) {f : Option β} : cV (tw g mi mn F S M) (some 3772) 6 f = f := if_pos hT.1.1
theorem m_feed (hT : LT M) (h4 : mP M 3772 5 = some 3778) (hk : mK M 3778 = (21, 260)) {t : Int} {a b c d e : Int32} (t0 : 0 ≤ t) (t1 : t ≤ 260) (hw : mI M 3772 6 = iI t) :
    ∃ M', sX8_feed (some 3772) a b c d e (tw g mi mn F S M) = some (iI (feedS t), tw g mi mn F S M') ∧ Chg M M' (fun b j => b = 3778 ∨ (b = 3772 ∧ j = 6)) ∧ (t + 20 ≤ 260 → mI M' 3778 = feedT (mI M 3778) t a b c d e ∧ mI M' 3772 6 = iI (t + 20)) ∧ (¬ t + 20 ≤ 260 → M' = M) := by
  unfold feedS
  by_cases q : t + 20 ≤ 260
  · rw [if_pos q]
    obtain ⟨M1, x1, y1, z1, w1⟩ := m_push (g := g) (mi := mi) (mn := mn) (F := F) (S := S) (v := a) hT h4 hk t0 (by omega) hw
    have l1 := lt_2 y1.1 hT
    obtain ⟨M2, x2, y2, z2, w2⟩ := m_push (g := g) (mi := mi) (mn := mn) (F := F) (S := S) (v := b) l1 ((mP_2 y1.1 _ _).trans h4) ((mK_2 y1.1 _).trans hk) (show 0 ≤ t + 4 by omega) (by omega) w1
    have y12 := y1.thn y2
    have l2 := lt_2 y12.1 hT
    obtain ⟨M3, x3, y3, z3, w3⟩ := m_push (g := g) (mi := mi) (mn := mn) (F := F) (S := S) (v := c) l2 ((mP_2 y12.1 _ _).trans h4) ((mK_2 y12.1 _).trans hk) (show 0 ≤ t + 4 + 4 by omega) (by omega) w2
    have y13 := y12.thn y3
    have l3 := lt_2 y13.1 hT
    obtain ⟨M4, x4, y4, z4, w4⟩ := m_push (g := g) (mi := mi) (mn := mn) (F := F) (S := S) (v := d) l3 ((mP_2 y13.1 _ _).trans h4) ((mK_2 y13.1 _).trans hk) (show 0 ≤ t + 4 + 4 + 4 by omega) (by omega) w3
    have y14 := y13.thn y4
    have l4 := lt_2 y14.1 hT
    obtain ⟨M5, x5, y5, z5, w5⟩ := m_push (g := g) (mi := mi) (mn := mn) (F := F) (S := S) (v := e) l4 ((mP_2 y14.1 _ _).trans h4) ((mK_2 y14.1 _).trans hk) (show 0 ≤ t + 4 + 4 + 4 + 4 by omega) (by omega) w4
    have y15 := y14.thn y5
    have l5 := lt_2 y15.1 hT
    refine ⟨M5, ?_, y15, fun _ => ⟨?_, ?_⟩, fun n => absurd q n⟩
    · unfold sX8_feed
      rw [gI_mw hT (by omega), hw, iv_add, if_pos (by rw [iv_le (by omega) (by omega) (by omega) (by omega)]; exact q), cV_lm hT, x1, clp, cV_lm l1, x2, clp, cV_lm l2, x3, clp, cV_lm l3, x4, clp, cV_lm l4, x5, clp, gI_mw l5 (by omega), w5, show t + 4 + 4 + 4 + 4 + 4 = t + 20 by omega]
    · rw [z5, z4, z3, z2, z1]
      unfold feedT
      rw [show t + 4 + 4 = t + 8 by omega, show t + 8 + 4 = t + 12 by omega, show t + 12 + 4 = t + 16 by omega]
    · rw [w5, show t + 4 + 4 + 4 + 4 + 4 = t + 20 by omega]
  · rw [if_neg q]
    refine ⟨M, ?_, Chg.rfl', fun n => absurd n q, fun _ => rfl⟩
    unfold sX8_feed
    rw [gI_mw hT (by omega), hw, iv_add, if_neg (by rw [iv_le (by omega) (by omega) (by omega) (by omega)]; exact q)]
end
