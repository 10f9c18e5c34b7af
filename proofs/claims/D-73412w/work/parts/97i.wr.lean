/-! DEPS: wq wm -/
/-! WR: what is made at the start: TermLog -/
def g00 : Row := fun x => if x = 11132 then 1 else 0
def h00 : Row := fun x => if 10028 ≤ x ∧ x < 11028 then 1 else if x = 11132 then 1 else 0
def k00 : Row := fun x => if 10028 ≤ x ∧ x < 11028 then 1 else 0
theorem CLv.zero {B : Nat} {σ : Mem} (hz : ∀ a j, B ≤ a → a < B + 1255 → mI σ a j = 0) : CLv B k00 σ := by
  refine ⟨fun _ => 0, fun _ => 0, 0, fun a j h1 h2 => ?_⟩
  rw [hz a j h1 h2]
  unfold tlE
  cases plc (a - B) j with
  | none =>
    show 0 = if a = B + 1183 then iI 0 else if a = B + 1184 then iI 0 else 0
    split
    · rfl
    · split <;> rfl
  | some p =>
    show 0 = if p = 11138 then iI (k00 p) + 0 else iI (valT p (k00 p))
    unfold k00 valT
    by_cases c : 10028 ≤ p ∧ p < 11028
    · rw [if_neg (by omega), if_pos c, if_pos c]; rfl
    · rw [if_neg c, if_neg c]
      split <;> rfl
/-- the first cluster's draw is 1, all else 0 -/
theorem tl_zero {σ : Mem} (hz : ∀ a j, mI σ a j = if a = 2 ∧ j = 9 then iI 1 else 0) : σ = tl 2 h00 (fun _ => 0) (fun _ => 0) (fun _ => 0) σ := by
  refine Prod.ext ?_ rfl
  funext a j
  show mI σ a j = tlI 2 h00 (fun _ => 0) (fun _ => 0) (fun _ => 0) (mI σ) a j
  by_cases c1 : a = 1
  · rw [c1, tl_one, hz, if_neg (by omega)]; rfl
  · by_cases c2 : a < 2
    · rw [tl_out c1 (Or.inl c2)]
    · rw [tl_in c1 c2, hz 2 13, if_neg (by omega)]
      unfold tlE
      cases e : plc (a - 2) j with
      | none =>
        have ne : ¬ (a = 2 ∧ j = 9) := by
          intro q
          rw [q.1, q.2] at e
          exact absurd e (by show ¬ (some 11132 : Option Int) = none; exact fun z => by cases z)
        show mI σ a j = if a = 2 + 1183 then iI 0 else if a = 2 + 1184 then iI 0 else mI σ a j
        rw [hz, if_neg ne]
        split
        · rfl
        · split <;> rfl
      | some p =>
        show mI σ a j = if p = 11138 then iI (h00 p) + 0 else iI (valT p (h00 p))
        rw [hz]
        unfold h00 valT
        by_cases c3 : a = 2 ∧ j = 9
        · have : p = 11132 := by
            rw [c3.1, c3.2] at e
            have e : some (11132 : Int) = some p := e
            cases e
            rfl
          rw [if_pos c3, this]
          rfl
        · have : p ≠ 11132 := by
            intro hp
            have q := plc_inj (p := 11132) (by rw [e, hp]) (show plc 0 9 = some 11132 from rfl)
            exact c3 ⟨by omega, q.2⟩
          rw [if_neg c3]
          by_cases c : 10028 ≤ p ∧ p < 11028
          · rw [if_neg (by omega), if_pos c, if_pos c]; rfl
          · rw [if_neg c, if_neg c, if_neg this]
            split <;> rfl
/-- what stands when TermLog is made -/
def Made (s : Mem) : Prop :=
  (mZ s = 3772) ∧
  (mY s ≤ 50000) ∧
  (LyC 2 s ∧ LyC 1257 s ∧ LyC 2512 s) ∧
  (mP s 0 1 = some 2 ∧ mP s 0 2 = some 1257 ∧ mP s 0 3 = some 2512 ∧ mP s 0 4 = some 3767) ∧
  (mK s 3767 = (21, 260)) ∧
  (K2M s) ∧
  (TxtL s [])
theorem Made.z {s : Mem} (self : Made s) : mZ s = 3772 := self.1
theorem Made.y {s : Mem} (self : Made s) : mY s ≤ 50000 := self.2.1
theorem Made.ly {s : Mem} (self : Made s) : LyC 2 s ∧ LyC 1257 s ∧ LyC 2512 s := self.2.2.1
theorem Made.p0 {s : Mem} (self : Made s) : mP s 0 1 = some 2 ∧ mP s 0 2 = some 1257 ∧ mP s 0 3 = some 2512 ∧ mP s 0 4 = some 3767 := self.2.2.2.1
theorem Made.kt {s : Mem} (self : Made s) : mK s 3767 = (21, 260) := self.2.2.2.2.1
theorem Made.k2 {s : Mem} (self : Made s) : K2M s := self.2.2.2.2.2.1
theorem Made.tx {s : Mem} (self : Made s) : TxtL s [] := self.2.2.2.2.2.2
theorem f_make : ∃ s h' : _, ∃ C Hd Mo : Row, ∃ N : Mem, sX0_init (some 0) (mNew mem0 0 9) = some ((), s) ∧ Made s ∧ s = tl 2 h' C Hd Mo N ∧ Rel h' (foundG (lawOf []) g00 7) ∧ (∀ a j, (a = 0 ∨ 1257 ≤ a) → mI s a j = 0) := by
  obtain ⟨a0, ha0⟩ : ∃ a0, a0 = mNew mem0 0 9 := ⟨_, rfl⟩
  obtain ⟨b0, hb0⟩ : ∃ b0, b0 = mNew a0 1 8 := ⟨_, rfl⟩
  have za : mZ a0 = 1 := by rw [ha0]; rfl
  have ya : mY a0 = 9 := by rw [ha0]; rfl
  have ka : ∀ b, mK a0 b = if b = 0 then (0, 9) else (99, 0) := fun b => by rw [ha0]; rfl
  have ia : ∀ b j, mI a0 b j = 0 := fun b j => by
    rw [ha0]
    show (if b = 0 then 0 else 0 : Int32) = 0
    split <;> rfl
  have z0 : mZ b0 = 2 := by rw [hb0]; show mZ a0 + 1 = 2; omega
  have y0 : mY b0 = 17 := by rw [hb0]; show mY a0 + 8 = 17; omega
  have k0 : ∀ b, mK b0 b = if b = 1 then (1, 8) else if b = 0 then (0, 9) else (99, 0) := fun b => by rw [hb0, al_k, za, ka]
  have i0 : ∀ b j, mI b0 b j = 0 := fun b j => by
    rw [hb0]
    show (if b = mZ a0 then 0 else mI a0 b j) = 0
    split
    · rfl
    · exact ia b j
  have t0 : ∀ b, (mK b0 b).1 = 2 → False := fun b hb => by
    rw [k0] at hb
    split at hb
    · exact absurd hb (by show ¬ (1 : Nat) = 2; omega)
    · split at hb
      · exact absurd hb (by show ¬ (0 : Nat) = 2; omega)
      · exact absurd hb (by show ¬ (99 : Nat) = 2; omega)
  have o0 : (mK b0 0).1 = 0 := by rw [k0, if_neg (by omega), if_pos rfl]
  obtain ⟨b1, x1, n1, z1, y1, p1, k1⟩ := al3 (σ := b0) (a := 0) (ci := 0) (k := 0) (v := some 1) o0
  have z1 : mZ b1 = 2 := by omega
  have y1 : mY b1 = 17 := by omega
  have o1 : (mK b1 0).1 = 0 := by rw [k1]; exact o0
  have q1 : (mK b1 1).1 = 1 := by rw [k1, k0, if_pos rfl]
  have t1 : ∀ b, (mK b1 b).1 = 2 → False := fun b hb => t0 b (n1.n b hb)
  obtain ⟨b2, hb2⟩ : ∃ b2, b2 = mNew b1 2 17 := ⟨_, rfl⟩
  have n2 : Ny b1 b2 (fun _ _ => False) 17 := by rw [hb2]; exact aln
  have z2 : mZ b2 = 3 := by rw [hb2]; show mZ b1 + 1 = 3; omega
  have y2 : mY b2 ≤ 34 := by have := n2.y; omega
  have o2 : (mK b2 2).1 = 2 := by rw [hb2, al_k, if_pos (by omega)]
  have t2 : ∀ b, (mK b2 b).1 = 2 → b = 2 := fun b hb => by
    rw [hb2, al_k] at hb
    by_cases e : b = mZ b1
    · omega
    · rw [if_neg e] at hb
      exact (t1 b hb).elim
  obtain ⟨b3, x3, z3, n3, L3⟩ := f_clu (σ := b2) (B := 2) o2 z2 (by omega) (by omega) (by omega)
  have z3 : mZ b3 = 1257 := z3
  have y3 : mY b3 ≤ 15034 := by have := n3.y; omega
  have t3 : ∀ b, (mK b3 b).1 = 2 → b = 2 := fun b hb => t2 b (n3.n b hb)
  have o3 : (mK b3 0).1 = 0 := by rw [n3.k 0 (by omega), n2.k 0 (by omega)]; exact o1
  have q3 : (mK b3 1).1 = 1 := by rw [n3.k 1 (by omega), n2.k 1 (by omega)]; exact q1
  obtain ⟨b4, x4, n4, z4, y4, p4, k4⟩ := al3 (σ := b3) (a := 0) (ci := 0) (k := 1) (v := some 2) o3
  have z4 : mZ b4 = 1257 := by omega
  have y4 : mY b4 ≤ 15034 := by omega
  have o4 : (mK b4 0).1 = 0 := by rw [k4]; exact o3
  have q4 : (mK b4 1).1 = 1 := by rw [k4]; exact q3
  have t4 : ∀ b, (mK b4 b).1 = 2 → b = 2 := fun b hb => t3 b (n4.n b hb)
  obtain ⟨b5, hb5⟩ : ∃ b5, b5 = mNew b4 2 17 := ⟨_, rfl⟩
  have n5 : Ny b4 b5 (fun _ _ => False) 17 := by rw [hb5]; exact aln
  have z5 : mZ b5 = 1258 := by rw [hb5]; show mZ b4 + 1 = 1258; omega
  have y5 : mY b5 ≤ 15051 := by have := n5.y; omega
  have o5 : (mK b5 1257).1 = 2 := by rw [hb5, al_k, if_pos (by omega)]
  have t5 : ∀ b, (mK b5 b).1 = 2 → b = 2 ∨ b = 1257 := fun b hb => by
    rw [hb5, al_k] at hb
    by_cases e : b = mZ b4
    · omega
    · rw [if_neg e] at hb
      have := t4 b hb
      omega
  obtain ⟨b6, x6, z6, n6, L6⟩ := f_clu (σ := b5) (B := 1257) o5 z5 (by omega) (by omega) (by omega)
  have z6 : mZ b6 = 2512 := z6
  have y6 : mY b6 ≤ 30051 := by have := n6.y; omega
  have t6 : ∀ b, (mK b6 b).1 = 2 → b = 2 ∨ b = 1257 := fun b hb => t5 b (n6.n b hb)
  have o6 : (mK b6 0).1 = 0 := by rw [n6.k 0 (by omega), n5.k 0 (by omega)]; exact o4
  have q6 : (mK b6 1).1 = 1 := by rw [n6.k 1 (by omega), n5.k 1 (by omega)]; exact q4
  obtain ⟨b7, x7, n7, z7, y7, p7, k7⟩ := al3 (σ := b6) (a := 0) (ci := 0) (k := 2) (v := some 1257) o6
  have z7 : mZ b7 = 2512 := by omega
  have y7 : mY b7 ≤ 30051 := by omega
  have o7 : (mK b7 0).1 = 0 := by rw [k7]; exact o6
  have q7 : (mK b7 1).1 = 1 := by rw [k7]; exact q6
  have t7 : ∀ b, (mK b7 b).1 = 2 → b = 2 ∨ b = 1257 := fun b hb => t6 b (n7.n b hb)
  obtain ⟨b8, hb8⟩ : ∃ b8, b8 = mNew b7 2 17 := ⟨_, rfl⟩
  have n8 : Ny b7 b8 (fun _ _ => False) 17 := by rw [hb8]; exact aln
  have z8 : mZ b8 = 2513 := by rw [hb8]; show mZ b7 + 1 = 2513; omega
  have y8 : mY b8 ≤ 30068 := by have := n8.y; omega
  have o8 : (mK b8 2512).1 = 2 := by rw [hb8, al_k, if_pos (by omega)]
  have t8 : ∀ b, (mK b8 b).1 = 2 → b = 2 ∨ b = 1257 ∨ b = 2512 := fun b hb => by
    rw [hb8, al_k] at hb
    by_cases e : b = mZ b7
    · omega
    · rw [if_neg e] at hb
      have := t7 b hb
      omega
  obtain ⟨b9, x9, z9, n9, L9⟩ := f_clu (σ := b8) (B := 2512) o8 z8 (by omega) (by omega) (by omega)
  have z9 : mZ b9 = 3767 := z9
  have y9 : mY b9 ≤ 45068 := by have := n9.y; omega
  have t9 : ∀ b, (mK b9 b).1 = 2 → b = 2 ∨ b = 1257 ∨ b = 2512 := fun b hb => t8 b (n9.n b hb)
  have o9 : (mK b9 0).1 = 0 := by rw [n9.k 0 (by omega), n8.k 0 (by omega)]; exact o7
  have q9 : (mK b9 1).1 = 1 := by rw [n9.k 1 (by omega), n8.k 1 (by omega)]; exact q7
  obtain ⟨b10, x10, n10, z10, y10, p10, k10⟩ := al3 (σ := b9) (a := 0) (ci := 0) (k := 3) (v := some 2512) o9
  have z10 : mZ b10 = 3767 := by omega
  have y10 : mY b10 ≤ 45068 := by omega
  have o10 : (mK b10 0).1 = 0 := by rw [k10]; exact o9
  have q10 : (mK b10 1).1 = 1 := by rw [k10]; exact q9
  have t10 : ∀ b, (mK b10 b).1 = 2 → b = 2 ∨ b = 1257 ∨ b = 2512 := fun b hb => t9 b (n10.n b hb)
  obtain ⟨b11, x11, n11, z11, p11, k11⟩ := al1 (σ := b10) (a := 0) (ci := 0) (k := 4) (kd := 21) (n := 260) (v := 260) rfl o10 (by omega) (by omega) (by omega) (by omega) (by omega)
  have z11 : mZ b11 = 3768 := by omega
  have y11 : mY b11 ≤ 45328 := by have := n11.y; omega
  rw [z10] at p11 k11
  have o11 : (mK b11 0).1 = 0 := by rw [n11.k 0 (by omega)]; exact o10
  have t11 : ∀ b, (mK b11 b).1 = 2 → b = 2 ∨ b = 1257 ∨ b = 2512 := fun b hb => t10 b (n11.n b hb)
  obtain ⟨b12, hb12⟩ : ∃ b12, b12 = mNew b11 4 4 := ⟨_, rfl⟩
  have n12 : Nx b11 b12 (fun _ _ => False) 4 := by rw [hb12]; exact al4 (by omega)
  have z12 : mZ b12 = 3769 := by rw [hb12]; show mZ b11 + 1 = 3769; omega
  have y12 : mY b12 ≤ 45332 := by have := n12.y; omega
  have o12 : (mK b12 3768).1 = 4 := by rw [hb12, al_k, if_pos (by omega)]
  have t12 : ∀ b, (mK b12 b).1 = 2 → b = 2 ∨ b = 1257 ∨ b = 2512 := fun b hb => t11 b (n12.n b hb)
  obtain ⟨b13, x13, C13⟩ := f_text (σ := b12) (N := 3768) o12 z12 (by omega) (by omega)
  have z13 : mZ b13 = 3772 := C13.z
  have n13 := C13.x
  have y13 : mY b13 ≤ 45380 := by have := n13.y; omega
  have t13 : ∀ b, (mK b13 b).1 = 2 → b = 2 ∨ b = 1257 ∨ b = 2512 := fun b hb => t12 b (n13.n b hb)
  have o13 : (mK b13 0).1 = 0 := by rw [n13.k 0 (by omega), n12.k 0 (by omega)]; exact o11
  obtain ⟨b14, x14, n14, z14, y14, p14, k14⟩ := al3 (σ := b13) (a := 0) (ci := 0) (k := 5) (v := some 3768) o13
  have z14 : mZ b14 = 3772 := by omega
  have y14 : mY b14 ≤ 45380 := by omega
  have t14 : ∀ b, (mK b14 b).1 = 2 → b = 2 ∨ b = 1257 ∨ b = 2512 := fun b hb => t13 b (n14.n b hb)
  have m14 : Ny b14 b14 (fun b j => b = 0 ∧ 6 ≤ j) 0 := Ny.rf
  have m13 : Ny b13 b14 (fun b j => b = 0 ∧ 5 ≤ j) 0 := (((n14.ny).wk (Q := fun b j => (b = 0 ∧ 5 ≤ j) ∨ b = 9999999 ∨ b = 9999998) (fun b j hb z => by first | exact False.elim z | omega) (Nat.le_refl 0)).trans (m14.wk (d := 0) (fun b j hb z => by omega) (Nat.le_refl _))).wk (fun b j hb z => by omega) (by omega)
  have m12 : Ny b12 b14 (fun b j => (b = 0 ∧ 5 ≤ j) ∨ b = 3768) 48 := (((n13.ny).wk (Q := fun b j => ((b = 0 ∧ 5 ≤ j) ∨ b = 3768) ∨ b = 3768 ∨ b = 9999998) (fun b j hb z => by first | exact False.elim z | omega) (Nat.le_refl 48)).trans (m13.wk (d := 0) (fun b j hb z => by omega) (Nat.le_refl _))).wk (fun b j hb z => by omega) (by omega)
  have m11 : Ny b11 b14 (fun b j => b = 0 ∧ 5 ≤ j) 52 := (((n12.ny).wk (Q := fun b j => (b = 0 ∧ 5 ≤ j) ∨ b = 9999999 ∨ b = 3768) (fun b j hb z => by first | exact False.elim z | omega) (Nat.le_refl 4)).trans (m12.wk (d := 48) (fun b j hb z => by omega) (Nat.le_refl _))).wk (fun b j hb z => by omega) (by omega)
  have m10 : Ny b10 b14 (fun b j => b = 0 ∧ 4 ≤ j) 312 := (((n11.ny).wk (Q := fun b j => (b = 0 ∧ 4 ≤ j) ∨ b = 9999999 ∨ b = 9999998) (fun b j hb z => by first | exact False.elim z | omega) (Nat.le_refl 260)).trans (m11.wk (d := 52) (fun b j hb z => by omega) (Nat.le_refl _))).wk (fun b j hb z => by omega) (by omega)
  have m9 : Ny b9 b14 (fun b j => b = 0 ∧ 3 ≤ j) 312 := (((n10.ny).wk (Q := fun b j => (b = 0 ∧ 3 ≤ j) ∨ b = 9999999 ∨ b = 9999998) (fun b j hb z => by first | exact False.elim z | omega) (Nat.le_refl 0)).trans (m10.wk (d := 312) (fun b j hb z => by omega) (Nat.le_refl _))).wk (fun b j hb z => by omega) (by omega)
  have m8 : Ny b8 b14 (fun b j => (b = 0 ∧ 3 ≤ j) ∨ b = 2512) 15312 := (((n9.ny).wk (Q := fun b j => ((b = 0 ∧ 3 ≤ j) ∨ b = 2512) ∨ b = 2512 ∨ b = 9999998) (fun b j hb z => by first | exact False.elim z | omega) (Nat.le_refl 15000)).trans (m9.wk (d := 312) (fun b j hb z => by omega) (Nat.le_refl _))).wk (fun b j hb z => by omega) (by omega)
  have m7 : Ny b7 b14 (fun b j => b = 0 ∧ 3 ≤ j) 15329 := (((n8).wk (Q := fun b j => (b = 0 ∧ 3 ≤ j) ∨ b = 9999999 ∨ b = 2512) (fun b j hb z => by first | exact False.elim z | omega) (Nat.le_refl 17)).trans (m8.wk (d := 15312) (fun b j hb z => by omega) (Nat.le_refl _))).wk (fun b j hb z => by omega) (by omega)
  have m6 : Ny b6 b14 (fun b j => b = 0 ∧ 2 ≤ j) 15329 := (((n7.ny).wk (Q := fun b j => (b = 0 ∧ 2 ≤ j) ∨ b = 9999999 ∨ b = 9999998) (fun b j hb z => by first | exact False.elim z | omega) (Nat.le_refl 0)).trans (m7.wk (d := 15329) (fun b j hb z => by omega) (Nat.le_refl _))).wk (fun b j hb z => by omega) (by omega)
  have m5 : Ny b5 b14 (fun b j => (b = 0 ∧ 2 ≤ j) ∨ b = 1257) 30329 := (((n6.ny).wk (Q := fun b j => ((b = 0 ∧ 2 ≤ j) ∨ b = 1257) ∨ b = 1257 ∨ b = 9999998) (fun b j hb z => by first | exact False.elim z | omega) (Nat.le_refl 15000)).trans (m6.wk (d := 15329) (fun b j hb z => by omega) (Nat.le_refl _))).wk (fun b j hb z => by omega) (by omega)
  have m4 : Ny b4 b14 (fun b j => b = 0 ∧ 2 ≤ j) 30346 := (((n5).wk (Q := fun b j => (b = 0 ∧ 2 ≤ j) ∨ b = 9999999 ∨ b = 1257) (fun b j hb z => by first | exact False.elim z | omega) (Nat.le_refl 17)).trans (m5.wk (d := 30329) (fun b j hb z => by omega) (Nat.le_refl _))).wk (fun b j hb z => by omega) (by omega)
  have m3 : Ny b3 b14 (fun b j => b = 0 ∧ 1 ≤ j) 30346 := (((n4.ny).wk (Q := fun b j => (b = 0 ∧ 1 ≤ j) ∨ b = 9999999 ∨ b = 9999998) (fun b j hb z => by first | exact False.elim z | omega) (Nat.le_refl 0)).trans (m4.wk (d := 30346) (fun b j hb z => by omega) (Nat.le_refl _))).wk (fun b j hb z => by omega) (by omega)
  have m2 : Ny b2 b14 (fun b j => (b = 0 ∧ 1 ≤ j) ∨ b = 2) 45346 := (((n3.ny).wk (Q := fun b j => ((b = 0 ∧ 1 ≤ j) ∨ b = 2) ∨ b = 2 ∨ b = 9999998) (fun b j hb z => by first | exact False.elim z | omega) (Nat.le_refl 15000)).trans (m3.wk (d := 30346) (fun b j hb z => by omega) (Nat.le_refl _))).wk (fun b j hb z => by omega) (by omega)
  have m1 : Ny b1 b14 (fun b j => b = 0 ∧ 1 ≤ j) 45363 := (((n2).wk (Q := fun b j => (b = 0 ∧ 1 ≤ j) ∨ b = 9999999 ∨ b = 2) (fun b j hb z => by first | exact False.elim z | omega) (Nat.le_refl 17)).trans (m2.wk (d := 45346) (fun b j hb z => by omega) (Nat.le_refl _))).wk (fun b j hb z => by omega) (by omega)
  have m0 : Ny b0 b14 (fun b j => b = 0 ∧ 0 ≤ j) 45363 := (((n1.ny).wk (Q := fun b j => (b = 0 ∧ 0 ≤ j) ∨ b = 9999999 ∨ b = 9999998) (fun b j hb z => by first | exact False.elim z | omega) (Nat.le_refl 0)).trans (m1.wk (d := 45363) (fun b j hb z => by omega) (Nat.le_refl _))).wk (fun b j hb z => by omega) (by omega)
  -- what stands
  have ly2 : LyC 2 b14 := (L3 ⟨o3, by rw [n3.p 0 0 (by omega) (by omega), n2.p 0 0 (by omega) (fun z => z)]; exact p1, q3⟩).nx m3 (fun b j z => by omega) (by omega)
  have ly3 : LyC 1257 b14 := (L6 ⟨o6, by rw [n6.p 0 0 (by omega) (by omega), n5.p 0 0 (by omega) (fun z => z), n4.p 0 0 (by omega) (by omega), n3.p 0 0 (by omega) (by omega), n2.p 0 0 (by omega) (fun z => z)]; exact p1, q6⟩).nx m6 (fun b j z => by omega) (by omega)
  have ly4 : LyC 2512 b14 := (L9 ⟨o9, by rw [n9.p 0 0 (by omega) (by omega), n8.p 0 0 (by omega) (fun z => z), n7.p 0 0 (by omega) (by omega), n6.p 0 0 (by omega) (by omega), n5.p 0 0 (by omega) (fun z => z), n4.p 0 0 (by omega) (by omega), n3.p 0 0 (by omega) (by omega), n2.p 0 0 (by omega) (fun z => z)]; exact p1, q9⟩).nx m9 (fun b j z => by omega) (by omega)
  have r1 : mP b14 0 1 = some 2 := by rw [m4.p 0 1 (by omega) (by omega)]; exact p4
  have r2 : mP b14 0 2 = some 1257 := by rw [m7.p 0 2 (by omega) (by omega)]; exact p7
  have r3 : mP b14 0 3 = some 2512 := by rw [m10.p 0 3 (by omega) (by omega)]; exact p10
  have r4 : mP b14 0 4 = some 3767 := by rw [m11.p 0 4 (by omega) (by omega)]; exact p11
  have r5 : mK b14 3767 = (21, 260) := by rw [m11.k _ (by omega)]; exact k11
  have iz : ∀ b j, mI b14 b j = 0 := fun b j => by
    by_cases c : b < 2
    · rw [(m0.i b j).2 (Or.inl (by omega))]; exact i0 b j
    · by_cases c2 : b < 3772
      · exact (m0.i b j).1 (by omega) (by omega)
      · rw [(m0.i b j).2 (Or.inr (by omega))]; exact i0 b j
  have tx : ∀ s : Mem, s.2 = b14.2 → mI s 3768 3 = 0 → TxtL s [] := by
    intro s es e3
    have K2' : K2M s := fun b hb => t14 b (by rw [mK_2 es] at hb; exact hb)
    have cp : ∀ w, w < 3 → mP s 3768 w = some (3768 + 1 + w) ∧ mK s (3768 + 1 + w) = (if w = 0 then (20, 16) else if w = 1 then (24, 16) else (25, 16)) := fun w hw => by
      obtain ⟨f1, f2⟩ := C13.f w hw
      rw [mP_2 es, mK_2 es, m13.p _ _ (by omega) (by omega), m13.k _ (by omega)]
      exact ⟨f1, f2⟩
    refine ⟨K2', 3768, by rw [mP_2 es]; exact p14, Or.inr ⟨rfl, rfl⟩, by rw [mK_2 es, m13.k _ (by omega)]; exact C13.o, ⟨(cp 0 (by omega)).1, (cp 1 (by omega)).1, (cp 2 (by omega)).1⟩, ⟨(cp 0 (by omega)).2, (cp 1 (by omega)).2, (cp 2 (by omega)).2⟩, by show 3768 + 4 ≤ s.2.2.2.1; rw [es]; show 3768 + 4 ≤ mZ b14; omega, e3, by show 0 ≤ 16; omega, fun i hi => absurd hi (Nat.not_lt_zero i)⟩
  -- the first cluster is founded
  obtain ⟨c0, hc0⟩ : ∃ c0 : Mem, c0 = (up2 (mI b14) 2 9 (iI 1), b14.2) := ⟨_, rfl⟩
  have ec : c0.2 = b14.2 := by rw [hc0]
  have ic : ∀ a j, mI c0 a j = if a = 2 ∧ j = 9 then iI 1 else 0 := fun a j => by
    rw [hc0]
    show (if a = 2 ∧ j = 9 then iI 1 else mI b14 a j) = _
    rw [iz]
  have lyc : LyC 2 c0 := ly_2 ec ly2
  have er := tl_zero ic
  have txc := tx c0 ec (by rw [ic, if_neg (by omega)])
  obtain ⟨h', Mo', xf, rf⟩ := t_founded (h := h00) (g := g00) (C := fun _ => 0) (Hd := fun _ => 0) (Mo := fun _ => 0) (c := 7) lyc txc.law (by unfold g00; rw [if_pos rfl]; omega) rfl rfl
  rw [← er] at xf
  obtain ⟨s, hs⟩ : ∃ s, s = tl 2 h' (fun _ => 0) (fun _ => 0) Mo' c0 := ⟨_, rfl⟩
  rw [← hs] at xf
  have es : s.2 = b14.2 := by rw [hs]; exact ec
  have is' : ∀ a j, (a = 0 ∨ 1257 ≤ a) → mI s a j = 0 := fun a j ha => by
    rw [hs]
    show tlI 2 h' (fun _ => 0) (fun _ => 0) Mo' (mI c0) a j = 0
    rw [tl_out (by omega) (by omega), ic, if_neg (by omega)]
  refine ⟨s, h', fun _ => 0, fun _ => 0, Mo', c0, ?_, ⟨by show s.2.2.2.1 = 3772; rw [es]; exact z14, by show s.2.2.2.2 ≤ 50000; rw [es]; exact Nat.le_trans y14 (by omega), ⟨ly_2 es ly2, ly_2 es ly3, ly_2 es ly4⟩, ⟨by rw [mP_2 es]; exact r1, by rw [mP_2 es]; exact r2, by rw [mP_2 es]; exact r3, by rw [mP_2 es]; exact r4⟩, by rw [mK_2 es]; exact r5, (tx s es (is' _ _ (by omega))).1, tx s es (is' _ _ (by omega))⟩, hs, rf, is'⟩
  have oB : ∀ f : Option (Unit × Mem), cV c0 (some 2) 2 f = f := fun f => if_pos lyc.kB.1
  have o14 : (mK b14 0).1 = 0 := by rw [k14]; exact o13
  have oc : (mK c0 0).1 = 0 := by rw [mK_2 ec]; exact o14
  unfold sX0_init
  rw [← ha0, cI_y, nO_y (by omega) (by omega), ← hb0, za, cI_y]
  unfold sX2_init sX1_init
  rw [cI_y, cI_y, clw, clw, x1, nO_y (by omega) (by omega), ← hb2, z1, cI_y, x3, clw, x4, nO_y (by omega) (by omega), ← hb5, z4, cI_y, x6, clw, x7, nO_y (by omega) (by omega), ← hb8, z7, cI_y, x9, clw, x10, x11, nO_y (by omega) (by omega), ← hb12, z11, cI_y, x13, clw, x14,
    gR_y o14, r1, pI_y ly2.kB.1, ← hc0, gR_y oc, mP_2 ec, r1, oB, xf, clw]
