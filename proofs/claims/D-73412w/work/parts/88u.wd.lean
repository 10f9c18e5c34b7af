/-! DEPS: wc -/
/-! WD: a cluster of TermLog takes another -/
/-- two clusters lie apart -/
def Dj (A B : Nat) : Prop := A + 1255 ≤ B ∨ B + 1255 ≤ A
theorem Dj.sym {A B : Nat} (d : Dj A B) : Dj B A := d.elim Or.inr Or.inl
theorem plc_out {a k : Nat} (h : 1255 ≤ a) : plc a k = none := by
  unfold plc
  rw [if_neg (by omega), if_neg (by omega), if_neg (by omega), if_neg (by omega), if_neg (by omega), if_neg (by omega), if_neg (by omega)]
theorem tl_out {A : Nat} {h C Hd Mo : Row} {I : Nat → Nat → Int32} {a j : Nat} (h1 : a ≠ 1) (ho : a < A ∨ A + 1255 ≤ a) : tlI A h C Hd Mo I a j = I a j := by
  unfold tlI
  rw [if_neg h1]
  by_cases c : a < A
  · rw [if_pos c]
  · rw [if_neg c, plc_out (by omega)]
    show (if a = A + 1183 then _ else if a = A + 1184 then _ else I a j) = _
    rw [if_neg (by omega), if_neg (by omega)]
def tlE (A : Nat) (h C Hd : Row) (s d : Int32) (a j : Nat) : Int32 := match plc (a - A) j with
  | some p => if p = 11138 then iI (h p) + s else iI (valT p (h p))
  | none => if a = A + 1183 then iI (C j) else if a = A + 1184 then iI (Hd j) else d
theorem tl_in {A : Nat} {h C Hd Mo : Row} {I : Nat → Nat → Int32} {a j : Nat} (h1 : a ≠ 1) (ha : ¬ a < A) : tlI A h C Hd Mo I a j = tlE A h C Hd (I A 13) (I a j) a j := by
  unfold tlI
  rw [if_neg h1, if_neg ha]
  rfl
theorem tl_one {A : Nat} {h C Hd Mo : Row} {I : Nat → Nat → Int32} {j : Nat} : tlI A h C Hd Mo I 1 j = iI (Mo j) := if_pos rfl
/-- two clusters change places -/
theorem tl_com {A B : Nat} {h C Hd Mo k Ck Hk Mk : Row} {M : Mem} (Mx : Row) (d : Dj A B) (a2 : 2 ≤ A) (b2 : 2 ≤ B) : tl A h C Hd Mo (tl B k Ck Hk Mk M) = tl B k Ck Hk Mo (tl A h C Hd Mx M) := by
  refine Prod.ext ?_ rfl
  funext a j
  show tlI A h C Hd Mo (tlI B k Ck Hk Mk (mI M)) a j = tlI B k Ck Hk Mo (tlI A h C Hd Mx (mI M)) a j
  have d' := d
  unfold Dj at d'
  by_cases c1 : a = 1
  · subst c1
    rw [tl_one, tl_one]
  · by_cases cA : a < A ∨ A + 1255 ≤ a
    · rw [tl_out c1 cA]
      by_cases cB : a < B ∨ B + 1255 ≤ a
      · rw [tl_out c1 cB, tl_out c1 cB, tl_out c1 cA]
      · rw [tl_in c1 (by omega), tl_in c1 (by omega), tl_out (A := A) c1 cA, tl_out (A := A) (by omega) (by omega)]
    · rw [tl_in c1 (by omega), tl_out (A := B) c1 (by omega), tl_out (A := B) c1 (by omega), tl_out (A := B) (by omega) (by omega), tl_in c1 (by omega)]
section
variable {β : Type} {A B : Nat} {h C Hd Mo k Ck Hk Mk : Row} {M N : Mem}
theorem dj_gIc (d : Dj A B) (hL : LyC B M) {ci j : Nat} {f : Int32 → Option β} : gI (tl A h C Hd Mo (tl B k Ck Hk Mk M)) (some B) ci j f = gI (tl B k Ck Hk Mk M) (some B) ci j f := by
  have b2 := hL.b2
  unfold Dj at d
  show (if (mK M B).1 = ci then f (tlI A h C Hd Mo (mI (tl B k Ck Hk Mk M)) B j) else none) = if (mK M B).1 = ci then f (mI (tl B k Ck Hk Mk M) B j) else none
  rw [tl_out (by omega) (by omega)]
theorem dj_gIn (d : Dj A B) (hL : LyC B M) {n : Int} (n0 : 0 ≤ n) (n1 : n < 7) {ci j : Nat} {f : Int32 → Option β} : gI (tl A h C Hd Mo (tl B k Ck Hk Mk M)) (some (ndA B n)) ci j f = gI (tl B k Ck Hk Mk M) (some (ndA B n)) ci j f := by
  have b2 := hL.b2
  unfold Dj at d
  show (if (mK M (ndA B n)).1 = ci then f (tlI A h C Hd Mo (mI (tl B k Ck Hk Mk M)) (ndA B n) j) else none) = if (mK M (ndA B n)).1 = ci then f (mI (tl B k Ck Hk Mk M) (ndA B n) j) else none
  rw [tl_out (by unfold ndA; omega) (by unfold ndA; omega)]
theorem dj_aIn (d : Dj A B) (hL : LyC B M) {n : Int} (n0 : 0 ≤ n) (n1 : n < 7) {o : Nat} (ho : o ≤ 9) {i : Int32} {f : Int32 → Option β} : aI (tl A h C Hd Mo (tl B k Ck Hk Mk M)) (some (ndA B n + o)) i f = aI (tl B k Ck Hk Mk M) (some (ndA B n + o)) i f := by
  have b2 := hL.b2
  unfold Dj at d
  show (if (mK M (ndA B n + o)).1 = 20 ∧ inR i (mK M (ndA B n + o)).2 then f (tlI A h C Hd Mo (mI (tl B k Ck Hk Mk M)) (ndA B n + o) (ix i)) else none) = if (mK M (ndA B n + o)).1 = 20 ∧ inR i (mK M (ndA B n + o)).2 then f (mI (tl B k Ck Hk Mk M) (ndA B n + o) (ix i)) else none
  rw [tl_out (by unfold ndA; omega) (by unfold ndA; omega)]
theorem dj_aIc (d : Dj A B) (hL : LyC B M) {a : Nat} (ha : a < 1255) {i : Int32} {f : Int32 → Option β} : aI (tl A h C Hd Mo (tl B k Ck Hk Mk M)) (some (B + a)) i f = aI (tl B k Ck Hk Mk M) (some (B + a)) i f := by
  have b2 := hL.b2
  unfold Dj at d
  show (if (mK M (B + a)).1 = 20 ∧ inR i (mK M (B + a)).2 then f (tlI A h C Hd Mo (mI (tl B k Ck Hk Mk M)) (B + a) (ix i)) else none) = if (mK M (B + a)).1 = 20 ∧ inR i (mK M (B + a)).2 then f (mI (tl B k Ck Hk Mk M) (B + a) (ix i)) else none
  rw [tl_out (by omega) (by omega)]
theorem dj_gRc (d : Dj A B) {ci j : Nat} {f : Option Nat → Option β} : gR (tl A h C Hd Mo (tl B k Ck Hk Mk M)) (some B) ci j f = gR (tl B k Ck Hk Mk M) (some B) ci j f := rfl
theorem dj_gRn (d : Dj A B) {n : Int} {ci j : Nat} {f : Option Nat → Option β} : gR (tl A h C Hd Mo (tl B k Ck Hk Mk M)) (some (ndA B n)) ci j f = gR (tl B k Ck Hk Mk M) (some (ndA B n)) ci j f := rfl
theorem dj_aRc (d : Dj A B) {a kd : Nat} {i : Int32} {f : Option Nat → Option β} : aR (tl A h C Hd Mo (tl B k Ck Hk Mk M)) (some (B + a)) kd i f = aR (tl B k Ck Hk Mk M) (some (B + a)) kd i f := rfl
theorem dj_Ly (hL : LyC A M) : LyC A (tl B k Ck Hk Mk M) := hL
/-- copied as far as P says; how many are held now is left -/
def Cpd (h h' k : Row) (P : Int → Prop) : Prop := (∀ x, h' x = k x ∨ (¬ P x ∧ h' x = h x)) ∧ h' 11138 = h 11138
theorem Cpd.st {p : Int} (hp : ¬ p = 11138) : Cpd h (st h p (k p)) k (fun x => x = p) := by
  refine ⟨fun x => ?_, st_ne (fun q => hp q.symm)⟩
  by_cases c : x = p
  · rw [c, st_eq]; exact Or.inl rfl
  · exact Or.inr ⟨c, st_ne c⟩
theorem Cpd.thn {h1 h2 : Row} {P Q : Int → Prop} (a : Cpd h h1 k P) (b : Cpd h1 h2 k Q) : Cpd h h2 k (fun x => P x ∨ Q x) := by
  refine ⟨fun x => ?_, b.2.trans a.2⟩
  rcases b.1 x with b | ⟨b1, b2⟩
  · exact Or.inl b
  · rw [b2]
    rcases a.1 x with a | ⟨a1, a2⟩
    · exact Or.inl a
    · exact Or.inr ⟨fun q => q.elim a1 b1, a2⟩
theorem Cpd.wk {h1 : Row} {P Q : Int → Prop} (a : Cpd h h1 k P) (q : ∀ x, Q x → P x) : Cpd h h1 k Q := by
  refine ⟨fun x => ?_, a.2⟩
  rcases a.1 x with a | ⟨a1, a2⟩
  · exact Or.inl a
  · exact Or.inr ⟨fun c => a1 (q x c), a2⟩
theorem Cpd.at {h1 : Row} {P : Int → Prop} (a : Cpd h h1 k P) {x : Int} (p : P x) : h1 x = k x := by
  rcases a.1 x with a | ⟨a1, _⟩
  · exact a
  · exact absurd p a1
theorem Cpd.o {h1 : Row} {P : Int → Prop} (a : Cpd h h1 k P) {x : Int} (hx : h x = k x) : h1 x = k x := by
  rcases a.1 x with a | ⟨_, a2⟩
  · exact a
  · rw [a2]; exact hx
theorem Cpd.no : Cpd h h k (fun _ => False) := ⟨fun x => Or.inr ⟨id, rfl⟩, rfl⟩
/-- a row of a cluster is copied from another's -/
theorem t_copies_2 (d : Dj A B) (hA : LyC A M) (hB : LyC B M) {a len : Nat} {p : Int} (ha : a < 1255) (kA : mK M (A + a) = (20, len)) (kB : mK M (B + a) = (20, len)) (h9 : len ≤ 1000) (hp : ∀ j : Nat, j < len → plc a j = some (p + j)) (hn : p + len ≤ 11138 ∨ 11138 < p) : ∀ (j : Nat) (h : Row) (i : Int) (fu : Nat), (len : Int) - i = j → 0 ≤ i → j < fu →
    ∃ h', sX3_copies_2 fu (some (B + a)) (some (A + a)) (iI i) (tl A h C Hd Mo (tl B k Ck Hk Mk M)) = some ((), tl A h' C Hd Mo (tl B k Ck Hk Mk M)) ∧ Cpd h h' k (fun x => p + i ≤ x ∧ x < p + len)
  | 0, h, i, fu + 1, e1, e2, e3 => by
    refine ⟨h, ?_, Cpd.no.wk (fun x q => by omega)⟩
    have e : aL (tl A h C Hd Mo (tl B k Ck Hk Mk M)) (some (B + a)) 20 = fun f : Int32 → Option (Unit × Mem) => f (iI (len : Int)) := by
      funext f
      show (if (mK M (B + a)).1 = 20 then f (Int32.ofNat (mK M (B + a)).2) else none) = _
      rw [kB, if_pos rfl]
      rfl
    show sX3_copies_2b (sX3_copies_2 fu) _ _ _ _ = _
    generalize sX3_copies_2 fu = K
    unfold sX3_copies_2b
    rw [e]
    show (if iI (len : Int) ≤ iI i then _ else _) = _
    rw [if_pos (show iI (len : Int) ≤ iI i by rw [iv_le (by omega) (by omega) (by omega) (by omega)]; omega)]
  | j + 1, h, i, fu + 1, e1, e2, e3 => by
    have hpi := hp i.toNat (by omega)
    rw [show p + (i.toNat : Int) = p + i by omega] at hpi
    obtain ⟨h', x1, x2⟩ := t_copies_2 d hA hB ha kA kB h9 hp hn j (st h (p + i) (k (p + i))) (i + 1) fu (by omega) (by omega) (by omega)
    refine ⟨h', ?_, ((Cpd.st (h := h) (p := p + i) (by omega)).thn x2).wk (fun x q => by omega)⟩
    have e : aL (tl A h C Hd Mo (tl B k Ck Hk Mk M)) (some (B + a)) 20 = fun f : Int32 → Option (Unit × Mem) => f (iI (len : Int)) := by
      funext f
      show (if (mK M (B + a)).1 = 20 then f (Int32.ofNat (mK M (B + a)).2) else none) = _
      rw [kB, if_pos rfl]
      rfl
    show sX3_copies_2b (sX3_copies_2 fu) _ _ _ _ = _
    generalize sX3_copies_2 fu = K at x1 ⊢
    unfold sX3_copies_2b
    rw [e]
    show (if iI (len : Int) ≤ iI i then _ else _) = _
    rw [if_neg (show ¬ iI (len : Int) ≤ iI i by rw [iv_le (by omega) (by omega) (by omega) (by omega)]; omega), dj_aIc d hB ha, aI_a hB kB (by omega) e2 (by omega) hpi (by omega), sI_a (M := tl B k Ck Hk Mk M) (dj_Ly hA) kA (by omega) e2 (by omega) hpi (by omega), iv_add]
    exact x1
theorem t_copies (d : Dj A B) (hA : LyC A M) (hB : LyC B M) {a len : Nat} {p : Int} {v : Option Nat} (ha : a < 1255) (kA : mK M (A + a) = (20, len)) (kB : mK M (B + a) = (20, len)) (h9 : len ≤ 1000) (hp : ∀ j : Nat, j < len → plc a j = some (p + j)) (hn : p + len ≤ 11138 ∨ 11138 < p) :
    ∃ h', sX3_copies v (some (B + a)) (some (A + a)) (tl A h C Hd Mo (tl B k Ck Hk Mk M)) = some ((), tl A h' C Hd Mo (tl B k Ck Hk Mk M)) ∧ Cpd h h' k (fun x => p ≤ x ∧ x < p + len) := by
  obtain ⟨h', x1, x2⟩ := t_copies_2 (C := C) (Hd := Hd) (Mo := Mo) (k := k) (Ck := Ck) (Hk := Hk) (Mk := Mk) d hA hB ha kA kB h9 hp hn len h 0 FU (by omega) (by omega) (by unfold FU; omega)
  exact ⟨h', x1, x2.wk (fun x q => by omega)⟩
/-- a node takes another -/
theorem t_ntakes_224 (d : Dj A B) (hA : LyC A M) (hB : LyC B M) {n : Int} (n0 : 0 ≤ n) (n1 : n < 7) : ∀ (j : Nat) (h : Row) (i : Int) (fu : Nat), 7 - i = j → 0 ≤ i → j < fu →
    ∃ h', sX4_takes_224 fu (some (ndA A n)) (some (ndA B n)) (iI i) (tl A h C Hd Mo (tl B k Ck Hk Mk M)) = some ((), tl A h' C Hd Mo (tl B k Ck Hk Mk M)) ∧ Cpd h h' k (fun x => (244 * n + 31 + i ≤ x ∧ x < 244 * n + 38) ∨ (244 * n + 38 + i ≤ x ∧ x < 244 * n + 45) ∨ (244 * n + 45 + i ≤ x ∧ x < 244 * n + 52))
  | 0, h, i, fu + 1, e1, e2, e3 => by
    have hA2 : LyC A (tl B k Ck Hk Mk M) := hA
    refine ⟨h, ?_, Cpd.no.wk (fun x q => by omega)⟩
    simp (disch := first | assumption | omega) only [sX4_takes_224, sX4_takes_224b, z10, z00, if_true, if_false, iv_add, iv_sub, iv_mul, iv_le, iv_lt, iv_eq, iv_mx, iv_mn, bI_z, bI_o, rZ0, rZ1, rZb, cl_some', lt_eq, rm_eq, dv_eq, iv_01, iv_10, the, lastA, lpA, st_eq, st_ne, sh_addM, cV_cl, cV_nd, cV_mo, cV_lt, gR_t0, aR_nd, gR_c0, gR_c1, gR_c2, gR_c3, gR_c4, gR_c5, gR_c6, gR_c15, gR_c16, gI_c7, pI_c7, gI_c8, pI_c8, gI_c9, pI_c9, gI_c10, pI_c10, gI_c11, pI_c11, gI_c12, pI_c12, gI_c13, pI_c13, gI_c14, pI_c14, gN_9, gN_10, gN_11, gN_12, gN_13, gN_14, gN_15, gN_16, gN_17, gN_18, gN_19, gN_20, gN_21, gN_22, gN_23, pN_9, pN_10, pN_11, pN_12, pN_13, pN_14, pN_15, pN_16, pN_17, pN_18, pN_19, pN_20, pN_21, pN_22, pZ_0, pZ_1, gR_n0, aI_n0, sI_n0, gR_n1, aI_n1, sI_n1, gR_n2, aI_n2, sI_n2, gR_n3, aI_n3, sI_n3, gR_n4, aI_n4, sI_n4, gR_n5, aI_n5, sI_n5, gR_n6, aI_n6, sI_n6, gR_n7, aI_n7, sI_n7, gR_n8, aI_n8, sI_n8, aR_s, aI_s, sI_s, aR_h, aI_h, sI_h, aR_r, aI_r, sI_r, aI_c, sI_c, aI_l, sI_l, aI_ca, aI_ha, sI_ca, sI_ha, gI_mo, pI_mo]
    rw [if_pos (by omega)]
  | j + 1, h, i, fu + 1, e1, e2, e3 => by
    have hA2 : LyC A (tl B k Ck Hk Mk M) := hA
    obtain ⟨h', x1, x2⟩ := t_ntakes_224 d hA hB n0 n1 j (st (st (st h (244 * n + (31 + i)) (k (244 * n + (31 + i)))) (244 * n + (38 + i)) (k (244 * n + (38 + i)))) (244 * n + (45 + i)) (k (244 * n + (45 + i)))) (i + 1) fu (by omega) (by omega) (by omega)
    refine ⟨h', ?_, ((((Cpd.st (h := h) (p := 244 * n + (31 + i)) (by omega)).thn (Cpd.st (p := 244 * n + (38 + i)) (by omega))).thn (Cpd.st (p := 244 * n + (45 + i)) (by omega))).thn x2).wk (fun x q => by omega)⟩
    show sX4_takes_224b (sX4_takes_224 fu) _ _ _ _ = _
    generalize sX4_takes_224 fu = K at x1 ⊢
    simp (disch := first | assumption | omega) only [sX4_takes_224b, dj_gIc, dj_gIn, dj_aIn, dj_aIc, dj_gRc, dj_gRn, dj_aRc, z10, z00, if_true, if_false, iv_add, iv_sub, iv_mul, iv_le, iv_lt, iv_eq, iv_mx, iv_mn, bI_z, bI_o, rZ0, rZ1, rZb, cl_some', lt_eq, rm_eq, dv_eq, iv_01, iv_10, the, lastA, lpA, st_eq, st_ne, sh_addM, cV_cl, cV_nd, cV_mo, cV_lt, gR_t0, aR_nd, gR_c0, gR_c1, gR_c2, gR_c3, gR_c4, gR_c5, gR_c6, gR_c15, gR_c16, gI_c7, pI_c7, gI_c8, pI_c8, gI_c9, pI_c9, gI_c10, pI_c10, gI_c11, pI_c11, gI_c12, pI_c12, gI_c13, pI_c13, gI_c14, pI_c14, gN_9, gN_10, gN_11, gN_12, gN_13, gN_14, gN_15, gN_16, gN_17, gN_18, gN_19, gN_20, gN_21, gN_22, gN_23, pN_9, pN_10, pN_11, pN_12, pN_13, pN_14, pN_15, pN_16, pN_17, pN_18, pN_19, pN_20, pN_21, pN_22, pZ_0, pZ_1, gR_n0, aI_n0, sI_n0, gR_n1, aI_n1, sI_n1, gR_n2, aI_n2, sI_n2, gR_n3, aI_n3, sI_n3, gR_n4, aI_n4, sI_n4, gR_n5, aI_n5, sI_n5, gR_n6, aI_n6, sI_n6, gR_n7, aI_n7, sI_n7, gR_n8, aI_n8, sI_n8, aR_s, aI_s, sI_s, aR_h, aI_h, sI_h, aR_r, aI_r, sI_r, aI_c, sI_c, aI_l, sI_l, aI_ca, aI_ha, sI_ca, sI_ha, gI_mo, pI_mo]
    rw [if_neg (by omega)]
    exact x1
theorem t_ntakes_186 (d : Dj A B) (hA : LyC A M) (hB : LyC B M) {n : Int} (n0 : 0 ≤ n) (n1 : n < 7) : ∀ (j : Nat) (h : Row) (i : Int) (fu : Nat), 8 - i = j → 0 ≤ i → j < fu →
    ∃ h', sX4_takes_186 fu (some (ndA A n)) (some (ndA B n)) (iI i) (tl A h C Hd Mo (tl B k Ck Hk Mk M)) = some ((), tl A h' C Hd Mo (tl B k Ck Hk Mk M)) ∧ Cpd h h' k (fun x => (244 * n + 15 + i ≤ x ∧ x < 244 * n + 23) ∨ (244 * n + 23 + i ≤ x ∧ x < 244 * n + 31) ∨ (244 * n + 31 ≤ x ∧ x < 244 * n + 52))
  | 0, h, i, fu + 1, e1, e2, e3 => by
    have hA2 : LyC A (tl B k Ck Hk Mk M) := hA
    obtain ⟨h', x1, x2⟩ := t_ntakes_224 (C := C) (Hd := Hd) (Mo := Mo) (k := k) (Ck := Ck) (Hk := Hk) (Mk := Mk) d hA hB n0 n1 7 h 0 FU (by omega) (by omega) (by unfold FU; omega)
    refine ⟨h', ?_, x2.wk (fun x q => by omega)⟩
    simp (disch := first | assumption | omega) only [sX4_takes_186, sX4_takes_186b, z10, z00, if_true, if_false, iv_add, iv_sub, iv_mul, iv_le, iv_lt, iv_eq, iv_mx, iv_mn, bI_z, bI_o, rZ0, rZ1, rZb, cl_some', lt_eq, rm_eq, dv_eq, iv_01, iv_10, the, lastA, lpA, st_eq, st_ne, sh_addM, cV_cl, cV_nd, cV_mo, cV_lt, gR_t0, aR_nd, gR_c0, gR_c1, gR_c2, gR_c3, gR_c4, gR_c5, gR_c6, gR_c15, gR_c16, gI_c7, pI_c7, gI_c8, pI_c8, gI_c9, pI_c9, gI_c10, pI_c10, gI_c11, pI_c11, gI_c12, pI_c12, gI_c13, pI_c13, gI_c14, pI_c14, gN_9, gN_10, gN_11, gN_12, gN_13, gN_14, gN_15, gN_16, gN_17, gN_18, gN_19, gN_20, gN_21, gN_22, gN_23, pN_9, pN_10, pN_11, pN_12, pN_13, pN_14, pN_15, pN_16, pN_17, pN_18, pN_19, pN_20, pN_21, pN_22, pZ_0, pZ_1, gR_n0, aI_n0, sI_n0, gR_n1, aI_n1, sI_n1, gR_n2, aI_n2, sI_n2, gR_n3, aI_n3, sI_n3, gR_n4, aI_n4, sI_n4, gR_n5, aI_n5, sI_n5, gR_n6, aI_n6, sI_n6, gR_n7, aI_n7, sI_n7, gR_n8, aI_n8, sI_n8, aR_s, aI_s, sI_s, aR_h, aI_h, sI_h, aR_r, aI_r, sI_r, aI_c, sI_c, aI_l, sI_l, aI_ca, aI_ha, sI_ca, sI_ha, gI_mo, pI_mo]
    rw [if_pos (by omega)]
    exact x1
  | j + 1, h, i, fu + 1, e1, e2, e3 => by
    have hA2 : LyC A (tl B k Ck Hk Mk M) := hA
    obtain ⟨h', x1, x2⟩ := t_ntakes_186 d hA hB n0 n1 j (st (st h (244 * n + (15 + i)) (k (244 * n + (15 + i)))) (244 * n + (23 + i)) (k (244 * n + (23 + i)))) (i + 1) fu (by omega) (by omega) (by omega)
    refine ⟨h', ?_, (((Cpd.st (h := h) (p := 244 * n + (15 + i)) (by omega)).thn (Cpd.st (p := 244 * n + (23 + i)) (by omega))).thn x2).wk (fun x q => by omega)⟩
    show sX4_takes_186b (sX4_takes_186 fu) _ _ _ _ = _
    generalize sX4_takes_186 fu = K at x1 ⊢
    simp (disch := first | assumption | omega) only [sX4_takes_186b, dj_gIc, dj_gIn, dj_aIn, dj_aIc, dj_gRc, dj_gRn, dj_aRc, z10, z00, if_true, if_false, iv_add, iv_sub, iv_mul, iv_le, iv_lt, iv_eq, iv_mx, iv_mn, bI_z, bI_o, rZ0, rZ1, rZb, cl_some', lt_eq, rm_eq, dv_eq, iv_01, iv_10, the, lastA, lpA, st_eq, st_ne, sh_addM, cV_cl, cV_nd, cV_mo, cV_lt, gR_t0, aR_nd, gR_c0, gR_c1, gR_c2, gR_c3, gR_c4, gR_c5, gR_c6, gR_c15, gR_c16, gI_c7, pI_c7, gI_c8, pI_c8, gI_c9, pI_c9, gI_c10, pI_c10, gI_c11, pI_c11, gI_c12, pI_c12, gI_c13, pI_c13, gI_c14, pI_c14, gN_9, gN_10, gN_11, gN_12, gN_13, gN_14, gN_15, gN_16, gN_17, gN_18, gN_19, gN_20, gN_21, gN_22, gN_23, pN_9, pN_10, pN_11, pN_12, pN_13, pN_14, pN_15, pN_16, pN_17, pN_18, pN_19, pN_20, pN_21, pN_22, pZ_0, pZ_1, gR_n0, aI_n0, sI_n0, gR_n1, aI_n1, sI_n1, gR_n2, aI_n2, sI_n2, gR_n3, aI_n3, sI_n3, gR_n4, aI_n4, sI_n4, gR_n5, aI_n5, sI_n5, gR_n6, aI_n6, sI_n6, gR_n7, aI_n7, sI_n7, gR_n8, aI_n8, sI_n8, aR_s, aI_s, sI_s, aR_h, aI_h, sI_h, aR_r, aI_r, sI_r, aI_c, sI_c, aI_l, sI_l, aI_ca, aI_ha, sI_ca, sI_ha, gI_mo, pI_mo]
    rw [if_neg (by omega)]
    exact x1
theorem t_ntakes_122 (d : Dj A B) (hA : LyC A M) (hB : LyC B M) {n m : Int} (n0 : 0 ≤ n) (n1 : n < 7) (m9 : m ≤ 48) : ∀ (j : Nat) (h : Row) (i : Int) (fu : Nat), m - i = j → 0 ≤ i → h (244 * n + 8) = m → j < fu →
    ∃ h', sX4_takes_122 fu (some (ndA A n)) (some (ndA B n)) (iI i) (tl A h C Hd Mo (tl B k Ck Hk Mk M)) = some ((), tl A h' C Hd Mo (tl B k Ck Hk Mk M)) ∧ Cpd h h' k (fun x => (244 * n + 52 + 4 * i ≤ x ∧ x < 244 * n + 52 + 4 * m) ∨ (244 * n + 15 ≤ x ∧ x < 244 * n + 52))
  | 0, h, i, fu + 1, e1, e2, em, e3 => by
    have hA2 : LyC A (tl B k Ck Hk Mk M) := hA
    obtain ⟨h', x1, x2⟩ := t_ntakes_186 (C := C) (Hd := Hd) (Mo := Mo) (k := k) (Ck := Ck) (Hk := Hk) (Mk := Mk) d hA hB n0 n1 8 h 0 FU (by omega) (by omega) (by unfold FU; omega)
    refine ⟨h', ?_, x2.wk (fun x q => by omega)⟩
    simp (disch := first | assumption | omega) only [sX4_takes_122, sX4_takes_122b, z10, z00, if_true, if_false, iv_add, iv_sub, iv_mul, iv_le, iv_lt, iv_eq, iv_mx, iv_mn, bI_z, bI_o, rZ0, rZ1, rZb, cl_some', lt_eq, rm_eq, dv_eq, iv_01, iv_10, the, lastA, lpA, st_eq, st_ne, sh_addM, cV_cl, cV_nd, cV_mo, cV_lt, gR_t0, aR_nd, gR_c0, gR_c1, gR_c2, gR_c3, gR_c4, gR_c5, gR_c6, gR_c15, gR_c16, gI_c7, pI_c7, gI_c8, pI_c8, gI_c9, pI_c9, gI_c10, pI_c10, gI_c11, pI_c11, gI_c12, pI_c12, gI_c13, pI_c13, gI_c14, pI_c14, gN_9, gN_10, gN_11, gN_12, gN_13, gN_14, gN_15, gN_16, gN_17, gN_18, gN_19, gN_20, gN_21, gN_22, gN_23, pN_9, pN_10, pN_11, pN_12, pN_13, pN_14, pN_15, pN_16, pN_17, pN_18, pN_19, pN_20, pN_21, pN_22, pZ_0, pZ_1, gR_n0, aI_n0, sI_n0, gR_n1, aI_n1, sI_n1, gR_n2, aI_n2, sI_n2, gR_n3, aI_n3, sI_n3, gR_n4, aI_n4, sI_n4, gR_n5, aI_n5, sI_n5, gR_n6, aI_n6, sI_n6, gR_n7, aI_n7, sI_n7, gR_n8, aI_n8, sI_n8, aR_s, aI_s, sI_s, aR_h, aI_h, sI_h, aR_r, aI_r, sI_r, aI_c, sI_c, aI_l, sI_l, aI_ca, aI_ha, sI_ca, sI_ha, gI_mo, pI_mo, em]
    rw [if_pos (by omega)]
    exact x1
  | j + 1, h, i, fu + 1, e1, e2, em, e3 => by
    have hA2 : LyC A (tl B k Ck Hk Mk M) := hA
    obtain ⟨h', x1, x2⟩ := t_ntakes_122 d hA hB n0 n1 m9 j (st (st (st (st h (244 * n + 52 + 4 * i) (k (244 * n + 52 + 4 * i))) (244 * n + 52 + 4 * i + 1) (k (244 * n + 52 + 4 * i + 1))) (244 * n + 52 + 4 * i + 2) (k (244 * n + 52 + 4 * i + 2))) (244 * n + 52 + 4 * i + 3) (k (244 * n + 52 + 4 * i + 3))) (i + 1) fu (by omega) (by omega) (by rw [st_ne (by omega), st_ne (by omega), st_ne (by omega), st_ne (by omega)]; exact em) (by omega)
    refine ⟨h', ?_, (((((Cpd.st (h := h) (p := 244 * n + 52 + 4 * i) (by omega)).thn (Cpd.st (p := 244 * n + 52 + 4 * i + 1) (by omega))).thn (Cpd.st (p := 244 * n + 52 + 4 * i + 2) (by omega))).thn (Cpd.st (p := 244 * n + 52 + 4 * i + 3) (by omega))).thn x2).wk (fun x q => by omega)⟩
    show sX4_takes_122b (sX4_takes_122 fu) _ _ _ _ = _
    generalize sX4_takes_122 fu = K at x1 ⊢
    simp (disch := first | assumption | omega) only [sX4_takes_122b, dj_gIc, dj_gIn, dj_aIn, dj_aIc, dj_gRc, dj_gRn, dj_aRc, z10, z00, if_true, if_false, iv_add, iv_sub, iv_mul, iv_le, iv_lt, iv_eq, iv_mx, iv_mn, bI_z, bI_o, rZ0, rZ1, rZb, cl_some', lt_eq, rm_eq, dv_eq, iv_01, iv_10, the, lastA, lpA, st_eq, st_ne, sh_addM, cV_cl, cV_nd, cV_mo, cV_lt, gR_t0, aR_nd, gR_c0, gR_c1, gR_c2, gR_c3, gR_c4, gR_c5, gR_c6, gR_c15, gR_c16, gI_c7, pI_c7, gI_c8, pI_c8, gI_c9, pI_c9, gI_c10, pI_c10, gI_c11, pI_c11, gI_c12, pI_c12, gI_c13, pI_c13, gI_c14, pI_c14, gN_9, gN_10, gN_11, gN_12, gN_13, gN_14, gN_15, gN_16, gN_17, gN_18, gN_19, gN_20, gN_21, gN_22, gN_23, pN_9, pN_10, pN_11, pN_12, pN_13, pN_14, pN_15, pN_16, pN_17, pN_18, pN_19, pN_20, pN_21, pN_22, pZ_0, pZ_1, gR_n0, aI_n0, sI_n0, gR_n1, aI_n1, sI_n1, gR_n2, aI_n2, sI_n2, gR_n3, aI_n3, sI_n3, gR_n4, aI_n4, sI_n4, gR_n5, aI_n5, sI_n5, gR_n6, aI_n6, sI_n6, gR_n7, aI_n7, sI_n7, gR_n8, aI_n8, sI_n8, aR_s, aI_s, sI_s, aR_h, aI_h, sI_h, aR_r, aI_r, sI_r, aI_c, sI_c, aI_l, sI_l, aI_ca, aI_ha, sI_ca, sI_ha, gI_mo, pI_mo, em]
    rw [if_neg (by omega)]
    exact x1
/-- a node's places that count -/
abbrev nodeP (k : Row) (n x : Int) : Prop := 244 * n ≤ x ∧ x < 244 * n + 52 + 4 * k (244 * n + 8)
theorem t_ntakes (d : Dj A B) (hA : LyC A M) (hB : LyC B M) {n : Int} (n0 : 0 ≤ n) (n1 : n < 7) (u : k (244 * n + 0) = 0 ∨ k (244 * n + 0) = 1) (m0 : 0 ≤ k (244 * n + 8)) (m9 : k (244 * n + 8) ≤ 48) :
    ∃ h', sX4_takes (some (ndA A n)) (some (ndA B n)) (tl A h C Hd Mo (tl B k Ck Hk Mk M)) = some ((), tl A h' C Hd Mo (tl B k Ck Hk Mk M)) ∧ Cpd h h' k (nodeP k n) := by
  have hA2 : LyC A (tl B k Ck Hk Mk M) := hA
  obtain ⟨h0, hh0⟩ : ∃ h0, st (st (st (st (st (st (st (st (st (st (st (st (st (st (st h (244 * n + 1) (k (244 * n + 1))) (244 * n + 2) (k (244 * n + 2))) (244 * n + 4) (k (244 * n + 4))) (244 * n + 5) (k (244 * n + 5))) (244 * n + 6) (k (244 * n + 6))) (244 * n + 7) (k (244 * n + 7))) (244 * n + 8) (k (244 * n + 8))) (244 * n + 3) (k (244 * n + 3))) (244 * n + 9) (k (244 * n + 9))) (244 * n + 10) (k (244 * n + 10))) (244 * n + 11) (k (244 * n + 11))) (244 * n + 12) (k (244 * n + 12))) (244 * n + 13) (k (244 * n + 13))) (244 * n + 14) (k (244 * n + 14))) (244 * n + 0) (k (244 * n + 0)) = h0 := ⟨_, rfl⟩
  have c0 : Cpd h h0 k (fun x => 244 * n ≤ x ∧ x < 244 * n + 15) := by
    rw [← hh0]
    refine (((((((((((((((Cpd.st (h := h) (p := 244 * n + 1) (by omega)).thn (Cpd.st (p := 244 * n + 2) (by omega))).thn (Cpd.st (p := 244 * n + 4) (by omega))).thn (Cpd.st (p := 244 * n + 5) (by omega))).thn (Cpd.st (p := 244 * n + 6) (by omega))).thn (Cpd.st (p := 244 * n + 7) (by omega))).thn (Cpd.st (p := 244 * n + 8) (by omega))).thn (Cpd.st (p := 244 * n + 3) (by omega))).thn (Cpd.st (p := 244 * n + 9) (by omega))).thn (Cpd.st (p := 244 * n + 10) (by omega))).thn (Cpd.st (p := 244 * n + 11) (by omega))).thn (Cpd.st (p := 244 * n + 12) (by omega))).thn (Cpd.st (p := 244 * n + 13) (by omega))).thn (Cpd.st (p := 244 * n + 14) (by omega))).thn (Cpd.st (p := 244 * n + 0) (by omega))).wk (fun x q => ?_)
    omega
  have em : h0 (244 * n + 8) = k (244 * n + 8) := c0.at (by omega)
  obtain ⟨h', x1, x2⟩ := t_ntakes_122 (C := C) (Hd := Hd) (Mo := Mo) (k := k) (Ck := Ck) (Hk := Hk) (Mk := Mk) d hA hB n0 n1 m9 (k (244 * n + 8)).toNat h0 0 FU (by omega) (by omega) em (by unfold FU; omega)
  refine ⟨h', ?_, (c0.thn x2).wk (fun x q => by unfold nodeP at q; omega)⟩
  rcases u with u | u
  · simp (disch := first | assumption | omega) only [sX4_takes, dj_gIc, dj_gIn, dj_aIn, dj_aIc, dj_gRc, dj_gRn, dj_aRc, z10, z00, if_true, if_false, iv_add, iv_sub, iv_mul, iv_le, iv_lt, iv_eq, iv_mx, iv_mn, bI_z, bI_o, rZ0, rZ1, rZb, cl_some', lt_eq, rm_eq, dv_eq, iv_01, iv_10, the, lastA, lpA, st_eq, st_ne, sh_addM, cV_cl, cV_nd, cV_mo, cV_lt, gR_t0, aR_nd, gR_c0, gR_c1, gR_c2, gR_c3, gR_c4, gR_c5, gR_c6, gR_c15, gR_c16, gI_c7, pI_c7, gI_c8, pI_c8, gI_c9, pI_c9, gI_c10, pI_c10, gI_c11, pI_c11, gI_c12, pI_c12, gI_c13, pI_c13, gI_c14, pI_c14, gN_9, gN_10, gN_11, gN_12, gN_13, gN_14, gN_15, gN_16, gN_17, gN_18, gN_19, gN_20, gN_21, gN_22, gN_23, pN_9, pN_10, pN_11, pN_12, pN_13, pN_14, pN_15, pN_16, pN_17, pN_18, pN_19, pN_20, pN_21, pN_22, pZ_0, pZ_1, gR_n0, aI_n0, sI_n0, gR_n1, aI_n1, sI_n1, gR_n2, aI_n2, sI_n2, gR_n3, aI_n3, sI_n3, gR_n4, aI_n4, sI_n4, gR_n5, aI_n5, sI_n5, gR_n6, aI_n6, sI_n6, gR_n7, aI_n7, sI_n7, gR_n8, aI_n8, sI_n8, aR_s, aI_s, sI_s, aR_h, aI_h, sI_h, aR_r, aI_r, sI_r, aI_c, sI_c, aI_l, sI_l, aI_ca, aI_ha, sI_ca, sI_ha, gI_mo, pI_mo, u]
    rw [u] at hh0
    rw [hh0]
    exact x1
  · simp (disch := first | assumption | omega) only [sX4_takes, dj_gIc, dj_gIn, dj_aIn, dj_aIc, dj_gRc, dj_gRn, dj_aRc, z10, z00, if_true, if_false, iv_add, iv_sub, iv_mul, iv_le, iv_lt, iv_eq, iv_mx, iv_mn, bI_z, bI_o, rZ0, rZ1, rZb, cl_some', lt_eq, rm_eq, dv_eq, iv_01, iv_10, the, lastA, lpA, st_eq, st_ne, sh_addM, cV_cl, cV_nd, cV_mo, cV_lt, gR_t0, aR_nd, gR_c0, gR_c1, gR_c2, gR_c3, gR_c4, gR_c5, gR_c6, gR_c15, gR_c16, gI_c7, pI_c7, gI_c8, pI_c8, gI_c9, pI_c9, gI_c10, pI_c10, gI_c11, pI_c11, gI_c12, pI_c12, gI_c13, pI_c13, gI_c14, pI_c14, gN_9, gN_10, gN_11, gN_12, gN_13, gN_14, gN_15, gN_16, gN_17, gN_18, gN_19, gN_20, gN_21, gN_22, gN_23, pN_9, pN_10, pN_11, pN_12, pN_13, pN_14, pN_15, pN_16, pN_17, pN_18, pN_19, pN_20, pN_21, pN_22, pZ_0, pZ_1, gR_n0, aI_n0, sI_n0, gR_n1, aI_n1, sI_n1, gR_n2, aI_n2, sI_n2, gR_n3, aI_n3, sI_n3, gR_n4, aI_n4, sI_n4, gR_n5, aI_n5, sI_n5, gR_n6, aI_n6, sI_n6, gR_n7, aI_n7, sI_n7, gR_n8, aI_n8, sI_n8, aR_s, aI_s, sI_s, aR_h, aI_h, sI_h, aR_r, aI_r, sI_r, aI_c, sI_c, aI_l, sI_l, aI_ca, aI_ha, sI_ca, sI_ha, gI_mo, pI_mo, u]
    rw [u] at hh0
    rw [hh0]
    exact x1
end
