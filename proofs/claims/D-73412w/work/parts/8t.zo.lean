/-! DEPS: zn -/
/-! ZO: TermLog's planner reads an act -/
theorem ifE {α : Type} {c k : Int} {x y : α} (c0 : -1000 ≤ c) (c1 : c ≤ 1000) (k0 : -1000 ≤ k) (k1 : k ≤ 1000) : (if iI c = iI k then x else y) = if c = k then x else y := by
  have e := EI c0 c1 k0 k1
  by_cases h : c = k
  · rw [if_pos h, if_pos (e.mpr h)]
  · rw [if_neg h, if_neg (fun z => h (e.mp z))]
/-- an act's repetition must find room -/
def pFit (l : List Act) (fr t : Int) (x : Act) (p : Int) : ResP := if (l.length : Int) + t > 200 then .inl (6, fr) else .inr (l ++ [x], p)
def AcK (r : Row) (l : List Act) : Prop := r 8 = (l.length : Int) ∧ l.length ≤ 200 ∧ AcN r l l.length
section
variable {A : Nat} {M : Mem}
/-- with a fault: only the place goes on, by m at most -/
def BadO (A : Nat) (M : Mem) (r : Row) (z : Option (Unit × Mem)) (m : Int) : Prop := ∃ r', z = some ((), kw A r' M) ∧ r' 6 = r 6 ∧ r' 7 = r 7 ∧ r' 0 = r 0 ∧ r 5 ≤ r' 5 ∧ r' 5 ≤ r 5 + m
def OutK (A : Nat) (M : Mem) (r : Row) (z : Option (Unit × Mem)) (bnd : Int) (res : ResP) : Prop := match res with
  | .inl x => ∃ r', z = some ((), kw A r' M) ∧ r' 6 = x.1 ∧ r' 7 = x.2 ∧ r' 0 = r 0 ∧ 0 ≤ r' 5 ∧ r' 5 ≤ bnd ∧ 1 ≤ x.1 ∧ x.1 ≤ 9
  | .inr x => ∃ r', z = some ((), kw A r' M) ∧ r' 6 = 0 ∧ r' 5 = x.2 ∧ r' 0 = r 0 ∧ r' 9 = r 9 ∧ AcK r' x.1
theorem BadO.me {r : Row} : BadO A M r (some ((), kw A r M)) 0 := ⟨r, rfl, rfl, rfl, rfl, by omega, by omega⟩
theorem BadO.up {r r1 : Row} {z : Option (Unit × Mem)} {m m1 n : Int} (h : BadO A M r1 z m) (e6 : r1 6 = r 6) (e7 : r1 7 = r 7) (e0 : r1 0 = r 0) (e5 : r 5 ≤ r1 5) (e9 : r1 5 ≤ r 5 + m1) (hm : m + m1 ≤ n) : BadO A M r z n := by
  obtain ⟨r', a, b, c, d, e, f⟩ := h
  exact ⟨r', a, b.trans e6, c.trans e7, d.trans e0, by omega, by omega⟩
theorem BadO.out {r r1 : Row} {z : Option (Unit × Mem)} {m bnd w pl : Int} (h : BadO A M r1 z m) (e6 : r1 6 = w) (e7 : r1 7 = pl) (e0 : r1 0 = r 0) (e5 : 0 ≤ r1 5) (e9 : r1 5 + m ≤ bnd) (hw : 1 ≤ w ∧ w ≤ 9 := by omega) : OutK A M r z bnd (.inl (w, pl)) := by
  obtain ⟨r', a, b, c, d, e, f⟩ := h
  exact ⟨r', a, b.trans e6, c.trans e7, d.trans e0, by omega, by omega, hw.1, hw.2⟩
theorem OutK.up {r r1 : Row} {z : Option (Unit × Mem)} {bnd b2 : Int} {res : ResP} (h : OutK A M r1 z bnd res) (e0 : r1 0 = r 0) (e9 : r1 9 = r 9) (hb : bnd ≤ b2) : OutK A M r z b2 res := by
  unfold OutK at h ⊢
  cases res with
  | inl x => obtain ⟨r', a, b, c, d, e, f, g⟩ := h; exact ⟨r', a, b, c, d.trans e0, e, by omega, g⟩
  | inr x => obtain ⟨r', a, b, c, d, e, f⟩ := h; exact ⟨r', a, b, c, d.trans e0, e.trans e9, f⟩
theorem AcK.to {r r1 : Row} {l : List Act} (h : AcK r l) (k : ∀ y, y = 8 ∨ 6000 ≤ y → r1 y = r y) : AcK r1 l := ⟨(k 8 (by omega)).trans h.1, h.2.1, fun i x hi hx => by
  rw [k _ (by omega), k _ (by omega), k _ (by omega), k _ (by omega)]; exact h.2.2 i x hi hx⟩
/-! digits -/
theorem k_digitB (hK : LK A M) {r : Row} {b : Int} (f0 : 1 ≤ r 6) (f1 : r 6 ≤ 9) (h5 : 0 ≤ r 5) (h9 : r 5 ≤ 100000) (h0 : 0 ≤ r 0) (h1 : r 0 ≤ 240) : ∃ v, sX16_digit (some A) (iI b) (kw A r M) = some (v, kw A (st r 5 (r 5 + 1)) M) := by
  refine ⟨iI (h0A (tpL M) (r 0) (r 5) - 48), ?_⟩
  unfold sX16_digit
  rw [cV_k hK, k_here hK h5 h9 h0 h1, clw, cV_k hK, k_good hK (by omega) f1, clw, if_pos (by rw [bI_z]; omega), iv_sub]
  unfold sX16_digit_32
  rw [gI_k5 hK, iv_add, pI_k5 hK]
theorem k_digit (hK : LK A M) {r : Row} {b : Int} (b0 : 0 ≤ b) (b1 : b ≤ 10) (f0 : r 6 = 0) (h5 : 0 ≤ r 5) (h9 : r 5 ≤ 100000) (h0 : 0 ≤ r 0) (h1 : r 0 ≤ 240) :
    (pDg (tpL M) (r 0) (b - 1) (r 5) → sX16_digit (some A) (iI b) (kw A r M) = some (iI (hrA (tpL M) (r 0) (r 5) - 48), kw A (st r 5 (r 5 + 1)) M))
    ∧ (¬ pDg (tpL M) (r 0) (b - 1) (r 5) → ∃ v, sX16_digit (some A) (iI b) (kw A r M) = some (v, kw A (st (st (st r 6 1) 7 (r 5)) 5 (r 5 + 1)) M)) := by
  have hr := hrL_r (M := M) (n := r 0) (p := r 5)
  have h0r := h0K_r (M := M) (n := r 0) (p := r 5)
  have h0h := h0_hr (M := M) (n := r 0) (p := r 5)
  have go : sX16_digit (some A) (iI b) (kw A r M) = if bI (0 ≤ h0A (tpL M) (r 0) (r 5) - 48 ∧ h0A (tpL M) (r 0) (r 5) - 48 < b) = iI 0 then sX16_digit_32 (some A) (iI (h0A (tpL M) (r 0) (r 5) - 48)) (kw A (st (st r 6 1) 7 (r 5)) M) else sX16_digit_32 (some A) (iI (h0A (tpL M) (r 0) (r 5) - 48)) (kw A r M) := by
    unfold sX16_digit
    rw [cV_k hK, k_here hK h5 h9 h0 h1, clw, cV_k hK, k_good hK (by omega) (by omega), clw, if_neg (by rw [bI_z]; omega), iv_sub, t_in (by omega) (by omega) b0 (by omega), clw, gI_k5 hK, cV_k hK, k_bad hK f0, clw]
  refine ⟨fun d => ?_, fun d => ?_⟩
  · unfold pDg at d
    have e : h0A (tpL M) (r 0) (r 5) = hrA (tpL M) (r 0) (r 5) := by rw [h0h, if_neg (by omega)]
    rw [go, if_neg (by rw [bI_z]; omega), e]
    unfold sX16_digit_32
    rw [gI_k5 hK, iv_add, pI_k5 hK]
  · unfold pDg at d
    refine ⟨iI (h0A (tpL M) (r 0) (r 5) - 48), ?_⟩
    rw [go, if_pos (by rw [bI_z, h0h]; split <;> omega)]
    unfold sX16_digit_32
    rw [gI_k5 hK, st_ne (by omega), st_ne (by omega), iv_add, pI_k5 hK]
/-! with a fault -/
theorem k192B (hK : LK A M) {r : Row} {c a b v : Int32} (f0 : 1 ≤ r 6) (f1 : r 6 ≤ 9) : sX16_act_192 (some A) c a b v (kw A r M) = some ((), kw A r M) := by
  unfold sX16_act_192
  rw [cV_k hK, k_good hK (by omega) f1, clw, if_pos (by rw [bI_z]; omega)]
theorem k164B (hK : LK A M) {r : Row} {fr t c a b v : Int32} (f0 : 1 ≤ r 6) (f1 : r 6 ≤ 9) : sX16_act_164 (some A) fr t c a b v (kw A r M) = some ((), kw A r M) := by
  unfold sX16_act_164
  rw [cV_k hK, k_good hK (by omega) f1, clw, if_pos (by rw [bI_z]; omega), k192B hK f0 f1]
theorem k148B (hK : LK A M) {r : Row} {fr t c a b : Int32} (f0 : 1 ≤ r 6) (f1 : r 6 ≤ 9) (h5 : 0 ≤ r 5) (h9 : r 5 ≤ 100000) (h0 : 0 ≤ r 0) (h1 : r 0 ≤ 240) : BadO A M r (sX16_act_148 (some A) fr t c a b (kw A r M)) 1 := by
  unfold sX16_act_148
  split
  · obtain ⟨v, hv⟩ := k_digitB hK (b := 10) f0 f1 h5 h9 h0 h1
    have e6 : st r 5 (r 5 + 1) 6 = r 6 := st_ne (by omega)
    rw [cV_k hK, hv, clw, k164B hK (by rw [e6]; omega) (by rw [e6]; omega)]
    exact BadO.me.up (m1 := 1) e6 (st_ne (by omega)) (st_ne (by omega)) (by rw [st_eq]; omega) (by rw [st_eq]; omega) (by omega)
  · rw [k164B hK f0 f1]
    exact BadO.me.up (m1 := 0) rfl rfl rfl (by omega) (by omega) (by omega)
theorem k112B (hK : LK A M) {r : Row} {fr t c a s b : Int32} (f0 : 1 ≤ r 6) (f1 : r 6 ≤ 9) (h5 : 0 ≤ r 5) (h9 : r 5 ≤ 100000) (h0 : 0 ≤ r 0) (h1 : r 0 ≤ 240) : BadO A M r (sX16_act_112 (some A) fr t c a s b (kw A r M)) 1 := by
  unfold sX16_act_112
  rw [cV_k hK, k_good hK (by omega) f1, clw, if_pos (by rw [bI_z]; omega)]
  exact k148B hK f0 f1 h5 h9 h0 h1
theorem k109B (hK : LK A M) {r : Row} {b : Int} {fr t c a s : Int32} (f0 : 1 ≤ r 6) (f1 : r 6 ≤ 9) (h5 : 0 ≤ r 5) (h9 : r 5 ≤ 90000) (h0 : 0 ≤ r 0) (h1 : r 0 ≤ 240) : BadO A M r (sX16_act_109 (some A) fr t c a s (some A) (iI b) (kw A r M)) 2 := by
  unfold sX16_act_109
  obtain ⟨v, hv⟩ := k_digitB hK (b := b) f0 f1 h5 (by omega) h0 h1
  have e6 : st r 5 (r 5 + 1) 6 = r 6 := st_ne (by omega)
  have e0 : st r 5 (r 5 + 1) 0 = r 0 := st_ne (by omega)
  have e5 : st r 5 (r 5 + 1) 5 = r 5 + 1 := st_eq _ _ _
  rw [cV_k hK, hv, clw]
  exact (k112B hK (by rw [e6]; omega) (by rw [e6]; omega) (by omega) (by omega) (by omega) (by omega)).up (m1 := 1) e6 (st_ne (by omega)) e0 (by omega) (by omega) (by omega)
theorem k53B (hK : LK A M) {r : Row} {fr t c a : Int32} (f0 : 1 ≤ r 6) (f1 : r 6 ≤ 9) (h5 : 0 ≤ r 5) (h9 : r 5 ≤ 90000) (h0 : 0 ≤ r 0) (h1 : r 0 ≤ 240) : BadO A M r (sX16_act_53 (some A) fr t c a (kw A r M)) 2 := by
  have A1 : ∀ s, BadO A M r (sX16_act_85 (some A) fr t c a s (kw A r M)) 2 := fun s => (k112B hK f0 f1 h5 (by omega) h0 h1).up (m1 := 0) rfl rfl rfl (by omega) (by omega) (by omega)
  have A2 : ∀ s, BadO A M r (sX16_act_102 (some A) fr t c a s (some A) (kw A r M)) 2 := fun s => k109B hK f0 f1 h5 h9 h0 h1
  have A3 : ∀ s, BadO A M r (sX16_act_109 (some A) fr t c a s (some A) (iI 7) (kw A r M)) 2 := fun s => k109B hK f0 f1 h5 h9 h0 h1
  unfold sX16_act_53
  rw [gI_k5 hK]
  split
  · exact A1 _
  split
  · exact A1 _
  split
  · exact A1 _
  split
  · exact A1 _
  split
  · exact A2 _
  split
  · exact A2 _
  · exact A3 _
theorem k27B (hK : LK A M) {r : Row} {fr t c : Int32} (f0 : 1 ≤ r 6) (f1 : r 6 ≤ 9) (h5 : 0 ≤ r 5) (h9 : r 5 ≤ 80000) (h0 : 0 ≤ r 0) (h1 : r 0 ≤ 240) : BadO A M r (sX16_act_27 (some A) fr t c (kw A r M)) 4 := by
  unfold sX16_act_27
  rw [gI_k5 hK, iv_add, pI_k5 hK]
  obtain ⟨r1, hr1⟩ : ∃ r1, r1 = st r 5 (r 5 + 1) := ⟨_, rfl⟩
  rw [← hr1]
  have e6 : r1 6 = r 6 := by rw [hr1]; exact st_ne (by omega)
  have e7 : r1 7 = r 7 := by rw [hr1]; exact st_ne (by omega)
  have e0 : r1 0 = r 0 := by rw [hr1]; exact st_ne (by omega)
  have e5 : r1 5 = r 5 + 1 := by rw [hr1]; exact st_eq _ _ _
  split
  · exact (k53B hK (by omega) (by omega) (by omega) (by omega) (by omega) (by omega)).up (m1 := 1) e6 e7 e0 (by omega) (by omega) (by omega)
  · obtain ⟨v, hv⟩ := k_digitB (r := r1) hK (b := 7) (by omega) (by omega) (by omega) (by omega) (by omega) (by omega)
    rw [cV_k hK, hv, clw]
    have e5' : st r1 5 (r1 5 + 1) 5 = r 5 + 2 := by rw [st_eq]; omega
    have e6' : st r1 5 (r1 5 + 1) 6 = r 6 := (st_ne (by omega)).trans e6
    have e0' : st r1 5 (r1 5 + 1) 0 = r 0 := (st_ne (by omega)).trans e0
    exact (k53B hK (by omega) (by omega) (by omega) (by omega) (by omega) (by omega)).up (m1 := 2) e6' ((st_ne (by omega)).trans e7) e0' (by omega) (by omega) (by omega)
end
