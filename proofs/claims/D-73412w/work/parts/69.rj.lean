/-! DEPS: ri -/
/-! RJ: the invariant through winning, laying, sending -/
def Ex (g : Row) (h : His) (R : Int) (D : DK) : Prop := ∃ h' FL', Gr h h' ∧ InvS g h' FL' R D
section
variable {g g' : Row} {h h' : His} {FL : Int → ELog} {R : Int} {D : DK} {Λ : Law}
theorem InvS.ex (I : InvS g h FL R D) : Ex g h R D := ⟨h, FL, Gr.rfl, I⟩
theorem Ex.gr (G : Gr h h') (e : Ex g h' R D) : Ex g h R D := by
  obtain ⟨h2, F2, G2, I2⟩ := e
  exact ⟨h2, F2, G.trans G2, I2⟩
theorem Ex.bind {R' : Int} {D' : DK} (e : Ex g h R D) (f : ∀ h' FL', Gr h h' → InvS g h' FL' R D → Ex g' h' R' D') : Ex g' h R' D' := by
  obtain ⟨h2, F2, G2, I2⟩ := e
  exact (f h2 F2 G2 I2).gr G2
/-- the row of who led -/
theorem InvS.ledr (I : InvS g h FL R D) (he : ∀ x, (x < 10028 ∨ 11028 ≤ x) → ¬ x = 11136 → g' x = g x) (hl : LdrA g') : InvS g' h FL R D := by
  have hA := I.ar
  refine ⟨I.hi, fun n n0 n1 => NA_ext (fun x _ _ => he x (by omega) (by omega)) (he _ (by omega) (by omega)) (I.na n n0 n1), fun n n0 n1 => ?_, fun i a b => ?_, ?_, fun x a b => by rw [he x (by omega) (by omega)]; exact I.hd x a b, fun i a b => by rw [he _ (by omega) (by omega), he _ (by omega) (by omega)]; exact I.hc i a b, RdA_ext (he _ (by omega) (by omega)) hA.2 (fun x a b => he x (by omega) (by omega)) I.rd, fun r a b c => ?_, hl, fun k a b => by rw [he _ (by omega) (by omega)]; exact I.ct k a b, by rw [he _ (by omega) (by omega), he _ (by omega) (by omega), he _ (by omega) (by omega)]; exact I.dd, I.rr⟩
  · obtain ⟨⟨s1, s2⟩, _⟩ := I.na n n0 n1
    exact NB_ext (fun x _ _ _ => he x (by omega) (by omega)) ⟨n0, by omega, by omega⟩ (I.nb n n0 n1)
  · rw [he _ (by omega) (by omega)] at b
    rw [he 11134 (by omega) (by omega)]
    have hG := I.gl
    obtain ⟨_, _, _, _, _, _, _, _, _, _, _, _⟩ := hG
    obtain ⟨q1, q2⟩ := I.ml i a b
    have e : ∀ w, 0 ≤ w → w < 27 → msg g' i w = msg g i w := fun w w0 w1 => he _ (by omega) (by omega)
    exact ⟨MI_ext (fun w w0 w1 _ => e w w0 w1) q1, by rw [e 4 (by omega) (by omega)]; exact q2⟩
  · have hG := I.gl
    exact GlA_ext hG (he _ (by omega) (by omega)) (he _ (by omega) (by omega)) (he _ (by omega) (by omega)) (by rw [he _ (by omega) (by omega)]; obtain ⟨_, _, _, _, _, _, _, _, _, _, _, _⟩ := hG; omega) (he _ (by omega) (by omega)) (he _ (by omega) (by omega))
  · rw [he _ (by omega) (by omega)] at b c
    have := I.rd r a b
    rw [he (11028 + 6 * r) (by omega) (by omega), he _ (by omega) (by omega)]
    exact I.rl r a b c
theorem InvS.led (I : InvS g h FL R D) {n : Int} (n0 : 0 ≤ n) (n1 : n < 7) : InvS (ledG g n) h FL R D := by
  obtain ⟨⟨s1, s2⟩, _⟩ := I.na n n0 n1
  have hS := led_St (I.sta n0 n1)
  exact I.ledr (fun x a b => ledG_ne (by omega) (by omega) (by omega)) hS.2.2.2.2.1
/-- a candidate with a majority leads -/
theorem InvS.crown (I : InvS g h FL R D) {n : Int} (n0 : 0 ≤ n) (n1 : n < 7) (hr : g (244 * n + 3) = 1) (hm : mostA g n (g (244 * n + 12))) (h1 : 1 ≤ g (244 * n + 1)) : ∃ h', Gr h h' ∧ InvS (crownG g n) h' FL R D := by
  have nb := I.nb n n0 n1
  have a := I.na n n0 n1
  obtain ⟨⟨s1, s2⟩, _⟩ := I.na n n0 n1
  have rr := I.rr
  obtain ⟨c, c1, c2, c3, c4⟩ := nb.2.conf (by omega)
  have hmj := (most_iff c2 c3).mp hm
  have hU := nb.1.free I.hi n0 hr c1 hmj
  refine ⟨h.elect (g (244 * n + 1)) n (FL n) (g (244 * n + 4) + g (244 * n + 8)), Gr.elect I.hi hU (by omega), ?_⟩
  have o := fun x hx => crownG_ne (g := g) (n := n) (x := x) hx
  have o31 : ∀ x, 244 * n + 31 ≤ x → x < 244 * n + 38 → crownG g n x = g (244 * n + 4) + g (244 * n + 8) + 1 := by
    intro x a b
    unfold crownG
    rw [if_neg (by omega), if_neg (by omega), if_neg (by omega), if_neg (by omega), if_pos ⟨a, b⟩]
  have o38 : ∀ x, 244 * n + 38 ≤ x → x < 244 * n + 52 → crownG g n x = 0 := by
    intro x a b
    unfold crownG
    rw [if_neg (by omega), if_neg (by omega), if_neg (by omega), if_neg (by omega), if_neg (by omega), if_pos ⟨a, b⟩]
  have o3 : crownG g n (244 * n + 3) = 2 := if_pos rfl
  have o11 : crownG g n (244 * n + 11) = n := by
    unfold crownG
    rw [if_neg (by omega), if_pos rfl]
  have o14 : crownG g n (244 * n + 14) = 0 := by
    unfold crownG
    rw [if_neg (by omega), if_neg (by omega), if_pos rfl]
  have o13 : crownG g n (244 * n + 13) = 1 := by
    unfold crownG
    rw [if_neg (by omega), if_neg (by omega), if_neg (by omega), if_pos rfl]
  have := I.node (g' := crownG g n) (fl' := FL n) n0 n1 (nb.1.elect_hi I.hi n0 hr c1 hmj h1) (Ot.elect I.hi hU (by omega)) (fun x _ => o x (by omega)) ⟨?_, fun x b c => by rw [o x (by omega)]; exact a.ky x b c, fun e k b c => ?_, fun e k b c => ?_⟩ (NB.mk (nb.1.elect I.hi n0 hr c1 hmj (mt' := fun _ => 0) (fun _ _ _ => Int.le_refl _)) (Lk_ext (fun x b c d => o x (by omega)) ⟨n0, by omega, by omega⟩ nb.2) (o _ (by omega)) (o _ (by omega)) o3 (by rw [o _ (by omega), o _ (by omega)]) (o _ (by omega)) (o _ (by omega)) (fun k _ _ => o38 _ (by omega) (by omega))) (fun _ => o3)
  · rw [fl_self] at this
    exact this
  · unfold NSg
    rw [o (244 * n + 0) (by omega), o (244 * n + 1) (by omega), o (244 * n + 2) (by omega), o3, o (244 * n + 4) (by omega), o (244 * n + 5) (by omega), o (244 * n + 6) (by omega), o (244 * n + 7) (by omega), o (244 * n + 8) (by omega), o (244 * n + 9) (by omega), o (244 * n + 10) (by omega), o11, o (244 * n + 12) (by omega), o13, o14, o 11134 (by omega)]
    unfold NS at *
    omega
  · rw [o (244 * n + 9) (by omega), o (244 * n + 4) (by omega)] at e
    rw [o _ (by omega), o _ (by omega)]
    exact a.kb e k b c
  · rw [o31 (244 * n + (31 + k)) (by omega) (by omega), o38 (244 * n + (38 + k)) (by omega) (by omega), o38 (244 * n + (45 + k)) (by omega) (by omega), o (244 * n + 4) (by omega), o (244 * n + 8) (by omega)]
    omega
/-- a node compacts -/
theorem InvS.comp (I : InvS g h FL R D) {n : Int} (n0 : 0 ≤ n) (n1 : n < 7) : InvS (compG g n) h FL R D := by
  have nb := I.nb n n0 n1
  have a := I.na n n0 n1
  have hL := I.lg n0 n1
  have hL' := compG_Lg hL
  have hL2 := hL'
  obtain ⟨⟨s1, s2⟩, _⟩ := I.na n n0 n1
  have o := fun x a b c => compG_ne (g := g) (n := n) (x := x) a b c
  have e9 : compG g n (244 * n + 9) = g (244 * n + 9) := o _ (by omega) (by omega) (by omega)
  have e4 := compG_4 (g := g) (n := n)
  have e8 := compG_8 (g := g) (n := n)
  obtain ⟨⟨_, _, _, _, _, _, _, _, _, _, _, _, _, _⟩, _⟩ := hL'
  have := I.node (g' := compG g n) (fl' := FL n) n0 n1 I.hi Ot.rfl (fun x _ => o x (by omega) (by omega) (by omega)) ⟨?_, fun x b c => ?_, fun e k b c => ?_, fun e k b c => ?_⟩ (NB.mk nb.1 (nb.2.comp hL) (o _ (by omega) (by omega) (by omega)) (o _ (by omega) (by omega) (by omega)) (o _ (by omega) (by omega) (by omega)) (by rw [e4, e8]; omega) e9 (o _ (by omega) (by omega) (by omega)) (fun k _ _ => o _ (by omega) (by omega) (by omega))) (by rw [o _ (by omega) (by omega) (by omega)]; exact id)
  · rw [fl_self] at this
    exact this
  · unfold NSg
    rw [o (244 * n + 0) (by omega) (by omega) (by omega), o (244 * n + 1) (by omega) (by omega) (by omega), o (244 * n + 2) (by omega) (by omega) (by omega), o (244 * n + 3) (by omega) (by omega) (by omega), o (244 * n + 10) (by omega) (by omega) (by omega), o (244 * n + 11) (by omega) (by omega) (by omega), o (244 * n + 12) (by omega) (by omega) (by omega), o (244 * n + 13) (by omega) (by omega) (by omega), o (244 * n + 14) (by omega) (by omega) (by omega), o 11134 (by omega) (by omega) (by omega)]
    unfold NS at *
    omega
  · by_cases q : 244 * n + 23 ≤ x
    · rw [compG_snap q c]
      exact a.ky _ (by omega) (by omega)
    · rw [o _ (by omega) (by omega) (by omega)]
      exact a.ky x b c
  · rw [compG_snap (x := 244 * n + (23 + k)) (by omega) (by omega), o (244 * n + (15 + k)) (by omega) (by omega) (by omega)]
    congr 1
    omega
  · rw [o (244 * n + 3) (by omega) (by omega) (by omega)] at e
    have := a.lr e k b c
    rw [o (244 * n + (31 + k)) (by omega) (by omega) (by omega), o (244 * n + (38 + k)) (by omega) (by omega) (by omega), o (244 * n + (45 + k)) (by omega) (by omega) (by omega), e4, e8]
    omega
theorem InvS.layc (I : InvS g h FL R D) {n : Int} (n0 : 0 ≤ n) (n1 : n < 7) : InvS (lay1 g n) h FL R D := by
  unfold lay1
  split
  · exact I.comp n0 n1
  · exact I
end
