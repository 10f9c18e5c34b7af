/-! DEPS: cf -/
/-! TR: the twin holds, leads -/
section
variable {g mi mn F : Row} {S : Nat → Int32} {M : Mem} {Λ : Law}
theorem LdA_mk {g' : Row} {n : Int} (hL : LgA g' n) (h1 : g' (244 * n + 1) = g (244 * n + 1)) (h31 : ∀ x, 244 * n + 31 ≤ x → x < 244 * n + 38 → g' x = g x) (hl : g (244 * n + 4) + g (244 * n + 8) ≤ g' (244 * n + 4) + g' (244 * n + 8)) (h : LdA g n) : LdA g' n := by
  refine ⟨hL, by rw [h1]; exact h.2.1, by rw [h1]; exact h.2.2.1, fun t a b => ?_⟩
  rw [h31 (244 * n + (31 + t)) (by omega) (by omega)]
  have := h.2.2.2 t a b
  omega
/-- what holding needs of a node -/
def HoA (g : Row) (n : Int) : Prop := LdA g n ∧ MtA g n ∧ HdA g ∧ GlA g ∧ RdA g ∧ 1 ≤ g (244 * n + 1) ∧ 0 ≤ g (244 * n + 3) ∧ g (244 * n + 3) ≤ 2
theorem HoA.cm {n : Int} (h : HoA g n) : CmA g n := ⟨h.1.1, h.2.2.1, h.2.2.2.1⟩
theorem HoA.n0 {n : Int} (h : HoA g n) : 0 ≤ n ∧ n < 7 := ⟨h.1.1.1.1, h.1.1.1.2.1⟩
theorem HoA.ar {n : Int} (h : HoA g n) : 0 ≤ g 11135 ∧ g 11135 ≤ 16 := by
  have hG := h.2.2.2.1
  obtain ⟨_, _, _, _, _, _, _, _, _, _, _, _⟩ := hG
  omega
theorem growG_Ho {n t : Int} (h : HoA g n) (ht : t ≤ g (244 * n + 4) + g (244 * n + 8)) : HoA (growG g n t) n := by
  have hC := h.cm
  have hn := h.n0
  have hC' := growG_Cm hC ht
  have o := fun x a b c d e f => growG_ne (x := x) hC ht a b c d e f
  obtain ⟨h1, h2, h3, h4, h5, h6, h7, h8⟩ := h
  have hA : g 11135 ≤ 16 := by
    have hG := h4
    obtain ⟨_, _, _, _, _, _, _, _, _, _, _, _⟩ := hG
    omega
  refine ⟨LdA_mk hC'.1 (o _ (by omega) (by omega) (by omega) (by omega) (by omega) (by omega)) (fun x _ _ => o _ (by omega) (by omega) (by omega) (by omega) (by omega) (by omega)) ?_ h1, MtA_ext (fun x _ _ => o _ (by omega) (by omega) (by omega) (by omega) (by omega) (by omega)) h2, hC'.2.1, hC'.2.2, RdA_ext (o _ (by omega) (by omega) (by omega) (by omega) (by omega) (by omega)) hA (fun x _ _ => o _ (by omega) (by omega) (by omega) (by omega) (by omega) (by omega)) h5, ?_, ?_, ?_⟩
  · rw [o (244 * n + 4) (by omega) (by omega) (by omega) (by omega) (by omega) (by omega), o (244 * n + 8) (by omega) (by omega) (by omega) (by omega) (by omega) (by omega)]
    omega
  · rw [o (244 * n + 1) (by omega) (by omega) (by omega) (by omega) (by omega) (by omega)]; exact h6
  · rw [o (244 * n + 3) (by omega) (by omega) (by omega) (by omega) (by omega) (by omega)]; exact h7
  · rw [o (244 * n + 3) (by omega) (by omega) (by omega) (by omega) (by omega) (by omega)]; exact h8
theorem GlA_blk {g' : Row} (h : ∀ x, 11131 ≤ x → g' x = g x) (hG : GlA g) : GlA g' :=
  GlA_ext hG (h _ (by omega)) (h _ (by omega)) (h _ (by omega)) (by rw [h _ (by omega)]; exact ⟨hG.2.2.2.2.2.2.1, hG.2.2.2.2.2.2.2.1⟩) (h _ (by omega)) (h _ (by omega))
theorem HoA_blk {g' : Row} {n : Int} (h : HoA g n) (hL : LdA g' n) (hM : MtA g' n) (h1 : g' (244 * n + 1) = g (244 * n + 1)) (h3 : g' (244 * n + 3) = g (244 * n + 3)) (ho : ∀ x, 6028 ≤ x → g' x = g x) : HoA g' n := by
  have hA := h.ar
  obtain ⟨_, _, a3, a4, a5, a6, a7, a8⟩ := h
  refine ⟨hL, hM, fun x x1 x2 => by rw [ho x (by omega)]; exact a3 x x1 x2, GlA_blk (fun x _ => ho x (by omega)) a4, RdA_ext (ho _ (by omega)) hA.2 (fun x _ _ => ho x (by omega)) a5, ?_, ?_, ?_⟩
  · rw [h1]; exact a6
  · rw [h3]; exact a7
  · rw [h3]; exact a8
theorem layG_Ho {n k a b : Int} (h : HoA g n) (hk : 0 ≤ k ∧ k ≤ 2) (ha : 0 ≤ a ∧ a ≤ 127) (hb : 0 ≤ b ∧ b ≤ 127) (hk0 : k = 0 → a ≤ 7) : HoA (layG g n (g (244 * n + 1)) k a b) n := by
  have hn := h.n0
  have hL := h.1.1
  have hl := layG_last (t := g (244 * n + 1)) (k := k) (a := a) (b := b) hL
  have h9 : g (244 * n + 1) ≤ 999 := h.1.2.2.1
  have h6 : 1 ≤ g (244 * n + 1) := h.2.2.2.2.2.1
  have hL' := layG_Lg hL ⟨h6, h9⟩ hk ha hb hk0
  refine HoA_blk h (LdA_mk hL' (layG_ne hL (by omega) (by omega) (by omega)) (fun x _ _ => layG_ne hL (by omega) (by omega) (by omega)) (by split at hl <;> omega) h.1) (MtA_ext (fun x _ _ => layG_ne hL (by omega) (by omega) (by omega)) h.2.1) (layG_ne hL (by omega) (by omega) (by omega)) (layG_ne hL (by omega) (by omega) (by omega)) (fun x _ => layG_ne hL (by omega) (by omega) (by omega))
theorem matchO_Ho {n : Int} (h : HoA g n) : HoA (st g (244 * n + 38 + n) (lastA g n)) n := by
  have hn := h.n0
  have hL := h.1.1
  have hL0 := hL
  obtain ⟨⟨_, _, _, _, _, _, _, _, _, _, _, _, _, _⟩, _⟩ := hL0
  have o : ∀ x, ¬ x = 244 * n + 38 + n → st g (244 * n + 38 + n) (lastA g n) x = g x := fun x hx => st_ne hx
  refine HoA_blk h (LdA_mk (LgA_ext2 (fun x _ _ _ => o x (by omega)) hL) (o _ (by omega)) (fun x _ _ => o x (by omega)) (by rw [o _ (by omega), o _ (by omega)]; omega) h.1) ?_ (o _ (by omega)) (o _ (by omega)) (fun x _ => o x (by omega))
  intro k k0 k1
  have := h.2.1 k k0 k1
  rw [o (244 * n + (45 + k)) (by omega)]
  by_cases c : k = n
  · rw [c, show 244 * n + (38 + n) = 244 * n + 38 + n by omega, st_eq]
    simp only [lastA, the]
    rw [c] at this
    omega
  · rw [o (244 * n + (38 + k)) (by omega)]
    exact this
theorem sendAll_Ho {n : Int} (h : HoA g n) : HoA (sendAllG Λ g n) n := by
  have hn := h.n0
  have hA := h.ar
  obtain ⟨a1, a2, a3, a4, a5, a6, a7, a8⟩ := h
  have o := fun x (hx : x < 1708 ∨ (6028 ≤ x ∧ x < 11132) ∨ (11134 ≤ x ∧ ¬ x = 11137)) => sendAllG_lo (Λ := Λ) (n := n) a4 hx
  refine ⟨LdA_ext (fun x _ _ => o x (by omega)) a1, MtA_ext (fun x _ _ => o x (by omega)) a2, fun x x1 x2 => by rw [o x (by omega)]; exact a3 x x1 x2, sendAllG_Gl a4, RdA_ext (o _ (by omega)) hA.2 (fun x _ _ => o x (by omega)) a5, ?_, ?_, ?_⟩
  · rw [o _ (by omega)]; exact a6
  · rw [o _ (by omega)]; exact a7
  · rw [o _ (by omega)]; exact a8
end
