/-! DEPS: zo -/
/-! ZP: TermLog's planner reads an act: without a fault -/
theorem ixo2 {c : Int} (c0 : 0 ≤ c) (c1 : c ≤ 255) : (iI 0 ≤ ixo (lits 2) (iI c)) ↔ isActA c := by
  unfold ixo isActA
  rw [iv_to (by omega) (by omega)]
  have e : ixoF (lits 2) c 0 = if 46 = c then 0 else if 107 = c then 1 else if 117 = c then 2 else if 99 = c then 3 else if 119 = c then 4 else if 114 = c then 5 else if 120 = c then 6 else if 106 = c then 7 else -1 := rfl
  rw [e]
  by_cases d1 : c = 46
  · subst d1; decide
  by_cases d2 : c = 107
  · subst d2; decide
  by_cases d3 : c = 117
  · subst d3; decide
  by_cases d4 : c = 99
  · subst d4; decide
  by_cases d5 : c = 119
  · subst d5; decide
  by_cases d6 : c = 114
  · subst d6; decide
  by_cases d7 : c = 120
  · subst d7; decide
  by_cases d8 : c = 106
  · subst d8; decide
  rw [if_neg (by omega), if_neg (by omega), if_neg (by omega), if_neg (by omega), if_neg (by omega), if_neg (by omega), if_neg (by omega), if_neg (by omega)]
  constructor
  · intro z; exact absurd z (by decide)
  · intro z; omega
section
variable (T : Int → Int) (n : Int) (l : List Act) (fr t c : Int)
def a148 (a b p : Int) : ResP := if c ≠ 119 then pFit l fr t (c, a, b, 0) p else if ¬ pDg T n 9 p then .inl (1, p) else pFit l fr t (c, a, b, hrA T n p - 48) (p + 1)
def a112 (a s b p : Int) : ResP := if (c = 120 ∨ c = 106) ∧ a = b then .inl (7, s) else a148 T n l fr t c a b p
def a109 (a hi p : Int) : ResP := if ¬ pDg T n hi p then .inl (1, p) else a112 T n l fr t c a p (hrA T n p - 48) (p + 1)
def a53 (a p : Int) : ResP := if c = 46 ∨ c = 107 ∨ c = 117 ∨ c = 99 then a112 T n l fr t c a p 0 p else a109 T n l fr t c a (if c = 120 ∨ c = 106 then 6 else 7) p
def a27 (p : Int) : ResP := if c = 46 then a53 T n l fr t c 0 p else if ¬ pDg T n 6 p then .inl (1, p) else a53 T n l fr t c (hrA T n p - 48) (p + 1)
theorem a27_num (hc : isActA c) (p : Int) : a27 T n l fr t c p = match pNum T n c p with
    | .inl e => .inl e
    | .inr (x, p') => pFit l fr t x p' := by
  unfold a27 pNum
  by_cases c1 : c = 46
  · rw [if_pos c1, if_pos c1]
    unfold a53 a112 a148
    rw [if_pos (Or.inl c1), if_neg (by omega), if_pos (by omega)]
  · rw [if_neg c1, if_neg c1]
    by_cases d1 : pDg T n 6 p
    · rw [if_neg (fun z => z d1), if_neg (fun z => z d1)]
      unfold a53
      by_cases c2 : c = 107 ∨ c = 117 ∨ c = 99
      · rw [if_pos (Or.inr c2), if_pos c2]
        unfold a112 a148
        rw [if_neg (by omega), if_pos (by omega)]
      · rw [if_neg (fun z => z.elim c1 c2), if_neg c2]
        unfold a109
        by_cases d2 : pDg T n (if c = 120 ∨ c = 106 then 6 else 7) (p + 1)
        · rw [if_neg (fun z => z d2), if_neg (fun z => z d2)]
          unfold a112
          by_cases c3 : (c = 120 ∨ c = 106) ∧ hrA T n p = hrA T n (p + 1)
          · rw [if_pos ⟨c3.1, by rw [c3.2]⟩, if_pos c3]
          · rw [if_neg (fun z => c3 ⟨z.1, by omega⟩), if_neg c3]
            unfold a148
            rw [show p + 1 + 1 = p + 2 by omega]
            by_cases c4 : c = 119
            · rw [if_neg (show ¬ c ≠ 119 from fun z => z c4), if_neg (show ¬ c ≠ 119 from fun z => z c4)]
              by_cases d3 : pDg T n 9 (p + 2)
              · rw [if_neg (show ¬ ¬ pDg T n 9 (p + 2) from fun z => z d3), if_neg (show ¬ ¬ pDg T n 9 (p + 2) from fun z => z d3), show p + 2 + 1 = p + 3 by omega]
              · rw [if_pos d3, if_pos d3]
            · rw [if_pos c4, if_pos c4]
        · rw [if_pos d2, if_pos d2]
    · rw [if_pos d1, if_pos d1]
end
section
variable {A : Nat} {M : Mem} {r : Row} {l : List Act} {fr t c a b s bnd : Int}
theorem k192G (hK : LK A M) {x : Act} (f0 : r 6 = 0) (ac : AcK r l) (h : l.length < 200) : ∃ r', sX16_act_192 (some A) (iI x.1) (iI x.2.1) (iI x.2.2.1) (iI x.2.2.2) (kw A r M) = some ((), kw A r' M) ∧ AcK r' (l ++ [x]) ∧ ∀ y, y ≠ 8 → y < 6000 → r' y = r y := by
  obtain ⟨a1, a2, a3⟩ := ac
  obtain ⟨r4, h4⟩ : ∃ r4, r4 = st (st (st (st (st r (6000 + (l.length : Int)) x.1) (6300 + (l.length : Int)) x.2.1) (6600 + (l.length : Int)) x.2.2.1) (6900 + (l.length : Int)) x.2.2.2) 8 ((l.length : Int) + 1) := ⟨_, rfl⟩
  have ln : (l ++ [x]).length = l.length + 1 := by rw [List.length_append]; rfl
  refine ⟨r4, ?_, ⟨by rw [h4, st_eq, ln]; rfl, by omega, fun i y hi hy => ?_⟩, fun y y1 y2 => by rw [h4, st_ne (by omega), st_ne (by omega), st_ne (by omega), st_ne (by omega), st_ne (by omega)]⟩
  · unfold sX16_act_192
    rw [cV_k hK, k_good hK (by omega) (by omega), clw, if_neg (by rw [bI_z]; omega), gR_k1 hK, gI_k8 hK, a1, sI_k1 hK (by omega) (by omega), gR_k2 hK, gI_k8 hK, st_ne (by omega), a1, sI_k2 hK (by omega) (by omega),
      gR_k3 hK, gI_k8 hK, st_ne (by omega), st_ne (by omega), a1, sI_k3 hK (by omega) (by omega), gR_k4 hK, gI_k8 hK, st_ne (by omega), st_ne (by omega), st_ne (by omega), a1, sI_k4 hK (by omega) (by omega),
      gI_k8 hK, st_ne (by omega), st_ne (by omega), st_ne (by omega), st_ne (by omega), a1, iv_add, pI_k8 hK, ← h4]
  · by_cases c : i < l.length
    · rw [List.getElem?_append_left c] at hy
      have := a3 i y c hy
      subst h4
      rw [st_ne (by omega), st_ne (by omega), st_ne (by omega), st_ne (by omega), st_ne (by omega), st_ne (by omega), st_ne (by omega), st_ne (by omega), st_ne (by omega), st_ne (by omega), st_ne (by omega), st_ne (by omega), st_ne (by omega), st_ne (by omega), st_ne (by omega), st_ne (by omega), st_ne (by omega), st_ne (by omega), st_ne (by omega), st_ne (by omega)]
      exact this
    · have ci : i = l.length := by omega
      subst ci
      rw [List.getElem?_append_right (Nat.le_refl _), Nat.sub_self] at hy
      have hy : some x = some y := hy
      cases hy
      subst h4
      refine ⟨?_, ?_, ?_, ?_⟩
      · rw [st_ne (by omega), st_ne (by omega), st_ne (by omega), st_ne (by omega), st_eq]
      · rw [st_ne (by omega), st_ne (by omega), st_ne (by omega), st_eq]
      · rw [st_ne (by omega), st_ne (by omega), st_eq]
      · rw [st_ne (by omega), st_eq]
/-- how a thing stands before an act is laid -/
abbrev GoK (r : Row) (l : List Act) (t bnd : Int) : Prop := r 6 = 0 ∧ AcK r l ∧ 1 ≤ t ∧ t ≤ 9 ∧ 0 ≤ r 5 ∧ r 5 ≤ 80000 ∧ 0 ≤ r 0 ∧ r 0 ≤ 240 ∧ r 5 + 10 ≤ bnd
theorem k164G (hK : LK A M) {x : Act} {t : Int} (f0 : r 6 = 0) (ac : AcK r l) (t0 : 1 ≤ t) (t1 : t ≤ 9) (h5 : 0 ≤ r 5) (hb : r 5 ≤ bnd) : OutK A M r (sX16_act_164 (some A) (iI fr) (iI t) (iI x.1) (iI x.2.1) (iI x.2.2.1) (iI x.2.2.2) (kw A r M)) bnd (pFit l fr t x (r 5)) := by
  have l200 := ac.2.1
  have El : (iI ((l.length : Int) + t) ≤ iI 200) = ((l.length : Int) + t ≤ 200) := iv_le (by omega) (by omega) (by omega) (by omega)
  unfold sX16_act_164 pFit
  rw [cV_k hK, k_good hK (by omega) (by omega), clw, if_neg (by rw [bI_z]; omega), gI_k8 hK, ac.1, iv_add]
  by_cases g : (l.length : Int) + t > 200
  · have e6 : st (st r 6 6) 7 fr 6 = 6 := (st_ne (by omega)).trans (st_eq _ _ _)
    rw [if_pos g, if_neg (by rw [El]; omega), cV_k hK, k_bad hK f0, clw, k192B hK (by omega) (by omega)]
    exact BadO.me.out e6 (st_eq _ _ _) ((st_ne (by omega)).trans (st_ne (by omega))) (by rw [st_ne (by omega), st_ne (by omega)]; exact h5) (by rw [st_ne (by omega), st_ne (by omega)]; omega)
  · rw [if_neg g, if_pos (by rw [El]; omega)]
    obtain ⟨r', b1, b2, b3⟩ := k192G (x := x) hK f0 ac (by omega)
    exact ⟨r', b1, (b3 6 (by omega) (by omega)).trans f0, b3 5 (by omega) (by omega), b3 0 (by omega) (by omega), b3 9 (by omega) (by omega), b2⟩
theorem k148G (hK : LK A M) (c0 : 0 ≤ c) (c1 : c ≤ 255) (f0 : r 6 = 0) (ac : AcK r l) (t0 : 1 ≤ t) (t1 : t ≤ 9) (h5 : 0 ≤ r 5) (h9 : r 5 ≤ 80000) (h0 : 0 ≤ r 0) (h1 : r 0 ≤ 240) (hb : r 5 + 2 ≤ bnd) :
    OutK A M r (sX16_act_148 (some A) (iI fr) (iI t) (iI c) (iI a) (iI b) (kw A r M)) bnd (a148 (tpL M) (r 0) l fr t c a b (r 5)) := by
  unfold sX16_act_148 a148
  rw [ifE (by omega) (by omega) (by omega) (by omega)]
  by_cases e : c = 119
  · rw [if_pos e, if_neg (fun z => z e), cV_k hK]
    obtain ⟨g1, g2⟩ := k_digit (b := 10) hK (by omega) (by omega) f0 h5 (by omega) h0 h1
    have g1 : pDg (tpL M) (r 0) 9 (r 5) → _ := g1
    have g2 : ¬ pDg (tpL M) (r 0) 9 (r 5) → _ := g2
    by_cases d : pDg (tpL M) (r 0) 9 (r 5)
    · have k6 : st r 5 (r 5 + 1) 6 = 0 := (st_ne (by omega)).trans f0
      have k5 : st r 5 (r 5 + 1) 5 = r 5 + 1 := st_eq _ _ _
      have q := k164G (A := A) (M := M) (r := st r 5 (r 5 + 1)) (l := l) (x := (c, a, b, hrA (tpL M) (r 0) (r 5) - 48)) (fr := fr) (bnd := bnd) hK k6 (ac.to (fun y hy => st_ne (by omega))) t0 t1 (by omega) (by omega)
      rw [k5] at q
      rw [if_neg (fun z => z d), g1 d, clw]
      exact q.up (st_ne (by omega)) (st_ne (by omega)) (Int.le_refl _)
    · obtain ⟨v, hv⟩ := g2 d
      have e6 : st (st (st r 6 1) 7 (r 5)) 5 (r 5 + 1) 6 = 1 := (st_ne (by omega)).trans ((st_ne (by omega)).trans (st_eq _ _ _))
      rw [if_pos d, hv, clw, k164B hK (by omega) (by omega)]
      exact BadO.me.out e6 ((st_ne (by omega)).trans (st_eq _ _ _)) ((st_ne (by omega)).trans ((st_ne (by omega)).trans (st_ne (by omega)))) (by rw [st_eq]; omega) (by rw [st_eq]; omega)
  · rw [if_neg e, if_pos e]
    exact k164G (x := (c, a, b, 0)) hK f0 ac t0 t1 h5 (by omega)
theorem k112G (hK : LK A M) (c0 : 0 ≤ c) (c1 : c ≤ 255) (a0 : -50 ≤ a) (a1 : a ≤ 255) (b0 : -50 ≤ b) (b1 : b ≤ 255) (f0 : r 6 = 0) (ac : AcK r l) (t0 : 1 ≤ t) (t1 : t ≤ 9) (h5 : 0 ≤ r 5) (h9 : r 5 ≤ 80000) (h0 : 0 ≤ r 0) (h1 : r 0 ≤ 240) (hb : r 5 + 2 ≤ bnd) :
    OutK A M r (sX16_act_112 (some A) (iI fr) (iI t) (iI c) (iI a) (iI s) (iI b) (kw A r M)) bnd (a112 (tpL M) (r 0) l fr t c a s b (r 5)) := by
  have G := k148G (fr := fr) (a := a) (b := b) (bnd := bnd) hK c0 c1 f0 ac t0 t1 h5 h9 h0 h1 hb
  have X : (c = 120 ∨ c = 106) → OutK A M r (sX16_act_133 (some A) (iI fr) (iI t) (iI c) (iI a) (iI s) (iI b) (kw A r M)) bnd (a112 (tpL M) (r 0) l fr t c a s b (r 5)) := by
    intro hc
    unfold sX16_act_133 a112
    rw [ifE (by omega) (by omega) (by omega) (by omega)]
    by_cases e : a = b
    · have e6 : st (st r 6 7) 7 s 6 = 7 := (st_ne (by omega)).trans (st_eq _ _ _)
      have e5 : st (st r 6 7) 7 s 5 = r 5 := (st_ne (by omega)).trans (st_ne (by omega))
      have e0 : st (st r 6 7) 7 s 0 = r 0 := (st_ne (by omega)).trans (st_ne (by omega))
      rw [if_pos e, if_pos ⟨hc, e⟩, cV_k hK, k_bad hK f0, clw]
      exact (k148B hK (by omega) (by omega) (by omega) (by omega) (by omega) (by omega)).out e6 (st_eq _ _ _) e0 (by omega) (by omega)
    · rw [if_neg e, if_neg (fun z => e z.2)]
      exact G
  unfold sX16_act_112
  rw [cV_k hK, k_good hK (by omega) (by omega), clw, if_neg (by rw [bI_z]; omega), ifE (by omega) (by omega) (by omega) (by omega), ifE (by omega) (by omega) (by omega) (by omega)]
  by_cases x1 : c = 120
  · rw [if_pos x1]
    exact X (Or.inl x1)
  · rw [if_neg x1]
    by_cases x2 : c = 106
    · rw [if_pos x2]
      exact X (Or.inr x2)
    · rw [if_neg x2]
      unfold a112
      rw [if_neg (by omega)]
      exact G
theorem k109G (hK : LK A M) {hi : Int} (i0 : 0 ≤ hi) (i1 : hi ≤ 9) (c0 : 0 ≤ c) (c1 : c ≤ 255) (a0 : -50 ≤ a) (a1 : a ≤ 255) (f0 : r 6 = 0) (ac : AcK r l) (t0 : 1 ≤ t) (t1 : t ≤ 9) (h5 : 0 ≤ r 5) (h9 : r 5 ≤ 70000) (h0 : 0 ≤ r 0) (h1 : r 0 ≤ 240) (hb : r 5 + 3 ≤ bnd) :
    OutK A M r (sX16_act_109 (some A) (iI fr) (iI t) (iI c) (iI a) (iI (r 5)) (some A) (iI (hi + 1)) (kw A r M)) bnd (a109 (tpL M) (r 0) l fr t c a hi (r 5)) := by
  unfold sX16_act_109 a109
  obtain ⟨g1, g2⟩ := k_digit (b := hi + 1) hK (by omega) (by omega) f0 h5 (by omega) h0 h1
  rw [show hi + 1 - 1 = hi by omega] at g1 g2
  have hr := hrL_r (M := M) (n := r 0) (p := r 5)
  rw [cV_k hK]
  by_cases d : pDg (tpL M) (r 0) hi (r 5)
  · have k6 : st r 5 (r 5 + 1) 6 = 0 := (st_ne (by omega)).trans f0
    have k5 : st r 5 (r 5 + 1) 5 = r 5 + 1 := st_eq _ _ _
    have k0 : st r 5 (r 5 + 1) 0 = r 0 := st_ne (by omega)
    have q := k112G (A := A) (M := M) (r := st r 5 (r 5 + 1)) (l := l) (fr := fr) (a := a) (s := r 5) (b := hrA (tpL M) (r 0) (r 5) - 48) (bnd := bnd) hK c0 c1 a0 a1 (by omega) (by omega) k6 (ac.to (fun y hy => st_ne (by omega))) t0 t1 (by omega) (by omega) (by omega) (by omega) (by omega)
    rw [k5, k0] at q
    rw [if_neg (fun z => z d), g1 d, clw]
    exact q.up k0 (st_ne (by omega)) (Int.le_refl _)
  · obtain ⟨v, hv⟩ := g2 d
    have e6 : st (st (st r 6 1) 7 (r 5)) 5 (r 5 + 1) 6 = 1 := (st_ne (by omega)).trans ((st_ne (by omega)).trans (st_eq _ _ _))
    have e5 : st (st (st r 6 1) 7 (r 5)) 5 (r 5 + 1) 5 = r 5 + 1 := st_eq _ _ _
    have e0 : st (st (st r 6 1) 7 (r 5)) 5 (r 5 + 1) 0 = r 0 := (st_ne (by omega)).trans ((st_ne (by omega)).trans (st_ne (by omega)))
    rw [if_pos d, hv, clw]
    exact (k112B hK (by omega) (by omega) (by omega) (by omega) (by omega) (by omega)).out e6 ((st_ne (by omega)).trans (st_eq _ _ _)) e0 (by omega) (by omega)
theorem k53G (hK : LK A M) (hc : isActA c) (a0 : -50 ≤ a) (a1 : a ≤ 255) (f0 : r 6 = 0) (ac : AcK r l) (t0 : 1 ≤ t) (t1 : t ≤ 9) (h5 : 0 ≤ r 5) (h9 : r 5 ≤ 70000) (h0 : 0 ≤ r 0) (h1 : r 0 ≤ 240) (hb : r 5 + 3 ≤ bnd) :
    OutK A M r (sX16_act_53 (some A) (iI fr) (iI t) (iI c) (iI a) (kw A r M)) bnd (a53 (tpL M) (r 0) l fr t c a (r 5)) := by
  have c01 : 0 ≤ c ∧ c ≤ 255 := by unfold isActA at hc; omega
  have G1 := k112G (fr := fr) (a := a) (s := r 5) (b := 0) (bnd := bnd) hK c01.1 c01.2 a0 a1 (by omega) (by omega) f0 ac t0 t1 h5 (by omega) h0 h1 (by omega)
  have G6 := k109G (fr := fr) (a := a) (hi := 6) (bnd := bnd) hK (by omega) (by omega) c01.1 c01.2 a0 a1 f0 ac t0 t1 h5 h9 h0 h1 hb
  have G7 := k109G (fr := fr) (a := a) (hi := 7) (bnd := bnd) hK (by omega) (by omega) c01.1 c01.2 a0 a1 f0 ac t0 t1 h5 h9 h0 h1 hb
  have W := c01
  unfold sX16_act_53 a53
  rw [gI_k5 hK, ifE (by omega) (by omega) (by omega) (by omega), ifE (by omega) (by omega) (by omega) (by omega), ifE (by omega) (by omega) (by omega) (by omega), ifE (by omega) (by omega) (by omega) (by omega), ifE (by omega) (by omega) (by omega) (by omega), ifE (by omega) (by omega) (by omega) (by omega)]
  by_cases x1 : c = 46
  · rw [if_pos x1, if_pos (Or.inl x1)]
    exact G1
  rw [if_neg x1]
  by_cases x2 : c = 107
  · rw [if_pos x2, if_pos (by omega)]
    exact G1
  rw [if_neg x2]
  by_cases x3 : c = 117
  · rw [if_pos x3, if_pos (by omega)]
    exact G1
  rw [if_neg x3]
  by_cases x4 : c = 99
  · rw [if_pos x4, if_pos (by omega)]
    exact G1
  rw [if_neg x4, if_neg (show ¬ (c = 46 ∨ c = 107 ∨ c = 117 ∨ c = 99) by omega)]
  by_cases x5 : c = 119
  · rw [if_pos x5, if_neg (by omega)]
    exact G7
  rw [if_neg x5]
  by_cases x6 : c = 114
  · rw [if_pos x6, if_neg (by omega)]
    exact G7
  · rw [if_neg x6, if_pos (by unfold isActA at hc; omega)]
    exact G6
theorem k27G (hK : LK A M) (hc : isActA c) (f0 : r 6 = 0) (ac : AcK r l) (t0 : 1 ≤ t) (t1 : t ≤ 9) (h5 : 0 ≤ r 5) (h9 : r 5 ≤ 60000) (h0 : 0 ≤ r 0) (h1 : r 0 ≤ 240) (hb : r 5 + 6 ≤ bnd) :
    OutK A M r (sX16_act_27 (some A) (iI fr) (iI t) (iI c) (kw A r M)) bnd (a27 (tpL M) (r 0) l fr t c (r 5 + 1)) := by
  have c01 : 0 ≤ c ∧ c ≤ 255 := by unfold isActA at hc; omega
  have W := c01
  unfold sX16_act_27 a27
  rw [gI_k5 hK, iv_add, pI_k5 hK, ifE (by omega) (by omega) (by omega) (by omega)]
  obtain ⟨r1, hr1⟩ : ∃ r1, r1 = st r 5 (r 5 + 1) := ⟨_, rfl⟩
  rw [← hr1]
  have e6 : r1 6 = 0 := by rw [hr1]; exact (st_ne (by omega)).trans f0
  have e0 : r1 0 = r 0 := by rw [hr1]; exact st_ne (by omega)
  have e9 : r1 9 = r 9 := by rw [hr1]; exact st_ne (by omega)
  have e5 : r1 5 = r 5 + 1 := by rw [hr1]; exact st_eq _ _ _
  have ac1 : AcK r1 l := ac.to (fun y hy => by rw [hr1]; exact st_ne (by omega))
  by_cases x1 : c = 46
  · rw [if_pos x1, if_pos x1]
    have q := k53G (fr := fr) (a := 0) (bnd := bnd) hK hc (by omega) (by omega) e6 ac1 t0 t1 (by omega) (by omega) (by omega) (by omega) (by omega)
    rw [e5, e0] at q
    exact q.up e0 e9 (Int.le_refl _)
  · rw [if_neg x1, if_neg x1, cV_k hK]
    have hr := hrL_r (M := M) (n := r 0) (p := r 5 + 1)
    obtain ⟨g1, g2⟩ := k_digit (r := r1) (b := 7) hK (by omega) (by omega) e6 (by omega) (by omega) (by omega) (by omega)
    rw [e5, e0] at g1 g2
    have g1 : pDg (tpL M) (r 0) 6 (r 5 + 1) → _ := g1
    have g2 : ¬ pDg (tpL M) (r 0) 6 (r 5 + 1) → _ := g2
    by_cases d : pDg (tpL M) (r 0) 6 (r 5 + 1)
    · obtain ⟨r2, hr2⟩ : ∃ r2, r2 = st r1 5 (r 5 + 1 + 1) := ⟨_, rfl⟩
      have g1 := g1 d
      rw [← hr2] at g1
      have k6 : r2 6 = 0 := by rw [hr2]; exact (st_ne (by omega)).trans e6
      have k0 : r2 0 = r 0 := by rw [hr2]; exact (st_ne (by omega)).trans e0
      have k9 : r2 9 = r 9 := by rw [hr2]; exact (st_ne (by omega)).trans e9
      have k5 : r2 5 = r 5 + 1 + 1 := by rw [hr2]; exact st_eq _ _ _
      have q := k53G (A := A) (M := M) (r := r2) (l := l) (fr := fr) (a := hrA (tpL M) (r 0) (r 5 + 1) - 48) (bnd := bnd) hK hc (by omega) (by omega) k6 (ac1.to (fun y hy => by rw [hr2]; exact st_ne (by omega))) t0 t1 (by omega) (by omega) (by omega) (by omega) (by omega)
      rw [k5, k0] at q
      rw [if_neg (fun z => z d), g1, clw]
      exact q.up k0 k9 (Int.le_refl _)
    · obtain ⟨v, hv⟩ := g2 d
      obtain ⟨r2, hr2⟩ : ∃ r2, r2 = st (st (st r1 6 1) 7 (r 5 + 1)) 5 (r 5 + 1 + 1) := ⟨_, rfl⟩
      rw [← hr2] at hv
      have k6 : r2 6 = 1 := by rw [hr2]; exact (st_ne (by omega)).trans ((st_ne (by omega)).trans (st_eq _ _ _))
      have k5 : r2 5 = r 5 + 1 + 1 := by rw [hr2]; exact st_eq _ _ _
      have k7 : r2 7 = r 5 + 1 := by rw [hr2]; exact (st_ne (by omega)).trans (st_eq _ _ _)
      have k0 : r2 0 = r 0 := by rw [hr2]; exact (st_ne (by omega)).trans ((st_ne (by omega)).trans ((st_ne (by omega)).trans e0))
      rw [if_pos d, hv, clw]
      exact (k53B hK (by omega) (by omega) (by omega) (by omega) (by omega) (by omega)).out k6 k7 k0 (by omega) (by omega)
/-- an act is read, if it finds room -/
def pActL (T : Int → Int) (n : Int) (l : List Act) (fr t p : Int) : ResP := if ¬ isActA (hrA T n p) then .inl (1, p) else match pNum T n (hrA T n p) (p + 1) with
  | .inl e => .inl e
  | .inr (x, p') => pFit l fr t x p'
theorem k_act (hK : LK A M) (f0 : r 6 = 0) (ac : AcK r l) (t0 : 1 ≤ t) (t1 : t ≤ 9) (h5 : 0 ≤ r 5) (h9 : r 5 ≤ 50000) (h0 : 0 ≤ r 0) (h1 : r 0 ≤ 240) (hb : r 5 + 6 ≤ bnd) :
    OutK A M r (sX16_act (some A) (iI fr) (iI t) (kw A r M)) bnd (pActL (tpL M) (r 0) l fr t (r 5)) := by
  have hr := hrL_r (M := M) (n := r 0) (p := r 5)
  have h0r := h0K_r (M := M) (n := r 0) (p := r 5)
  have h0h := h0_hr (M := M) (n := r 0) (p := r 5)
  have B : OutK A M r (sX16_act_18 (some A) (iI fr) (iI t) (iI (h0A (tpL M) (r 0) (r 5))) (kw A r M)) bnd (.inl (1, r 5)) := by
    unfold sX16_act_18
    have e6 : st (st r 6 1) 7 (r 5) 6 = 1 := (st_ne (by omega)).trans (st_eq _ _ _)
    have e5 : st (st r 6 1) 7 (r 5) 5 = r 5 := (st_ne (by omega)).trans (st_ne (by omega))
    have e0 : st (st r 6 1) 7 (r 5) 0 = r 0 := (st_ne (by omega)).trans (st_ne (by omega))
    rw [gI_k5 hK, cV_k hK, k_bad hK f0, clw]
    exact (k27B hK (by omega) (by omega) (by omega) (by omega) (by omega) (by omega)).out e6 (st_eq _ _ _) e0 (by omega) (by omega)
  unfold sX16_act pActL
  rw [cV_k hK, k_here hK h5 (by omega) h0 h1, clw, ifE (by omega) (by omega) (by omega) (by omega)]
  by_cases z : h0A (tpL M) (r 0) (r 5) = 0
  · rw [if_pos z, if_pos (by intro q; unfold isActA at q; rw [h0h] at z; split at z <;> omega)]
    exact B
  · rw [if_neg z]
    have e : h0A (tpL M) (r 0) (r 5) = hrA (tpL M) (r 0) (r 5) := by
      rw [h0h] at z ⊢
      split at z
      · exact absurd rfl z
      · exact if_neg (by assumption)
    rw [e] at B h0r ⊢
    have ix := ixo2 (c := hrA (tpL M) (r 0) (r 5)) h0r.1 h0r.2
    by_cases q : isActA (hrA (tpL M) (r 0) (r 5))
    · rw [if_pos (ix.mpr q), if_neg (fun z => z q), ← a27_num _ _ _ _ _ _ q]
      exact k27G hK q f0 ac t0 t1 h5 (by omega) h0 h1 hb
    · rw [if_neg (fun z => q (ix.mp z)), if_pos q]
      exact B
end
