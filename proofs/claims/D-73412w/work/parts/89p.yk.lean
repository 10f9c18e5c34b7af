/-! DEPS: yj -/
/-! YK: the twin reads pieces, chains, conditions -/
section
variable {M : Mem}
theorem jump_f {q q3 : Row} (hq : PQ q) (hn : q 7 < q 8) {op : Int} (o11 : op = 11 ∨ op = 12) (h : jumpG q op = q3) : PQ q3 ∧ q3 7 = q 7 + 1 ∧ q3 8 = q 8 ∧ q3 11 = q 11 ∧ q3 12 = q 12 + 1 ∧ q3 13 = q 13 + 1 ∧ q3 (2000 + q 13) = 1048576 * op + q 12 ∧ q3 (1000 + q 12) = 1048576 * op ∧ Kq (q 12) (q 13) q q3 := by
  have p := hq.p
  have c := hq.c
  have w := hq.w
  have o := hq.o
  have e12 : pushG q (1048576 * op + q 12) 12 = q 12 := by unfold pushG; rw [st_ne (by omega), st_ne (by omega)]
  have ne : ∀ x, ¬ x = 7 → ¬ x = 12 → ¬ x = 13 → ¬ x = 1000 + q 12 → ¬ x = 2000 + q 13 → q3 x = q x := by
    intro x a b d e f
    rw [← h]
    unfold jumpG noteG
    rw [e12, st_ne a, st_ne b, st_ne e]
    unfold pushG
    rw [st_ne d, st_ne f]
  have a7 : q3 7 = q 7 + 1 := by rw [← h]; exact st_eq _ _ _
  have a12 : q3 12 = q 12 + 1 := by rw [← h]; unfold jumpG noteG; rw [e12, st_ne (by omega), st_eq]
  have a13 : q3 13 = q 13 + 1 := by
    rw [← h]; unfold jumpG noteG
    rw [e12, st_ne (by omega), st_ne (by omega), st_ne (by omega)]
    exact st_eq _ _ _
  have aw : q3 (2000 + q 13) = 1048576 * op + q 12 := by
    rw [← h]; unfold jumpG noteG
    rw [e12, st_ne (by omega), st_ne (by omega), st_ne (by omega)]
    unfold pushG
    rw [st_ne (by omega), st_eq]
  have ac : q3 (1000 + q 12) = 1048576 * op := by
    rw [← h]; unfold jumpG noteG
    rw [e12, st_ne (by omega), st_ne (by omega), st_eq]
    omega
  have a8 := ne 8 (by omega) (by omega) (by omega) (by omega) (by omega)
  have a11 := ne 11 (by omega) (by omega) (by omega) (by omega) (by omega)
  refine ⟨hq.pushed hn (v := 1048576 * op + q 12) (by omega) (by omega) a7 a8 (Or.inr a12) a13 (by omega) aw (fun i i0 i1 => ne _ (by omega) (by omega) (by omega) (by omega) (by omega)), a7, a8, a11, a12, a13, aw, ac, ⟨fun i i0 i1 => ne _ (by omega) (by omega) (by omega) (by omega) (by omega), fun i i0 i1 => ne _ (by omega) (by omega) (by omega) (by omega) (by omega), fun x h => ne _ (by omega) (by omega) (by omega) (by omega) (by omega), a8, ne _ (by omega) (by omega) (by omega) (by omega) (by omega), ne _ (by omega) (by omega) (by omega) (by omega) (by omega)⟩⟩
theorem open_f {q q1 : Row} (hq : PQ q) (hn : q 7 < q 8) (o6 : q 11 ≠ 6) {w : Int} (w0 : 0 ≤ w) (w9 : w ≤ 15) (h : openG q w = q1) : PQ q1 ∧ q1 7 = q 7 + 1 ∧ q1 8 = q 8 ∧ q1 11 = q 11 + 1 ∧ q1 12 = q 12 ∧ q1 13 = q 13 + 1 ∧ q1 (2000 + q 13) = 1048576 * w ∧ Kq (q 12) (q 13) q q1 := by
  have p := hq.p
  have c := hq.c
  have ww := hq.w
  have o := hq.o
  have ne : ∀ x, ¬ x = 2000 + q 13 → ¬ x = 13 → ¬ x = 7 → ¬ x = 11 → q1 x = q x := fun x a b d e => by
    rw [← h]
    unfold openG pushG
    rw [st_ne d, st_ne b, st_ne (by rw [st_ne (show ¬ (13 : Int) = 11 by omega)]; exact a), st_ne e]
  have a7 : q1 7 = q 7 + 1 := by rw [← h]; exact st_eq _ _ _
  have a13 : q1 13 = q 13 + 1 := by
    rw [← h]; unfold openG pushG
    rw [st_ne (by omega), st_eq, st_ne (by omega)]
  have a11 : q1 11 = q 11 + 1 := by
    rw [← h]; unfold openG pushG
    rw [st_ne (by omega), st_ne (by omega), st_ne (by rw [st_ne (by omega)]; omega), st_eq]
  have aw : q1 (2000 + q 13) = 1048576 * w := by
    rw [← h]; unfold openG pushG
    rw [st_ne (by omega), st_ne (by omega), st_ne (show ¬ (13 : Int) = 11 by omega), st_eq]
  have a8 := ne 8 (by omega) (by omega) (by omega) (by omega)
  have a12 := ne 12 (by omega) (by omega) (by omega) (by omega)
  exact ⟨hq.pushed hn (v := 1048576 * w) (by omega) (by omega) a7 a8 (Or.inl a12) a13 (by omega) aw (fun i i0 i1 => ne _ (by omega) (by omega) (by omega) (by omega)), a7, a8, a11, a12, a13, aw, ⟨fun i i0 i1 => ne _ (by omega) (by omega) (by omega) (by omega), fun i i0 i1 => ne _ (by omega) (by omega) (by omega) (by omega), fun x h => ne _ (by omega) (by omega) (by omega) (by omega), a8, ne _ (by omega) (by omega) (by omega) (by omega), ne _ (by omega) (by omega) (by omega) (by omega)⟩⟩
abbrev ChnOk (M : Mem) (n : Int) (q : Row) (A : Option (Int32 × Mem)) (o : Int) (P : Row → Int → Int → CndV → Prop) (w c p0 : Int) (sp : Int → Prop) (r : Res CndV) : Prop :=
  (∀ x p', r = .inr (x, p') → ∃ fu' g' q', A = dnQ fu' g' q' M ∧ PQ q' ∧ q' 7 = p' ∧ q 7 ≤ p' ∧ q' 11 = o ∧ P q' w c x ∧ q' 12 - c ≤ p' - p0 ∧ Kq c w q q' ∧ n - p' < fu' ∧ n - p' < g' ∧ sp (hrA (tpA M) n p')) ∧
  (∀ x pl, r = .inl (x, pl) → ∃ q', A = some (iI 0, pw q' M) ∧ Bd q q' x pl)
/-- at a sign of joining -/
theorem dn_join (hL : LPt M) {q q2 : Row} {fu g : Nat} (hq : PQ q) {ch op al : Int} (hc : hrA (tpA M) (q 8) (q 7) = ch) (hj : (ch = 38 ∧ op = 11 ∧ al = 0) ∨ (ch = 124 ∧ op = 12 ∧ al = 1)) (hl : sX8_lands (some 3772) (iI al) (pw q M) = some ((), pw q2 M)) (hq2 : PQ q2) (e7 : q2 7 = q 7) (e8 : q2 8 = q 8) : dnQ fu (g + 1) q M = cwQ fu (jumpG q2 op) M := by
  have xh := p_hereQ (q := q) hL hq
  have xh2 := p_hereQ (q := q2) hL hq2
  rw [e7, e8] at xh2
  rw [hc] at xh xh2
  unfold dnQ cwQ
  show sX8_readsCondition_92b (sX8_readsCondition_40 fu) (sX8_readsCondition_92 (sX8_readsCondition_40 fu) g) _ _ = _
  generalize sX8_readsCondition_92 (sX8_readsCondition_40 fu) g = K2
  generalize sX8_readsCondition_40 fu = K
  unfold sX8_readsCondition_92b sX8_readsCondition_180 sX8_readsCondition_195 sX8_readsCondition_215
  rcases hj with ⟨rfl, rfl, rfl⟩ | ⟨rfl, rfl, rfl⟩
  · rw [cV_p hL, xh, clq, if_neg (by decide), cV_p hL, xh, clq, if_pos rfl, cV_p hL, xh, clq, if_neg (by decide), cV_p hL, hl, clq, cV_p hL, xh2, clq, if_pos rfl, cV_p hL, p_jumps hL hq2, clq]
  · rw [cV_p hL, xh, clq, if_neg (by decide), cV_p hL, xh, clq, if_neg (by decide), cV_p hL, xh, clq, if_pos rfl, cV_p hL, xh, clq, if_pos rfl, cV_p hL, hl, clq, cV_p hL, xh2, clq, if_neg (by decide), cV_p hL, p_jumps hL hq2, clq]
abbrev okJ (q : Row) (w : Int) : Prop := 1 ≤ w ∧ 11 ≤ q (2000 + (w - 1)) / 1048576
theorem Kq.okJ {c w : Int} {q q1 : Row} (k : Kq c w q q1) (b : okJ q w) : okJ q1 w := ⟨b.1, by rw [k.w (w - 1) (by have := b.1; omega) (by omega)]; exact b.2⟩
theorem top_ne {q : Row} {w : Int} (h : q 13 = w) (b : okJ q w) : topQ q ≠ 10 := by
  have := top_at (q := q) (w := w - 1) (by omega) (by have := b.1; omega)
  rw [this]
  have := b.2
  omega
theorem p_andL (hL : LPt M) {n o : Int} {pc : Int → Res CndV} (hP : CndC M n o pc) {c w p0 : Int} (c0 : 0 ≤ c) (cp : c ≤ p0) : ∀ (f : Nat) (x : CndV) (q : Row) (fu g : Nat), PQ q → q 8 = n → q 11 = o → PendA q w c x → q 12 - c ≤ q 7 - p0 → okJ q w → (¬ q (2000 + (w - 1)) / 1048576 = 11) → n - q 7 < f → n - q 7 < fu → n - q 7 < g →
    ChnOk M n q (dnQ fu g q M) o PendA w c p0 (fun ch => ch ≠ 38) (rJoin (tpA M) n 38 andV pc f x (q 7))
  | 0, x, q, fu, g, hq, h8, h11, hp, hw, ho, hn11, h1, h2, h3 => by
    have := hq.p
    omega
  | f + 1, x, q, fu, g, hq, h8, h11, hp, hw, ho, hn11, h1, h2, h3 => by
    have p := hq.p
    have cc := hq.c
    have ww := hq.w
    have hi := hp.hi
    have w1 := ho.1
    unfold rJoin
    by_cases cm : hrA (tpA M) n (q 7) = 38
    · rw [if_pos cm]
      have hin := hr_in (T := tpA M) (n := n) (p := q 7) (by omega)
      obtain ⟨q2, z1, z2, z3, z4, z5, z6, z7, z8⟩ := p_landA hL hq hp (by omega) c0 (Or.inr hn11)
      have z88 := z8.g.1
      obtain ⟨g1, hg1⟩ : ∃ g1 : Nat, g = g1 + 1 := ⟨g - 1, by omega⟩
      subst hg1
      have go := dn_join (fu := fu) (g := g1) hL hq (ch := 38) (op := 11) (al := 0) (by rw [h8]; exact cm) (Or.inl ⟨rfl, rfl, rfl⟩) z1 z2 z6 z88
      obtain ⟨q3, hq3⟩ : ∃ q3, jumpG q2 11 = q3 := ⟨_, rfl⟩
      obtain ⟨j1, j2, j3, j4, j5, j6, j7, j8, j9⟩ := jump_f z2 (by omega) (Or.inl rfl) hq3
      rw [hq3] at go
      have zc := z2.c
      have I := hP q3 fu j1 (by omega) (by omega) ⟨by omega, by rw [j6, z3, show w + 1 - 1 = w by omega, ← z3, j7]; omega⟩ (by omega)
      rw [j2, z6] at I
      have k03 : Kq c w q q3 := z8.thn (j9.le (by omega) (by omega))
      cases hr : pc (q 7 + 1) with
      | inl y =>
        refine ⟨fun e' p' h => (by cases h), fun x' pl h => ?_⟩
        have h : (Sum.inl y : Res CndV) = .inl (x', pl) := by cases h; rfl
        obtain ⟨q', y1, y2⟩ := I.2 x' pl (by rw [hr]; exact h)
        exact ⟨q', go.trans y1, k03.bd y2⟩
      | inr y =>
        obtain ⟨x2, p2⟩ := y
        obtain ⟨ef, fu', g', q4, y1, y2, y3, y4, y5, y6, y7, y8, y9, y10, y11, y12⟩ := I.1 x2 p2 hr
        have yp := y2.p
        have k34 : Kq c w q3 q4 := y9.le (by omega) (by omega)
        have k04 := k03.thn k34
        have l8 := y8.1
        have l4 := z4.1
        have P4 : PendA q4 w c (andV x x2) := by
          refine Or.inr ⟨q2 12, x, x2, by omega, ?_, y9.run (j9.run z4 c0 (Int.le_refl _)) c0 (by omega), ?_, ?_, rfl⟩
          · rw [← z3, y9.w (q2 13) (by omega) (by omega)]; exact j7
          · rw [y9.c (q2 12) (by omega) (by omega)]; exact j8
          · rw [← j5]; exact y8
        have tn : topQ q4 ≠ 10 := by
          rw [top_at (w := w) (by omega) (by omega), ← z3, y9.w (q2 13) (by omega) (by omega), j7]
          omega
        obtain ⟨ef1, hef⟩ : ∃ ef1 : Nat, ef = ef1 + 1 := ⟨ef - 1, by have := hq.w; omega⟩
        subst hef
        rw [en_no hL y2 tn] at y1
        have ih := p_andL hL hP c0 cp f (andV x x2) q4 fu' g' y2 (k04.g.1.trans h8) y5 P4 (by omega) (k04.okJ ho) (by rw [k04.w (w - 1) (by omega) (by omega)]; exact hn11) (by omega) (by omega) (by omega)
        rw [y3] at ih
        refine ⟨fun e' p' h => ?_, fun x' pl h => ?_⟩
        · obtain ⟨fu6, g6, q6, u1, u2, u3, u4, u5, u6, u7, u8, u9, u10, u11⟩ := ih.1 e' p' h
          exact ⟨fu6, g6, q6, (go.trans y1).trans u1, u2, u3, by omega, u5, u6, u7, k04.thn u8, u9, u10, u11⟩
        · obtain ⟨q6, u1, u2⟩ := ih.2 x' pl h
          exact ⟨q6, (go.trans y1).trans u1, k04.bd u2⟩
    · rw [if_neg cm]
      refine ⟨fun e' p' h => ?_, fun x' pl h => (by cases h)⟩
      cases h
      exact ⟨fu, g, q, rfl, hq, rfl, Int.le_refl _, h11, hp, hw, Kq.rfl', h2, h3, cm⟩
def AndC (M : Mem) (n o : Int) (ac : Int → Res CndV) : Prop := ∀ (q : Row) (fu : Nat), PQ q → q 8 = n → q 11 = o → okJ q (q 13) → (¬ q (2000 + (q 13 - 1)) / 1048576 = 11) → n - q 7 < fu → ChnOk M n q (cwQ fu q M) o PendA (q 13) (q 12) (q 7) (fun ch => ch ≠ 38) (ac (q 7))
theorem p_and (hL : LPt M) {n o : Int} {pc : Int → Res CndV} (hP : CndC M n o pc) : AndC M n o (rChn (tpA M) n 38 andV pc) := by
  intro q fu hq h8 h11 ho hn11 hfu
  have p := hq.p
  have cc := hq.c
  have ww := hq.w
  have I := hP q fu hq h8 h11 ⟨ho.1, by have := ho.2; omega⟩ hfu
  unfold rChn
  cases hr : pc (q 7) with
  | inl y =>
    refine ⟨fun e' p' h => (by cases h), fun x' pl h => ?_⟩
    have h : (Sum.inl y : Res CndV) = .inl (x', pl) := by cases h; rfl
    exact I.2 x' pl (by rw [hr]; exact h)
  | inr y =>
    obtain ⟨x2, p2⟩ := y
    obtain ⟨ef, fu', g', q4, y1, y2, y3, y4, y5, y6, y7, y8, y9, y10, y11, y12⟩ := I.1 x2 p2 hr
    have yp := y2.p
    have ok4 := y9.okJ ho
    obtain ⟨ef1, hef⟩ : ∃ ef1 : Nat, ef = ef1 + 1 := ⟨ef - 1, by omega⟩
    subst hef
    rw [en_no hL y2 (top_ne y6 ok4)] at y1
    have ih := p_andL hL hP (w := q 13) (c := q 12) (p0 := q 7) cc.1 cc.2 ((n - p2).toNat + 1) x2 q4 fu' g' y2 (y9.g.1.trans h8) y5 (Or.inl ⟨y6, y8⟩) (by omega) ok4 (by have h1 := ho.1; rw [y9.w (q 13 - 1) (by omega) (by omega)]; exact hn11) (by omega) (by omega) (by omega)
    rw [y3] at ih
    refine ⟨fun e' p' h => ?_, fun x' pl h => ?_⟩
    · obtain ⟨fu6, g6, q6, u1, u2, u3, u4, u5, u6, u7, u8, u9, u10, u11⟩ := ih.1 e' p' h
      exact ⟨fu6, g6, q6, y1.trans u1, u2, u3, by omega, u5, u6, u7, y9.thn u8, u9, u10, u11⟩
    · obtain ⟨q6, u1, u2⟩ := ih.2 x' pl h
      exact ⟨q6, y1.trans u1, y9.bd u2⟩
theorem p_orL (hL : LPt M) {n o : Int} {ac : Int → Res CndV} (hP : AndC M n o ac) {c w p0 : Int} (c0 : 0 ≤ c) (cp : c ≤ p0) : ∀ (f : Nat) (x : CndV) (q : Row) (fu g : Nat), PQ q → q 8 = n → q 11 = o → PendO q w c x → q 12 - c ≤ q 7 - p0 → okJ q w → q (2000 + (w - 1)) / 1048576 = 13 → hrA (tpA M) n (q 7) ≠ 38 → n - q 7 < f → n - q 7 < fu → n - q 7 < g →
    ChnOk M n q (dnQ fu g q M) o PendO w c p0 (fun ch => ch ≠ 38 ∧ ch ≠ 124) (rJoin (tpA M) n 124 orV ac f x (q 7))
  | 0, x, q, fu, g, hq, h8, h11, hp, hw, ho, h13, hn, h1, h2, h3 => by
    have := hq.p
    omega
  | f + 1, x, q, fu, g, hq, h8, h11, hp, hw, ho, h13, hn, h1, h2, h3 => by
    have p := hq.p
    have cc := hq.c
    have ww := hq.w
    have hi := hp.hi
    have w1 := ho.1
    unfold rJoin
    by_cases cm : hrA (tpA M) n (q 7) = 124
    · rw [if_pos cm]
      have hin := hr_in (T := tpA M) (n := n) (p := q 7) (by omega)
      obtain ⟨q2, z1, z2, z3, z4, z5, z6, z7, z8⟩ := p_landO hL hq hp (by omega) c0 (Or.inr (by omega))
      have z88 := z8.g.1
      obtain ⟨g1, hg1⟩ : ∃ g1 : Nat, g = g1 + 1 := ⟨g - 1, by omega⟩
      subst hg1
      have go := dn_join (fu := fu) (g := g1) hL hq (ch := 124) (op := 12) (al := 1) (by rw [h8]; exact cm) (Or.inr ⟨rfl, rfl, rfl⟩) z1 z2 z6 z88
      obtain ⟨q3, hq3⟩ : ∃ q3, jumpG q2 12 = q3 := ⟨_, rfl⟩
      obtain ⟨j1, j2, j3, j4, j5, j6, j7, j8, j9⟩ := jump_f z2 (by omega) (Or.inr rfl) hq3
      rw [hq3] at go
      have zc := z2.c
      have t12 : q3 (2000 + (q3 13 - 1)) = 1048576 * 12 + q2 12 := by rw [j6, show q2 13 + 1 - 1 = q2 13 by omega]; exact j7
      have I := hP q3 fu j1 (by omega) (by omega) ⟨by omega, by rw [t12]; omega⟩ (by rw [t12]; omega) (by omega)
      rw [j2, z6] at I
      have k03 : Kq c w q q3 := z8.thn (j9.le (by omega) (by omega))
      cases hr : ac (q 7 + 1) with
      | inl y =>
        refine ⟨fun e' p' h => (by cases h), fun x' pl h => ?_⟩
        have h : (Sum.inl y : Res CndV) = .inl (x', pl) := by cases h; rfl
        obtain ⟨q', y1, y2⟩ := I.2 x' pl (by rw [hr]; exact h)
        exact ⟨q', go.trans y1, k03.bd y2⟩
      | inr y =>
        obtain ⟨x2, p2⟩ := y
        obtain ⟨fu', g', q4, y1, y2, y3, y4, y5, y6, y7, y8, y9, y10, y11⟩ := I.1 x2 p2 hr
        have yp := y2.p
        have yh := y6.hi
        have k34 : Kq c w q3 q4 := y8.le (by omega) (by omega)
        have k04 := k03.thn k34
        have l4 := z4.1
        have P4 : PendO q4 w c (orV x x2) := by
          refine Or.inr ⟨q2 12, x, x2, ?_, y8.run (j9.run z4 c0 (Int.le_refl _)) c0 (by omega), ?_, ?_, rfl⟩
          · rw [← z3, y8.w (q2 13) (by omega) (by omega)]; exact j7
          · rw [y8.c (q2 12) (by omega) (by omega)]; exact j8
          · rw [← j5, ← z3, ← j6]; exact y6
        have ih := p_orL hL hP c0 cp f (orV x x2) q4 fu' g' y2 (k04.g.1.trans h8) y5 P4 (by omega) (k04.okJ ho) (by rw [k04.w (w - 1) (by omega) (by omega)]; exact h13) (by rw [y3]; exact y11) (by omega) (by omega) (by omega)
        rw [y3] at ih
        refine ⟨fun e' p' h => ?_, fun x' pl h => ?_⟩
        · obtain ⟨fu6, g6, q6, u1, u2, u3, u4, u5, u6, u7, u8, u9, u10, u11⟩ := ih.1 e' p' h
          exact ⟨fu6, g6, q6, (go.trans y1).trans u1, u2, u3, by omega, u5, u6, u7, k04.thn u8, u9, u10, u11⟩
        · obtain ⟨q6, u1, u2⟩ := ih.2 x' pl h
          exact ⟨q6, (go.trans y1).trans u1, k04.bd u2⟩
    · rw [if_neg cm]
      refine ⟨fun e' p' h => ?_, fun x' pl h => (by cases h)⟩
      cases h
      exact ⟨fu, g, q, rfl, hq, rfl, Int.le_refl _, h11, hp, hw, Kq.rfl', h2, h3, ⟨hn, cm⟩⟩
theorem p_or (hL : LPt M) {n o : Int} {ac : Int → Res CndV} (hP : AndC M n o ac) {q : Row} {fu : Nat} (hq : PQ q) (h8 : q 8 = n) (h11 : q 11 = o) (w1 : 1 ≤ q 13) (h13 : q (2000 + (q 13 - 1)) / 1048576 = 13) (hfu : n - q 7 < fu) : ChnOk M n q (cwQ fu q M) o PendO (q 13) (q 12) (q 7) (fun ch => ch ≠ 38 ∧ ch ≠ 124) (rChn (tpA M) n 124 orV ac (q 7)) := by
  have p := hq.p
  have cc := hq.c
  have ww := hq.w
  have ok : okJ q (q 13) := ⟨w1, by omega⟩
  have I := hP q fu hq h8 h11 ok (by omega) hfu
  unfold rChn
  cases hr : ac (q 7) with
  | inl y =>
    refine ⟨fun e' p' h => (by cases h), fun x' pl h => ?_⟩
    have h : (Sum.inl y : Res CndV) = .inl (x', pl) := by cases h; rfl
    exact I.2 x' pl (by rw [hr]; exact h)
  | inr y =>
    obtain ⟨x2, p2⟩ := y
    obtain ⟨fu', g', q4, y1, y2, y3, y4, y5, y6, y7, y8, y9, y10, y11⟩ := I.1 x2 p2 hr
    have yp := y2.p
    have ih := p_orL hL hP (w := q 13) (c := q 12) (p0 := q 7) cc.1 cc.2 ((n - p2).toNat + 1) x2 q4 fu' g' y2 (y8.g.1.trans h8) y5 (Or.inl y6) (by omega) (y8.okJ ok) (by rw [y8.w (q 13 - 1) (by omega) (by omega)]; exact h13) (by rw [y3]; exact y11) (by omega) (by omega) (by omega)
    rw [y3] at ih
    refine ⟨fun e' p' h => ?_, fun x' pl h => ?_⟩
    · obtain ⟨fu6, g6, q6, u1, u2, u3, u4, u5, u6, u7, u8, u9, u10, u11⟩ := ih.1 e' p' h
      exact ⟨fu6, g6, q6, y1.trans u1, u2, u3, by omega, u5, u6, u7, y8.thn u8, u9, u10, u11⟩
    · obtain ⟨q6, u1, u2⟩ := ih.2 x' pl h
      exact ⟨q6, y1.trans u1, y8.bd u2⟩
end
