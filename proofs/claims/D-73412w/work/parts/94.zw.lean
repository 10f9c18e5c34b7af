/-! DEPS: zv -/
/-! ZW: the acts of a plan, one side at a time -/
noncomputable def doneS (Λ : Law) (g : Row) (c a b v : Int32) : Int32 × Row :=
  if c = iI 46 then (iI (tkZ g), if g 11131 < 9999 then tickG Λ g else g)
  else if c = iI 99 then (iI (compactS g a.toInt).1, (compactS g a.toInt).2)
  else if c = iI 107 then (iI (crashS g a.toInt).1, (crashS g a.toInt).2)
  else if c = iI 114 then (if iI (askS Λ g a.toInt b.toInt).1 < iI 0 then iI 0 else iI 1, (askS Λ g a.toInt b.toInt).2)
  else if c = iI 117 then (iI (comeS Λ g a.toInt).1, (comeS Λ g a.toInt).2)
  else if c = iI 119 then (if iI (writeS Λ g a.toInt b.toInt v.toInt).1 < iI 0 then iI 0 else iI 1, (writeS Λ g a.toInt b.toInt v.toInt).2)
  else if c = iI 120 then (iI (cutS g a.toInt b.toInt (¬ iI 1 = iI 0)).1, (cutS g a.toInt b.toInt (¬ iI 1 = iI 0)).2)
  else (iI (cutS g a.toInt b.toInt (¬ iI 0 = iI 0)).1, (cutS g a.toInt b.toInt (¬ iI 0 = iI 0)).2)
noncomputable def runS (Λ : Law) : List Act → Row → Int × Row
  | [], g => (0, g)
  | x :: xs, g => ((if (doneS Λ g (iI x.1) (iI x.2.1) (iI x.2.2.1) (iI x.2.2.2)).1 = iI 0 then 0 else 1) + (runS Λ xs (doneS Λ g (iI x.1) (iI x.2.1) (iI x.2.2.1) (iI x.2.2.2)).2).1, (runS Λ xs (doneS Λ g (iI x.1) (iI x.2.1) (iI x.2.2.1) (iI x.2.2.2)).2).2)
/-- TermLog's planner holds the acts -/
def PlanK (A : Nat) (σ : Mem) (l : List Act) : Prop :=
  (3799 ≤ A) ∧
  ((mK σ A).1 = 13) ∧
  (mP σ A 1 = some (A + 1) ∧ mP σ A 2 = some (A + 2) ∧ mP σ A 3 = some (A + 3) ∧ mP σ A 4 = some (A + 4) ∧ mP σ A 10 = some 0) ∧
  (mK σ (A + 1) = (20, 200) ∧ mK σ (A + 2) = (20, 200) ∧ mK σ (A + 3) = (20, 200) ∧ mK σ (A + 4) = (20, 200)) ∧
  (l.length ≤ 200) ∧
  (∀ i x, l[i]? = some x → mI σ (A + 1) i = iI x.1 ∧ mI σ (A + 2) i = iI x.2.1 ∧ mI σ (A + 3) i = iI x.2.2.1 ∧ mI σ (A + 4) i = iI x.2.2.2)
theorem PlanK.a {A : Nat} {σ : Mem} {l : List Act} (self : PlanK A σ l) : 3799 ≤ A := self.1
theorem PlanK.k {A : Nat} {σ : Mem} {l : List Act} (self : PlanK A σ l) : (mK σ A).1 = 13 := self.2.1
theorem PlanK.p {A : Nat} {σ : Mem} {l : List Act} (self : PlanK A σ l) : mP σ A 1 = some (A + 1) ∧ mP σ A 2 = some (A + 2) ∧ mP σ A 3 = some (A + 3) ∧ mP σ A 4 = some (A + 4) ∧ mP σ A 10 = some 0 := self.2.2.1
theorem PlanK.r {A : Nat} {σ : Mem} {l : List Act} (self : PlanK A σ l) : mK σ (A + 1) = (20, 200) ∧ mK σ (A + 2) = (20, 200) ∧ mK σ (A + 3) = (20, 200) ∧ mK σ (A + 4) = (20, 200) := self.2.2.2.1
theorem PlanK.l {A : Nat} {σ : Mem} {l : List Act} (self : PlanK A σ l) : l.length ≤ 200 := self.2.2.2.2.1
theorem PlanK.v {A : Nat} {σ : Mem} {l : List Act} (self : PlanK A σ l) : ∀ i x, l[i]? = some x → mI σ (A + 1) i = iI x.1 ∧ mI σ (A + 2) i = iI x.2.1 ∧ mI σ (A + 3) i = iI x.2.2.1 ∧ mI σ (A + 4) i = iI x.2.2.2 := self.2.2.2.2.2
def PlanZ (σ : Mem) (l : List Act) : Prop :=
  (mI σ 3772 37 = iI (l.length : Int)) ∧
  (l.length ≤ 200) ∧
  (∀ i x, l[i]? = some x → mI σ 3792 i = iI x.1 ∧ mI σ 3793 i = iI x.2.1 ∧ mI σ 3794 i = iI x.2.2.1 ∧ mI σ 3795 i = iI x.2.2.2)
theorem PlanZ.n {σ : Mem} {l : List Act} (self : PlanZ σ l) : mI σ 3772 37 = iI (l.length : Int) := self.1
theorem PlanZ.l {σ : Mem} {l : List Act} (self : PlanZ σ l) : l.length ≤ 200 := self.2.1
theorem PlanZ.v {σ : Mem} {l : List Act} (self : PlanZ σ l) : ∀ i x, l[i]? = some x → mI σ 3792 i = iI x.1 ∧ mI σ 3793 i = iI x.2.1 ∧ mI σ 3794 i = iI x.2.2.1 ∧ mI σ 3795 i = iI x.2.2.2 := self.2.2
section
variable {Λ : Law} {g : Row} {R : Int}
theorem good_done {c a b v : Int32} (H : GoodR R g) (hR : R + 7 ≤ 1000000) : GoodR (R + 7) (doneS Λ g c a b v).2 := by
  unfold doneS
  split
  · exact good_tick H hR
  split
  · exact (good_compact H).up (by omega) hR
  split
  · exact (good_crash H).up (by omega) hR
  split
  · exact (good_ask H (by omega)).up (by omega) hR
  split
  · exact (good_come H).up (by omega) hR
  split
  · exact (good_write H).up (by omega) hR
  split
  · exact (good_cut H).up (by omega) hR
  · exact (good_cut H).up (by omega) hR
theorem good_run : ∀ (xs : List Act) (g : Row) (R : Int), GoodR R g → R + 7 * xs.length ≤ 1000000 → GoodR (R + 7 * xs.length) (runS Λ xs g).2
  | [], g, R, H, hR => by
    rw [show R + 7 * (([] : List Act).length : Int) = R by show R + 7 * ((0 : Nat) : Int) = R; omega]
    exact H
  | x :: xs, g, R, H, hR => by
    have e : ((x :: xs).length : Int) = (xs.length : Int) + 1 := rfl
    have q := good_run xs _ _ (good_done (Λ := Λ) (c := iI x.1) (a := iI x.2.1) (b := iI x.2.2.1) (v := iI x.2.2.2) H (by omega)) (by omega)
    rw [show R + 7 + 7 * (xs.length : Int) = R + 7 * ((x :: xs).length : Int) by omega] at q
    exact q
end
section
variable {σ σ' : Mem} {h k g gk : Row} {l : List Cls} {t b : Int} {T : Nat → Int32} {R : Int}
theorem actL_w {g' : Row} {v : Int32} {f0 : Mem → Option (Int32 × Mem)} (S : Stt σ) (L : LSd σ h k l t b T)
    (hL : ∀ (N : Mem) (C Hd Mo : Row), LyC 2 N → mP N 0 1 = some 2 → LawL N (lawOf l) → ∃ h' C' Hd' Mo', f0 (tl 2 h C Hd Mo N) = some (v, tl 2 h' C' Hd' Mo' N) ∧ Rel h' g') :
    ∃ σ1 h', f0 σ = some (v, σ1) ∧ Rel h' g' ∧ LSd σ1 h' k l t b T ∧ Chg σ σ1 tchL := by
  obtain ⟨C, Hd, Mo, s, e⟩ := L.c.rep (by omega)
  obtain ⟨h', C', Hd', Mo', x1, r1⟩ := hL (shM σ 2 s) C Hd Mo S.ly.1 S.p0.1 (sh_txt S L (by omega)).law
  rw [← e] at x1
  obtain ⟨σ1, hσ1⟩ : ∃ σ1, σ1 = tl 2 h' C' Hd' Mo' (shM σ 2 s) := ⟨_, rfl⟩
  rw [← hσ1] at x1
  have c1 : Chg σ σ1 tchL := by
    have q := tl_chg (B := 2) (h := h) (h' := h') (C := C) (Hd := Hd) (Mo := Mo) (C' := C') (Hd' := Hd') (Mo' := Mo') (N := shM σ 2 s) (by omega)
    rw [← e, ← hσ1] at q
    exact q.wk (fun a j z => by unfold tchL; omega)
  exact ⟨σ1, h', x1, r1, L.act S hσ1 c1, c1⟩
theorem actT_w {g' : Row} {v : Int32} {f8 : Mem → Option (Int32 × Mem)} (S : Stt σ) (W : TSd σ g gk l t b T)
    (hT : ∀ (N : Mem) (mi mn F : Row) (S : Nat → Int32), LT N → LawT N (lawOf l) → clip mi = mi → ∃ mi' mn' F' S', clip mi' = mi' ∧ f8 (tw g mi mn F S N) = some (v, tw g' mi' mn' F' S' N)) :
    ∃ σ2, f8 σ = some (v, σ2) ∧ TSd σ2 g' gk l t b T ∧ Chg σ σ2 twP := by
  obtain ⟨mi, mn, F, S0, hm, e2⟩ := W.c
  obtain ⟨mi', mn', F', S', hm', x2⟩ := hT σ mi mn F S0 S.lt (W.tx.law S.lt) hm
  rw [← e2] at x2
  obtain ⟨σ2, hσ2⟩ : ∃ σ2, σ2 = tw g' mi' mn' F' S' σ := ⟨_, rfl⟩
  rw [← hσ2] at x2
  have c2 : Chg σ σ2 twP := by
    have q := tw_chg (g := g) (g' := g') (mi := mi) (mn := mn) (F := F) (S := S0) (mi' := mi') (mn' := mn') (F' := F') (S' := S') (N := σ)
    rw [← e2, ← hσ2] at q
    exact q
  exact ⟨σ2, x2, W.act hm' hσ2 c2, c2⟩
theorem PlanK.to {A : Nat} {l : List Act} (P : PlanK A σ l) (c : Chg σ σ' tchL) : PlanK A σ' l := by
  have a := P.a
  have p := P.p
  have r := P.r
  have eK := fun b => mK_2 c.1 b
  have eP := fun b j => mP_2 c.1 b j
  refine ⟨a, by rw [eK]; exact P.k, by simp only [eP]; exact p, by simp only [eK]; exact r, P.l, fun i x hx => ?_⟩
  have q := P.v i x hx
  rw [c.2 _ _ (by unfold tchL; omega), c.2 _ _ (by unfold tchL; omega), c.2 _ _ (by unfold tchL; omega), c.2 _ _ (by unfold tchL; omega)]
  exact q
theorem PlanZ.to {l : List Act} (P : PlanZ σ l) (c : Chg σ σ' twP) : PlanZ σ' l := by
  refine ⟨(c.2 _ _ (by unfold twP; omega)).trans P.n, P.l, fun i x hx => ?_⟩
  have q := P.v i x hx
  rw [c.2 _ _ (by unfold twP; omega), c.2 _ _ (by unfold twP; omega), c.2 _ _ (by unfold twP; omega), c.2 _ _ (by unfold twP; omega)]
  exact q
theorem aI_z2 {β : Type} {σ : Mem} {a i : Nat} (hk : mK σ a = (20, 200)) (hi : i < 200) {f : Int32 → Option β} : aI σ (some a) (iI (i : Int)) f = f (mI σ a i) := by
  rw [aI_x (σ := σ) (n := 200) hk (by omega) (by omega) (by omega)]
  rfl
theorem toI (x : Int32) : ∃ n : Int, x = iI n ∧ x.toInt = n ∧ -2147483648 ≤ n ∧ n ≤ 2147483647 := ⟨x.toInt, (iv_of x).symm, rfl, by have := Int32.le_toInt x; omega, by have := Int32.toInt_lt x; omega⟩
theorem rz01 {v : Int32} {s : Mem} (h : v = iI 0 ∨ v = iI 1) : rZ v s = some (v, s) := if_pos h
theorem k_done {A i : Nat} {la : List Act} {x : Act} (S : Stt σ) (L : LSd σ h k l t b T) (r : Rel h g) (H : GoodR R g) (hR : R + 1400 ≤ 1000000) (P : PlanK A σ la) (hx : la[i]? = some x) :
    ∃ σ1 h', sX16_isDone (some A) (iI (i : Int)) σ = some ((doneS (lawOf l) g (iI x.1) (iI x.2.1) (iI x.2.2.1) (iI x.2.2.2)).1, σ1) ∧ Rel h' (doneS (lawOf l) g (iI x.1) (iI x.2.1) (iI x.2.2.1) (iI x.2.2.2)).2 ∧ LSd σ1 h' k l t b T ∧ Chg σ σ1 tchL := by
  obtain ⟨hs, FL, D, I, h9⟩ := id H
  have il : i < la.length := (List.getElem?_eq_some_iff.mp hx).1
  have l2 := P.l
  obtain ⟨v1, v2, v3, v4⟩ := P.v i x hx
  obtain ⟨p1, p2, p3, p4, p10⟩ := P.p
  obtain ⟨r1, r2, r3, r4⟩ := P.r
  have k0 := S.ly.1.k0.1
  obtain ⟨an, ea, ta, a0, a1⟩ := toI (iI x.2.1)
  obtain ⟨bn, eb, tb, b0, b1⟩ := toI (iI x.2.2.1)
  obtain ⟨cn, ec, tc, c0, c1⟩ := toI (iI x.2.2.2)
  unfold sX16_isDone doneS
  rw [gR_y P.k, p2, aI_z2 r2 (by omega), v2, gR_y P.k, p3, aI_z2 r3 (by omega), v3, gR_y P.k, p1, aI_z2 r1 (by omega), v1, ta, tb, tc]
  rw [ea, eb]
  by_cases d1 : iI x.1 = iI 46
  · rw [if_pos d1, if_pos d1, gR_y P.k, p10, cV_y k0]
    obtain ⟨v, σ1, h', x1, ng, w8, rr, L1, ch⟩ := k_tick1 S L r I hR
    have P1 := P.to ch
    have k01 : (mK σ1 0).1 = 0 := by rw [mK_2 ch.1]; exact k0
    refine ⟨σ1, h', ?_, rr, L1, ch⟩
    rw [x1, clw, if_neg ng, gR_y P1.k, P1.p.2.2.2.2, cV_y k01]
    unfold sX0_isTicked
    rw [gI_y k01, w8, rz01 (by rcases tkZ_r g with q | q <;> rw [q]; exact Or.inl rfl; exact Or.inr rfl), clw]
    rcases tkZ_r g with q | q
    · rw [q, if_pos rfl, rZ0]
    · rw [q, if_neg iv_01, rZ1]
  rw [if_neg d1, if_neg d1]
  by_cases d2 : iI x.1 = iI 99
  · rw [if_pos d2, if_pos d2, gR_y P.k, p10, cV_y k0]
    obtain ⟨σ1, h', x1, rr, L1, ch⟩ := actL_w (f0 := fun s => sX0_compact (some 0) (iI an) s) S L (fun N C Hd Mo y1 y2 y3 => by
      obtain ⟨h', x, r⟩ := t_compact (C := C) (Hd := Hd) (Mo := Mo) y1 y2 r I a0 a1
      exact ⟨h', C, Hd, Mo, x, r⟩)
    refine ⟨σ1, h', ?_, rr, L1, ch⟩
    have x1 : sX0_compact (some 0) (iI an) σ = _ := x1
    rw [x1, clw, rz01 (by unfold compactS; split; exact Or.inr rfl; exact Or.inl rfl)]
  rw [if_neg d2, if_neg d2]
  by_cases d3 : iI x.1 = iI 107
  · rw [if_pos d3, if_pos d3, gR_y P.k, p10, cV_y k0]
    obtain ⟨σ1, h', x1, rr, L1, ch⟩ := actL_w (f0 := fun s => sX0_crash (some 0) (iI an) s) S L (fun N C Hd Mo y1 y2 y3 => by
      obtain ⟨h', x, r⟩ := t_crash (C := C) (Hd := Hd) (Mo := Mo) y1 y2 r I a0 a1
      exact ⟨h', C, Hd, Mo, x, r⟩)
    refine ⟨σ1, h', ?_, rr, L1, ch⟩
    have x1 : sX0_crash (some 0) (iI an) σ = _ := x1
    rw [x1, clw, rz01 (by unfold crashS; split; exact Or.inr rfl; exact Or.inl rfl)]
  rw [if_neg d3, if_neg d3]
  by_cases d4 : iI x.1 = iI 114
  · rw [if_pos d4, if_pos d4, gR_y P.k, p10, cV_y k0]
    obtain ⟨σ1, h', x1, rr, L1, ch⟩ := actL_w (f0 := fun s => sX0_ask (some 0) (iI an) (iI bn) s) S L (fun N C Hd Mo y1 y2 y3 => by
      obtain ⟨h', C', Mo', x, r⟩ := t_ask (C := C) (Hd := Hd) (Mo := Mo) y1 y2 y3 r I a0 a1 b0 b1 (by omega)
      exact ⟨h', C', Hd, Mo', x, r⟩)
    refine ⟨σ1, h', ?_, rr, L1, ch⟩
    have x1 : sX0_ask (some 0) (iI an) (iI bn) σ = _ := x1
    rw [x1, clw]
    by_cases n : iI (askS (lawOf l) g an bn).1 < iI 0
    · rw [if_pos n, if_pos n, rZ0]
    · rw [if_neg n, if_neg n, rZ1]
  rw [if_neg d4, if_neg d4]
  by_cases d5 : iI x.1 = iI 117
  · rw [if_pos d5, if_pos d5, gR_y P.k, p10, cV_y k0]
    obtain ⟨σ1, h', x1, rr, L1, ch⟩ := actL_w (f0 := fun s => sX0_comeUp (some 0) (iI an) s) S L (fun N C Hd Mo y1 y2 y3 => by
      obtain ⟨h', C', Mo', x, r⟩ := t_comeUp (C := C) (Hd := Hd) (Mo := Mo) y1 y2 y3 r I a0 a1
      exact ⟨h', C', Hd, Mo', x, r⟩)
    refine ⟨σ1, h', ?_, rr, L1, ch⟩
    have x1 : sX0_comeUp (some 0) (iI an) σ = _ := x1
    rw [x1, clw, rz01 (by unfold comeS; split; exact Or.inr rfl; exact Or.inl rfl)]
  rw [if_neg d5, if_neg d5]
  by_cases d6 : iI x.1 = iI 119
  · rw [if_pos d6, if_pos d6, gR_y P.k, p10, gR_y P.k, p4, aI_z2 r4 (by omega), v4, cV_y k0, ec]
    obtain ⟨σ1, h', x1, rr, L1, ch⟩ := actL_w (f0 := fun s => sX0_write (some 0) (iI an) (iI bn) (iI cn) s) S L (fun N C Hd Mo y1 y2 y3 => by
      obtain ⟨h', C', Mo', x, r⟩ := t_write (C := C) (Hd := Hd) (Mo := Mo) y1 y2 y3 r I a0 a1 b0 b1 c0 c1
      exact ⟨h', C', Hd, Mo', x, r⟩)
    refine ⟨σ1, h', ?_, rr, L1, ch⟩
    have x1 : sX0_write (some 0) (iI an) (iI bn) (iI cn) σ = _ := x1
    rw [x1, clw]
    by_cases n : iI (writeS (lawOf l) g an bn cn).1 < iI 0
    · rw [if_pos n, if_pos n, rZ0]
    · rw [if_neg n, if_neg n, rZ1]
  rw [if_neg d6, if_neg d6]
  by_cases d7 : iI x.1 = iI 120
  · rw [if_pos d7, if_pos d7, gR_y P.k, p10, cV_y k0]
    obtain ⟨σ1, h', x1, rr, L1, ch⟩ := actL_w (f0 := fun s => sX0_cut (some 0) (iI an) (iI bn) (iI 1) s) S L (fun N C Hd Mo y1 y2 y3 => by
      obtain ⟨h', x, r⟩ := t_cut (C := C) (Hd := Hd) (Mo := Mo) (z := iI 1) y1 y2 r I a0 a1 b0 b1
      exact ⟨h', C, Hd, Mo, x, r⟩)
    refine ⟨σ1, h', ?_, rr, L1, ch⟩
    have x1 : sX0_cut (some 0) (iI an) (iI bn) (iI 1) σ = _ := x1
    rw [x1, clw, rz01 (by unfold cutS; split; exact Or.inr rfl; exact Or.inl rfl)]
  rw [if_neg d7, if_neg d7]
  · rw [gR_y P.k, p10, cV_y k0]
    obtain ⟨σ1, h', x1, rr, L1, ch⟩ := actL_w (f0 := fun s => sX0_cut (some 0) (iI an) (iI bn) (iI 0) s) S L (fun N C Hd Mo y1 y2 y3 => by
      obtain ⟨h', x, r⟩ := t_cut (C := C) (Hd := Hd) (Mo := Mo) (z := iI 0) y1 y2 r I a0 a1 b0 b1
      exact ⟨h', C, Hd, Mo, x, r⟩)
    refine ⟨σ1, h', ?_, rr, L1, ch⟩
    have x1 : sX0_cut (some 0) (iI an) (iI bn) (iI 0) σ = _ := x1
    rw [x1, clw, rz01 (by unfold cutS; split; exact Or.inr rfl; exact Or.inl rfl)]
theorem m_done {i : Nat} {la : List Act} {x : Act} (S : Stt σ) (W : TSd σ g gk l t b T) (H : GoodR R g) (hR : R + 1400 ≤ 1000000) (P : PlanZ σ la) (hx : la[i]? = some x) :
    ∃ σ1, sX8_isDone (some 3772) (iI (i : Int)) σ = some ((doneS (lawOf l) g (iI x.1) (iI x.2.1) (iI x.2.2.1) (iI x.2.2.2)).1, σ1) ∧ TSd σ1 (doneS (lawOf l) g (iI x.1) (iI x.2.1) (iI x.2.2.1) (iI x.2.2.2)).2 gk l t b T ∧ Chg σ σ1 twP := by
  obtain ⟨hs, FL, D, I, h9⟩ := id H
  have il : i < la.length := (List.getElem?_eq_some_iff.mp hx).1
  have l2 := P.l
  obtain ⟨v1, v2, v3, v4⟩ := P.v i x hx
  obtain ⟨p1, p2, p3, p4, _⟩ := S.lz.1
  obtain ⟨r1, r2, r3, r4, _⟩ := S.lz.2
  have k0 : (mK σ 3772).1 = 6 := S.lt.1.1
  obtain ⟨an, ea, ta, a0, a1⟩ := toI (iI x.2.1)
  obtain ⟨bn, eb, tb, b0, b1⟩ := toI (iI x.2.2.1)
  obtain ⟨cn, ec, tc, c0, c1⟩ := toI (iI x.2.2.2)
  have nd0 : iI (tkZ g) = iI 0 ∨ iI (tkZ g) = iI 1 := by
    rcases tkZ_r g with q | q <;> rw [q]
    · exact Or.inl rfl
    · exact Or.inr rfl
  unfold sX8_isDone doneS
  rw [gR_y k0, p1, aI_z2 r1 (by omega), v1, ta, tb, tc]
  by_cases d1 : iI x.1 = iI 46
  · rw [if_pos d1, if_pos d1, cV_y k0]
    obtain ⟨σ1, x1, W1, ch⟩ := actT_w (f8 := fun s => sX8_oneTick (some 3772) s) S W (fun N mi mn F S y1 y2 y3 => by
      obtain ⟨mi', mn', F', S', y4, x⟩ := m_oneTick (mn := mn) (F := F) (S := S) y1 y2 I y3 (by omega)
      exact ⟨mi', mn', F', S', y4, x⟩)
    refine ⟨σ1, ?_, W1, ch⟩
    have x1 : sX8_oneTick (some 3772) σ = _ := x1
    have eb : bI (g 11131 < 9999) = iI (tkZ g) := by
      unfold tkZ
      by_cases c : g 11131 < 9999
      · rw [if_pos c, bI_t c]
      · rw [if_neg c, bI_f c]
    rw [x1, clw, eb, rz01 nd0]
  rw [if_neg d1, if_neg d1]
  by_cases d2 : iI x.1 = iI 99
  · rw [if_pos d2, if_pos d2, gR_y k0, p2, aI_z2 r2 (by omega), v2, cV_y k0, ea]
    obtain ⟨σ1, x1, W1, ch⟩ := actT_w (f8 := fun s => sX8_compact (some 3772) (iI an) s) S W (fun N mi mn F S y1 y2 y3 => ⟨mi, mn, F, S, y3, m_compact y1 I a0 a1⟩)
    refine ⟨σ1, ?_, W1, ch⟩
    have x1 : sX8_compact (some 3772) (iI an) σ = _ := x1
    rw [x1, clw, rz01 (by unfold compactS; split; exact Or.inr rfl; exact Or.inl rfl)]
  rw [if_neg d2, if_neg d2]
  by_cases d3 : iI x.1 = iI 107
  · rw [if_pos d3, if_pos d3, gR_y k0, p2, aI_z2 r2 (by omega), v2, cV_y k0, ea]
    obtain ⟨σ1, x1, W1, ch⟩ := actT_w (f8 := fun s => sX8_crash (some 3772) (iI an) s) S W (fun N mi mn F S y1 y2 y3 => ⟨mi, mn, F, S, y3, m_crash y1 I a0 a1⟩)
    refine ⟨σ1, ?_, W1, ch⟩
    have x1 : sX8_crash (some 3772) (iI an) σ = _ := x1
    rw [x1, clw, rz01 (by unfold crashS; split; exact Or.inr rfl; exact Or.inl rfl)]
  rw [if_neg d3, if_neg d3]
  by_cases d4 : iI x.1 = iI 114
  · rw [if_pos d4, if_pos d4, gR_y k0, p2, aI_z2 r2 (by omega), v2, gR_y k0, p3, aI_z2 r3 (by omega), v3, cV_y k0, ea, eb]
    obtain ⟨σ1, x1, W1, ch⟩ := actT_w (f8 := fun s => sX8_ask (some 3772) (iI an) (iI bn) s) S W (fun N mi mn F S y1 y2 y3 => by
      obtain ⟨mn', F', S', x⟩ := m_ask (mi := mi) (mn := mn) (F := F) (S := S) y1 y2 I a0 a1 b0 b1 (by omega)
      exact ⟨mi, mn', F', S', y3, x⟩)
    refine ⟨σ1, ?_, W1, ch⟩
    have x1 : sX8_ask (some 3772) (iI an) (iI bn) σ = _ := x1
    rw [x1, clw]
    by_cases n : iI (askS (lawOf l) g an bn).1 < iI 0
    · rw [if_pos n, if_pos n, rZ0]
    · rw [if_neg n, if_neg n, rZ1]
  rw [if_neg d4, if_neg d4]
  by_cases d5 : iI x.1 = iI 117
  · rw [if_pos d5, if_pos d5, gR_y k0, p2, aI_z2 r2 (by omega), v2, cV_y k0, ea]
    obtain ⟨σ1, x1, W1, ch⟩ := actT_w (f8 := fun s => sX8_comeUp (some 3772) (iI an) s) S W (fun N mi mn F S y1 y2 y3 => by
      obtain ⟨F', S', x⟩ := m_comeUp (mi := mi) (mn := mn) (F := F) (S := S) y1 y2 I a0 a1
      exact ⟨mi, mn, F', S', y3, x⟩)
    refine ⟨σ1, ?_, W1, ch⟩
    have x1 : sX8_comeUp (some 3772) (iI an) σ = _ := x1
    rw [x1, clw, rz01 (by unfold comeS; split; exact Or.inr rfl; exact Or.inl rfl)]
  rw [if_neg d5, if_neg d5]
  by_cases d6 : iI x.1 = iI 119
  · rw [if_pos d6, if_pos d6, gR_y k0, p2, aI_z2 r2 (by omega), v2, gR_y k0, p3, aI_z2 r3 (by omega), v3, gR_y k0, p4, aI_z2 r4 (by omega), v4, cV_y k0, ea, eb, ec]
    obtain ⟨σ1, x1, W1, ch⟩ := actT_w (f8 := fun s => sX8_write (some 3772) (iI an) (iI bn) (iI cn) s) S W (fun N mi mn F S y1 y2 y3 => by
      obtain ⟨mn', F', S', x⟩ := m_write (mi := mi) (mn := mn) (F := F) (S := S) y1 y2 I a0 a1 b0 b1 c0 c1
      exact ⟨mi, mn', F', S', y3, x⟩)
    refine ⟨σ1, ?_, W1, ch⟩
    have x1 : sX8_write (some 3772) (iI an) (iI bn) (iI cn) σ = _ := x1
    rw [x1, clw]
    by_cases n : iI (writeS (lawOf l) g an bn cn).1 < iI 0
    · rw [if_pos n, if_pos n, rZ0]
    · rw [if_neg n, if_neg n, rZ1]
  rw [if_neg d6, if_neg d6, gR_y k0, p2, aI_z2 r2 (by omega), v2, gR_y k0, p3, aI_z2 r3 (by omega), v3, gR_y k0, p1, aI_z2 r1 (by omega), v1, ea, eb]
  unfold sX8_isDone_187
  by_cases d7 : iI x.1 = iI 120
  · rw [if_pos d7, if_pos d7, cV_y k0]
    obtain ⟨σ1, x1, W1, ch⟩ := actT_w (f8 := fun s => sX8_cut (some 3772) (iI an) (iI bn) (iI 1) s) S W (fun N mi mn F S y1 y2 y3 => ⟨mi, mn, F, S, y3, m_cut y1 I a0 a1 b0 b1⟩)
    refine ⟨σ1, ?_, W1, ch⟩
    have x1 : sX8_cut (some 3772) (iI an) (iI bn) (iI 1) σ = _ := x1
    rw [x1, clw, rz01 (by unfold cutS; split; exact Or.inr rfl; exact Or.inl rfl)]
  · rw [if_neg d7, if_neg d7, cV_y k0]
    obtain ⟨σ1, x1, W1, ch⟩ := actT_w (f8 := fun s => sX8_cut (some 3772) (iI an) (iI bn) (iI 0) s) S W (fun N mi mn F S y1 y2 y3 => ⟨mi, mn, F, S, y3, m_cut y1 I a0 a1 b0 b1⟩)
    refine ⟨σ1, ?_, W1, ch⟩
    have x1 : sX8_cut (some 3772) (iI an) (iI bn) (iI 0) σ = _ := x1
    rw [x1, clw, rz01 (by unfold cutS; split; exact Or.inr rfl; exact Or.inl rfl)]
end
