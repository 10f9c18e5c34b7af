/-! DEPS: tg -/
/-! TM: the twin's draws, timers, messages -/
def GlA (g : Row) : Prop := 0 ≤ g 11131 ∧ g 11131 ≤ 10000 ∧ 0 ≤ g 11132 ∧ g 11132 < 65536 ∧ 0 ≤ g 11133 ∧ g 11133 ≤ 160 ∧ 0 ≤ g 11134 ∧ g 11134 ≤ 999 ∧ 0 ≤ g 11135 ∧ g 11135 ≤ 16 ∧ 0 ≤ g 11137 ∧ g 11137 ≤ 99999
abbrev ag7 (F F0 : Row) : Prop := ∀ w, 0 ≤ w → w < 7 → F w = F0 w
/-- the rest M holds the law Λ -/
def LawT (M : Mem) (Λ : Law) : Prop := ∀ (g mi mn F : Row) (S : Nat → Int32) (F0 : Row), ag7 F F0 →
  (∀ c lo hi wo : Int, -1000 ≤ c → c ≤ 119 → -1000 ≤ lo → lo ≤ 1000 → -1000 ≤ hi → hi ≤ 1000 → ∃ S', sX8_byLaw (some 3772) (iI c) (iI lo) (iI hi) (iI wo) (tw g mi mn F S M) = some (iI (tellA Λ c lo hi wo F0), tw g mi mn F S' M)) ∧
  ∀ c : Int, -1000 ≤ c → c ≤ 1000 → ∃ S', sX8_holdsAny (some 3772) (iI c) (tw g mi mn F S M) = some (bI ((Λ c F0).isSome = true), tw g mi mn F S' M)
theorem tellR (Λ : Law) {c lo hi wo : Int} {F : Row} (h : lo ≤ hi) (h1 : lo ≤ wo) (h2 : wo ≤ hi) : lo ≤ tellA Λ c lo hi wo F ∧ tellA Λ c lo hi wo F ≤ hi := by
  unfold tellA
  split
  · omega
  · split
    · omega
    · split <;> omega
section
variable {g mi mn F : Row} {S : Nat → Int32} {M : Mem} {Λ : Law}
theorem m_feels (h : LT M) {f t k : Int} (hG : GlA g) (h0 : 0 ≤ f) (h1 : f < 7) (h2 : 0 ≤ g (244 * f + 1)) (h3 : g (244 * f + 1) ≤ 999) :
    ∃ F', ag7 F' (factsA (drawG g) f t k) ∧ sX8_feels (some 3772) (iI f) (iI t) (iI k) (tw g mi mn F S M) = some (iI (drawG g 11132 % 10), tw (drawG g) mi mn F' S M) := by
  obtain ⟨_, _, _, _, _, _, _, _, _, _, _, _⟩ := hG
  have hd : 0 ≤ drawG g 11132 ∧ drawG g 11132 < 65536 := by
    unfold drawG
    rw [st_eq]
    omega
  have hd' : drawG g = st g 11132 ((25173 * g 11132 + 13849) % 65536) := rfl
  have d1 : drawG g (244 * f + 1) = g (244 * f + 1) := st_ne (by omega)
  have d3 : drawG g 11133 = g 11133 := st_ne (by omega)
  have d2 : drawG g 11131 = g 11131 := st_ne (by omega)
  refine ⟨st (st (st (st (st (st (st F 0 f) 1 t) 2 k) 3 (g (244 * f + 1) % 100)) 4 (g 11133)) 5 (g 11131 % 100)) 6 (drawG g 11132 % 10), ?_, ?_⟩
  rotate_left
  · simp (disch := first | assumption | omega) only [sX8_feels, m_the, z10, z00, if_true, if_false, iv_add, iv_sub, iv_mul, iv_le, iv_lt, iv_eq, iv_mx, iv_mn, bI_z, bI_o, rZ0, rZ1, rZb, cl_some', lt_eq, rm_eq, dv_eq, iv_01, iv_10, cV_tw, gR_0, gR_28, aI_now, aI_fa, sI_now, sI_fa, ← hd', d1, d2, d3, st_eq]
  · intro w hw hw7
    unfold factsA
    simp only [the, d1, d2, d3]
    unfold st
    rcases (show w = 0 ∨ w = 1 ∨ w = 2 ∨ w = 3 ∨ w = 4 ∨ w = 5 ∨ w = 6 by omega) with rfl | rfl | rfl | rfl | rfl | rfl | rfl <;> rfl
theorem m_setsTimer (h : LT M) (hΛ : LawT M Λ) {n : Int} (hG : GlA g) (h0 : 0 ≤ n) (h1 : n < 7) (h2 : 0 ≤ g (244 * n + 1)) (h3 : g (244 * n + 1) ≤ 999) :
    ∃ F' S', sX8_setsTimer (some 3772) (iI n) (tw g mi mn F S M) = some ((), tw (timerG Λ g n) mi mn F' S' M) := by
  obtain ⟨F', e1, e2⟩ := m_feels (mi := mi) (mn := mn) (F := F) (S := S) h (t := n) (k := 6) hG h0 h1 h2 h3
  obtain ⟨S', e3⟩ := (hΛ (drawG g) mi mn F' S _ e1).1 101 4 40 8 (by omega) (by omega) (by omega) (by omega) (by omega) (by omega)
  refine ⟨F', S', ?_⟩
  simp (disch := first | assumption | omega) only [sX8_setsTimer, z10, z00, if_true, if_false, iv_add, iv_sub, iv_mul, iv_le, iv_lt, iv_eq, iv_mx, iv_mn, bI_z, bI_o, rZ0, rZ1, rZb, cl_some', lt_eq, rm_eq, dv_eq, iv_01, iv_10, the, lastA, lpA, st_eq, st_ne, cV_tw, gR_0, gR_3, gR_4, gR_27, gR_28, gI_29, aI_now, aI_mn, aI_mi, aI_fa, sI_now, sI_mn, sI_mi, sI_fa, pI_29, e2, e3, m_sets]
  rfl
theorem m_loses (h : LT M) (hG : GlA g) : sX8_loses (some 3772) (tw g mi mn F S M) = some ((), tw (loseG g) mi mn F S M) := by
  obtain ⟨_, _, _, _, _, _, _, _, _, _, _, _⟩ := hG
  simp (disch := first | assumption | omega) only [sX8_loses, m_min, z10, z00, if_true, if_false, iv_add, iv_sub, iv_mul, iv_le, iv_lt, iv_eq, iv_mx, iv_mn, bI_z, bI_o, rZ0, rZ1, rZb, cl_some', lt_eq, rm_eq, dv_eq, iv_01, iv_10, the, lastA, lpA, st_eq, st_ne, cV_tw, gR_0, gR_3, gR_4, gR_27, gR_28, gI_29, aI_now, aI_mn, aI_mi, aI_fa, sI_now, sI_mn, sI_mi, sI_fa, pI_29, loseG]
/-- zeros are written -/
def zpG (m : Row) (k : Int) : Row := fun x => if 0 ≤ x ∧ x < k then 0 else m x
theorem zpS {m : Row} {k : Int} (hk : 0 ≤ k) : st (zpG m k) k 0 = zpG m (k + 1) := by
  funext x
  unfold st zpG
  by_cases h1 : x = k
  · rw [if_pos h1, if_pos (by omega)]
  · rw [if_neg h1]
    by_cases h2 : 0 ≤ x ∧ x < k
    · rw [if_pos h2, if_pos (by omega)]
    · rw [if_neg h2, if_neg (by omega)]
theorem zp0 (m : Row) : zpG m 0 = m := by
  funext x
  unfold zpG
  rw [if_neg (by omega)]
theorem m_begins_3 (h : LT M) {f t k : Int} (h0 : 0 ≤ f) (h1 : f < 7) : ∀ (j : Nat) (i : Int) (fu : Nat), 27 - i = j → 0 ≤ i → j < fu →
    sX8_beginsMail_3 fu (some 3772) (iI f) (iI t) (iI k) (iI i) (tw g mi (zpG mn i) F S M) = some ((), tw g mi (st (st (st (st (zpG mn 27) 0 f) 1 t) 2 k) 3 (g (244 * f + 1))) F S M)
  | 0, i, fu + 1, e1, e2, e3 => by
    have e : i = 27 := by omega
    subst e
    simp (disch := first | assumption | omega) only [sX8_beginsMail_3, sX8_beginsMail_3b, m_the, z10, z00, if_true, if_false, iv_add, iv_sub, iv_mul, iv_le, iv_lt, iv_eq, iv_mx, iv_mn, bI_z, bI_o, rZ0, rZ1, rZb, cl_some', lt_eq, rm_eq, dv_eq, iv_01, iv_10, the, lastA, lpA, st_eq, st_ne, cV_tw, gR_0, gR_3, gR_4, gR_27, gR_28, gI_29, aI_now, aI_mn, aI_mi, aI_fa, sI_now, sI_mn, sI_mi, sI_fa, pI_29]
    rw [if_pos (by omega)]
  | j + 1, i, fu + 1, e1, e2, e3 => by
    have ih := m_begins_3 h h0 h1 (f := f) (t := t) (k := k) j (i + 1) fu (by omega) (by omega) (by omega)
    simp (disch := first | assumption | omega) only [sX8_beginsMail_3, sX8_beginsMail_3b, z10, z00, if_true, if_false, iv_add, iv_sub, iv_mul, iv_le, iv_lt, iv_eq, iv_mx, iv_mn, bI_z, bI_o, rZ0, rZ1, rZb, cl_some', lt_eq, rm_eq, dv_eq, iv_01, iv_10, the, lastA, lpA, st_eq, st_ne, cV_tw, gR_0, gR_3, gR_4, gR_27, gR_28, gI_29, aI_now, aI_mn, aI_mi, aI_fa, sI_now, sI_mn, sI_mi, sI_fa, pI_29]
    rw [if_neg (by omega), zpS e2]
    exact ih
abbrev ag27 (m m0 : Row) : Prop := ∀ w, 0 ≤ w → w < 27 → m w = m0 w
theorem m_beginsMail (h : LT M) {f t k : Int} (h0 : 0 ≤ f) (h1 : f < 7) : ∃ mn', ag27 mn' (mail0 g f t k) ∧ sX8_beginsMail (some 3772) (iI f) (iI t) (iI k) (tw g mi mn F S M) = some ((), tw g mi mn' F S M) := by
  have := m_begins_3 (g := g) (mi := mi) (mn := mn) (F := F) (S := S) (t := t) (k := k) h h0 h1 27 0 FU (by omega) (by omega) (by unfold FU; omega)
  rw [zp0] at this
  refine ⟨_, ?_, this⟩
  intro w hw hw7
  unfold mail0
  simp only [the]
  unfold st zpG
  by_cases c3 : w = 3
  · rw [if_pos c3, if_neg (by omega), if_neg (by omega), if_neg (by omega), if_pos c3]
  · rw [if_neg c3]
    by_cases c2 : w = 2
    · rw [if_pos c2, if_neg (by omega), if_neg (by omega), if_pos c2]
    · rw [if_neg c2]
      by_cases c1 : w = 1
      · rw [if_pos c1, if_neg (by omega), if_pos c1]
      · rw [if_neg c1]
        by_cases c0 : w = 0
        · rw [if_pos c0, if_pos c0]
        · rw [if_neg c0, if_pos ⟨hw, hw7⟩, if_neg c0, if_neg c1, if_neg c2, if_neg c3]
theorem factsA_ext {g : Row} {a b c a' b' c' : Int} (h1 : a = a') (h2 : b = b') (h3 : c = c') : factsA g a b c = factsA g a' b' c' := by rw [h1, h2, h3]
theorem mailG_ext {g m m' : Row} {d : Int} (h : ag27 m m') : mailG g m d = mailG g m' d := by
  funext x
  unfold mailG
  split
  · rfl
  · split
    · split
      · rfl
      · exact h _ (by omega) (by omega)
    · rfl
theorem postG_ext {Λ : Law} {g m m' : Row} (h : ag27 m m') : postG Λ g m = postG Λ g m' := by
  unfold postG goneA
  rw [h 0 (by omega) (by omega), h 1 (by omega) (by omega), h 2 (by omega) (by omega), mailG_ext h]
/-- the message is copied into the row -/
def mpG (g m : Row) (p k : Int) : Row := fun x => if p ≤ x ∧ x < p + k then m (x - p) else g x
theorem mp0 (g m : Row) (p : Int) : mpG g m p 0 = g := by
  funext x
  unfold mpG
  rw [if_neg (by omega)]
theorem mpS {g m : Row} {p k : Int} (hk : 0 ≤ k) : st (mpG g m p k) (p + k) (m k) = mpG g m p (k + 1) := by
  funext x
  unfold st mpG
  by_cases h1 : x = p + k
  · rw [if_pos h1, if_pos (by omega), h1, show p + k - p = k by omega]
  · rw [if_neg h1]
    by_cases h2 : p ≤ x ∧ x < p + k
    · rw [if_pos h2, if_pos (by omega)]
    · rw [if_neg h2, if_neg (by omega)]
theorem m_posts_113 (h : LT M) {p : Int} (h0 : 0 ≤ p) (h1 : p + 27 ≤ 11131) : ∀ (j : Nat) (i : Int) (fu : Nat), 27 - i = j → 0 ≤ i → j < fu →
    sX8_posts_113 fu (some 3772) (iI p) (iI i) (tw (mpG g mn p i) mi mn F S M) = some ((), tw (st (mpG g mn p 27) 11133 (g 11133 + 1)) mi mn F S M)
  | 0, i, fu + 1, e1, e2, e3 => by
    have e : i = 27 := by omega
    subst e
    simp (disch := first | assumption | omega) only [sX8_posts_113, sX8_posts_113b, z10, z00, if_true, if_false, iv_add, iv_sub, iv_mul, iv_le, iv_lt, iv_eq, iv_mx, iv_mn, bI_z, bI_o, rZ0, rZ1, rZb, cl_some', lt_eq, rm_eq, dv_eq, iv_01, iv_10, the, lastA, lpA, st_eq, st_ne, cV_tw, gR_0, gR_3, gR_4, gR_27, gR_28, gI_29, aI_now, aI_mn, aI_mi, aI_fa, sI_now, sI_mn, sI_mi, sI_fa, pI_29]
    rw [if_pos (by omega)]
    unfold mpG
    rw [if_neg (by omega)]
  | j + 1, i, fu + 1, e1, e2, e3 => by
    have ih := m_posts_113 h h0 h1 j (i + 1) fu (by omega) (by omega) (by omega)
    simp (disch := first | assumption | omega) only [sX8_posts_113, sX8_posts_113b, z10, z00, if_true, if_false, iv_add, iv_sub, iv_mul, iv_le, iv_lt, iv_eq, iv_mx, iv_mn, bI_z, bI_o, rZ0, rZ1, rZb, cl_some', lt_eq, rm_eq, dv_eq, iv_01, iv_10, the, lastA, lpA, st_eq, st_ne, cV_tw, gR_0, gR_3, gR_4, gR_27, gR_28, gI_29, aI_now, aI_mn, aI_mi, aI_fa, sI_now, sI_mn, sI_mi, sI_fa, pI_29]
    rw [if_neg (by omega), mpS e2]
    exact ih
theorem drawGl (hG : GlA g) : GlA (drawG g) := by
  obtain ⟨_, _, _, _, _, _, _, _, _, _, _, _⟩ := hG
  have hd : 0 ≤ drawG g 11132 ∧ drawG g 11132 < 65536 := by
    unfold drawG
    rw [st_eq]
    omega
  unfold GlA
  rw [show drawG g 11131 = g 11131 from st_ne (by omega), show drawG g 11133 = g 11133 from st_ne (by omega), show drawG g 11134 = g 11134 from st_ne (by omega), show drawG g 11135 = g 11135 from st_ne (by omega), show drawG g 11137 = g 11137 from st_ne (by omega)]
  omega
theorem m_posts (h : LT M) (hΛ : LawT M Λ) (hG : GlA g) (h0 : 0 ≤ mn 0) (h1 : mn 0 < 7) (h2 : 0 ≤ g (244 * mn 0 + 1)) (h3 : g (244 * mn 0 + 1) ≤ 999) :
    ∃ mn' F' S', sX8_posts (some 3772) (tw g mi mn F S M) = some ((), tw (postG Λ g mn) mi mn' F' S' M) := by
  obtain ⟨F', e1, e2⟩ := m_feels (mi := mi) (mn := mn) (F := F) (S := S) h (t := mn 1) (k := mn 2) hG h0 h1 h2 h3
  obtain ⟨S1, e3⟩ := (hΛ (drawG g) mi mn F' S _ e1).1 100 0 9 0 (by omega) (by omega) (by omega) (by omega) (by omega) (by omega)
  obtain ⟨S2, e4⟩ := (hΛ (drawG g) mi mn F' S1 _ e1).2 120 (by omega) (by omega)
  obtain ⟨S3, e5⟩ := (hΛ (drawG g) mi mn F' S2 _ e1).1 108 0 10 0 (by omega) (by omega) (by omega) (by omega) (by omega) (by omega)
  have r1 := tellR Λ (c := 100) (lo := 0) (hi := 9) (wo := 0) (F := factsA (drawG g) (mn 0) (mn 1) (mn 2)) (by omega) (by omega) (by omega)
  have r2 := tellR Λ (c := 108) (lo := 0) (hi := 10) (wo := 0) (F := factsA (drawG g) (mn 0) (mn 1) (mn 2)) (by omega) (by omega) (by omega)
  have hG' := drawGl hG
  have d3 : drawG g 11133 = g 11133 := st_ne (by omega)
  have d2 : drawG g 11131 = g 11131 := st_ne (by omega)
  have hl : ∀ S, sX8_posts_71 (some 3772) (tw (drawG g) mi mn F' S M) = some ((), tw (loseG (drawG g)) mi mn F' S M) := by
    intro S
    simp (disch := first | assumption | omega) only [sX8_posts_71, m_loses, z10, z00, if_true, if_false, iv_add, iv_sub, iv_mul, iv_le, iv_lt, iv_eq, iv_mx, iv_mn, bI_z, bI_o, rZ0, rZ1, rZb, cl_some', lt_eq, rm_eq, dv_eq, iv_01, iv_10, the, lastA, lpA, st_eq, st_ne, cV_tw, gR_0, gR_3, gR_4, gR_27, gR_28, gI_29, aI_now, aI_mn, aI_mi, aI_fa, sI_now, sI_mn, sI_mi, sI_fa, pI_29]
  unfold postG goneA
  generalize factsA (drawG g) (mn 0) (mn 1) (mn 2) = F0 at *
  have hGc := hG'
  obtain ⟨_, _, _, _, _, _, _, _, _, _, _, _⟩ := hGc
  simp (disch := first | assumption | omega) only [sX8_posts, z10, z00, if_true, if_false, iv_add, iv_sub, iv_mul, iv_le, iv_lt, iv_eq, iv_mx, iv_mn, bI_z, bI_o, rZ0, rZ1, rZb, cl_some', lt_eq, rm_eq, dv_eq, iv_01, iv_10, the, lastA, lpA, st_eq, st_ne, cV_tw, gR_0, gR_3, gR_4, gR_27, gR_28, gI_29, aI_now, aI_mn, aI_mi, aI_fa, sI_now, sI_mn, sI_mi, sI_fa, pI_29, e2, e3, e4]
  by_cases c1 : (Λ 120 F0).isSome = true
  · rw [if_neg (fun hn => hn c1), if_pos (Or.inl c1)]
    exact ⟨_, _, _, hl _⟩
  · rw [if_pos c1]
    simp (disch := first | assumption | omega) only [z10, z00, if_true, if_false, iv_add, iv_sub, iv_mul, iv_le, iv_lt, iv_eq, iv_mx, iv_mn, bI_z, bI_o, rZ0, rZ1, rZb, cl_some', lt_eq, rm_eq, dv_eq, iv_01, iv_10, the, lastA, lpA, st_eq, st_ne, cV_tw, gR_0, gR_3, gR_4, gR_27, gR_28, gI_29, aI_now, aI_mn, aI_mi, aI_fa, sI_now, sI_mn, sI_mi, sI_fa, pI_29, e5]
    by_cases c2 : drawG g 11132 % 10 < tellA Λ 108 0 10 0 F0
    · rw [if_pos c2, if_pos (Or.inr (Or.inl c2))]
      exact ⟨_, _, _, hl _⟩
    · rw [if_neg c2]
      by_cases c3 : drawG g 11133 = 160
      · rw [if_pos c3, if_pos (Or.inr (Or.inr c3))]
        exact ⟨_, _, _, hl _⟩
      · rw [if_neg c3, if_neg (by intro hc; rcases hc with hc | hc | hc <;> contradiction)]
        refine ⟨st mn 4 (drawG g 11131 + 1 + tellA Λ 100 0 9 0 F0), F', S3, ?_⟩
        have := m_posts_113 (g := drawG g) (mi := mi) (mn := st mn 4 (drawG g 11131 + 1 + tellA Λ 100 0 9 0 F0)) (F := F') (S := S3) h (p := 1708 + 27 * drawG g 11133) (by omega) (by omega) 27 0 FU (by omega) (by omega) (by unfold FU; omega)
        rw [mp0] at this
        rw [this]
        congr 3
        funext x
        unfold st mpG mailG
        rw [d3, d2]
        by_cases c5 : x = 11133
        · rw [if_pos c5, if_pos c5]
        · rw [if_neg c5, if_neg c5]
          by_cases c6 : 1708 + 27 * g 11133 ≤ x ∧ x < 1708 + 27 * g 11133 + 27
          · rw [if_pos c6, if_pos (by omega)]
          · rw [if_neg c6, if_neg (by omega)]
theorem m_answersBy (h : LT M) (hΛ : LawT M Λ) {k a b r : Int} (hG : GlA g) (h0 : 0 ≤ mi 1) (h1 : mi 1 < 7) (h2 : 0 ≤ g (244 * mi 1 + 1)) (h3 : g (244 * mi 1 + 1) ≤ 999) :
    ∃ mn' F' S', sX8_answersBy (some 3772) (iI k) (iI a) (iI b) (iI r) (tw g mi mn F S M) = some ((), tw (ansG Λ g mi k a b r) mi mn' F' S' M) := by
  obtain ⟨m1, a1, e1⟩ := m_beginsMail (g := g) (mi := mi) (mn := mn) (F := F) (S := S) (t := mi 0) (k := k) h h0 h1
  have a0 : m1 0 = mi 1 := a1 0 (by omega) (by omega)
  have b0 : st (st (st m1 6 a) 7 b) 10 r 0 = mi 1 := by rw [st_ne (by omega), st_ne (by omega), st_ne (by omega), a0]
  obtain ⟨m2, F2, S2, e2⟩ := m_posts (mi := mi) (mn := st (st (st m1 6 a) 7 b) 10 r) (F := F) (S := S) h hΛ hG (by rw [b0]; exact h0) (by rw [b0]; exact h1) (by rw [b0]; exact h2) (by rw [b0]; exact h3)
  refine ⟨m2, F2, S2, ?_⟩
  simp (disch := first | assumption | omega) only [sX8_answersBy, z10, z00, if_true, if_false, iv_add, iv_sub, iv_mul, iv_le, iv_lt, iv_eq, iv_mx, iv_mn, bI_z, bI_o, rZ0, rZ1, rZb, cl_some', lt_eq, rm_eq, dv_eq, iv_01, iv_10, the, lastA, lpA, st_eq, st_ne, cV_tw, gR_0, gR_3, gR_4, gR_27, gR_28, gI_29, aI_now, aI_mn, aI_mi, aI_fa, sI_now, sI_mn, sI_mi, sI_fa, pI_29, e1, e2]
  unfold ansG
  rw [postG_ext (m' := ansM g mi k a b r)]
  intro w hw hw7
  unfold ansM st
  by_cases c10 : w = 10
  · rw [if_pos c10, if_neg (by omega), if_neg (by omega), if_pos c10]
  · rw [if_neg c10]
    by_cases c7 : w = 7
    · rw [if_pos c7, if_neg (by omega), if_pos c7]
    · rw [if_neg c7]
      by_cases c6 : w = 6
      · rw [if_pos c6, if_pos c6]
      · rw [if_neg c6, if_neg c6, if_neg c7, if_neg c10]
        exact a1 w hw hw7
/-! what a message put behind leaves -/
theorem drawG_ne {x : Int} (h : ¬ x = 11132) : drawG g x = g x := st_ne h
theorem postG_ne {m : Row} {x : Int} (hG : GlA g) (h1 : ¬ x = 11132) (h2 : ¬ x = 11133) (h3 : ¬ x = 11137) (h4 : x < 1708 + 27 * g 11133 ∨ 6028 ≤ x) : postG Λ g m x = g x := by
  obtain ⟨_, _, _, _, _, _, _, _, _, _, _, _⟩ := hG
  unfold postG
  split
  · exact (st_ne h3).trans (drawG_ne h1)
  · rename_i hg
    have d3 : drawG g 11133 = g 11133 := st_ne (by omega)
    have : ¬ g 11133 = 160 := fun h => hg (Or.inr (Or.inr (d3.trans h)))
    unfold mailG
    rw [if_neg h2, d3, if_neg (by omega), drawG_ne h1]
theorem postG_Gl {m : Row} (hG : GlA g) : GlA (postG Λ g m) := by
  have hG0 := hG
  have hd := drawGl hG
  unfold postG
  split
  · obtain ⟨_, _, _, _, _, _, _, _, _, _, _, _⟩ := hd
    unfold GlA loseG
    rw [st_ne (by omega), st_ne (by omega), st_ne (by omega), st_ne (by omega), st_ne (by omega), st_eq]
    omega
  · rename_i hg
    unfold goneA at hg
    obtain ⟨_, _, _, _, _, _, _, _, _, _, _, _⟩ := hd
    have d3 : drawG g 11133 = g 11133 := st_ne (by omega)
    have o : ∀ x, 11131 ≤ x → ¬ x = 11133 → mailG (drawG g) m (g 11131 + 1 + tellA Λ 100 0 9 0 (factsA (drawG g) (m 0) (m 1) (m 2))) x = drawG g x := by
      intro x h1 h2
      unfold mailG
      rw [if_neg h2, if_neg (by omega)]
    unfold GlA
    rw [o 11131 (by omega) (by omega), o 11132 (by omega) (by omega), o 11134 (by omega) (by omega), o 11135 (by omega) (by omega), o 11137 (by omega) (by omega)]
    have e3 : mailG (drawG g) m (g 11131 + 1 + tellA Λ 100 0 9 0 (factsA (drawG g) (m 0) (m 1) (m 2))) 11133 = drawG g 11133 + 1 := if_pos rfl
    rw [e3]
    have : ¬ g 11133 = 160 := fun h => hg (Or.inr (Or.inr (d3.trans h)))
    omega
end
