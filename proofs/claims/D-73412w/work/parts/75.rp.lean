/-! DEPS: ro -/
/-! RP: the invariant through beats, ticks and a client's acts -/
/-! a client's acts on the row -/
def crashG (g : Row) (n : Int) : Row := st (followG g n (-1)) (244 * n + 0) 0
def upG (g : Row) (n : Int) : Row := fun x =>
  if x = 244 * n + 0 then 1 else if x = 244 * n + 9 then g (244 * n + 4) else if 244 * n + 12 ≤ x ∧ x < 244 * n + 15 then 0 else if 244 * n + 15 ≤ x ∧ x < 244 * n + 23 then g (x + 8) else g x
noncomputable def comeG (Λ : Law) (g : Row) (n : Int) : Row := timerG Λ (upG g n) n
def cutsV (s b : Int) (z : Prop) [Decidable z] : Int := if z then orI s (bitI b) else offI s b
def cutsG (g : Row) (a b : Int) (z : Prop) [Decidable z] : Row := st (st g (11124 + a) (cutsV (g (11124 + a)) b z)) (11124 + b) (cutsV (g (11124 + b)) a z)
noncomputable def putG (Λ : Law) (g : Row) (n k a b : Int) : Row := laidG Λ (layG g n (g (244 * n + 1)) k a b) n
def roundG (g : Row) (n : Int) : Row := st (st g (244 * n + 14) 0) (244 * n + 13) (g (244 * n + 13) + 1)
def newR1 (g : Row) (n k : Int) : Row := fun x =>
  if x = 11135 then g 11135 + 1 else if x = 11028 + 6 * g 11135 then n else if x = 11028 + 6 * g 11135 + 1 then k else if x = 11028 + 6 * g 11135 + 2 then g (244 * n + 13) else if x = 11028 + 6 * g 11135 + 3 then g 11134
  else if x = 11028 + 6 * g 11135 + 4 then 0 else if x = 11028 + 6 * g 11135 + 5 then 0 else g x
noncomputable def askG (Λ : Law) (g : Row) (n k : Int) : Row := readG (newR1 (sendAllG Λ (roundG g n) n) n k) n
def bare (g : Row) (c : Int) : Row := fun x =>
  if x = 11132 then g 11132 else if 11138 ≤ x then g x else if 0 ≤ x ∧ x < 1708 then (if x % 244 = 0 then 1 else if x % 244 = 2 then -1 else if x % 244 = 11 then -1 else if x % 244 = 6 then c else 0) else 0
noncomputable def timersF (Λ : Law) : Nat → Row → Int → Row
  | 0, g, _ => g
  | f + 1, g, n => timersF Λ f (timerG Λ g n) (n + 1)
noncomputable def foundG (Λ : Law) (g : Row) (c : Int) : Row := timersF Λ 7 (bare g c) 0
section
variable {g g' : Row} {h h' : His} {FL : Int → ELog} {R : Int} {D : DK} {Λ : Law}
theorem st_st {e v w : Int} : st (st g e v) e w = st g e w := by
  funext x
  unfold st
  split <;> rfl
theorem st_com {e f v w : Int} (hne : e ≠ f) : st (st g e v) f w = st (st g f w) e v := by
  funext x
  unfold st
  by_cases c : x = f
  · rw [if_pos c, if_neg (by omega), if_pos c]
  · rw [if_neg c, if_neg c]
theorem stand_timer {n v : Int} (n0 : 0 ≤ n) (n1 : n < 7) (hL : LgA g n) : standG Λ (st g (244 * n + 10) v) n = standG Λ g n := by
  have cx := cfg_ext (g' := st g (244 * n + 10) v) hL (fun x _ _ _ => st_ne (by omega))
  have hm : membA (st g (244 * n + 10) v) n = membA g n := by
    unfold membA
    rw [cx.1, cx.2.1]
  have hd : ∀ q : Row, drawG (st q (244 * n + 10) v) = st (drawG q) (244 * n + 10) v := by
    intro q
    unfold drawG
    rw [st_ne (show ¬ (11132 : Int) = 244 * n + 10 by omega), st_com (by omega)]
  have ht : ∀ q : Row, timerG Λ (st q (244 * n + 10) v) n = timerG Λ q n := by
    intro q
    unfold timerG
    rw [hd, st_st, st_ne (show ¬ (11132 : Int) = 244 * n + 10 by omega)]
    have : factsA (st (drawG q) (244 * n + 10) v) n n 6 = factsA (drawG q) n n 6 := by
      unfold factsA
      simp only [the]
      rw [st_ne (show ¬ 244 * n + 1 = 244 * n + 10 by omega), st_ne (show ¬ (11133 : Int) = 244 * n + 10 by omega), st_ne (show ¬ (11131 : Int) = 244 * n + 10 by omega), st_ne (show ¬ (11132 : Int) = 244 * n + 10 by omega)]
    rw [this]
  have hv : standV (st g (244 * n + 10) v) n = st (standV g n) (244 * n + 10) v := by
    unfold standV
    simp only [the]
    rw [st_ne (show ¬ 244 * n + 1 = 244 * n + 10 by omega)]
    rw [st_com (g := g) (e := 244 * n + 10) (by omega), st_com (e := 244 * n + 10) (by omega), st_com (e := 244 * n + 10) (by omega), st_com (e := 244 * n + 10) (by omega), st_com (e := 244 * n + 10) (by omega)]
  unfold standG
  simp only [the]
  rw [hm, st_ne (show ¬ 244 * n + 1 = 244 * n + 10 by omega), hv, ht, ht]
theorem InvS.scal1 (I : InvS g h FL R D) {n w v : Int} (n0 : 0 ≤ n) (n1 : n < 7) (hw : w = 10 ∨ w = 13 ∨ w = 14) (s : NSg (st g (244 * n + w) v) R (g 11134) n) : InvS (st g (244 * n + w) v) h FL R D := by
  refine I.scal n0 n1 I.hi Ot.rfl (fun x _ => st_ne (by omega)) (fun x _ _ => st_ne (by omega)) s ?_ ?_ ?_ ?_
  · rw [st_ne (by omega)]; exact Or.inl
  · rw [st_ne (by omega)]; exact id
  · rw [st_ne (by omega), st_ne (by omega), st_ne (by omega), st_ne (by omega), st_ne (by omega)]
    exact (I.nb n n0 n1).1
  · rw [st_ne (by omega)]; exact id
theorem InvS.beat (I : InvS g h FL R D) {n : Int} (n0 : 0 ≤ n) (n1 : n < 7) (hup : g (244 * n + 0) = 1) (hR : R + 1 ≤ 1000000) : Ex (beatG Λ g n) h (R + 1) D := by
  obtain ⟨⟨s1, s2⟩, _⟩ := I.na n n0 n1
  have I' := I.mono (R' := R + 1) (by omega) hR
  unfold beatG
  simp only [the]
  split
  · rename_i c
    split
    · rename_i c2
      rw [stand_timer n0 n1 (I.lg n0 n1)]
      exact I'.stand n0 n1 c hup
    · rename_i c2
      rw [st_eq] at c2
      refine (I'.scal1 (w := 10) n0 n1 (Or.inl rfl) ?_).ex
      simp (disch := omega) only [NSg, the, st_ne, st_eq]
      unfold NS
      omega
  · rename_i c
    have c : g (244 * n + 3) = 2 := Classical.byContradiction c
    split
    · rename_i c2
      rw [st_eq] at c2
      refine (I'.scal1 (w := 14) n0 n1 (Or.inr (Or.inr rfl)) ?_).ex
      simp (disch := omega) only [NSg, the, st_ne, st_eq]
      unfold NS
      omega
    · rw [st_st]
      have I1 : InvS (st g (244 * n + 14) 0) h FL (R + 1) D := by
        refine I'.scal1 (w := 14) n0 n1 (Or.inr (Or.inr rfl)) ?_
        simp (disch := omega) only [NSg, the, st_ne, st_eq]
        unfold NS
        omega
      have I2 : InvS (st (st g (244 * n + 14) 0) (244 * n + 13) (g (244 * n + 13) + 1)) h FL (R + 1) D := by
        refine I1.scal1 (w := 13) n0 n1 (Or.inr (Or.inl rfl)) ?_
        simp (disch := omega) only [NSg, the, st_ne, st_eq]
        unfold NS
        omega
      exact (I2.sendAll n0 n1 (by rw [st_ne (by omega), st_ne (by omega)]; exact c)).ex
theorem InvS.beatK : ∀ (f : Nat) (g : Row) (h : His) (FL : Int → ELog) (R n : Int), InvS g h FL R D → 0 ≤ n → n + f ≤ 7 → R + f ≤ 1000000 → Ex (beatF Λ f g n) h (R + f) D
  | 0, g, h, FL, R, n, I, n0, n1, hR => by
    rw [show R + ((0 : Nat) : Int) = R by omega]
    exact I.ex
  | f + 1, g, h, FL, R, n, I, n0, n1, hR => by
    unfold beatF
    have e : R + ((f + 1 : Nat) : Int) = R + 1 + f := by omega
    rw [e]
    split
    · rename_i c
      exact (I.beat n0 (by omega) c (by omega)).bind (fun h2 FL2 G2 I2 => InvS.beatK f _ h2 FL2 (R + 1) (n + 1) I2 (by omega) (by omega) (by omega))
    · exact InvS.beatK f g h FL (R + 1) (n + 1) (I.mono (by omega) (by omega)) (by omega) (by omega) (by omega)
theorem InvS.clock (I : InvS g h FL R D) (h9 : g 11131 < 9999) : InvS (st g 11131 (g 11131 + 1)) h FL R (D.1, g 11133, g 11131 + 1) := by
  have hG := I.gl
  obtain ⟨_, _, _, _, _, _, _, _, _, _, _, _⟩ := hG
  refine I.globD (D' := (D.1, g 11133, g 11131 + 1)) (fun x _ => st_ne (by omega)) (st_ne (by omega)) (fun i a b => ?_) ?_ (fun x _ _ => st_ne (by omega)) (st_ne (by omega)) (st_ne (by omega)) rfl (st_eq _ _ _)
  · rw [st_ne (by omega)] at b
    rw [st_ne (x := 11134) (by omega)]
    obtain ⟨q1, q2, q3, q4⟩ := I.ml i a b
    have e : ∀ w, 0 ≤ w → w < 27 → msg (st g 11131 (g 11131 + 1)) i w = msg g i w := fun w w0 w1 => st_ne (by omega)
    exact ⟨MI_ext (fun w w0 w1 _ => e w w0 w1) q1, by rw [e 4 (by omega) (by omega)]; exact ⟨q2, q3, fun q => by exfalso; have q : g 11133 ≤ i := q; omega⟩⟩
  · unfold GlA
    rw [st_eq, st_ne (by omega), st_ne (by omega), st_ne (by omega), st_ne (by omega), st_ne (by omega)]
    omega
theorem InvS.tick (I : InvS g h FL R D) (h9 : g 11131 < 9999) (hR : R + 7 ≤ 1000000) : ∃ K, Ex (tickG Λ g) h (R + 7) (D.1, K) := by
  unfold tickG
  simp only []
  obtain ⟨K, e⟩ := InvS.handK (Λ := Λ) ((st g 11131 (g 11131 + 1) 11133).toNat + 1) _ h FL _ (I.clock h9)
  exact ⟨(K, g 11131 + 1), e.bind (fun h2 FL2 G2 I2 => InvS.beatK 7 _ h2 FL2 R 0 I2 (by omega) (by omega) (by omega))⟩
theorem InvS.ticksK : ∀ (f : Nat) (g : Row) (h : His) (FL : Int → ELog) (R : Int) (D : DK), InvS g h FL R D → R + 7 * f ≤ 1000000 → ∃ K, Ex (ticksF Λ f g) h (R + 7 * f) (D.1, K)
  | 0, g, h, FL, R, D, I, hR => by
    rw [show R + 7 * ((0 : Nat) : Int) = R by omega]
    exact ⟨D.2, I.ex⟩
  | f + 1, g, h, FL, R, D, I, hR => by
    unfold ticksF
    have e : R + 7 * ((f + 1 : Nat) : Int) = R + 7 + 7 * f := by omega
    rw [e]
    split
    · rename_i c
      obtain ⟨K, h2, FL2, G2, I2⟩ := I.tick (Λ := Λ) c (by omega)
      obtain ⟨K2, e2⟩ := InvS.ticksK f _ h2 FL2 (R + 7) _ I2 (by omega)
      exact ⟨K2, e2.gr G2⟩
    · exact InvS.ticksK f g h FL (R + 7) D (I.mono (by omega) (by omega)) (by omega)
/-- what is held now is counted anew -/
theorem InvS.anew (I : InvS g h FL R D) : InvS (st g 11138 0) h FL R (g 11134, D.2) := by
  have o : ∀ x, x < 11138 → st g 11138 0 x = g x := fun x a => st_ne (by omega)
  have hA := I.ar
  have hG := I.gl
  refine ⟨I.hi, fun n n0 n1 => NA_ext (fun x _ _ => o x (by omega)) (o _ (by omega)) (I.na n n0 n1), fun n n0 n1 => ?_, fun i a b => ?_, GlA_ext hG (o _ (by omega)) (o _ (by omega)) (o _ (by omega)) (by rw [o _ (by omega)]; obtain ⟨_, _, _, _, _, _, _, _, _, _, _, _⟩ := hG; omega) (o _ (by omega)) (o _ (by omega)), fun x a b => by rw [o x (by omega)]; exact I.hd x a b, fun i a b => by rw [o _ (by omega), o _ (by omega)]; exact I.hc i a b, RdA_ext (o _ (by omega)) hA.2 (fun x _ _ => o x (by omega)) I.rd, fun r a b c => ?_, fun t a b => by rw [o t (by omega)]; exact I.ld t a b, fun k a b => by rw [o _ (by omega)]; exact I.ct k a b, by rw [o _ (by omega), st_eq, o _ (by omega)]; exact ⟨by show g 11134 = 0 + g 11134; omega, Int.le_refl _, I.dd.2.2⟩, I.rr⟩
  · obtain ⟨⟨s1, s2⟩, _⟩ := I.na n n0 n1
    exact NB_ext (fun x _ _ _ => o x (by omega)) ⟨n0, by omega, by omega⟩ (I.nb n n0 n1)
  · rw [o _ (by omega)] at b
    rw [o 11134 (by omega)]
    obtain ⟨_, _, _, _, _, _, _, _, _, _, _, _⟩ := hG
    obtain ⟨q1, q2⟩ := I.ml i a b
    have e : ∀ w, 0 ≤ w → w < 27 → msg (st g 11138 0) i w = msg g i w := fun w w0 w1 => o _ (by omega)
    exact ⟨MI_ext (fun w w0 w1 _ => e w w0 w1) q1, by rw [e 4 (by omega) (by omega)]; exact q2⟩
  · rw [o _ (by omega)] at b
    rw [o _ (by omega)] at c
    have := I.rd r a b
    rw [o (11028 + 6 * r) (by omega), o _ (by omega)]
    exact I.rl r a b c
/-! a client's acts -/
theorem InvS.crash (I : InvS g h FL R D) {n : Int} (n0 : 0 ≤ n) (n1 : n < 7) : InvS (crashG g n) h FL R D := by
  have I1 := I.follow (w := -1) n0 n1 (by omega) (by omega) (Or.inr rfl)
  have e3 : followG g n (-1) (244 * n + 3) = 0 := followG_3
  have e11 : followG g n (-1) (244 * n + 11) = -1 := followG_11
  unfold crashG
  generalize followG g n (-1) = g1 at *
  obtain ⟨⟨s1, s2⟩, _⟩ := I1.na n n0 n1
  refine I1.scal n0 n1 I1.hi Ot.rfl (fun x _ => st_ne (by omega)) (fun x _ _ => st_ne (by omega)) ?_ ?_ ?_ ?_ ?_
  · simp (disch := omega) only [NSg, the, st_ne, st_eq]
    unfold NS
    omega
  · rw [st_ne (by omega)]; exact Or.inl
  · rw [st_ne (by omega)]; exact id
  · rw [st_ne (by omega), st_ne (by omega), st_ne (by omega), st_ne (by omega), st_ne (by omega)]
    exact (I1.nb n n0 n1).1
  · rw [st_ne (by omega)]; exact id
theorem InvS.come (I : InvS g h FL R D) {n : Int} (n0 : 0 ≤ n) (n1 : n < 7) (hup : g (244 * n + 0) = 0) : InvS (comeG Λ g n) h FL R D := by
  have nb := I.nb n n0 n1
  have a := I.na n n0 n1
  obtain ⟨⟨s1, s2⟩, _⟩ := I.na n n0 n1
  have e3 : g (244 * n + 3) = 0 := by omega
  have ni := nb.1
  rw [e3] at ni
  have p0 : upG g n (244 * n + 0) = 1 := if_pos rfl
  have p9 : upG g n (244 * n + 9) = g (244 * n + 4) := by unfold upG; rw [if_neg (by omega), if_pos rfl]
  have p12 : ∀ x, 244 * n + 12 ≤ x → x < 244 * n + 15 → upG g n x = 0 := by
    intro x b c
    unfold upG
    rw [if_neg (by omega), if_neg (by omega), if_pos ⟨b, c⟩]
  have pk : ∀ x, 244 * n + 15 ≤ x → x < 244 * n + 23 → upG g n x = g (x + 8) := by
    intro x b c
    unfold upG
    rw [if_neg (by omega), if_neg (by omega), if_neg (by omega), if_pos ⟨b, c⟩]
  have o : ∀ x, ¬ x = 244 * n + 0 → ¬ x = 244 * n + 9 → (x < 244 * n + 12 ∨ 244 * n + 23 ≤ x) → upG g n x = g x := by
    intro x b c d
    unfold upG
    rw [if_neg b, if_neg c, if_neg (by omega), if_neg (by omega)]
  have I1 : InvS (upG g n) h FL R D := by
    have := I.node (g' := upG g n) (fl' := FL n) n0 n1 I.hi Ot.rfl (fun x _ => o x (by omega) (by omega) (by omega)) ⟨?_, fun x b c => ?_, fun e k b c => ?_, fun e => ?_⟩ (NB.mk ((ni.foll (vo' := 0)).back (c := g (244 * n + 4)) (by omega)) (Lk_ext (fun x _ _ _ => o x (by omega) (by omega) (by omega)) ⟨n0, by omega, by omega⟩ nb.2) (o _ (by omega) (by omega) (by omega)) (o _ (by omega) (by omega) (by omega)) (by rw [o _ (by omega) (by omega) (by omega)]; exact e3) (by rw [o _ (by omega) (by omega) (by omega), o _ (by omega) (by omega) (by omega)]) p9 (p12 _ (by omega) (by omega)) (fun k _ _ => o _ (by omega) (by omega) (by omega))) (by rw [o _ (by omega) (by omega) (by omega)]; exact id)
    · rw [fl_self] at this
      exact this
    · unfold NSg
      rw [p0, p9, p12 (244 * n + 12) (by omega) (by omega), p12 (244 * n + 13) (by omega) (by omega), p12 (244 * n + 14) (by omega) (by omega), o (244 * n + 1) (by omega) (by omega) (by omega), o (244 * n + 2) (by omega) (by omega) (by omega), o (244 * n + 3) (by omega) (by omega) (by omega), o (244 * n + 4) (by omega) (by omega) (by omega), o (244 * n + 5) (by omega) (by omega) (by omega), o (244 * n + 6) (by omega) (by omega) (by omega), o (244 * n + 7) (by omega) (by omega) (by omega), o (244 * n + 8) (by omega) (by omega) (by omega), o (244 * n + 10) (by omega) (by omega) (by omega), o (244 * n + 11) (by omega) (by omega) (by omega), o 11134 (by omega) (by omega) (by omega)]
      unfold NS
      omega
    · by_cases q : x < 244 * n + 23
      · rw [pk x b q]
        exact a.ky _ (by omega) (by omega)
      · rw [o x (by omega) (by omega) (by omega)]
        exact a.ky x b c
    · rw [pk _ (by omega) (by omega), o (244 * n + (23 + k)) (by omega) (by omega) (by omega)]
      congr 1
      omega
    · rw [o _ (by omega) (by omega) (by omega)] at e
      omega
  exact I1.timer n0 n1
theorem cutsV_r {s b : Int} {z : Prop} [Decidable z] (s0 : 0 ≤ s) (s1 : s < 128) (b0 : 0 ≤ b) (b1 : b < 7) : 0 ≤ cutsV s b z ∧ cutsV s b z < 128 := by
  unfold cutsV
  have hb := bitR b0 b1
  split
  · exact orR s0 s1 (by omega) hb.2
  · exact offR s0 s1 b0 b1
theorem InvS.cuts (I : InvS g h FL R D) {a b : Int} {z : Prop} [Decidable z] (a0 : 0 ≤ a) (a1 : a < 7) (b0 : 0 ≤ b) (b1 : b < 7) : InvS (cutsG g a b z) h FL R D := by
  have hA := I.ar
  have hG := I.gl
  have o : ∀ x, (x < 11124 ∨ 11131 ≤ x) → cutsG g a b z x = g x := by
    intro x hx
    unfold cutsG
    rw [st_ne (by omega), st_ne (by omega)]
  refine ⟨I.hi, fun n n0 n1 => NA_ext (fun x _ _ => o x (by omega)) (o _ (by omega)) (I.na n n0 n1), fun n n0 n1 => ?_, fun i c d => ?_, GlA_blk (fun x _ => o x (by omega)) hG, fun x c d => by rw [o x (by omega)]; exact I.hd x c d, fun i c d => by rw [o _ (by omega), o _ (by omega)]; exact I.hc i c d, RdA_ext (o _ (by omega)) hA.2 (fun x _ _ => o x (by omega)) I.rd, fun r c d e => ?_, fun t c d => by rw [o t (by omega)]; exact I.ld t c d, fun k c d => ?_, by rw [o _ (by omega), o _ (by omega), o _ (by omega)]; exact I.dd, I.rr⟩
  · obtain ⟨⟨s1, s2⟩, _⟩ := I.na n n0 n1
    exact NB_ext (fun x _ _ _ => o x (by omega)) ⟨n0, by omega, by omega⟩ (I.nb n n0 n1)
  · rw [o _ (by omega)] at d
    rw [o 11134 (by omega)]
    obtain ⟨_, _, _, _, _, _, _, _, _, _, _, _⟩ := hG
    obtain ⟨q1, q2⟩ := I.ml i c d
    have e : ∀ w, 0 ≤ w → w < 27 → msg (cutsG g a b z) i w = msg g i w := fun w w0 w1 => o _ (by omega)
    exact ⟨MI_ext (fun w w0 w1 _ => e w w0 w1) q1, by rw [e 4 (by omega) (by omega)]; exact q2⟩
  · rw [o _ (by omega)] at d
    rw [o _ (by omega)] at e
    have := I.rd r c d
    rw [o (11028 + 6 * r) (by omega), o _ (by omega)]
    exact I.rl r c d e
  · have ca := I.ct a a0 a1
    have cb := I.ct b b0 b1
    unfold cutsG
    by_cases e1 : k = b
    · rw [e1, st_eq]
      exact cutsV_r cb.1 cb.2 a0 a1
    · rw [st_ne (by omega)]
      by_cases e2 : k = a
      · rw [e2, st_eq]
        exact cutsV_r ca.1 ca.2 b0 b1
      · rw [st_ne (by omega)]
        exact I.ct k c d
theorem InvS.put (I : InvS g h FL R D) {n k a b : Int} (n0 : 0 ≤ n) (n1 : n < 7) (hr : g (244 * n + 3) = 2) (hk : 0 ≤ k ∧ k ≤ 2) (ha : 0 ≤ a ∧ a ≤ 127) (hb : 0 ≤ b ∧ b ≤ 127) (hk0 : k = 0 → a ≤ 7)
    (hc : k = 1 → cfgHeld g n ∧ newA g n = 0 ∧ a = oldA g n ∧ b ≠ 0) : Ex (putG Λ g n k a b) h R D := by
  have hL := I.lg n0 n1
  unfold putG
  refine (I.layL (k := k) (a := a) (b := b) n0 n1 hr hk ha hb hk0 (fun q => ?_)).bind (fun h2 FL2 G2 I2 => I2.laid n0 n1 (by rw [layG_ne hL (by omega) (by omega) (by omega)]; exact hr))
  obtain ⟨q1, q2, q3, q4⟩ := hc q
  obtain ⟨p, p1, p2, p3, p4⟩ := I.cfgc n0 n1 q1
  exact ⟨p, p1, p2, Or.inl ⟨by rw [← p4]; exact q2, by show a = _; rw [q3, p3], q4⟩⟩
theorem InvS.round (I : InvS g h FL R D) {n : Int} (n0 : 0 ≤ n) (n1 : n < 7) (hR : R + 1 ≤ 1000000) : InvS (roundG g n) h FL (R + 1) D := by
  obtain ⟨⟨s1, s2⟩, _⟩ := I.na n n0 n1
  have I' := I.mono (R' := R + 1) (by omega) hR
  have I1 : InvS (st g (244 * n + 14) 0) h FL (R + 1) D := by
    refine I'.scal1 (w := 14) n0 n1 (Or.inr (Or.inr rfl)) ?_
    simp (disch := omega) only [NSg, the, st_ne, st_eq]
    unfold NS
    omega
  refine I1.scal1 (w := 13) n0 n1 (Or.inr (Or.inl rfl)) ?_
  simp (disch := omega) only [NSg, the, st_ne, st_eq]
  unfold NS
  omega
theorem InvS.newr (I : InvS g h FL R D) {n k : Int} (n0 : 0 ≤ n) (n1 : n < 7) (hr : g (244 * n + 3) = 2) (k0 : 0 ≤ k) (k1 : k < 8) (h16 : g 11135 < 16) : InvS (newR1 g n k) h FL R D := by
  have hA := I.ar
  have hG := I.gl
  have rr := I.rr
  obtain ⟨⟨s1, s2⟩, _⟩ := I.na n n0 n1
  have o : ∀ x, ¬ x = 11135 → (x < 11028 + 6 * g 11135 ∨ 11028 + 6 * g 11135 + 6 ≤ x) → newR1 g n k x = g x := by
    intro x a b
    unfold newR1
    rw [if_neg a, if_neg (by omega), if_neg (by omega), if_neg (by omega), if_neg (by omega), if_neg (by omega), if_neg (by omega)]
  have e35 : newR1 g n k 11135 = g 11135 + 1 := if_pos rfl
  have w0 : newR1 g n k (11028 + 6 * g 11135) = n := by unfold newR1; rw [if_neg (by omega), if_pos rfl]
  have w1 : newR1 g n k (11028 + 6 * g 11135 + 1) = k := by unfold newR1; rw [if_neg (by omega), if_neg (by omega), if_pos rfl]
  have w2 : newR1 g n k (11028 + 6 * g 11135 + 2) = g (244 * n + 13) := by unfold newR1; rw [if_neg (by omega), if_neg (by omega), if_neg (by omega), if_pos rfl]
  have w3 : newR1 g n k (11028 + 6 * g 11135 + 3) = g 11134 := by unfold newR1; rw [if_neg (by omega), if_neg (by omega), if_neg (by omega), if_neg (by omega), if_pos rfl]
  have w4 : newR1 g n k (11028 + 6 * g 11135 + 4) = 0 := by unfold newR1; rw [if_neg (by omega), if_neg (by omega), if_neg (by omega), if_neg (by omega), if_neg (by omega), if_pos rfl]
  obtain ⟨_, _, _, _, _, _, _, _, _, _, _, _⟩ := hG
  refine ⟨I.hi, fun n n0 n1 => NA_ext (fun x _ _ => o x (by omega) (by omega)) (o _ (by omega) (by omega)) (I.na n n0 n1), fun n n0 n1 => ?_, fun i c d => ?_, ?_, fun x c d => by rw [o x (by omega) (by omega)]; exact I.hd x c d, fun i c d => by rw [o _ (by omega) (by omega), o _ (by omega) (by omega)]; exact I.hc i c d, fun r c d => ?_, fun r c d e => ?_, fun t c d => by rw [o t (by omega) (by omega)]; exact I.ld t c d, fun k c d => by rw [o _ (by omega) (by omega)]; exact I.ct k c d, by rw [o _ (by omega) (by omega), o _ (by omega) (by omega), o _ (by omega) (by omega)]; exact I.dd, I.rr⟩
  · obtain ⟨⟨s1, s2⟩, _⟩ := I.na n n0 n1
    exact NB_ext (fun x _ _ _ => o x (by omega) (by omega)) ⟨n0, by omega, by omega⟩ (I.nb n n0 n1)
  · rw [o _ (by omega) (by omega)] at d
    rw [o 11134 (by omega) (by omega)]
    obtain ⟨q1, q2⟩ := I.ml i c d
    have e : ∀ w, 0 ≤ w → w < 27 → msg (newR1 g n k) i w = msg g i w := fun w w0 w1 => o _ (by omega) (by omega)
    exact ⟨MI_ext (fun w w0 w1 _ => e w w0 w1) q1, by rw [e 4 (by omega) (by omega)]; exact q2⟩
  · unfold GlA
    rw [e35, o 11131 (by omega) (by omega), o 11132 (by omega) (by omega), o 11133 (by omega) (by omega), o 11134 (by omega) (by omega), o 11137 (by omega) (by omega)]
    omega
  · rw [e35] at d
    by_cases e : r = g 11135
    · rw [e, w0, w1, w2, w3, w4]
      omega
    · rw [o _ (by omega) (by omega), o _ (by omega) (by omega), o _ (by omega) (by omega), o _ (by omega) (by omega), o _ (by omega) (by omega)]
      exact I.rd r c (by omega)
  · rw [e35] at d
    by_cases q : r = g 11135
    · rw [q, w0, o _ (by omega) (by omega)]
      exact hr
    · have := I.rd r c (by omega)
      rw [o _ (by omega) (by omega)] at e
      rw [o (11028 + 6 * r) (by omega) (by omega), o _ (by omega) (by omega)]
      exact I.rl r c (by omega) e
theorem InvS.asks (I : InvS g h FL R D) {n k : Int} (n0 : 0 ≤ n) (n1 : n < 7) (hr : g (244 * n + 3) = 2) (k0 : 0 ≤ k) (k1 : k < 8) (h16 : g 11135 < 16) (hR : R + 1 ≤ 1000000) : InvS (askG Λ g n k) h FL (R + 1) D := by
  have I1 := I.round n0 n1 hR
  have e3 : roundG g n (244 * n + 3) = 2 := by
    unfold roundG
    rw [st_ne (by omega), st_ne (by omega)]; exact hr
  have e35 : roundG g n 11135 = g 11135 := by
    unfold roundG
    rw [st_ne (by omega), st_ne (by omega)]
  have I2 := I1.sendAll (Λ := Λ) n0 n1 e3
  have f3 : sendAllG Λ (roundG g n) n (244 * n + 3) = 2 := by rw [sendAllG_lo I1.gl (by omega)]; exact e3
  have f35 : sendAllG Λ (roundG g n) n 11135 = g 11135 := by rw [sendAllG_lo I1.gl (by omega)]; exact e35
  exact (I2.newr n0 n1 f3 k0 k1 (by omega)).read
end
