/-! DEPS: xb -/
/-! XC: what is asked of both: who could win, majorities -/
theorem clp {β γ : Type} (a : γ) (σ : Mem) (f : γ → Mem → Option β) : cl (some (a, σ)) f = f a σ := rfl
abbrev grantP (g : Row) (p n : Int) : Prop := g (244 * p + 0) = 1 ∧ ¬ hasI (g (11124 + p)) n ∧ g (244 * p + 1) ≤ g (244 * n + 1) + 1 ∧ (g (244 * p + 1) ≤ g (244 * n + 1) ∨ g (244 * p + 2) = -1 ∨ g (244 * p + 2) = n) ∧ noLess g p (g (244 * n + 4) + g (244 * n + 8)) (termA g n (g (244 * n + 4) + g (244 * n + 8)))
def winF (g : Row) (n : Int) : Nat → Int → Int → Int
  | 0, s, _ => s
  | f + 1, s, p => winF g n f (if p ≠ n ∧ hasI (membA g n) p ∧ grantP g p n then orI s (bitI p) else s) (p + 1)
def winS (g : Row) (n : Int) : Int := winF g n 7 (bitI n) 0
def wonS (g : Row) (n w X : Int) : Int := if w = 1 then X else if mostA g n X then 1 else 0
def couldS (g : Row) (n w : Int) : Int := if ¬ isNd n then -1 else if ¬ (0 ≤ w ∧ w < 2) then -1 else if ¬ (g (244 * n + 0) = 1 ∧ hasI (membA g n) n) then -2 else wonS g n w (winS g n)
def majorS (g : Row) (n s : Int) : Int := if ¬ isNd n then -1 else if ¬ (0 ≤ s ∧ s < 128) then -1 else if mostA g n s then 1 else 0
theorem or_rc {a b c : Int} : orI (orI a b) c = orI (orI a c) b := by
  unfold orI
  rw [Int.toNat_natCast, Int.toNat_natCast, Nat.or_assoc, Nat.or_comm b.toNat, ← Nat.or_assoc]
theorem or_zb {b : Int} (b0 : 0 ≤ b) : orI 0 b = b := by
  unfold orI
  rw [show (0 : Int).toNat = 0 from rfl, Nat.zero_or, Int.toNat_of_nonneg b0]
theorem winF_r {g : Row} {n : Int} : ∀ (f : Nat) (s p : Int), 0 ≤ s → s < 128 → 0 ≤ p → p + f ≤ 7 → 0 ≤ winF g n f s p ∧ winF g n f s p < 128
  | 0, s, p, s0, s1, p0, p1 => ⟨s0, s1⟩
  | f + 1, s, p, s0, s1, p0, p1 => by
    have b := bitR p0 (show p < 7 by omega)
    have o := orR s0 s1 (Int.le_of_lt b.1) b.2
    unfold winF
    split
    · exact winF_r f _ (p + 1) o.1 o.2 (by omega) (by omega)
    · exact winF_r f _ (p + 1) s0 s1 (by omega) (by omega)
section
variable {B : Nat} {h g C Hd Mo : Row} {M : Mem} {Λ : Law} {hs : His} {FL : Int → ELog} {R : Int} {D : DK}
theorem t_majority (hL : LyC B M) (hN : mP M 0 1 = some B) (rel : Rel h g) (I : InvS g hs FL R D) {n s : Int} (n0 : -2147483648 ≤ n) (n1 : n ≤ 2147483647) (s0 : -2147483648 ≤ s) (s1 : s ≤ 2147483647) :
    sX0_majority (some 0) (iI n) (iI s) (tl B h C Hd Mo M) = some (iI (majorS g n s), tl B h C Hd Mo M) := by
  unfold majorS isNd
  by_cases d : 0 ≤ n ∧ n < 7
  · rw [if_neg (fun q => q d)]
    by_cases e : 0 ≤ s ∧ s < 128
    · rw [if_neg (fun q => q e)]
      have hg := I.lg d.1 d.2
      have rn := rel.nd n d.1 d.2
      have x := t_isMajority (C := C) (Hd := Hd) (Mo := Mo) hL (rn.lg hg) e.1 e.2
      rw [bI_c (rn.most hg)] at x
      unfold sX0_majority
      rw [t_isNode n0 n1, clp, if_neg (show ¬ bI (0 ≤ n ∧ n < 7) = iI 0 by rw [bI_z]; exact fun q => q d), t_in s0 s1 (by omega) (by omega), clp, if_neg (show ¬ bI (0 ≤ s ∧ s < 128) = iI 0 by rw [bI_z]; exact fun q => q e), gR_t1 hL hN, gR_c0 hL, aR_nd hL d.1 d.2, cV_nd hL d.1 d.2, x, clp]
      by_cases c : mostA g n s
      · rw [if_pos c, if_neg (show ¬ bI (mostA g n s) = iI 0 by rw [bI_z]; exact fun q => q c)]
      · rw [if_neg c, if_pos (show bI (mostA g n s) = iI 0 by rw [bI_z]; exact c)]
    · rw [if_pos e]
      unfold sX0_majority
      rw [t_isNode n0 n1, clp, if_neg (show ¬ bI (0 ≤ n ∧ n < 7) = iI 0 by rw [bI_z]; exact fun q => q d), t_in s0 s1 (by omega) (by omega), clp, if_pos (show bI (0 ≤ s ∧ s < 128) = iI 0 by rw [bI_z]; exact e)]
  · rw [if_pos d]
    unfold sX0_majority
    rw [t_isNode n0 n1, clp, if_pos (show bI (0 ≤ n ∧ n < 7) = iI 0 by rw [bI_z]; exact d)]
theorem t_grant_99 (hL : LyC B M) (rel : Rel h g) (I : InvS g hs FL R D) {p n : Int} (p0 : 0 ≤ p) (p1 : p < 7) (n0 : 0 ≤ n) (n1 : n < 7) {q : Prop} [Decidable q] :
    sX0_wouldGrant_99 (some (ndA B n)) (some (ndA B p)) (bI q) (tl B h C Hd Mo M) = some (bI (q ∧ noLess g p (g (244 * n + 4) + g (244 * n + 8)) (termA g n (g (244 * n + 4) + g (244 * n + 8)))), tl B h C Hd Mo M) := by
  have hg := I.lg n0 n1
  have hp := I.lg p0 p1
  have bg := hg.1
  have rn := rel.nd n n0 n1
  have rp := rel.nd p p0 p1
  have w4 := rn.s 4 (by omega) (by omega)
  have w8 := rn.s 8 (by omega) (by omega)
  have xl := t_last (h := h) (C := C) (Hd := Hd) (Mo := Mo) hL n0 n1
  rw [w4, w8] at xl
  have xt := t_termAt (C := C) (Hd := Hd) (Mo := Mo) hL (rn.lg hg) (i := g (244 * n + 4) + g (244 * n + 8)) (by omega) (by omega)
  rw [rn.term hg (by omega) (by omega)] at xt
  have tr := termR hg (i := g (244 * n + 4) + g (244 * n + 8)) (by omega) (by omega)
  have xn := t_isNoLess (C := C) (Hd := Hd) (Mo := Mo) hL (rp.lg hp) (l := g (244 * n + 4) + g (244 * n + 8)) (t := termA g n (g (244 * n + 4) + g (244 * n + 8))) (by omega) (by omega)
  rw [bI_c (rp.noless hp)] at xn
  unfold sX0_wouldGrant_99
  by_cases c : q
  · rw [if_neg (show ¬ bI q = iI 0 by rw [bI_z]; exact fun x => x c), cV_nd hL n0 n1, xl, clp, cV_nd hL n0 n1, xt, clp, cV_nd hL n0 n1, xl, clp, cV_nd hL p0 p1, xn, clp]
    by_cases e : noLess g p (g (244 * n + 4) + g (244 * n + 8)) (termA g n (g (244 * n + 4) + g (244 * n + 8)))
    · rw [if_neg (by rw [bI_z]; exact fun x => x e), rZ1, bI_t ⟨c, e⟩]
    · rw [if_pos (by rw [bI_z]; exact e), rZ0, bI_f (fun x => e x.2)]
  · rw [if_pos (show bI q = iI 0 by rw [bI_z]; exact c), rZ0, bI_f (fun x => c x.1)]
theorem t_wouldGrant (hL : LyC B M) (hN : mP M 0 1 = some B) (rel : Rel h g) (I : InvS g hs FL R D) {p n : Int} (p0 : 0 ≤ p) (p1 : p < 7) (n0 : 0 ≤ n) (n1 : n < 7) :
    sX0_wouldGrant (some 0) (iI p) (iI n) (tl B h C Hd Mo M) = some (bI (p = n ∨ grantP g p n), tl B h C Hd Mo M) := by
  obtain ⟨⟨s1, s2⟩, _⟩ := I.na n n0 n1
  obtain ⟨⟨u1, u2⟩, _⟩ := I.na p p0 p1
  have rn := rel.nd n n0 n1
  have rp := rel.nd p p0 p1
  have a0 := rp.s 0 (by omega) (by omega)
  have a1 := rp.s 1 (by omega) (by omega)
  have a2 := rp.s 2 (by omega) (by omega)
  have b1 := rn.s 1 (by omega) (by omega)
  have xl := t_areLinked (C := C) (Hd := Hd) (Mo := Mo) hL rel p0 p1 n0 n1 (I.ct p p0 p1)
  have y : ∀ (q : Prop) [Decidable q], sX0_wouldGrant_99 (some (ndA B n)) (some (ndA B p)) (bI q) (tl B h C Hd Mo M) = some (bI (q ∧ noLess g p (g (244 * n + 4) + g (244 * n + 8)) (termA g n (g (244 * n + 4) + g (244 * n + 8)))), tl B h C Hd Mo M) := fun q _ => t_grant_99 hL rel I p0 p1 n0 n1
  have y1 := y True
  have y0 := y False
  rw [bI_t trivial] at y1
  rw [bI_f (fun x => x)] at y0
  unfold grantP sX0_wouldGrant sX0_wouldGrant_94
  rw [gR_t1 hL hN, gR_c0 hL, aR_nd hL n0 n1, gR_t1 hL hN, gR_c0 hL, aR_nd hL p0 p1]
  by_cases c0 : p = n
  · rw [if_pos (congrArg iI c0), rZ1, bI_t (Or.inl c0)]
  · rw [if_neg (by rw [iv_eq (by omega) (by omega) (by omega) (by omega)]; exact c0), gN_23 hL p0 p1, a0]
    by_cases c1 : g (244 * p + 0) = 1
    · rw [if_neg (by rw [iv_eq (by omega) (by omega) (by omega) (by omega)]; omega), gR_t1 hL hN, cV_cl hL, xl, clp]
      by_cases c2 : hasI (g (11124 + p)) n
      · rw [if_pos (by rw [bI_z]; exact fun x => x c2), rZ0, bI_f (fun x => by rcases x with x | x; exact c0 x; exact x.2.1 c2)]
      · rw [if_neg (by rw [bI_z]; exact fun x => x c2), gN_9 hL p0 p1, gN_9 hL n0 n1, a1, b1, iv_add]
        by_cases c3 : g (244 * p + 1) ≤ g (244 * n + 1) + 1
        · rw [if_pos (by rw [iv_le (by omega) (by omega) (by omega) (by omega)]; exact c3), gN_9 hL p0 p1, gN_9 hL n0 n1, a1, b1]
          by_cases c4 : g (244 * p + 1) ≤ g (244 * n + 1)
          · rw [if_pos (by rw [iv_le (by omega) (by omega) (by omega) (by omega)]; exact c4), y1]
            exact congrArg (fun z => some (z, tl B h C Hd Mo M)) (bI_c ⟨fun x => Or.inr ⟨c1, c2, c3, Or.inl c4, x.2⟩, fun x => by rcases x with x | x; exact absurd x c0; exact ⟨trivial, x.2.2.2.2⟩⟩)
          · rw [if_neg (by rw [iv_le (by omega) (by omega) (by omega) (by omega)]; exact c4), gN_10 hL p0 p1, a2]
            by_cases c5 : g (244 * p + 2) = -1
            · rw [if_pos (by rw [iv_eq (by omega) (by omega) (by omega) (by omega)]; exact c5), y1]
              exact congrArg (fun z => some (z, tl B h C Hd Mo M)) (bI_c ⟨fun x => Or.inr ⟨c1, c2, c3, Or.inr (Or.inl c5), x.2⟩, fun x => by rcases x with x | x; exact absurd x c0; exact ⟨trivial, x.2.2.2.2⟩⟩)
            · rw [if_neg (by rw [iv_eq (by omega) (by omega) (by omega) (by omega)]; exact c5), gN_10 hL p0 p1, a2]
              by_cases c6 : g (244 * p + 2) = n
              · rw [if_pos (by rw [iv_eq (by omega) (by omega) (by omega) (by omega)]; exact c6), y1]
                exact congrArg (fun z => some (z, tl B h C Hd Mo M)) (bI_c ⟨fun x => Or.inr ⟨c1, c2, c3, Or.inr (Or.inr c6), x.2⟩, fun x => by rcases x with x | x; exact absurd x c0; exact ⟨trivial, x.2.2.2.2⟩⟩)
              · rw [if_neg (by rw [iv_eq (by omega) (by omega) (by omega) (by omega)]; exact c6), y0]
                exact congrArg (fun z => some (z, tl B h C Hd Mo M)) (bI_c ⟨fun x => x.1.elim, fun x => by
                  rcases x with x | x
                  · exact absurd x c0
                  · rcases x.2.2.2.1 with r | r | r
                    · exact absurd r c4
                    · exact absurd r c5
                    · exact absurd r c6⟩)
        · rw [if_neg (by rw [iv_le (by omega) (by omega) (by omega) (by omega)]; exact c3), rZ0, bI_f (fun x => by rcases x with x | x; exact c0 x; exact c3 x.2.2.1)]
    · rw [if_pos (by rw [iv_eq (by omega) (by omega) (by omega) (by omega)]; omega), rZ0, bI_f (fun x => by rcases x with x | x; exact c0 x; exact c1 x.1)]
theorem t_could_54 (hL : LyC B M) (hN : mP M 0 1 = some B) (rel : Rel h g) (I : InvS g hs FL R D) {n w : Int} (n0 : 0 ≤ n) (n1 : n < 7) (w0 : 0 ≤ w) (w1 : w < 2) (hm : hasI (membA g n) n) : ∀ (j : Nat) (s p : Int) (fu : Nat), 7 - p = j → 0 ≤ p → 0 ≤ s → s < 128 → j < fu →
    sX0_couldWin_54 fu (some 0) (iI n) (iI w) (some (ndA B n)) (iI s) (iI p) (tl B h C Hd Mo M) = some (iI (wonS g n w (winF g n j (if p ≤ n then orI s (bitI n) else s) p)), tl B h C Hd Mo M)
  | 0, s, p, fu + 1, e1, e2, s0, s1, e3 => by
    have hg := I.lg n0 n1
    have rn := rel.nd n n0 n1
    have x := t_isMajority (C := C) (Hd := Hd) (Mo := Mo) hL (rn.lg hg) s0 s1
    rw [bI_c (rn.most hg)] at x
    rw [if_neg (by omega)]
    unfold winF wonS
    show sX0_couldWin_54b (sX0_couldWin_54 fu) _ _ _ _ _ _ _ = _
    generalize sX0_couldWin_54 fu = K
    unfold sX0_couldWin_54b
    rw [if_pos (by rw [iv_le (by omega) (by omega) (by omega) (by omega)]; omega)]
    by_cases c : w = 1
    · rw [if_pos (congrArg iI c), if_pos c]
    · rw [if_neg (by rw [iv_eq (by omega) (by omega) (by omega) (by omega)]; exact c), if_neg c, cV_nd hL n0 n1, x, clp]
      by_cases e : mostA g n s
      · rw [if_neg (by rw [bI_z]; exact fun q => q e), if_pos e]
      · rw [if_pos (by rw [bI_z]; exact e), if_neg e]
  | j + 1, s, p, fu + 1, e1, e2, s0, s1, e3 => by
    have p1 : p < 7 := by omega
    have hg := I.lg n0 n1
    have rn := rel.nd n n0 n1
    have mr := membR hg
    have x1 := t_members (C := C) (Hd := Hd) (Mo := Mo) hL (rn.lg hg)
    rw [rn.memb hg] at x1
    have x2 := t_wouldGrant (C := C) (Hd := Hd) (Mo := Mo) hL hN rel I e2 p1 n0 n1
    have bp := bitR e2 p1
    have o := orR s0 s1 (Int.le_of_lt bp.1) bp.2
    have iy := t_could_54 hL hN rel I n0 n1 w0 w1 hm j (orI s (bitI p)) (p + 1) fu (by omega) (by omega) o.1 o.2 (by omega)
    have ino := t_could_54 hL hN rel I n0 n1 w0 w1 hm j s (p + 1) fu (by omega) (by omega) s0 s1 (by omega)
    have key : winF g n (j + 1) (if p ≤ n then orI s (bitI n) else s) p = winF g n j (if p + 1 ≤ n then orI (if hasI (membA g n) p ∧ (p = n ∨ grantP g p n) then orI s (bitI p) else s) (bitI n) else (if hasI (membA g n) p ∧ (p = n ∨ grantP g p n) then orI s (bitI p) else s)) (p + 1) := by
      show winF g n j _ (p + 1) = _
      congr 1
      by_cases c1 : p = n
      · subst c1
        rw [if_neg (fun q => q.1 rfl), if_pos (Int.le_refl _), if_neg (show ¬ p + 1 ≤ p by omega), if_pos ⟨hm, Or.inl rfl⟩]
      · by_cases c2 : hasI (membA g n) p ∧ grantP g p n
        · rw [if_pos (show p ≠ n ∧ hasI (membA g n) p ∧ grantP g p n from ⟨c1, c2⟩), if_pos (show hasI (membA g n) p ∧ (p = n ∨ grantP g p n) from ⟨c2.1, Or.inr c2.2⟩)]
          by_cases c3 : p ≤ n
          · rw [if_pos c3, if_pos (show p + 1 ≤ n by omega), or_rc]
          · rw [if_neg c3, if_neg (show ¬ p + 1 ≤ n by omega)]
        · rw [if_neg (show ¬ (p ≠ n ∧ hasI (membA g n) p ∧ grantP g p n) from fun q => c2 q.2), if_neg (show ¬ (hasI (membA g n) p ∧ (p = n ∨ grantP g p n)) from fun q => by rcases q.2 with r | r; exact c1 r; exact c2 ⟨q.1, r⟩)]
          by_cases c3 : p ≤ n
          · rw [if_pos c3, if_pos (show p + 1 ≤ n by omega)]
          · rw [if_neg c3, if_neg (show ¬ p + 1 ≤ n by omega)]
    rw [key]
    show sX0_couldWin_54b (sX0_couldWin_54 fu) _ _ _ _ _ _ _ = _
    generalize sX0_couldWin_54 fu = K at iy ino ⊢
    have no : sX0_couldWin_92 K (some 0) (iI n) (iI w) (some (ndA B n)) (iI p) (iI s) (tl B h C Hd Mo M) = K (some 0) (iI n) (iI w) (some (ndA B n)) (iI s) (iI (p + 1)) (tl B h C Hd Mo M) := by
      unfold sX0_couldWin_92 sX0_couldWin_93
      have z : iI s ||| iI 0 = iI s := by
        rw [iv_or s0 s1 (by omega) (by omega)]
        congr 1
        unfold orI
        rw [show (0 : Int).toNat = 0 from rfl, Nat.or_zero, Int.toNat_of_nonneg s0]
      rw [z, iv_add]
    unfold sX0_couldWin_54b
    rw [if_neg (by rw [iv_le (by omega) (by omega) (by omega) (by omega)]; omega), cV_nd hL n0 n1, x1, clp, t_has mr.1 mr.2 e2 p1, clp]
    by_cases c1 : hasI (membA g n) p
    · rw [if_neg (show ¬ bI (hasI (membA g n) p) = iI 0 by rw [bI_z]; exact fun q => q c1), cV_lt hL, x2, clp]
      by_cases c2 : p = n ∨ grantP g p n
      · rw [if_neg (show ¬ bI (p = n ∨ grantP g p n) = iI 0 by rw [bI_z]; exact fun q => q c2), iv_shl e2 p1, if_pos (show hasI (membA g n) p ∧ (p = n ∨ grantP g p n) from ⟨c1, c2⟩)]
        unfold sX0_couldWin_93
        rw [iv_or s0 s1 (Int.le_of_lt bp.1) bp.2, iv_add]
        exact iy
      · rw [if_pos (show bI (p = n ∨ grantP g p n) = iI 0 by rw [bI_z]; exact c2), no, if_neg (show ¬ (hasI (membA g n) p ∧ (p = n ∨ grantP g p n)) from fun q => c2 q.2)]
        exact ino
    · rw [if_pos (show bI (hasI (membA g n) p) = iI 0 by rw [bI_z]; exact c1), no, if_neg (show ¬ (hasI (membA g n) p ∧ (p = n ∨ grantP g p n)) from fun q => c1 q.1)]
      exact ino
theorem t_couldWin (hL : LyC B M) (hN : mP M 0 1 = some B) (rel : Rel h g) (I : InvS g hs FL R D) {n w : Int} (n0 : -2147483648 ≤ n) (n1 : n ≤ 2147483647) (w0 : -2147483648 ≤ w) (w1 : w ≤ 2147483647) :
    sX0_couldWin (some 0) (iI n) (iI w) (tl B h C Hd Mo M) = some (iI (couldS g n w), tl B h C Hd Mo M) := by
  unfold couldS isNd
  by_cases d : 0 ≤ n ∧ n < 7
  · rw [if_neg (fun q => q d)]
    by_cases e : 0 ≤ w ∧ w < 2
    · rw [if_neg (fun q => q e)]
      have hg := I.lg d.1 d.2
      have rn := rel.nd n d.1 d.2
      obtain ⟨⟨s1, s2⟩, _⟩ := I.na n d.1 d.2
      have a0 := rn.s 0 (by omega) (by omega)
      have mr := membR hg
      have x1 := t_members (C := C) (Hd := Hd) (Mo := Mo) hL (rn.lg hg)
      rw [rn.memb hg] at x1
      unfold sX0_couldWin
      rw [t_isNode n0 n1, clp, if_neg (show ¬ bI (0 ≤ n ∧ n < 7) = iI 0 by rw [bI_z]; exact fun q => q d), t_in w0 w1 (by omega) (by omega), clp, if_neg (show ¬ bI (0 ≤ w ∧ w < 2) = iI 0 by rw [bI_z]; exact fun q => q e), gR_t1 hL hN, gR_c0 hL, aR_nd hL d.1 d.2, gN_23 hL d.1 d.2, a0]
      by_cases c1 : g (244 * n + 0) = 1
      · rw [if_neg (show ¬ iI (g (244 * n + 0)) = iI 0 by rw [iv_eq (by omega) (by omega) (by omega) (by omega)]; omega), cV_nd hL d.1 d.2, x1, clp, t_has mr.1 mr.2 d.1 d.2, clp]
        by_cases c2 : hasI (membA g n) n
        · rw [if_neg (show ¬ bI (hasI (membA g n) n) = iI 0 by rw [bI_z]; exact fun q => q c2), if_neg (fun q => q ⟨c1, c2⟩)]
          have x := t_could_54 (C := C) (Hd := Hd) (Mo := Mo) hL hN rel I d.1 d.2 e.1 e.2 c2 7 0 0 FU (by omega) (by omega) (by omega) (by omega) (by unfold FU; omega)
          rw [if_pos d.1, or_zb (Int.le_of_lt (bitR d.1 d.2).1)] at x
          exact x
        · rw [if_pos (show bI (hasI (membA g n) n) = iI 0 by rw [bI_z]; exact c2), if_pos (fun q => c2 q.2)]
      · rw [if_pos (show iI (g (244 * n + 0)) = iI 0 by rw [iv_eq (by omega) (by omega) (by omega) (by omega)]; omega), if_pos (fun q => c1 q.1)]
    · rw [if_pos e]
      unfold sX0_couldWin
      rw [t_isNode n0 n1, clp, if_neg (show ¬ bI (0 ≤ n ∧ n < 7) = iI 0 by rw [bI_z]; exact fun q => q d), t_in w0 w1 (by omega) (by omega), clp, if_pos (show bI (0 ≤ w ∧ w < 2) = iI 0 by rw [bI_z]; exact e)]
  · rw [if_pos d]
    unfold sX0_couldWin
    rw [t_isNode n0 n1, clp, if_pos (show bI (0 ≤ n ∧ n < 7) = iI 0 by rw [bI_z]; exact d)]
end
section
variable {g mi mn F : Row} {S : Nat → Int32} {M : Mem} {Λ : Law} {h : His} {FL : Int → ELog} {R : Int} {D : DK}
theorem m_majority (hT : LT M) (I : InvS g h FL R D) {n s : Int} (n0 : -2147483648 ≤ n) (n1 : n ≤ 2147483647) (s0 : -2147483648 ≤ s) (s1 : s ≤ 2147483647) :
    sX8_majority (some 3772) (iI n) (iI s) (tw g mi mn F S M) = some (iI (majorS g n s), tw g mi mn F S M) := by
  unfold majorS isNd
  by_cases d : 0 ≤ n ∧ n < 7
  · rw [if_neg (fun q => q d)]
    by_cases e : 0 ≤ s ∧ s < 128
    · rw [if_neg (fun q => q e)]
      have hg := I.lg d.1 d.2
      have x := m_isMost (mi := mi) (mn := mn) (F := F) (S := S) hT hg e.1 e.2
      unfold sX8_majority
      rw [m_isNode n0 n1, clp, if_neg (show ¬ bI (0 ≤ n ∧ n < 7) = iI 0 by rw [bI_z]; exact fun q => q d), m_in s0 s1 (by omega) (by omega) (by omega) (by omega), clp, if_neg (show ¬ bI (0 ≤ s ∧ s ≤ 127) = iI 0 by rw [bI_z]; omega), cV_tw hT, x, clp]
      by_cases c : mostA g n s
      · rw [if_pos c, if_neg (show ¬ bI (mostA g n s) = iI 0 by rw [bI_z]; exact fun q => q c)]
      · rw [if_neg c, if_pos (show bI (mostA g n s) = iI 0 by rw [bI_z]; exact c)]
    · rw [if_pos e]
      unfold sX8_majority
      rw [m_isNode n0 n1, clp, if_neg (show ¬ bI (0 ≤ n ∧ n < 7) = iI 0 by rw [bI_z]; exact fun q => q d), m_in s0 s1 (by omega) (by omega) (by omega) (by omega), clp, if_pos (show bI (0 ≤ s ∧ s ≤ 127) = iI 0 by rw [bI_z]; omega)]
  · rw [if_pos d]
    unfold sX8_majority
    rw [m_isNode n0 n1, clp, if_pos (show bI (0 ≤ n ∧ n < 7) = iI 0 by rw [bI_z]; exact d)]
theorem m_wouldGrant (hT : LT M) (I : InvS g h FL R D) {p n : Int} (p0 : 0 ≤ p) (p1 : p < 7) (n0 : 0 ≤ n) (n1 : n < 7) :
    sX8_wouldGrant (some 3772) (iI p) (iI n) (tw g mi mn F S M) = some (bI (grantP g p n), tw g mi mn F S M) := by
  obtain ⟨⟨s1, s2⟩, _⟩ := I.na n n0 n1
  obtain ⟨⟨u1, u2⟩, _⟩ := I.na p p0 p1
  have hg := I.lg n0 n1
  have hp := I.lg p0 p1
  have bg := hg.1
  have tr := termR hg (i := g (244 * n + 4) + g (244 * n + 8)) (by omega) (by omega)
  have xt := m_termAt (mi := mi) (mn := mn) (F := F) (S := S) (i := g (244 * n + 4) + g (244 * n + 8)) hT hg (by omega) (by omega)
  have xn := m_isNoLess (mi := mi) (mn := mn) (F := F) (S := S) (l := g (244 * n + 4) + g (244 * n + 8)) (t := termA g n (g (244 * n + 4) + g (244 * n + 8))) hT hp (by omega) (by omega)
  have xl := m_areLinked (mi := mi) (mn := mn) (F := F) (S := S) hT p0 p1 n0 n1 (I.ct p p0 p1)
  have xu := m_isUp (g := g) (mi := mi) (mn := mn) (F := F) (S := S) (n := p) hT (by omega) (by omega) (fun _ => by omega)
  have y1 : sX8_wouldGrant_73 (some 3772) (iI p) (iI n) (iI 1) (tw g mi mn F S M) = some (bI (noLess g p (g (244 * n + 4) + g (244 * n + 8)) (termA g n (g (244 * n + 4) + g (244 * n + 8)))), tw g mi mn F S M) := by
    unfold sX8_wouldGrant_73
    rw [if_neg iv_01, cV_tw hT, m_lastOf hT n0 n1, clp, cV_tw hT, m_lastOf hT n0 n1, clp, cV_tw hT, xt, clp, cV_tw hT, xn, clp]
    by_cases e : noLess g p (g (244 * n + 4) + g (244 * n + 8)) (termA g n (g (244 * n + 4) + g (244 * n + 8)))
    · rw [if_neg (by rw [bI_z]; exact fun x => x e), rZ1, bI_t e]
    · rw [if_pos (by rw [bI_z]; exact e), rZ0, bI_f e]
  unfold grantP sX8_wouldGrant sX8_wouldGrant_68
  rw [cV_tw hT, m_the hT (by omega) (by omega), clp, cV_tw hT, xu, clp]
  by_cases c1 : g (244 * p + 0) = 1
  · rw [if_neg (by rw [bI_z]; exact fun q => q ⟨⟨p0, p1⟩, c1⟩), cV_tw hT, xl, clp]
    by_cases c2 : hasI (g (11124 + p)) n
    · rw [if_pos (by rw [bI_z]; exact fun x => x c2), rZ0, bI_f (fun x => x.2.1 c2)]
    · rw [if_neg (by rw [bI_z]; exact fun x => x c2), cV_tw hT, m_the hT (by omega) (by omega), clp, iv_add]
      by_cases c3 : g (244 * p + 1) ≤ g (244 * n + 1) + 1
      · rw [if_pos (by rw [iv_le (by omega) (by omega) (by omega) (by omega)]; exact c3), cV_tw hT, m_the hT (by omega) (by omega), clp]
        by_cases c4 : g (244 * p + 1) ≤ g (244 * n + 1)
        · rw [if_pos (by rw [iv_lt (by omega) (by omega) (by omega) (by omega)]; omega), y1]
          exact congrArg (fun z => some (z, tw g mi mn F S M)) (bI_c ⟨fun x => ⟨c1, c2, c3, Or.inl c4, x⟩, fun x => x.2.2.2.2⟩)
        · rw [if_neg (by rw [iv_lt (by omega) (by omega) (by omega) (by omega)]; omega), cV_tw hT, m_the hT (by omega) (by omega), clp]
          by_cases c5 : g (244 * p + 2) = -1
          · rw [if_pos (by rw [iv_eq (by omega) (by omega) (by omega) (by omega)]; exact c5), y1]
            exact congrArg (fun z => some (z, tw g mi mn F S M)) (bI_c ⟨fun x => ⟨c1, c2, c3, Or.inr (Or.inl c5), x⟩, fun x => x.2.2.2.2⟩)
          · rw [if_neg (by rw [iv_eq (by omega) (by omega) (by omega) (by omega)]; exact c5), cV_tw hT, m_the hT (by omega) (by omega), clp]
            by_cases c6 : g (244 * p + 2) = n
            · rw [if_pos (by rw [iv_eq (by omega) (by omega) (by omega) (by omega)]; exact c6), y1]
              exact congrArg (fun z => some (z, tw g mi mn F S M)) (bI_c ⟨fun x => ⟨c1, c2, c3, Or.inr (Or.inr c6), x⟩, fun x => x.2.2.2.2⟩)
            · rw [if_neg (by rw [iv_eq (by omega) (by omega) (by omega) (by omega)]; exact c6)]
              unfold sX8_wouldGrant_73
              rw [if_pos rfl, rZ0, bI_f]
              intro x
              rcases x.2.2.2.1 with r | r | r
              · exact c4 r
              · exact c5 r
              · exact c6 r
      · rw [if_neg (by rw [iv_le (by omega) (by omega) (by omega) (by omega)]; exact c3), rZ0, bI_f (fun x => c3 x.2.2.1)]
  · rw [if_pos (by rw [bI_z]; exact fun q => c1 q.2), rZ0, bI_f (fun x => c1 x.1)]
theorem m_could_48 (hT : LT M) (I : InvS g h FL R D) {n w : Int} (n0 : 0 ≤ n) (n1 : n < 7) (w0 : 0 ≤ w) (w1 : w < 2) : ∀ (j : Nat) (s p : Int) (fu : Nat), 7 - p = j → 0 ≤ p → 0 ≤ s → s < 128 → j < fu →
    sX8_couldWin_48 fu (some 3772) (iI n) (iI w) (iI s) (iI p) (tw g mi mn F S M) = some (iI (wonS g n w (winF g n j s p)), tw g mi mn F S M)
  | 0, s, p, fu + 1, e1, e2, s0, s1, e3 => by
    have hg := I.lg n0 n1
    have x := m_isMost (mi := mi) (mn := mn) (F := F) (S := S) hT hg s0 s1
    unfold winF wonS
    show sX8_couldWin_48b (sX8_couldWin_48 fu) _ _ _ _ _ _ = _
    generalize sX8_couldWin_48 fu = K
    unfold sX8_couldWin_48b
    rw [if_pos (by rw [iv_le (by omega) (by omega) (by omega) (by omega)]; omega)]
    by_cases c : w = 1
    · rw [if_pos (congrArg iI c), if_pos c]
    · rw [if_neg (by rw [iv_eq (by omega) (by omega) (by omega) (by omega)]; exact c), if_neg c, cV_tw hT, x, clp]
      by_cases e : mostA g n s
      · rw [if_neg (by rw [bI_z]; exact fun q => q e), if_pos e]
      · rw [if_pos (by rw [bI_z]; exact e), if_neg e]
  | j + 1, s, p, fu + 1, e1, e2, s0, s1, e3 => by
    have p1 : p < 7 := by omega
    have hg := I.lg n0 n1
    have mr := membR hg
    have bp := bitR e2 p1
    have o := orR s0 s1 (Int.le_of_lt bp.1) bp.2
    have x2 := m_wouldGrant (mi := mi) (mn := mn) (F := F) (S := S) hT I e2 p1 n0 n1
    have iy := m_could_48 hT I n0 n1 w0 w1 j (orI s (bitI p)) (p + 1) fu (by omega) (by omega) o.1 o.2 (by omega)
    have ino := m_could_48 hT I n0 n1 w0 w1 j s (p + 1) fu (by omega) (by omega) s0 s1 (by omega)
    show sX8_couldWin_48b (sX8_couldWin_48 fu) _ _ _ _ _ _ = some (iI (wonS g n w (winF g n j _ (p + 1))), _)
    generalize sX8_couldWin_48 fu = K at iy ino ⊢
    unfold sX8_couldWin_48b sX8_couldWin_91
    rw [if_neg (show ¬ iI 7 ≤ iI p by rw [iv_le (by omega) (by omega) (by omega) (by omega)]; omega), iv_add]
    by_cases c0 : p = n
    · rw [if_pos (congrArg iI c0), if_neg (show ¬ (p ≠ n ∧ hasI (membA g n) p ∧ grantP g p n) from fun q => q.1 c0)]
      exact ino
    · rw [if_neg (show ¬ iI p = iI n by rw [iv_eq (by omega) (by omega) (by omega) (by omega)]; exact c0), cV_tw hT, m_membersOf hT hg, clp, m_has mr.1 mr.2 e2 p1, clp]
      by_cases c1 : hasI (membA g n) p
      · rw [if_neg (show ¬ bI (hasI (membA g n) p) = iI 0 by rw [bI_z]; exact fun q => q c1), cV_tw hT, x2, clp]
        by_cases c2 : grantP g p n
        · rw [if_neg (show ¬ bI (grantP g p n) = iI 0 by rw [bI_z]; exact fun q => q c2), if_pos (show p ≠ n ∧ hasI (membA g n) p ∧ grantP g p n from ⟨c0, c1, c2⟩), iv_shl e2 p1, iv_or s0 s1 (Int.le_of_lt bp.1) bp.2]
          exact iy
        · rw [if_pos (show bI (grantP g p n) = iI 0 by rw [bI_z]; exact c2), if_neg (show ¬ (p ≠ n ∧ hasI (membA g n) p ∧ grantP g p n) from fun q => c2 q.2.2)]
          exact ino
      · rw [if_pos (show bI (hasI (membA g n) p) = iI 0 by rw [bI_z]; exact c1), if_neg (show ¬ (p ≠ n ∧ hasI (membA g n) p ∧ grantP g p n) from fun q => c1 q.2.1)]
        exact ino
theorem m_couldWin (hT : LT M) (I : InvS g h FL R D) {n w : Int} (n0 : -2147483648 ≤ n) (n1 : n ≤ 2147483647) (w0 : -2147483648 ≤ w) (w1 : w ≤ 2147483647) :
    sX8_couldWin (some 3772) (iI n) (iI w) (tw g mi mn F S M) = some (iI (couldS g n w), tw g mi mn F S M) := by
  unfold couldS isNd
  by_cases d : 0 ≤ n ∧ n < 7
  · rw [if_neg (fun q => q d)]
    by_cases e : 0 ≤ w ∧ w < 2
    · rw [if_neg (fun q => q e)]
      have hg := I.lg d.1 d.2
      obtain ⟨⟨s1, s2⟩, _⟩ := I.na n d.1 d.2
      have mr := membR hg
      have xu := m_isUp (g := g) (mi := mi) (mn := mn) (F := F) (S := S) (n := n) hT (by omega) (by omega) (fun _ => by omega)
      unfold sX8_couldWin
      rw [m_isNode n0 n1, clp, if_neg (show ¬ bI (0 ≤ n ∧ n < 7) = iI 0 by rw [bI_z]; exact fun q => q d), m_in w0 w1 (by omega) (by omega) (by omega) (by omega), clp, if_neg (show ¬ bI (0 ≤ w ∧ w ≤ 1) = iI 0 by rw [bI_z]; omega), cV_tw hT, xu, clp]
      by_cases c1 : g (244 * n + 0) = 1
      · rw [if_neg (show ¬ bI ((0 ≤ n ∧ n < 7) ∧ g (244 * n + 0) = 1) = iI 0 by rw [bI_z]; exact fun q => q ⟨d, c1⟩), cV_tw hT, m_membersOf hT hg, clp, m_has mr.1 mr.2 d.1 d.2, clp]
        by_cases c2 : hasI (membA g n) n
        · rw [if_neg (show ¬ bI (hasI (membA g n) n) = iI 0 by rw [bI_z]; exact fun q => q c2), if_neg (fun q => q ⟨c1, c2⟩), iv_shl d.1 d.2]
          have bn := bitR d.1 d.2
          exact m_could_48 hT I d.1 d.2 e.1 e.2 7 (bitI n) 0 FU (by omega) (by omega) (Int.le_of_lt bn.1) bn.2 (by unfold FU; omega)
        · rw [if_pos (show bI (hasI (membA g n) n) = iI 0 by rw [bI_z]; exact c2), if_pos (fun q => c2 q.2)]
      · rw [if_pos (show bI ((0 ≤ n ∧ n < 7) ∧ g (244 * n + 0) = 1) = iI 0 by rw [bI_z]; exact fun q => c1 q.2), if_pos (fun q => c1 q.1)]
    · rw [if_pos e]
      unfold sX8_couldWin
      rw [m_isNode n0 n1, clp, if_neg (show ¬ bI (0 ≤ n ∧ n < 7) = iI 0 by rw [bI_z]; exact fun q => q d), m_in w0 w1 (by omega) (by omega) (by omega) (by omega), clp, if_pos (show bI (0 ≤ w ∧ w ≤ 1) = iI 0 by rw [bI_z]; omega)]
  · rw [if_pos d]
    unfold sX8_couldWin
    rw [m_isNode n0 n1, clp, if_pos (show bI (0 ≤ n ∧ n < 7) = iI 0 by rw [bI_z]; exact d)]
end
