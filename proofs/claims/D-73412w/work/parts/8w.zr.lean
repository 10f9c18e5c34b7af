/-! DEPS: zq -/
/-! ZR: TermLog's planner reads a plan -/
section
variable {T : Int → Int} {n : Int}
theorem pRep_len {l l' : List Act} {s : Nat} {t fr p p' : Int} (h : pRep l s t fr p = .inr (l', p')) (hs : s < l.length) (t0 : 1 ≤ t) : l.length ≤ l'.length := by
  unfold pRep at h
  split at h
  · cases h
  · cases h
    show l.length ≤ (repL l s t.toNat).length
    rw [repL_len (by omega)]
    have : 1 * (l.length - s) ≤ t.toNat * (l.length - s) := Nat.mul_le_mul (by omega) (Nat.le_refl _)
    omega
theorem pActL_up {l l' : List Act} {fr t p p' : Int} (h : pActL T n l fr t p = .inr (l', p')) : p < p' ∧ p' ≤ n ∧ l.length < l'.length := by
  unfold pActL at h
  split at h
  · cases h
  · rename_i c
    have hp : p < n := hr_lt (T := T) (by have c := Decidable.not_not.mp c; unfold isActA at c; omega)
    cases e : pNum T n (hrA T n p) (p + 1) with
    | inl x => rw [e] at h; cases h
    | inr x =>
      rw [e] at h
      have := pNum_up (by omega) (show pNum T n (hrA T n p) (p + 1) = .inr (x.1, x.2) from e)
      have h : pFit l fr t x.1 x.2 = .inr (l', p') := h
      unfold pFit at h
      split at h
      · cases h
      · cases h
        have : (l ++ [x.1]).length = l.length + 1 := by rw [List.length_append]; rfl
        omega
theorem pAct_eq {l : List Act} {fr t p : Int} : pAct T n l fr t p = match pActL T n l fr t p with
    | .inl e => .inl e
    | .inr (l', p') => pRep l' l.length t fr p' := by
  unfold pAct pActL
  by_cases c : isActA (hrA T n p)
  · rw [if_neg (fun z => z c), if_neg (fun z => z c)]
    cases pNum T n (hrA T n p) (p + 1) with
    | inl x => rfl
    | inr x =>
      show (if (l.length : Int) + t > 200 then _ else _) = match pFit l fr t x.1 x.2 with | .inl e => Sum.inl e | .inr (l', p') => pRep l' l.length t fr p'
      unfold pFit
      by_cases g : (l.length : Int) + t > 200
      · rw [if_pos g, if_pos g]
      · rw [if_neg g, if_neg g]
  · rw [if_pos c, if_pos c]
def pRndD (T : Int → Int) (n : Int) : Nat → List Act → Int → ResP
  | 0, _, p => .inl (5, p)
  | d + 1, l, p => match pAllL T n (pOne T n d) (n.toNat + 1) l (p + 1) with
    | .inl e => .inl e
    | .inr (l', p2) => if hrA T n p2 = 41 then .inr (l', p2 + 1) else .inl (1, p2)
theorem pRndD_s {d : Nat} {l : List Act} {p : Int} : pRndD T n (d + 1) l p = match pAllL T n (pOne T n d) (n.toNat + 1) l (p + 1) with
    | .inl e => .inl e
    | .inr (l', p2) => if hrA T n p2 = 41 then .inr (l', p2 + 1) else .inl (1, p2) := rfl
theorem pOne_eq {l : List Act} {p : Int} : ∀ d : Nat, pOne T n d l p = match (if hrA T n (pSt T n p) = 40 then pRndD T n d l (pSt T n p) else pActL T n l p (pTm T n p) (pSt T n p)) with
    | .inl e => .inl e
    | .inr (l', p2) => pRep l' l.length (pTm T n p) p p2
  | 0 => by
    unfold pOne
    by_cases c : hrA T n (pSt T n p) = 40
    · rw [if_pos c, if_pos c]; rfl
    · rw [if_neg c, if_neg c]; exact pAct_eq
  | d + 1 => by
    unfold pOne
    by_cases c : hrA T n (pSt T n p) = 40
    · rw [if_pos c, if_pos c]
      show _ = match pRndD T n (d + 1) l (pSt T n p) with | .inl e => Sum.inl e | .inr (l', p2) => pRep l' l.length (pTm T n p) p p2
      rw [pRndD_s]
      cases pAllL T n (pOne T n d) (n.toNat + 1) l (pSt T n p + 1) with
      | inl x => rfl
      | inr x =>
        show (if hrA T n x.2 = 41 then _ else _) = match (if hrA T n x.2 = 41 then Sum.inr (x.1, x.2 + 1) else Sum.inl (1, x.2) : ResP) with | .inl e => Sum.inl e | .inr (l', p2) => pRep l' l.length (pTm T n p) p p2
        by_cases g : hrA T n x.2 = 41
        · rw [if_pos g, if_pos g]
        · rw [if_neg g, if_neg g]
    · rw [if_neg c, if_neg c]; exact pAct_eq
theorem pOne_more : ∀ (d : Nat) (l l' : List Act) (p p' : Int), p ≤ n → pOne T n d l p = .inr (l', p') → l.length < l'.length := by
  intro d
  induction d with
  | zero =>
    intro l l' p p' hp h
    rw [pOne_eq] at h
    by_cases c : hrA T n (pSt T n p) = 40
    · rw [if_pos c] at h; cases h
    · rw [if_neg c] at h
      cases e : pActL T n l p (pTm T n p) (pSt T n p) with
      | inl x => rw [e] at h; cases h
      | inr x =>
        rw [e] at h
        have u := pActL_up (l' := x.1) (p' := x.2) e
        have := pRep_len h u.2.2 pTm_r.1
        omega
  | succ d ih =>
    intro l l' p p' hp h
    rw [pOne_eq] at h
    by_cases c : hrA T n (pSt T n p) = 40
    · rw [if_pos c] at h
      rw [pRndD_s] at h
      have lt := hr_lt (T := T) (n := n) (p := pSt T n p) (by omega)
      have al : ∀ (f : Nat) (l l' : List Act) (q q' : Int), q ≤ n → pAllL T n (pOne T n d) f l q = .inr (l', q') → l.length < l'.length := by
        intro f
        induction f with
        | zero => intro l l' q q' hq z; cases z
        | succ f ihf =>
          intro l l' q q' hq z
          unfold pAllL at z
          cases e : pOne T n d l q with
          | inl x => rw [e] at z; cases z
          | inr x =>
            rw [e] at z
            have u := ih l x.1 q x.2 hq e
            have u2 := pOne_up d l x.1 q x.2 hq e
            simp only [] at z
            split at z
            · have := ihf _ _ _ _ u2.2 z; omega
            · cases z; exact u
      cases e : pAllL T n (pOne T n d) (n.toNat + 1) l (pSt T n p + 1) with
      | inl x => rw [e] at h; cases h
      | inr x =>
        rw [e] at h
        have u := al _ _ x.1 _ x.2 (by omega) e
        have h : (match (if hrA T n x.2 = 41 then Sum.inr (x.1, x.2 + 1) else Sum.inl (1, x.2) : ResP) with | .inl e => Sum.inl e | .inr (l', p2) => pRep l' l.length (pTm T n p) p p2) = .inr (l', p') := h
        by_cases g : hrA T n x.2 = 41
        · rw [if_pos g] at h
          have := pRep_len h u pTm_r.1
          omega
        · rw [if_neg g] at h; cases h
    · rw [if_neg c] at h
      cases e : pActL T n l p (pTm T n p) (pSt T n p) with
      | inl x => rw [e] at h; cases h
      | inr x =>
        rw [e] at h
        have u := pActL_up (l' := x.1) (p' := x.2) e
        have := pRep_len h u.2.2 pTm_r.1
        omega
theorem pRndD_up : ∀ (d : Nat) (l l' : List Act) (p p' : Int), p < n → pRndD T n d l p = .inr (l', p') → l.length < l'.length ∧ p < p' ∧ p' ≤ n
  | 0, l, l', p, p', hp, h => by cases h
  | d + 1, l, l', p, p', hp, h => by
    rw [pRndD_s] at h
    have al : ∀ (f : Nat) (l l' : List Act) (q q' : Int), q ≤ n → pAllL T n (pOne T n d) f l q = .inr (l', q') → l.length < l'.length ∧ q < q' ∧ q' ≤ n := by
      intro f
      induction f with
      | zero => intro l l' q q' hq z; cases z
      | succ f ihf =>
        intro l l' q q' hq z
        unfold pAllL at z
        cases e : pOne T n d l q with
        | inl x => rw [e] at z; cases z
        | inr x =>
          rw [e] at z
          have u := pOne_more d l x.1 q x.2 hq e
          have u2 := pOne_up d l x.1 q x.2 hq e
          simp only [] at z
          split at z
          · have := ihf _ _ _ _ u2.2 z; omega
          · cases z; exact ⟨u, u2⟩
    cases e : pAllL T n (pOne T n d) (n.toNat + 1) l (p + 1) with
    | inl x => rw [e] at h; cases h
    | inr x =>
      rw [e] at h
      have u := al _ _ x.1 _ x.2 (by omega) e
      have h : (if hrA T n x.2 = 41 then Sum.inr (x.1, x.2 + 1) else Sum.inl (1, x.2) : ResP) = .inr (l', p') := h
      by_cases g : hrA T n x.2 = 41
      · rw [if_pos g] at h
        have := hr_lt (T := T) (n := n) (p := x.2) (by omega)
        cases h
        omega
      · rw [if_neg g] at h; cases h
end
section
variable {A : Nat} {M : Mem}
abbrev GdK (r : Row) (l : List Act) (d : Nat) : Prop := r 6 = 0 ∧ AcK r l ∧ r 9 = 2 - (d : Int) ∧ 0 ≤ r 5 ∧ r 5 ≤ r 0 ∧ 1 ≤ r 0 ∧ r 0 ≤ 240 ∧ d ≤ 2
abbrev bdK (r : Row) (d : Nat) : Int := r 0 + 10 + 3 * d
def thenR (res : ResP) (F : List Act → Int → ResP) : ResP := match res with
  | .inl e => .inl e
  | .inr (l', p') => F l' p'
theorem OutK.seq {r : Row} {z : Option (Unit × Mem)} {b b2 m : Int} {res : ResP} {f : Mem → Option (Unit × Mem)} {F : List Act → Int → ResP} (h : OutK A M r z b res) (hm : b + m ≤ b2)
    (hg : ∀ (r' : Row) (l' : List Act) (p' : Int), res = .inr (l', p') → r' 6 = 0 → r' 5 = p' → r' 0 = r 0 → r' 9 = r 9 → AcK r' l' → OutK A M r' (f (kw A r' M)) b2 (F l' p'))
    (hb : ∀ r' : Row, 1 ≤ r' 6 → r' 6 ≤ 9 → 0 ≤ r' 5 → r' 5 ≤ b → r' 0 = r 0 → BadO A M r' (f (kw A r' M)) m) : OutK A M r (cl z fun _ s => f s) b2 (thenR res F) := by
  unfold OutK at h
  cases res with
  | inl x =>
    obtain ⟨r', a, b', c, d, e, f1, g1, g2⟩ := h
    rw [a, clw]
    have q := hb r' (by omega) (by omega) e f1 d
    show OutK A M r _ b2 (.inl (x.1, x.2))
    exact q.out b' c d e (by omega) ⟨g1, g2⟩
  | inr x =>
    obtain ⟨r', a, b', c, d, e, g⟩ := h
    rw [a, clw]
    exact (hg r' x.1 x.2 rfl b' c d e g).up d e (Int.le_refl _)
theorem all_no {ra ro rr : Option Nat → Mem → Option (Unit × Mem)} {fu : Nat} {σ : Mem} : sX16_all_5 ra ro rr (fu + 1) (some A) (iI 0) σ = some ((), σ) := by
  show sX16_all_5b ra ro rr (sX16_all_5 ra ro rr fu) (some A) (iI 0) σ = _
  generalize sX16_all_5 ra ro rr fu = K
  unfold sX16_all_5b
  rw [if_pos rfl]
/-- with a fault all reads nothing -/
theorem k_allB (hK : LK A M) {D : Nat} {r : Row} (f0 : 1 ≤ r 6) (f1 : r 6 ≤ 9) : sX16_all (D + 1) (some A) (kw A r M) = some ((), kw A r M) := by
  obtain ⟨f, hf⟩ := FU7'
  show sX16_all_0 (sX16_all D) (sX16_one D) (sX16_rounds D) (some A) (kw A r M) = _
  unfold sX16_all_0
  rw [cV_k hK, k_good hK (by omega) f1, clw, bI_f (by omega), hf]
  exact all_no
theorem k_allL (hK : LK A M) {ra ro rr : Option Nat → Mem → Option (Unit × Mem)} {d : Nat} (hO : ∀ r l, GdK r l d → OutK A M r (ro (some A) (kw A r M)) (bdK r d) (pOne (tpL M) (r 0) d l (r 5))) :
    ∀ (f fu : Nat) (r : Row) (l : List Act), f ≤ fu → (r 0 - r 5).toNat + 1 ≤ f → GdK r l d → OutK A M r (sX16_all_5 ra ro rr (fu + 1) (some A) (iI 1) (kw A r M)) (bdK r d) (pAllL (tpL M) (r 0) (pOne (tpL M) (r 0) d) f l (r 5))
  | 0, fu, r, l, h1, h2, g => by omega
  | f + 1, 0, r, l, h1, h2, g => by omega
  | f + 1, fu + 1, r, l, h1, h2, g => by
    obtain ⟨g1, g2, g3, g4, g5, g6, g7, g8⟩ := id g
    have O := hO r l g
    have ih := fun r l => k_allL (ra := ra) (rr := rr) hK hO f fu r l (by omega)
    have up := pOne_up (T := tpL M) (n := r 0) d l
    have nx : ∀ (r' : Row), sX16_all_44 ra ro rr (sX16_all_5 ra ro rr (fu + 1)) (some A) (kw A r' M) = some ((), kw A r' M) := by
      intro r'
      unfold sX16_all_44 sX16_all_45
      exact all_no
    have tail : ∀ F : Mem → Option (Unit × Mem), (∀ s, F s = cV s (some A) 13 (cl (sX16_isGood (some A) s) fun x2 s3 => if x2 = iI 0 then sX16_all_44 ra ro rr (sX16_all_5 ra ro rr (fu + 1)) (some A) s3 else gI s3 (some A) 13 5 fun x4 => gI s3 (some A) 13 0 fun x5 => if x5 ≤ x4 then sX16_all_44 ra ro rr (sX16_all_5 ra ro rr (fu + 1)) (some A) s3 else cV s3 (some A) 13 (cl (sX16_here (some A) s3) fun x6 s7 => if x6 = iI 41 then sX16_all_44 ra ro rr (sX16_all_5 ra ro rr (fu + 1)) (some A) s7 else sX16_all_45 ra ro rr (sX16_all_5 ra ro rr (fu + 1)) (some A) (iI 1) s7))) →
        OutK A M r (cl (ro (some A) (kw A r M)) fun _ s => F s) (bdK r d) (match pOne (tpL M) (r 0) d l (r 5) with
          | .inl e => .inl e
          | .inr (l', p') => if p' < r 0 ∧ hrA (tpL M) (r 0) p' ≠ 41 then pAllL (tpL M) (r 0) (pOne (tpL M) (r 0) d) f l' p' else .inr (l', p')) := by
      intro F hF
      refine OutK.seq (b := bdK r d) (m := 0) O (F := fun l' p' => if p' < r 0 ∧ hrA (tpL M) (r 0) p' ≠ 41 then pAllL (tpL M) (r 0) (pOne (tpL M) (r 0) d) f l' p' else .inr (l', p')) (by omega) ?_ ?_
      · intro r' l' p' e a b c e9 ac
        have u := up l' (r 5) p' (by omega) e
        have E1 : (iI (r 0) ≤ iI p') = (r 0 ≤ p') := iv_le (by omega) (by omega) (by omega) (by omega)
        have h0r := h0K_r (M := M) (n := r 0) (p := p')
        have i41 := h0_is (M := M) (n := r 0) (p := p') (k := 41) (by omega)
        have stop : OutK A M r' (some ((), kw A r' M)) (bdK r d) (.inr (l', p')) := ⟨r', rfl, a, b, rfl, rfl, ac⟩
        rw [hF, cV_k hK, k_good hK (by omega) (by omega), clw, if_neg (by rw [bI_z]; omega), gI_k5 hK, gI_k0 hK, b, c]
        by_cases c1 : p' < r 0
        · rw [if_neg (by rw [E1]; omega), cV_k hK, k_here hK (by omega) (by omega) (by omega) (by omega), clw, b, c, ifE (by omega) (by omega) (by omega) (by omega)]
          by_cases c2 : hrA (tpL M) (r 0) p' = 41
          · rw [if_pos (i41.mpr c2), if_neg (fun z => z.2 c2), nx]
            exact stop
          · rw [if_neg (fun z => c2 (i41.mp z)), if_pos ⟨c1, c2⟩]
            have q := ih r' l' (by omega) ⟨a, ac, by omega, by omega, by omega, by omega, by omega, g8⟩
            rw [b, c] at q
            unfold sX16_all_45
            exact q.up rfl rfl (by show r' 0 + 10 + 3 * (d : Int) ≤ r 0 + 10 + 3 * d; omega)
        · rw [if_pos (by rw [E1]; omega), if_neg (fun z => c1 z.1), nx]
          exact stop
      · intro r' a b c e9 e0
        rw [hF, cV_k hK, k_good hK (by omega) b, clw, if_pos (by rw [bI_z]; omega), nx]
        exact BadO.me
    show OutK A M r (sX16_all_5b ra ro rr (sX16_all_5 ra ro rr (fu + 1)) (some A) (iI 1) (kw A r M)) (bdK r d) (match pOne (tpL M) (r 0) d l (r 5) with
          | .inl e => .inl e
          | .inr (l', p') => if p' < r 0 ∧ hrA (tpL M) (r 0) p' ≠ 41 then pAllL (tpL M) (r 0) (pOne (tpL M) (r 0) d) f l' p' else .inr (l', p'))
    have T := tail _ (fun s => rfl)
    generalize sX16_all_5 ra ro rr (fu + 1) = K at T ⊢
    unfold sX16_all_5b
    rw [if_neg iv_01, cV_k hK]
    exact T
end
