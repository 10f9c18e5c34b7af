/-! DEPS: zx -/
/-! ZY: plans whole, TermLog -/
section
variable {T : Int → Int} {n : Int}
theorem pNum_bad {c p : Int} {x : Int × Int} (h : pNum T n c p = .inl x) : p ≤ x.2 ∧ x.2 ≤ p + 2 := by
  unfold pNum at h
  split at h
  · cases h
  · split at h
    · cases h; exact ⟨Int.le_refl _, by show p ≤ p + 2; omega⟩
    · split at h
      · cases h
      · by_cases d2 : pDg T n (if c = 120 ∨ c = 106 then 6 else 7) (p + 1)
        · rw [if_neg (Decidable.not_not.mpr d2)] at h
          split at h
          · cases h; exact ⟨by show p ≤ p + 1; omega, by show p + 1 ≤ p + 2; omega⟩
          · split at h
            · cases h
            · split at h
              · cases h; exact ⟨by show p ≤ p + 2; omega, by show p + 2 ≤ p + 2; omega⟩
              · cases h
        · rw [if_pos d2] at h; cases h; exact ⟨by show p ≤ p + 1; omega, by show p + 1 ≤ p + 2; omega⟩
theorem pActL_bad {l : List Act} {fr t p : Int} {x : Int × Int} (h : pActL T n l fr t p = .inl x) : x.2 = fr ∨ (p ≤ x.2 ∧ x.2 ≤ p + 3) := by
  unfold pActL at h
  split at h
  · cases h; exact Or.inr ⟨Int.le_refl _, by show p ≤ p + 3; omega⟩
  · cases e : pNum T n (hrA T n p) (p + 1) with
    | inl y =>
      rw [e] at h
      cases h
      have := pNum_bad e
      exact Or.inr ⟨by omega, by omega⟩
    | inr y =>
      rw [e] at h
      have h : pFit l fr t y.1 y.2 = .inl x := h
      unfold pFit at h
      split at h
      · cases h; exact Or.inl rfl
      · cases h
theorem pRep_bad {l : List Act} {s : Nat} {t fr p : Int} {x : Int × Int} (h : pRep l s t fr p = .inl x) : x.2 = fr := by
  unfold pRep at h
  split at h
  · cases h; rfl
  · cases h
theorem pAllL_bad {d : Nat} (ih : ∀ (l : List Act) (p : Int) (x : Int × Int), 0 ≤ p → p ≤ n → pOne T n d l p = .inl x → 0 ≤ x.2 ∧ x.2 ≤ n + 4) : ∀ (f : Nat) (l : List Act) (q : Int) (x : Int × Int), 0 ≤ q → q ≤ n → pAllL T n (pOne T n d) f l q = .inl x → 0 ≤ x.2 ∧ x.2 ≤ n + 4
  | 0, l, q, x, q0, q1, h => by cases h; exact ⟨q0, by show q ≤ n + 4; omega⟩
  | f + 1, l, q, x, q0, q1, h => by
    unfold pAllL at h
    cases e : pOne T n d l q with
    | inl y => rw [e] at h; cases h; exact ih l q _ q0 q1 e
    | inr y =>
      rw [e] at h
      have u := pOne_up d l y.1 q y.2 q1 e
      simp only [] at h
      split at h
      · exact pAllL_bad ih f _ _ x (by omega) u.2 h
      · cases h
theorem pOne_bad : ∀ (d : Nat) (l : List Act) (p : Int) (x : Int × Int), 0 ≤ p → p ≤ n → pOne T n d l p = .inl x → 0 ≤ x.2 ∧ x.2 ≤ n + 4
  | d, l, p, x, p0, p1, h => by
    have ps := pSt_n (T := T) (n := n) (p := p) p1
    have ps0 := pSt_le (T := T) (n := n) (p := p)
    rw [pOne_eq] at h
    by_cases c : hrA T n (pSt T n p) = 40
    · rw [if_pos c] at h
      have lt := hr_lt (T := T) (n := n) (p := pSt T n p) (by omega)
      cases d with
      | zero => cases h; exact ⟨by show 0 ≤ pSt T n p; omega, by show pSt T n p ≤ n + 4; omega⟩
      | succ d =>
        rw [pRndD_s] at h
        cases e : pAllL T n (pOne T n d) (n.toNat + 1) l (pSt T n p + 1) with
        | inl y =>
          rw [e] at h
          cases h
          exact pAllL_bad (fun l p x => pOne_bad d l p x) _ _ _ _ (by omega) (by omega) e
        | inr y =>
          rw [e] at h
          have al : ∀ (f : Nat) (l l' : List Act) (q q' : Int), q ≤ n → pAllL T n (pOne T n d) f l q = .inr (l', q') → q < q' ∧ q' ≤ n := by
            intro f
            induction f with
            | zero => intro l l' q q' hq z; cases z
            | succ f ihf =>
              intro l l' q q' hq z
              unfold pAllL at z
              cases e : pOne T n d l q with
              | inl x => rw [e] at z; cases z
              | inr x =>
                rw [e] at z
                have u2 := pOne_up d l x.1 q x.2 hq e
                simp only [] at z
                split at z
                · have := ihf _ _ _ _ u2.2 z; omega
                · cases z; exact u2
          have u := al _ _ y.1 _ y.2 (by omega) e
          have h : (match (if hrA T n y.2 = 41 then Sum.inr (y.1, y.2 + 1) else Sum.inl (1, y.2) : ResP) with | .inl e => Sum.inl e | .inr (l', p2) => pRep l' l.length (pTm T n p) p p2) = .inl x := h
          by_cases g : hrA T n y.2 = 41
          · rw [if_pos g] at h
            have q := pRep_bad h
            omega
          · rw [if_neg g] at h
            cases h
            exact ⟨by show 0 ≤ y.2; omega, by show y.2 ≤ n + 4; omega⟩
    · rw [if_neg c] at h
      cases e : pActL T n l p (pTm T n p) (pSt T n p) with
      | inl y =>
        rw [e] at h
        cases h
        have := pActL_bad e
        omega
      | inr y =>
        rw [e] at h
        have q := pRep_bad h
        omega
theorem pPlan_bad {x : Int × Int} (n0 : 0 ≤ n) (h : pPlan T n = .inl x) : 0 ≤ x.2 ∧ x.2 ≤ n + 4 := by
  unfold pPlan at h
  cases e : pAllL T n (pOne T n 2) (n.toNat + 1) [] 0 with
  | inl y =>
    rw [e] at h
    cases h
    exact pAllL_bad (fun l p x => pOne_bad 2 l p x) _ _ _ _ (by omega) n0 e
  | inr y =>
    rw [e] at h
    have h : (if y.2 < n then .inl (1, y.2) else .inr y.1 : (Int × Int) ⊕ List Act) = .inl x := h
    have up : 0 ≤ y.2 := by
      have u : ∀ (f : Nat) (l l' : List Act) (q q' : Int), q ≤ n → pAllL T n (pOne T n 2) f l q = .inr (l', q') → q ≤ q' := by
        intro f
        induction f with
        | zero => intro l l' q q' hq z; cases z
        | succ f ih =>
          intro l l' q q' hq z
          unfold pAllL at z
          cases e : pOne T n 2 l q with
          | inl x => rw [e] at z; cases z
          | inr x =>
            rw [e] at z
            have u := pOne_up 2 l x.1 q x.2 hq e
            simp only [] at z
            split at z
            · have := ih _ _ _ _ u.2 z; omega
            · cases z; omega
      exact u _ _ y.1 _ y.2 (by omega) e
    by_cases g : y.2 < n
    · rw [if_pos g] at h
      cases h
      exact ⟨up, by show y.2 ≤ n + 4; omega⟩
    · rw [if_neg g] at h; cases h
end
def tpT (T : Nat → Int32) (x : Int) : Int := (T x.toNat &&& iI 255).toInt
def planR (T : Int → Int) (t n : Int) : Option ((Int × Int) ⊕ List Act) := if 1 ≤ n ∧ n ≤ 120 then (if n ≤ t then some (pPlan T n) else none) else none
noncomputable def planAns (Λ : Law) (T : Int → Int) (t n : Int) (g : Row) : Int := match planR T t n with
  | none => -1
  | some (.inl x) => -1000 * x.1 - x.2
  | some (.inr la) => (runS Λ la g).1
noncomputable def planG (Λ : Law) (T : Int → Int) (t n : Int) (g : Row) : Row := match planR T t n with
  | none => g
  | some (.inl _) => g
  | some (.inr la) => (runS Λ la g).2
def planTp (T : Int → Int) (t n : Int) : Int := match planR T t n with
  | none => t
  | some _ => 0
section
variable {σ σ' : Mem} {h k g gk : Row} {l : List Cls} {t b : Int} {T : Nat → Int32} {R : Int}
theorem Stt.grow (S : Stt σ) (k2 : K2M σ') (hz : mZ σ ≤ mZ σ') (e : ∀ b, b < 3799 → mK σ' b = mK σ b ∧ ∀ j, (b ≠ 0 ∨ j ≠ 5) → mP σ' b j = mP σ b j) : Stt σ' := by
  have eK : ∀ b, b < 3799 → mK σ' b = mK σ b := fun b hb => (e b hb).1
  have eP : ∀ b j, b < 3799 → b ≠ 0 → mP σ' b j = mP σ b j := fun b j hb hn => (e b hb).2 j (Or.inl hn)
  have e0 : ∀ j, j ≠ 5 → mP σ' 0 j = mP σ 0 j := fun j hj => (e 0 (by omega)).2 j (Or.inr hj)
  have ly : ∀ B, B ≤ 2512 → LyC B σ → LyC B σ' := by
    intro B hB L
    have b2 := L.b2
    refine ⟨b2, ?_, ?_, ?_, ?_, ?_, ?_, ?_, ?_⟩
    · rw [eK 0 (by omega), eK 1 (by omega), e0 0 (by omega)]; exact L.k0
    · rw [eK B (by omega), eP B _ (by omega) (by omega), eP B _ (by omega) (by omega), eP B _ (by omega) (by omega), eP B _ (by omega) (by omega), eP B _ (by omega) (by omega), eP B _ (by omega) (by omega), eP B _ (by omega) (by omega), eP B _ (by omega) (by omega), eP B _ (by omega) (by omega)]; exact L.kB
    · rw [eK _ (by omega)]; exact ⟨L.kn.1, fun k hk => by rw [eP _ _ (by omega) (by omega)]; exact L.kn.2 k hk⟩
    · rw [eK _ (by omega)]; exact ⟨L.ks.1, fun k hk => by rw [eP _ _ (by omega) (by omega), eK _ (by omega)]; exact L.ks.2 k hk⟩
    · rw [eK _ (by omega)]; exact ⟨L.kh.1, fun k hk => by rw [eP _ _ (by omega) (by omega), eK _ (by omega)]; exact L.kh.2 k hk⟩
    · rw [eK _ (by omega)]; exact ⟨L.kr.1, fun k hk => by rw [eP _ _ (by omega) (by omega), eK _ (by omega)]; exact L.kr.2 k hk⟩
    · rw [eK _ (by omega), eK _ (by omega), eK _ (by omega), eK _ (by omega)]; exact L.kc
    · intro k hk
      rw [eK _ (by omega)]
      exact ⟨(L.kd k hk).1, fun w hw => by rw [eP _ _ (by omega) (by omega), eK _ (by omega)]; exact (L.kd k hk).2 w hw⟩
  have q := fun j => eP 3772 j (by omega) (by omega)
  refine ⟨?_, ?_, ?_, ?_, ⟨ly 2 (by omega) S.ly.1, ly 1257 (by omega) S.ly.2.1, ly 2512 (by omega) S.ly.2.2⟩, ?_, ?_, k2, by have := S.zz; omega⟩
  · have := S.lt
    unfold LT at this ⊢
    rw [eK 3772 (by omega), q, q, q, q, q, eK 3773 (by omega), eK 3776 (by omega), eK 3777 (by omega), eK 3790 (by omega), eK 3791 (by omega)]
    exact this
  · have := S.lt2
    unfold LT2 at this ⊢
    rw [q, q, eK 3774 (by omega), eK 3775 (by omega)]
    exact this
  · have := S.lp
    unfold LPt at this ⊢
    simp only [q, eK 3772 (by omega), eK 3778 (by omega), eK 3779 (by omega), eK 3780 (by omega), eK 3781 (by omega), eK 3782 (by omega), eK 3783 (by omega), eK 3784 (by omega), eK 3785 (by omega), eK 3786 (by omega), eK 3787 (by omega), eK 3788 (by omega), eK 3789 (by omega)]
    exact this
  · have := S.lz
    unfold LZ at this ⊢
    simp only [q, eK 3792 (by omega), eK 3793 (by omega), eK 3794 (by omega), eK 3795 (by omega), eK 3796 (by omega), eK 3797 (by omega), eK 3798 (by omega)]
    exact this
  · have := S.p0
    rw [e0 1 (by omega), e0 2 (by omega), e0 3 (by omega), e0 4 (by omega)]
    exact this
  · have := S.kt
    rw [eK 3767 (by omega), eK 3778 (by omega)]
    exact this
/-- TermLog's acts, one after the other -/
theorem k_run {A : Nat} {la : List Act} : ∀ (xs : List Act) (σ : Mem) (h g : Row) (R : Int) (i : Nat) (acc : Int) (fu : Nat), Stt σ → LSd σ h k l t b T → Rel h g → GoodR R g → R + 7 * xs.length + 1400 ≤ 1000000 → PlanK A σ la → la.drop i = xs → i ≤ la.length → xs.length < fu → 0 ≤ acc → acc ≤ i →
    ∃ σ1 h', sX0_plan_52 fu (some A) (iI (la.length : Int)) (iI acc) (iI (i : Int)) σ = some (iI (acc + (runS (lawOf l) xs g).1), σ1) ∧ Rel h' (runS (lawOf l) xs g).2 ∧ LSd σ1 h' k l t b T ∧ Chg σ σ1 tchL
  | xs, σ, h, g, R, i, acc, 0, S, L, r, H, hR, P, hd, hi, hf, c0, c1 => by omega
  | [], σ, h, g, R, i, acc, fu + 1, S, L, r, H, hR, P, hd, hi, hf, c0, c1 => by
    have l2 := P.l
    have hl : la.length - i = 0 := by rw [← List.length_drop, hd]; rfl
    refine ⟨σ, h, ?_, r, L, ⟨rfl, fun _ _ _ => rfl⟩⟩
    show sX0_plan_52b (sX0_plan_52 fu) _ _ _ _ _ = _
    generalize sX0_plan_52 fu = K
    unfold sX0_plan_52b
    rw [if_pos (by rw [iv_le (by omega) (by omega) (by omega) (by omega)]; omega)]
    show some (iI acc, σ) = some (iI (acc + 0), σ)
    rw [show acc + 0 = acc by omega]
  | x :: xs, σ, h, g, R, i, acc, fu + 1, S, L, r, H, hR, P, hd, hi, hf, c0, c1 => by
    have l2 := P.l
    have hl : la.length - i = xs.length + 1 := by rw [← List.length_drop, hd]; rfl
    have e1 : ((x :: xs).length : Int) = (xs.length : Int) + 1 := rfl
    have e2 : (x :: xs).length = xs.length + 1 := rfl
    have hx : la[i]? = some x := by
      have q : (la.drop i)[0]? = some x := by rw [hd]; rfl
      rw [List.getElem?_drop] at q
      exact q
    have hd2 : la.drop (i + 1) = xs := by
      rw [← List.drop_drop, hd]
      rfl
    obtain ⟨σ1, h1, x1, r1, L1, ch1⟩ := k_done S L r H (by omega) P hx
    obtain ⟨v, hv⟩ : ∃ v, v = doneS (lawOf l) g (iI x.1) (iI x.2.1) (iI x.2.2.1) (iI x.2.2.2) := ⟨_, rfl⟩
    have G1 := good_done (Λ := lawOf l) (c := iI x.1) (a := iI x.2.1) (b := iI x.2.2.1) (v := iI x.2.2.2) H (by omega)
    rw [← hv] at x1 r1 G1
    have ih := fun acc => k_run xs σ1 h1 v.2 (R + 7) (i + 1) acc fu (S.to ch1.1) L1 r1 G1 (by omega) (P.to ch1) hd2 (by omega) (by omega)
    have ei : ((i + 1 : Nat) : Int) = (i : Int) + 1 := rfl
    have run : runS (lawOf l) (x :: xs) g = ((if v.1 = iI 0 then 0 else 1) + (runS (lawOf l) xs v.2).1, (runS (lawOf l) xs v.2).2) := by rw [hv]; rfl
    rw [run]
    show ∃ σ1 h', sX0_plan_52b (sX0_plan_52 fu) _ _ _ _ _ = _ ∧ _
    generalize sX0_plan_52 fu = K at ih ⊢
    have kA : ∀ f : Option (Int32 × Mem), cV σ (some A) 13 f = f := fun f => if_pos P.k
    unfold sX0_plan_52b sX0_plan_74
    rw [if_neg (by rw [iv_le (by omega) (by omega) (by omega) (by omega)]; omega), kA, x1, clw]
    by_cases z : v.1 = iI 0
    · obtain ⟨σ2, h2, y1, y2, y3, y4⟩ := ih acc c0 (by omega)
      refine ⟨σ2, h2, ?_, y2, y3, ch1.thn y4⟩
      rw [if_pos z, if_pos z, iv_add, iv_add, show acc + 0 = acc by omega, ← ei, y1, show 0 + (runS (lawOf l) xs v.2).1 = (runS (lawOf l) xs v.2).1 by omega]
    · obtain ⟨σ2, h2, y1, y2, y3, y4⟩ := ih (acc + 1) (by omega) (by omega)
      refine ⟨σ2, h2, ?_, y2, y3, ch1.thn y4⟩
      rw [if_neg z, if_neg z, iv_add, iv_add, ← ei, y1, show acc + 1 + (runS (lawOf l) xs v.2).1 = acc + (1 + (runS (lawOf l) xs v.2).1) by omega]
theorem tpL_T (L : LSd σ h k l t b T) : tpL σ = tpT T := by
  funext x
  unfold tpL tpT
  rw [L.tp]
theorem f_plan (S : Stt σ) (L : LSd σ h k l t b T) (r : Rel h g) (H : GoodR R g) (hR : R + 2800 ≤ 1000000) (t0 : 0 ≤ t) (t1 : t ≤ 260) {n : Int} (n0 : -2147483648 ≤ n) (n1 : n ≤ 2147483647) (hz : mZ σ + 5 ≤ 1200000) (hy : mY σ + 811 ≤ 5502250) :
    ∃ σ1 h', sX0_plan (some 0) (iI n) σ = some (iI (planAns (lawOf l) (tpT T) t n g), σ1) ∧ Rel h' (planG (lawOf l) (tpT T) t n g) ∧ LSd σ1 h' k l (planTp (tpT T) t n) b T ∧ Stt σ1 ∧ (∀ b, 3772 ≤ b → b < 3799 → smC σ σ1 b) ∧ mZ σ1 ≤ mZ σ + 5 ∧ mY σ1 ≤ mY σ + 811 := by
  have k0 := S.ly.1.k0.1
  have zz := S.zz
  have w1 : sX0_within (iI n) (iI 1) (iI 120) σ = some (bI (1 ≤ n ∧ n ≤ 120), σ) := t_within n0 n1 (by omega) (by omega) (by omega) (by omega)
  unfold sX0_plan
  rw [w1, clw]
  by_cases c : 1 ≤ n ∧ n ≤ 120
  · rw [if_neg (by rw [bI_z]; exact fun z => z c), gI_y k0, L.w6]
    by_cases d : n ≤ t
    · rw [if_pos (by rw [iv_le (by omega) (by omega) (by omega) (by omega)]; exact d), pI_y k0]
      have hr : planR (tpT T) t n = some (pPlan (tpT T) n) := by unfold planR; rw [if_pos c, if_pos d]
      obtain ⟨σa, hσa⟩ : ∃ σa : Mem, σa = (up2 (mI σ) 0 6 (iI 0), σ.2) := ⟨_, rfl⟩
      rw [← hσa]
      have ca : Chg σ σa (fun a j => a = 0 ∧ j = 6) := by rw [hσa]; exact ⟨rfl, fun a j q => if_neg q⟩
      have za : mZ σa = mZ σ := by rw [hσa]
      have ya : mY σa = mY σ := by rw [hσa]
      have Sa := S.to ca.1
      have a6 : mI σa 0 6 = iI 0 := by
        rw [hσa]
        show (if (0 : Nat) = 0 ∧ (6 : Nat) = 6 then iI 0 else mI σ 0 6) = iI 0
        exact if_pos ⟨rfl, rfl⟩
      have La : LSd σa h k l 0 b T := by
        obtain ⟨k1, c1⟩ := L.c1
        exact ⟨L.c.to (fun a j h1 h2 => ca.2 a j (by omega)), ⟨k1, c1.to (fun a j h1 h2 => ca.2 a j (by omega))⟩, L.c2.to (fun a j h1 h2 => ca.2 a j (by omega)), L.tx.up Sa.k2 (mP_2 ca.1 0 5) (by omega) (fun b hb h9 => chg_sm ca (fun j => by omega)), a6, (ca.2 0 7 (by omega)).trans L.w7, fun j => (ca.2 3767 j (by omega)).trans (L.tp j)⟩
      have Ta : tpL σa = tpT T := tpL_T La
      rw [nO_y (by omega) (by omega), cI_y, f_init16 (by omega) (by omega), clw]
      obtain ⟨A, hA⟩ : ∃ A, A = mZ σa := ⟨_, rfl⟩
      obtain ⟨M, hM⟩ : ∃ M, M = plN n σa := ⟨_, rfl⟩
      have hK : LK A M := by rw [hA, hM]; exact plN_LK (by omega) Sa.ly.1.k0.1 Sa.p0.2.2.2 Sa.kt.1
      have eM : M = kw A (fun x => if x = 0 then n else 0) M := by
        rw [hA, hM]
        exact plN_kw
      have lo : ∀ b, b < mZ σa → smC σa M b := fun b hb => by rw [hM]; exact plN_lo hb
      have TM : tpL M = tpT T := by
        rw [← Ta]
        funext x
        unfold tpL
        rw [(lo 3767 (by omega)).2.1]
      have zM : mZ M = mZ σ + 5 := by rw [hM]; show mZ σa + 5 = _; omega
      have yM : mY M = mY σ + 811 := by rw [hM]; show mY σa + 811 = _; omega
      have K2' : K2M M := by rw [hM]; exact plN_K2 Sa.k2
      rw [← hA, ← hM]
      have kA : ∀ f : Option (Int32 × Mem), cV M (some A) 13 f = f := fun f => if_pos hK.1.1
      rw [kA]
      have RD := k_reads (r := fun x => if x = 0 then n else 0) hK ⟨rfl, ⟨rfl, by show 0 ≤ 200; omega, fun i x hi _ => absurd hi (Nat.not_lt_zero i)⟩, rfl, Int.le_refl _, by show (0 : Int) ≤ n; omega, by show 1 ≤ n; omega, by show n ≤ 240; omega, by omega⟩ rfl
      rw [← eM, TM] at RD
      have RD : OutRd A M (sX16_reads (some A) M) (pPlan (tpT T) n) := RD
      -- what any such memory keeps
      have keep : ∀ r' : Row, LSd (kw A r' M) h k l 0 b T ∧ Stt (kw A r' M) ∧ (∀ b, b < mZ σa → smC σa (kw A r' M) b) := by
        intro r'
        have sm : ∀ b, b < mZ σa → smC σa (kw A r' M) b := fun b hb => ⟨(lo b hb).1, fun j => by rw [kw_o (by omega)]; exact (lo b hb).2.1 j, (lo b hb).2.2⟩
        refine ⟨La.to K2' (by show mZ σa ≤ mZ M; omega) (by omega) (fun b hb h9 hn => ⟨fun hb0 => ?_, fun _ => sm b h9⟩), Sa.grow K2' (by show mZ σa ≤ mZ M; omega) (fun b hb => ⟨(sm b (by omega)).1, fun j _ => (sm b (by omega)).2.2 j⟩), sm⟩
        have q := sm 0 (by omega)
        exact ⟨q.2.2 5, q.2.1 6, q.2.1 7⟩
      have keepT : ∀ r' : Row, ∀ b, 3772 ≤ b → b < 3799 → smC σ (kw A r' M) b := fun r' b h1 h2 => by
        have q := (keep r').2.2 b (by omega)
        exact ⟨q.1.trans (mK_2 ca.1 b), fun j => (q.2.1 j).trans (ca.2 b j (by omega)), fun j => (q.2.2 j).trans (mP_2 ca.1 b j)⟩
      unfold planAns planG planTp
      rw [hr]
      unfold OutRd at RD
      cases e : pPlan (tpT T) n with
      | inl x =>
        rw [e] at RD
        obtain ⟨r', y1, y2, y3⟩ := RD
        have bd := pPlan_bad (by omega) e
        rw [y1, clw, if_neg (by rw [iv_le (by omega) (by omega) (by omega) (by omega)]; omega)]
        exact ⟨_, h, rfl, r, (keep r').1, (keep r').2.1, keepT r', by show mZ M ≤ _; omega, by show mY M ≤ _; omega⟩
      | inr la =>
        rw [e] at RD
        obtain ⟨r', y1, y2⟩ := RD
        have l2 := y2.2.1
        rw [y1, clw, if_pos (by rw [iv_le (by omega) (by omega) (by omega) (by omega)]; omega)]
        have PK : PlanK A (kw A r' M) la := by
          refine ⟨hK.1.2.1, hK.1.1, ⟨hK.1.2.2.1, hK.1.2.2.2.1, hK.1.2.2.2.2.1, hK.1.2.2.2.2.2.1, hK.1.2.2.2.2.2.2⟩, ⟨hK.2.1 1 (by omega) (by omega), hK.2.1 2 (by omega) (by omega), hK.2.1 3 (by omega) (by omega), hK.2.1 4 (by omega) (by omega)⟩, l2, fun i x hx => ?_⟩
          have il : i < la.length := (List.getElem?_eq_some_iff.mp hx).1
          obtain ⟨q1, q2, q3, q4⟩ := y2.2.2 i x il hx
          have pl : ∀ o : Nat, 1 ≤ o → o ≤ 4 → mI (kw A r' M) (A + o) i = iI (r' (5700 + 300 * (o : Int) + i)) := fun o o1 o4 => kw_at (by
            unfold plK
            rw [if_neg (by omega), if_pos (by omega), if_pos (by omega)]
            exact congrArg some (by omega))
          rw [pl 1 (by omega) (by omega), pl 2 (by omega) (by omega), pl 3 (by omega) (by omega), pl 4 (by omega) (by omega)]
          exact ⟨congrArg iI q1, congrArg iI q2, congrArg iI q3, congrArg iI q4⟩
        obtain ⟨σ1, h1, u1, u2, u3, u4⟩ := k_run (A := A) (la := la) la (kw A r' M) h g R 0 0 FU (keep r').2.1 (keep r').1 r H (by omega) PK rfl (by omega) (by unfold FU; omega) (by omega) (by omega)
        have u1 : sX0_plan_52 FU (some A) (iI (la.length : Int)) (iI 0) (iI 0) (kw A r' M) = _ := u1
        have z1 : mZ σ1 = mZ M := by show σ1.2.2.2.1 = (kw A r' M).2.2.2.1; rw [u4.1]
        have y1 : mY σ1 = mY M := by show σ1.2.2.2.2 = (kw A r' M).2.2.2.2; rw [u4.1]
        refine ⟨σ1, h1, ?_, u2, u3, (keep r').2.1.to u4.1, fun b h1 h2 => ?_, by omega, by omega⟩
        · rw [u1, show 0 + (runS (lawOf l) la g).1 = (runS (lawOf l) la g).1 by omega]
        · have q := keepT r' b h1 h2
          have s := chg_sm u4 (b := b) (fun j => by unfold tchL; omega)
          exact ⟨s.1.trans q.1, fun j => (s.2.1 j).trans (q.2.1 j), fun j => (s.2.2 j).trans (q.2.2 j)⟩
    · have hr : planR (tpT T) t n = none := by unfold planR; rw [if_pos c, if_neg d]
      rw [if_neg (by rw [iv_le (by omega) (by omega) (by omega) (by omega)]; exact d)]
      unfold planAns planG planTp
      rw [hr]
      exact ⟨σ, h, rfl, r, L, S, fun b _ _ => ⟨rfl, fun _ => rfl, fun _ => rfl⟩, by omega, by omega⟩
  · have hr : planR (tpT T) t n = none := by unfold planR; rw [if_neg c]
    rw [if_pos (by rw [bI_z]; exact c)]
    unfold planAns planG planTp
    rw [hr]
    exact ⟨σ, h, rfl, r, L, S, fun b _ _ => ⟨rfl, fun _ => rfl, fun _ => rfl⟩, by omega, by omega⟩
end
