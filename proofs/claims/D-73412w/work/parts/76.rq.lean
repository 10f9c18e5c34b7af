/-! DEPS: rp -/
/-! RQ: the invariant of a new cluster -/
def e00 (c : Int) : Ent := ⟨0, 1, c, 0⟩
def His.new (c : Int) : His := ⟨e00 c, fun _ => False, fun _ _ => e00 c, fun _ => 0, fun _ => 0, fun _ => 0, fun _ _ => -1, fun _ _ => False, fun _ _ _ => e00 c, fun _ _ => 0, fun _ _ => 0, fun _ _ _ => False, fun _ _ _ => e00 c, fun _ _ => 0⟩
theorem HI.new {c : Int} (c0 : 0 ≤ c) (c1 : c ≤ 127) : HI (His.new c) := by
  refine ⟨⟨rfl, rfl, rfl, c0, c1⟩, fun T i a => a.elim, fun T v a => ?_, fun T v => Int.le_refl _, fun U v k a b => ?_, fun U v a => absurd rfl a, fun T a => a.elim, fun T i a => a.elim, fun T n l a => a.elim, fun U a => a.elim, fun U v a => absurd rfl a⟩
  · exfalso
    have a : (1 : Int) ≤ 0 := a
    omega
  · exfalso
    have b : (-1 : Int) = k := b
    omega
def bare8 (g : Row) (c : Int) : Row := fun x => if 0 ≤ x ∧ x < 1708 ∧ x % 244 = 10 then 8 else bare g c x
section
variable {g g' : Row} {h h' : His} {FL : Int → ELog} {R : Int} {D : DK} {Λ : Law}
theorem InvS.fresh {c : Int} (c0 : 0 ≤ c) (c1 : c ≤ 127) (hl : 0 ≤ g 11132 ∧ g 11132 < 65536) (h38 : 0 ≤ g 11138) (hR : 1 ≤ R ∧ R ≤ 1000000) : InvS (bare8 g c) (His.new c) (fun _ _ => e00 c) R (- g 11138, 0, 0) := by
  have hi := HI.new c0 c1
  have pn : ∀ n w, 0 ≤ n → n < 7 → 0 ≤ w → w < 244 → bare8 g c (244 * n + w) = if w = 10 then 8 else if w = 0 then 1 else if w = 2 then -1 else if w = 11 then -1 else if w = 6 then c else 0 := by
    intro n w n0 n1 w0 w1
    have hm : (244 * n + w) % 244 = w := by omega
    unfold bare8
    by_cases q : w = 10
    · rw [if_pos (by omega), if_pos q]
    · rw [if_neg (by omega), if_neg q]
      unfold bare
      rw [if_neg (by omega), if_neg (by omega), if_pos (by omega), hm]
  have po : ∀ x, 1708 ≤ x → x < 11138 → ¬ x = 11132 → bare8 g c x = 0 := by
    intro x a b d
    unfold bare8
    rw [if_neg (by omega)]
    unfold bare
    rw [if_neg d, if_neg (by omega), if_neg (by omega)]
  have p32 : bare8 g c 11132 = g 11132 := rfl
  have p38 : bare8 g c 11138 = g 11138 := rfl
  refine ⟨hi, fun n n0 n1 => ⟨?_, fun x a b => ?_, fun _ k a b => ?_, fun e => ?_⟩, fun n n0 n1 => ⟨?_, ?_⟩, fun i a b => ?_, ?_, fun x a b => ?_, fun i a b => ?_, fun r a b => ?_, fun r a b => ?_, fun t a b => ?_, fun k a b => ?_, ?_, hR⟩
  · unfold NSg
    rw [po 11134 (by omega) (by omega) (by omega), pn n 0 n0 n1 (by omega) (by omega), pn n 1 n0 n1 (by omega) (by omega), pn n 2 n0 n1 (by omega) (by omega), pn n 3 n0 n1 (by omega) (by omega), pn n 4 n0 n1 (by omega) (by omega), pn n 5 n0 n1 (by omega) (by omega), pn n 6 n0 n1 (by omega) (by omega), pn n 7 n0 n1 (by omega) (by omega), pn n 8 n0 n1 (by omega) (by omega), pn n 9 n0 n1 (by omega) (by omega), pn n 10 n0 n1 (by omega) (by omega), pn n 11 n0 n1 (by omega) (by omega), pn n 12 n0 n1 (by omega) (by omega), pn n 13 n0 n1 (by omega) (by omega), pn n 14 n0 n1 (by omega) (by omega)]
    simp only [show ¬ (0 : Int) = 10 by omega, show ¬ (1 : Int) = 10 by omega, show ¬ (2 : Int) = 10 by omega]
    unfold NS
    simp
    omega
  · have := pn n (x - 244 * n) n0 n1 (by omega) (by omega)
    rw [show 244 * n + (x - 244 * n) = x by omega, if_neg (by omega), if_neg (by omega), if_neg (by omega), if_neg (by omega), if_neg (by omega)] at this
    rw [this]
    omega
  · rw [pn n (15 + k) n0 n1 (by omega) (by omega), pn n (23 + k) n0 n1 (by omega) (by omega), if_neg (by omega), if_neg (by omega), if_neg (by omega), if_neg (by omega), if_neg (by omega), if_neg (by omega), if_neg (by omega), if_neg (by omega), if_neg (by omega), if_neg (by omega)]
  · exfalso
    rw [pn n 3 n0 n1 (by omega) (by omega), if_neg (by omega), if_neg (by omega), if_neg (by omega), if_neg (by omega), if_neg (by omega)] at e
    omega
  · have q1 : bare8 g c (244 * n + 1) = 0 := by rw [pn n 1 n0 n1 (by omega) (by omega)]; rfl
    have q2 : bare8 g c (244 * n + 2) = -1 := by rw [pn n 2 n0 n1 (by omega) (by omega)]; rfl
    have q3 : bare8 g c (244 * n + 3) = 0 := by rw [pn n 3 n0 n1 (by omega) (by omega)]; rfl
    have q4 : bare8 g c (244 * n + 4) = 0 := by rw [pn n 4 n0 n1 (by omega) (by omega)]; rfl
    have q8 : bare8 g c (244 * n + 8) = 0 := by rw [pn n 8 n0 n1 (by omega) (by omega)]; rfl
    have q9 : bare8 g c (244 * n + 9) = 0 := by rw [pn n 9 n0 n1 (by omega) (by omega)]; rfl
    rw [q1, q2, q3, q4, q8, q9]
    refine ⟨⟨rfl, by omega, fun i i0 i1 => by omega⟩, Int.le_refl _, fun T a => a.elim, fun U a => absurd rfl a, fun a => absurd rfl a, fun T a => ?_, fun T m a b d => ?_, ⟨by omega, Or.inl (Int.le_refl _)⟩, fun a => by omega, fun a => by omega⟩
    · exfalso
      have a : (1 : Int) ≤ 0 := a
      omega
    · exfalso
      have d : m ≤ 0 := d
      omega
  · have q4 : bare8 g c (244 * n + 4) = 0 := by rw [pn n 4 n0 n1 (by omega) (by omega)]; rfl
    have q5 : bare8 g c (244 * n + 5) = 0 := by rw [pn n 5 n0 n1 (by omega) (by omega)]; rfl
    have q6 : bare8 g c (244 * n + 6) = c := by rw [pn n 6 n0 n1 (by omega) (by omega)]; rfl
    have q7 : bare8 g c (244 * n + 7) = 0 := by rw [pn n 7 n0 n1 (by omega) (by omega)]; rfl
    have q8 : bare8 g c (244 * n + 8) = 0 := by rw [pn n 8 n0 n1 (by omega) (by omega)]; rfl
    unfold Lk
    rw [q4, q5, q6, q7, q8]
    exact ⟨fun i a b => by omega, rfl, 0, ⟨Int.le_refl _, Int.le_refl _, rfl, fun j a b => by omega⟩, rfl, rfl⟩
  · exfalso
    rw [po 11133 (by omega) (by omega) (by omega)] at b
    omega
  · unfold GlA
    rw [po 11131 (by omega) (by omega) (by omega), p32, po 11133 (by omega) (by omega) (by omega), po 11134 (by omega) (by omega) (by omega), po 11135 (by omega) (by omega) (by omega), po 11137 (by omega) (by omega) (by omega)]
    omega
  · rw [po x (by omega) (by omega) (by omega)]
    omega
  · rw [po _ (by omega) (by omega) (by omega), po 11134 (by omega) (by omega) (by omega)]
    constructor
    · intro _; omega
    · intro _; rfl
  · exfalso
    rw [po 11135 (by omega) (by omega) (by omega)] at b
    omega
  · exfalso
    rw [po 11135 (by omega) (by omega) (by omega)] at b
    omega
  · rw [po t (by omega) (by omega) (by omega)]
    omega
  · rw [po _ (by omega) (by omega) (by omega)]
    omega
  · rw [po 11134 (by omega) (by omega) (by omega), po 11131 (by omega) (by omega) (by omega), p38]
    exact ⟨by show (0 : Int) = g 11138 + - g 11138; omega, h38, rfl⟩
/-- timers that are set anew are of no account -/
theorem timersF_ext : ∀ (f : Nat) (g g' : Row) (n : Int), 0 ≤ n → n + f = 7 → (∀ x, (∀ m, n ≤ m → m < 7 → x ≠ 244 * m + 10) → g' x = g x) → timersF Λ f g' n = timersF Λ f g n
  | 0, g, g', n, n0, e, he => by
    have : g' = g := by
      funext x
      exact he x (fun m a b => by omega)
    rw [this]
  | f + 1, g, g', n, n0, e, he => by
    unfold timersF
    refine timersF_ext f _ _ (n + 1) (by omega) (by omega) (fun x hx => ?_)
    have h32 : g' 11132 = g 11132 := he _ (fun m a b => by omega)
    have hd : ∀ x, (∀ m, n ≤ m → m < 7 → x ≠ 244 * m + 10) → drawG g' x = drawG g x := by
      intro x hx
      unfold drawG st
      rw [h32, he x hx]
    have hf : factsA (drawG g') n n 6 = factsA (drawG g) n n 6 := by
      unfold factsA
      simp only [the]
      rw [hd (244 * n + 1) (fun m a b => by omega), hd 11133 (fun m a b => by omega), hd 11131 (fun m a b => by omega), hd 11132 (fun m a b => by omega)]
    unfold timerG
    rw [hf, hd 11132 (fun m a b => by omega)]
    by_cases c : x = 244 * n + 10
    · rw [c, st_eq, st_eq]
    · rw [st_ne c, st_ne c]
      refine hd x (fun m a b => ?_)
      by_cases q : m = n
      · rw [q]; exact c
      · exact hx m (by omega) b
theorem InvS.timersK : ∀ (f : Nat) (g : Row) (n : Int), InvS g h FL R D → 0 ≤ n → n + f ≤ 7 → InvS (timersF Λ f g n) h FL R D
  | 0, g, n, I, n0, n1 => I
  | f + 1, g, n, I, n0, n1 => by
    unfold timersF
    exact InvS.timersK f _ (n + 1) (I.timer n0 (by omega)) (by omega) (by omega)
theorem InvS.found {c : Int} (c0 : 0 ≤ c) (c1 : c ≤ 127) (hl : 0 ≤ g 11132 ∧ g 11132 < 65536) (h38 : 0 ≤ g 11138) (hR : 1 ≤ R ∧ R ≤ 1000000) : InvS (foundG Λ g c) (His.new c) (fun _ _ => e00 c) R (- g 11138, 0, 0) := by
  unfold foundG
  rw [← timersF_ext (Λ := Λ) 7 (bare g c) (bare8 g c) 0 (Int.le_refl _) rfl (fun x hx => ?_)]
  · exact InvS.timersK 7 _ 0 (InvS.fresh c0 c1 hl h38 hR) (by omega) (by omega)
  · unfold bare8
    rw [if_neg]
    intro q
    exact hx (x / 244) (by omega) (by omega) (by omega)
theorem InvS.seed (I : InvS g h FL R D) {v : Int} (v0 : 0 ≤ v) (v1 : v < 65536) : InvS (st g 11132 v) h FL R D := by
  refine I.lot (fun x a _ _ => st_ne a) ?_
  have hG := I.gl
  obtain ⟨_, _, _, _, _, _, _, _, _, _, _, _⟩ := hG
  unfold GlA
  rw [st_eq, st_ne (by omega), st_ne (by omega), st_ne (by omega), st_ne (by omega), st_ne (by omega)]
  omega
end
