/-! DEPS: wp -/
/-! WQ: what is made at the start: a cluster -/
/-- the nodes of the cluster at B, the first k -/
def NdL (B : Nat) (σ : Mem) (k : Nat) (s : Mem) : Prop :=
  (mZ s = B + 1185 + 10 * k) ∧
  ((mK s B).1 = 2 ∧ mP s B 0 = some (B + 1) ∧ mK s (B + 1) = (23, 7)) ∧
  (∀ i, i < k → mP s (B + 1) i = some (B + 1185 + 10 * i) ∧ (mK s (B + 1185 + 10 * i)).1 = 3 ∧ ∀ w, w < 9 → mP s (B + 1185 + 10 * i) w = some (B + 1185 + 10 * i + (w + 1)) ∧ mK s (B + 1185 + 10 * i + (w + 1)) = (20, (fmA (w + 1)).1)) ∧
  (Nx σ s (fun b j => b = B + 1) (500 * k))
theorem NdL.z {B : Nat} {σ : Mem} {k : Nat} {s : Mem} (self : NdL B σ k s) : mZ s = B + 1185 + 10 * k := self.1
theorem NdL.a {B : Nat} {σ : Mem} {k : Nat} {s : Mem} (self : NdL B σ k s) : (mK s B).1 = 2 ∧ mP s B 0 = some (B + 1) ∧ mK s (B + 1) = (23, 7) := self.2.1
theorem NdL.n {B : Nat} {σ : Mem} {k : Nat} {s : Mem} (self : NdL B σ k s) : ∀ i, i < k → mP s (B + 1) i = some (B + 1185 + 10 * i) ∧ (mK s (B + 1185 + 10 * i)).1 = 3 ∧ ∀ w, w < 9 → mP s (B + 1185 + 10 * i) w = some (B + 1185 + 10 * i + (w + 1)) ∧ mK s (B + 1185 + 10 * i + (w + 1)) = (20, (fmA (w + 1)).1) := self.2.2.1
theorem NdL.x {B : Nat} {σ : Mem} {k : Nat} {s : Mem} (self : NdL B σ k s) : Nx σ s (fun b j => b = B + 1) (500 * k) := self.2.2.2
section
variable {σ s s' : Mem} {B : Nat} {P : Nat → Nat → Prop} {c : Nat}
theorem LyC.nx (L : LyC B s) (x : Ny s s' P c) (hP : ∀ b j, P b j → b = 0 ∧ j ≠ 0) (hz : B + 1255 ≤ mZ s) : LyC B s' := by
  have eK : ∀ b, b < mZ s → mK s' b = mK s b := x.k
  have b2 := L.b2
  have eP : ∀ b j, b < mZ s → b ≠ 0 → mP s' b j = mP s b j := fun b j hb hn => x.p b j hb (fun z => hn (hP b j z).1)
  have e0 : mP s' 0 0 = mP s 0 0 := x.p 0 0 (by omega) (fun z => (hP 0 0 z).2 rfl)
  refine ⟨b2, ?_, ?_, ?_, ?_, ?_, ?_, ?_, ?_⟩
  · rw [eK 0 (by omega), eK 1 (by omega), e0]; exact L.k0
  · rw [eK B (by omega), eP B _ (by omega) (by omega), eP B _ (by omega) (by omega), eP B _ (by omega) (by omega), eP B _ (by omega) (by omega), eP B _ (by omega) (by omega), eP B _ (by omega) (by omega), eP B _ (by omega) (by omega), eP B _ (by omega) (by omega), eP B _ (by omega) (by omega)]; exact L.kB
  · rw [eK _ (by omega)]; exact ⟨L.kn.1, fun k hk => by rw [eP _ _ (by omega) (by omega)]; exact L.kn.2 k hk⟩
  · rw [eK _ (by omega)]; exact ⟨L.ks.1, fun k hk => by rw [eP _ _ (by omega) (by omega), eK _ (by omega)]; exact L.ks.2 k hk⟩
  · rw [eK _ (by omega)]; exact ⟨L.kh.1, fun k hk => by rw [eP _ _ (by omega) (by omega), eK _ (by omega)]; exact L.kh.2 k hk⟩
  · rw [eK _ (by omega)]; exact ⟨L.kr.1, fun k hk => by rw [eP _ _ (by omega) (by omega), eK _ (by omega)]; exact L.kr.2 k hk⟩
  · rw [eK _ (by omega), eK _ (by omega), eK _ (by omega), eK _ (by omega)]; exact L.kc
  · intro k hk
    rw [eK _ (by omega)]
    exact ⟨(L.kd k hk).1, fun w hw => by rw [eP _ _ (by omega) (by omega), eK _ (by omega)]; exact (L.kd k hk).2 w hw⟩
theorem f_nodes (hB : B ≤ 10000) (hy : mY σ ≤ 100000) : ∀ (j k fu : Nat) (s : Mem), 7 - k = j → k ≤ 7 → NdL B σ k s → j < fu → ∃ s', sX3_init_90 fu (some B) (iI (k : Int)) s = some ((), s') ∧ NdL B σ 7 s'
  | j, k, 0, s, e1, e2, H, hf => by omega
  | 0, k, fu + 1, s, e1, e2, H, hf => by
    have ek : k = 7 := by omega
    subst ek
    refine ⟨s, ?_, H⟩
    show sX3_init_90b (sX3_init_90 fu) _ _ _ = _
    generalize sX3_init_90 fu = K
    unfold sX3_init_90b
    rw [if_pos (by decide)]
  | j + 1, k, fu + 1, s, e1, e2, H, hf => by
    have xy := H.x.y
    have hz := H.z
    obtain ⟨a1, a2, a3⟩ := H.a
    have k9 : 500 * k ≤ 3500 := by omega
    obtain ⟨N, hN⟩ : ∃ N, N = mZ s := ⟨_, rfl⟩
    obtain ⟨s1, hs1⟩ : ∃ s1, s1 = mNew s 3 24 := ⟨_, rfl⟩
    have x1 : Nx s s1 (fun _ _ => False) 24 := by rw [hs1]; exact al4 (by omega)
    have z1 : mZ s1 = N + 1 := by rw [hs1, hN]; rfl
    have k1 : (mK s1 N).1 = 3 := by rw [hs1, hN]; show (if mZ s = mZ s then (3, 24) else mK s (mZ s) : Nat × Nat).1 = 3; rw [if_pos rfl]
    have y1 := x1.y
    obtain ⟨s2, q2, C2⟩ := f_node k1 z1 (by omega) (by omega)
    have z2 := C2.z
    have x2 := C2.x
    have kA : (mK s2 (B + 1)).1 = 23 ∧ inR (iI (k : Int)) (mK s2 (B + 1)).2 := by
      rw [x2.k _ (by omega), x1.k _ (by omega), a3, iv_in (by omega) (by omega)]
      exact ⟨rfl, by omega, by show (k : Int) < ((7 : Nat) : Int); omega⟩
    have kN : kdO s2 (some N) = 3 := C2.o
    obtain ⟨s3, hs3⟩ : ∃ s3 : Mem, s3 = (mI s2, up2 (mP s2) (B + 1) k (some N), s2.2.2) := ⟨_, rfl⟩
    have P3 : ∀ b j, mP s3 b j = if b = B + 1 ∧ j = k then some N else mP s2 b j := fun b j => by rw [hs3]; rfl
    have K3 : ∀ b, mK s3 b = mK s2 b := fun b => by rw [hs3]
    have x3 : Nx s2 s3 (fun b j => b = B + 1 ∧ j = k) 0 := ⟨fun b _ => K3 b, fun b j hb np => by rw [P3, if_neg np], fun b j => ⟨fun h1 h2 => absurd (show b < mZ s2 by rw [hs3] at h2; exact h2) (by omega), fun _ => by rw [hs3]⟩, by rw [hs3]; exact Nat.le_refl _, by rw [hs3]; exact Nat.le_refl _, fun b hb => by rw [K3] at hb; exact hb⟩
    have xx : Nx s s3 (fun b j => b = N ∨ (b = B + 1 ∧ j = k)) 500 := ((x1.wk (Q := fun b j => b = N ∨ (b = B + 1 ∧ j = k)) (fun _ _ z => z.elim) (Nat.le_refl 24)).trans ((x2.wk (Q := fun b j => b = N ∨ (b = B + 1 ∧ j = k)) (fun _ _ z => Or.inl z) (Nat.le_refl _)).trans (x3.wk (fun _ _ z => Or.inr z) (Nat.le_refl 0)))).wk (fun _ _ z => z) (by omega)
    have eN : N = B + 1185 + 10 * k := by rw [hN]; exact hz
    have H3 : NdL B σ (k + 1) s3 := by
      refine ⟨?_, ⟨?_, ?_, ?_⟩, fun i hi => ?_, ?_⟩
      · have : mZ s3 = mZ s2 := by rw [hs3]
        omega
      · rw [xx.k _ (by omega)]; exact a1
      · rw [xx.p _ _ (by omega) (by omega)]; exact a2
      · rw [xx.k _ (by omega)]; exact a3
      · by_cases e : i = k
        · subst e
          rw [P3, if_pos ⟨rfl, rfl⟩, ← eN]
          refine ⟨rfl, by rw [K3]; exact C2.o, fun w hw => ?_⟩
          obtain ⟨f1, f2⟩ := C2.f w hw
          rw [P3, if_neg (by omega), K3, show N + (w + 1) = N + 1 + w by omega]
          exact ⟨f1, f2⟩
        · obtain ⟨n1, n2, n3⟩ := H.n i (by omega)
          rw [xx.p _ _ (by omega) (by omega), xx.k _ (by omega)]
          refine ⟨n1, n2, fun w hw => ?_⟩
          rw [xx.p _ _ (by omega) (by omega), xx.k _ (by omega)]
          exact n3 w hw
      · have q := H.x
        have zs := q.z
        refine ⟨fun b hb => ?_, fun b j hb np => ?_, q.i.trans xx.i q.z xx.z, Nat.le_trans q.z xx.z, Nat.le_trans xx.y (Nat.le_trans (Nat.add_le_add_right q.y 500) (Nat.le_of_eq (by rw [Nat.mul_succ, Nat.add_assoc]))), fun b hb => q.n b (xx.n b hb)⟩
        · rw [xx.k b (by omega)]; exact q.k b hb
        · rw [xx.p b j (by omega) (by omega)]; exact q.p b j hb np
    obtain ⟨s', r1, r2⟩ := f_nodes hB hy j (k + 1) fu s3 (by omega) (by omega) H3 (by omega)
    refine ⟨s', ?_, r2⟩
    show sX3_init_90b (sX3_init_90 fu) _ _ _ = _
    generalize sX3_init_90 fu = K at r1 ⊢
    unfold sX3_init_90b
    rw [if_neg (by rw [iv_le (by omega) (by omega) (by omega) (by omega)]; omega), gR_y a1, a2, nO_y (by omega) (by omega), ← hs1, ← hN, cI_y, q2, clw, iv_add]
    have e9 : sR s2 (some (B + 1)) 23 (iI (k : Int)) 3 (some N) = fun f : Mem → Option (Unit × Mem) => f s3 := by
      funext f
      show (if ((mK s2 (B + 1)).1 = 23 ∧ inR (iI (k : Int)) (mK s2 (B + 1)).2) ∧ (kdO s2 (some N) = 3 ∨ (some N : Option Nat) = none) then f (mI s2, up2 (mP s2) (B + 1) (ix (iI (k : Int))) (some N), s2.2.2) else none) = _
      rw [if_pos ⟨kA, Or.inl kN⟩, hs3, iv_ix (by omega) (by omega)]
      rfl
    rw [e9]
    exact r1
theorem f_clu (h : (mK σ B).1 = 2) (hz : mZ σ = B + 1) (b2 : 2 ≤ B) (hB : B ≤ 9000) (hy : mY σ ≤ 60000) : ∃ s, sX3_init (some B) (some 0) σ = some ((), s) ∧ mZ s = B + 1255 ∧ Nx σ s (fun b j => b = B) 15000 ∧ (((mK s 0).1 = 0 ∧ mP s 0 0 = some 1 ∧ (mK s 1).1 = 1) → LyC B s) := by
  obtain ⟨s0, x0, n0, z0, y0, p0, k0⟩ := al3 (σ := σ) (a := B) (ci := 2) (k := 16) (v := some 0) h
  have z0 : mZ s0 = B + 1 := z0.trans hz
  have o0 : (mK s0 B).1 = 2 := by rw [k0]; exact h
  have y0 : mY s0 ≤ 60000 := by rw [y0]; exact hy
  obtain ⟨s1, x1, n1, z1, p1, k1⟩ := al1 (σ := s0) (a := B) (ci := 2) (k := 0) (kd := 23) (n := 7) (v := 7) rfl o0 (by omega) (by omega) (by omega) (by omega) (by omega)
  have z1 : mZ s1 = B + 2 := by omega
  have o1 : (mK s1 B).1 = 2 := by rw [n1.k B (by omega)]; exact o0
  have y1 : mY s1 ≤ 60007 := by have := n1.y; omega
  rw [show mZ s0 = B + 1 by omega] at p1 k1
  obtain ⟨s2, x2, n2, z2, p2, k2, r2⟩ := al2 (σ := s1) (a := B) (ci := 2) (w := 1) (n := 160) (m := 32) (v := 160) (u := 32) rfl rfl o1 (by omega) (by omega) (by omega) (by omega) (by omega)
  have z2 : mZ s2 = B + 163 := by omega
  have o2 : (mK s2 B).1 = 2 := by rw [n2.k B (by omega)]; exact o1
  have y2 : mY s2 ≤ 65287 := by have := n2.y; omega
  rw [show mZ s1 = B + 2 by omega] at p2 k2 r2
  obtain ⟨s3, x3, n3, z3, p3, k3, r3⟩ := al2 (σ := s2) (a := B) (ci := 2) (w := 2) (n := 1000) (m := 4) (v := 1000) (u := 4) rfl rfl o2 (by omega) (by omega) (by omega) (by omega) (by omega)
  have z3 : mZ s3 = B + 1164 := by omega
  have o3 : (mK s3 B).1 = 2 := by rw [n3.k B (by omega)]; exact o2
  have y3 : mY s3 ≤ 70287 := by have := n3.y; omega
  rw [show mZ s2 = B + 163 by omega] at p3 k3 r3
  obtain ⟨s4, x4, n4, z4, p4, k4, r4⟩ := al2 (σ := s3) (a := B) (ci := 2) (w := 3) (n := 16) (m := 6) (v := 16) (u := 6) rfl rfl o3 (by omega) (by omega) (by omega) (by omega) (by omega)
  have z4 : mZ s4 = B + 1181 := by omega
  have o4 : (mK s4 B).1 = 2 := by rw [n4.k B (by omega)]; exact o3
  have y4 : mY s4 ≤ 70399 := by have := n4.y; omega
  rw [show mZ s3 = B + 1164 by omega] at p4 k4 r4
  obtain ⟨s5, x5, n5, z5, p5, k5⟩ := al1 (σ := s4) (a := B) (ci := 2) (k := 4) (kd := 20) (n := 7) (v := 7) rfl o4 (by omega) (by omega) (by omega) (by omega) (by omega)
  have z5 : mZ s5 = B + 1182 := by omega
  have o5 : (mK s5 B).1 = 2 := by rw [n5.k B (by omega)]; exact o4
  have y5 : mY s5 ≤ 70406 := by have := n5.y; omega
  rw [show mZ s4 = B + 1181 by omega] at p5 k5
  obtain ⟨s6, x6, n6, z6, p6, k6⟩ := al1 (σ := s5) (a := B) (ci := 2) (k := 5) (kd := 20) (n := 1000) (v := 1000) rfl o5 (by omega) (by omega) (by omega) (by omega) (by omega)
  have z6 : mZ s6 = B + 1183 := by omega
  have o6 : (mK s6 B).1 = 2 := by rw [n6.k B (by omega)]; exact o5
  have y6 : mY s6 ≤ 71406 := by have := n6.y; omega
  rw [show mZ s5 = B + 1182 by omega] at p6 k6
  obtain ⟨s7, x7, n7, z7, p7, k7⟩ := al1 (σ := s6) (a := B) (ci := 2) (k := 6) (kd := 20) (n := 32) (v := 32) rfl o6 (by omega) (by omega) (by omega) (by omega) (by omega)
  have z7 : mZ s7 = B + 1184 := by omega
  have o7 : (mK s7 B).1 = 2 := by rw [n7.k B (by omega)]; exact o6
  have y7 : mY s7 ≤ 71438 := by have := n7.y; omega
  rw [show mZ s6 = B + 1183 by omega] at p7 k7
  obtain ⟨s8, x8, n8, z8, p8, k8⟩ := al1 (σ := s7) (a := B) (ci := 2) (k := 15) (kd := 20) (n := 32) (v := 32) rfl o7 (by omega) (by omega) (by omega) (by omega) (by omega)
  have z8 : mZ s8 = B + 1185 := by omega
  have o8 : (mK s8 B).1 = 2 := by rw [n8.k B (by omega)]; exact o7
  have y8 : mY s8 ≤ 71470 := by have := n8.y; omega
  rw [show mZ s7 = B + 1184 by omega] at p8 k8
  have m8 : Nx s8 s8 (fun b j => b = B ∧ (j = 99)) 0 := Nx.rf
  have m7 : Nx s7 s8 (fun b j => b = B ∧ (j = 15 ∨ j = 99)) 32 := ((n8.wk (Q := fun b j => b = B ∧ (j = 15 ∨ j = 99)) (fun b j z => by omega) (Nat.le_refl _)).trans (m8.wk (fun b j z => by omega) (Nat.le_refl _))).wk (fun _ _ z => z) (by omega)
  have m6 : Nx s6 s8 (fun b j => b = B ∧ (j = 6 ∨ j = 15 ∨ j = 99)) 64 := ((n7.wk (Q := fun b j => b = B ∧ (j = 6 ∨ j = 15 ∨ j = 99)) (fun b j z => by omega) (Nat.le_refl _)).trans (m7.wk (fun b j z => by omega) (Nat.le_refl _))).wk (fun _ _ z => z) (by omega)
  have m5 : Nx s5 s8 (fun b j => b = B ∧ (j = 5 ∨ j = 6 ∨ j = 15 ∨ j = 99)) 1064 := ((n6.wk (Q := fun b j => b = B ∧ (j = 5 ∨ j = 6 ∨ j = 15 ∨ j = 99)) (fun b j z => by omega) (Nat.le_refl _)).trans (m6.wk (fun b j z => by omega) (Nat.le_refl _))).wk (fun _ _ z => z) (by omega)
  have m4 : Nx s4 s8 (fun b j => b = B ∧ (j = 4 ∨ j = 5 ∨ j = 6 ∨ j = 15 ∨ j = 99)) 1071 := ((n5.wk (Q := fun b j => b = B ∧ (j = 4 ∨ j = 5 ∨ j = 6 ∨ j = 15 ∨ j = 99)) (fun b j z => by omega) (Nat.le_refl _)).trans (m5.wk (fun b j z => by omega) (Nat.le_refl _))).wk (fun _ _ z => z) (by omega)
  have m3 : Nx s3 s8 (fun b j => b = B ∧ (j = 3 ∨ j = 4 ∨ j = 5 ∨ j = 6 ∨ j = 15 ∨ j = 99)) 1183 := ((n4.wk (Q := fun b j => b = B ∧ (j = 3 ∨ j = 4 ∨ j = 5 ∨ j = 6 ∨ j = 15 ∨ j = 99)) (fun b j z => by omega) (Nat.le_refl _)).trans (m4.wk (fun b j z => by omega) (Nat.le_refl _))).wk (fun _ _ z => z) (by omega)
  have m2 : Nx s2 s8 (fun b j => b = B ∧ (j = 2 ∨ j = 3 ∨ j = 4 ∨ j = 5 ∨ j = 6 ∨ j = 15 ∨ j = 99)) 6183 := ((n3.wk (Q := fun b j => b = B ∧ (j = 2 ∨ j = 3 ∨ j = 4 ∨ j = 5 ∨ j = 6 ∨ j = 15 ∨ j = 99)) (fun b j z => by omega) (Nat.le_refl _)).trans (m3.wk (fun b j z => by omega) (Nat.le_refl _))).wk (fun _ _ z => z) (by omega)
  have m1 : Nx s1 s8 (fun b j => b = B ∧ (j = 1 ∨ j = 2 ∨ j = 3 ∨ j = 4 ∨ j = 5 ∨ j = 6 ∨ j = 15 ∨ j = 99)) 11463 := ((n2.wk (Q := fun b j => b = B ∧ (j = 1 ∨ j = 2 ∨ j = 3 ∨ j = 4 ∨ j = 5 ∨ j = 6 ∨ j = 15 ∨ j = 99)) (fun b j z => by omega) (Nat.le_refl _)).trans (m2.wk (fun b j z => by omega) (Nat.le_refl _))).wk (fun _ _ z => z) (by omega)
  have m0 : Nx s0 s8 (fun b j => b = B ∧ (j = 0 ∨ j = 1 ∨ j = 2 ∨ j = 3 ∨ j = 4 ∨ j = 5 ∨ j = 6 ∨ j = 15 ∨ j = 99)) 11470 := ((n1.wk (Q := fun b j => b = B ∧ (j = 0 ∨ j = 1 ∨ j = 2 ∨ j = 3 ∨ j = 4 ∨ j = 5 ∨ j = 6 ∨ j = 15 ∨ j = 99)) (fun b j z => by omega) (Nat.le_refl _)).trans (m1.wk (fun b j z => by omega) (Nat.le_refl _))).wk (fun _ _ z => z) (by omega)
  have N0 : NdL B s8 0 s8 := ⟨by omega, ⟨o8, by rw [m1.p B 0 (by omega) (by omega)]; exact p1, by rw [m1.k _ (by omega)]; exact k1⟩, fun i hi => absurd hi (Nat.not_lt_zero i), Nx.rf⟩
  obtain ⟨s, xs, N7⟩ := f_nodes (σ := s8) (B := B) (by omega) (by omega) 7 0 FU s8 rfl (by omega) N0 (by unfold FU; omega)
  have zs := N7.z
  have ns := N7.x
  have hy8 := ns.y
  refine ⟨s, ?_, by omega, ?_, fun hk => ?_⟩
  · unfold sX3_init
    rw [x0, cI_y, x1, x2, x3, x4, x5, x6, x7, x8]
    exact xs
  · have q0 := n0.wk (Q := fun b j => b = B ∨ b = B + 1) (d := 0) (fun b j z => Or.inl z.1) (Nat.le_refl _)
    have q1 := m0.wk (Q := fun b j => b = B ∨ b = B + 1) (d := 11470) (fun b j z => Or.inl z.1) (Nat.le_refl _)
    have q2 := ns.wk (Q := fun b j => b = B ∨ b = B + 1) (d := 3500) (fun b j z => Or.inr z) (by omega)
    have q := (q0.trans (q1.trans q2))
    exact ⟨q.k, fun b j hb np => q.p b j hb (fun z => z.elim np (fun z => by omega)), q.i, q.z, Nat.le_trans q.y (by omega), q.n⟩
  · have K : ∀ b, b < B + 1185 → mK s b = mK s8 b := fun b hb => ns.k b (by omega)
    have PP : ∀ b j, b < B + 1185 → b ≠ B + 1 → mP s b j = mP s8 b j := fun b j hb hn => ns.p b j (by omega) hn
    refine ⟨b2, hk, ⟨by rw [K _ (by omega)]; exact o8, by rw [PP _ _ (by omega) (by omega), m1.p _ _ (by omega) (by omega)]; exact p1, by rw [PP _ _ (by omega) (by omega), m2.p _ _ (by omega) (by omega)]; exact p2, by rw [PP _ _ (by omega) (by omega), m3.p _ _ (by omega) (by omega)]; exact p3, by rw [PP _ _ (by omega) (by omega), m4.p _ _ (by omega) (by omega)]; exact p4, by rw [PP _ _ (by omega) (by omega), m5.p _ _ (by omega) (by omega)]; exact p5, by rw [PP _ _ (by omega) (by omega), m6.p _ _ (by omega) (by omega)]; exact p6, by rw [PP _ _ (by omega) (by omega), m7.p _ _ (by omega) (by omega)]; exact p7, by rw [PP _ _ (by omega) (by omega), m8.p _ _ (by omega) (by omega)]; exact p8, by rw [PP _ _ (by omega) (by omega), m0.p _ _ (by omega) (by omega)]; exact p0⟩, ⟨by rw [K _ (by omega), m1.k _ (by omega)]; exact k1, fun k hk => (N7.n k hk).1⟩, ?_, ?_, ?_, ⟨by rw [K _ (by omega), m5.k _ (by omega)]; exact k5, by rw [K _ (by omega), m6.k _ (by omega)]; exact k6, by rw [K _ (by omega), m7.k _ (by omega)]; exact k7, by rw [K _ (by omega), m8.k _ (by omega)]; exact k8⟩, fun k hk => (N7.n k hk).2⟩
    · exact ⟨by rw [K _ (by omega), m2.k _ (by omega)]; exact k2, fun k hk => by
        obtain ⟨f1, f2⟩ := r2 k hk
        rw [PP _ _ (by omega) (by omega), m2.p _ _ (by omega) (by omega), K _ (by omega), m2.k _ (by omega)]
        exact ⟨by rw [f1], by rw [← f2]⟩⟩
    · exact ⟨by rw [K _ (by omega), m3.k _ (by omega)]; exact k3, fun k hk => by
        obtain ⟨f1, f2⟩ := r3 k hk
        rw [PP _ _ (by omega) (by omega), m3.p _ _ (by omega) (by omega), K _ (by omega), m3.k _ (by omega)]
        exact ⟨by rw [f1], by rw [← f2]⟩⟩
    · exact ⟨by rw [K _ (by omega), m4.k _ (by omega)]; exact k4, fun k hk => by
        obtain ⟨f1, f2⟩ := r4 k hk
        rw [PP _ _ (by omega) (by omega), m4.p _ _ (by omega) (by omega), K _ (by omega), m4.k _ (by omega)]
        exact ⟨by rw [f1], by rw [← f2]⟩⟩
end
