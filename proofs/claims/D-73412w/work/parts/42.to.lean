/-! DEPS: tr -/
/-! TO: the twin's holds -/
section
variable {mi : Row} {M : Mem} {Λ : Law}
/-- the end of holding: no further round -/
theorem m_holdsEnd (h : LT M) (hΛ : LawT M Λ) {g mn F : Row} {S : Nat → Int32} {n : Int} (hH : HoA g n) (fu : Nat) :
    ∃ mn' F' S', sX8_holds_2 (fu + 1) (some 3772) (iI n) (iI 0) (tw g mi mn F S M) = some ((), tw (if newA g n ≠ 0 ∨ ¬ cfgHeld g n ∨ hasI (membA g n) n then g else timerG Λ (followG g n (-1)) n) mi mn' F' S' M) := by
  have hn := hH.n0
  have hL := hH.1.1
  have hA := hH.ar
  have hm := membR hL
  have hnw := newR hL
  have e1 := m_newOf (mi := mi) (mn := mn) (F := F) (S := S) h hL
  have e2 := m_isHeldConfig (mi := mi) (mn := mn) (F := F) (S := S) h hL
  have e3 := m_membersOf (mi := mi) (mn := mn) (F := F) (S := S) h hL
  have e4 : ∀ σ, sX8_has (iI (membA g n)) (iI n) σ = some (bI (hasI (membA g n) n), σ) := fun σ => m_has hm.1 hm.2 hn.1 hn.2
  have e5 := m_follows (mi := mi) (mn := mn) (F := F) (S := S) (w := -1) h hn.1 hn.2 hA hH.2.2.2.2.1 hH.2.2.2.2.2.2.1 hH.2.2.2.2.2.2.2
  have hG := hH.2.2.2.1
  have of := fun x a b c => followG_ne (g := g) (n := n) (w := -1) (x := x) a hA b c
  have hG2 : GlA (followG g n (-1)) := GlA_ext hG (of _ (by omega) (by omega) (by omega)) (of _ (by omega) (by omega) (by omega)) (of _ (by omega) (by omega) (by omega)) (by rw [of _ (by omega) (by omega) (by omega)]; exact ⟨hG.2.2.2.2.2.2.1, hG.2.2.2.2.2.2.2.1⟩) (of _ (by omega) (by omega) (by omega)) (of _ (by omega) (by omega) (by omega))
  have o1 : followG g n (-1) (244 * n + 1) = g (244 * n + 1) := of _ (by omega) (by omega) (by omega)
  obtain ⟨F1, S1, e6⟩ := m_setsTimer (g := followG g n (-1)) (mi := mi) (mn := mn) (F := F) (S := S) (n := n) h hΛ hG2 hn.1 hn.2 (by rw [o1]; exact hH.1.2.1) (by rw [o1]; exact hH.1.2.2.1)
  by_cases c1 : newA g n = 0
  · by_cases c2 : cfgHeld g n
    · by_cases c3 : hasI (membA g n) n
      · refine ⟨mn, F, S, ?_⟩
        rw [if_pos (Or.inr (Or.inr c3))]
        simp (disch := first | assumption | omega) only [sX8_holds_2, sX8_holds_2b, z10, z00, if_true, if_false, iv_add, iv_sub, iv_mul, iv_le, iv_lt, iv_eq, iv_mx, iv_mn, bI_z, bI_o, rZ0, rZ1, rZb, cl_some', lt_eq, rm_eq, dv_eq, iv_01, iv_10, the, lastA, lpA, st_eq, st_ne, cV_tw, gR_0, gR_3, gR_4, gR_27, gR_28, gI_29, aI_now, aI_mn, aI_mi, aI_fa, sI_now, sI_mn, sI_mi, sI_fa, pI_29, e1, e2, e3, e4]
        rw [if_pos c1, if_neg (fun hc => hc c2), if_neg (fun hc => hc c3)]
      · refine ⟨mn, F1, S1, ?_⟩
        rw [if_neg (fun hc => by rcases hc with hc | hc | hc <;> contradiction)]
        simp (disch := first | assumption | omega) only [sX8_holds_2, sX8_holds_2b, z10, z00, if_true, if_false, iv_add, iv_sub, iv_mul, iv_le, iv_lt, iv_eq, iv_mx, iv_mn, bI_z, bI_o, rZ0, rZ1, rZb, cl_some', lt_eq, rm_eq, dv_eq, iv_01, iv_10, the, lastA, lpA, st_eq, st_ne, cV_tw, gR_0, gR_3, gR_4, gR_27, gR_28, gI_29, aI_now, aI_mn, aI_mi, aI_fa, sI_now, sI_mn, sI_mi, sI_fa, pI_29, e1, e2, e3, e4, e5, e6]
        rw [if_pos c1, if_neg (fun hc => hc c2), if_pos c3]
    · refine ⟨mn, F, S, ?_⟩
      rw [if_pos (Or.inr (Or.inl c2))]
      simp (disch := first | assumption | omega) only [sX8_holds_2, sX8_holds_2b, z10, z00, if_true, if_false, iv_add, iv_sub, iv_mul, iv_le, iv_lt, iv_eq, iv_mx, iv_mn, bI_z, bI_o, rZ0, rZ1, rZb, cl_some', lt_eq, rm_eq, dv_eq, iv_01, iv_10, the, lastA, lpA, st_eq, st_ne, cV_tw, gR_0, gR_3, gR_4, gR_27, gR_28, gI_29, aI_now, aI_mn, aI_mi, aI_fa, sI_now, sI_mn, sI_mi, sI_fa, pI_29, e1, e2]
      rw [if_pos c1, if_pos c2]
  · refine ⟨mn, F, S, ?_⟩
    rw [if_pos (Or.inl c1)]
    simp (disch := first | assumption | omega) only [sX8_holds_2, sX8_holds_2b, z10, z00, if_true, if_false, iv_add, iv_sub, iv_mul, iv_le, iv_lt, iv_eq, iv_mx, iv_mn, bI_z, bI_o, rZ0, rZ1, rZb, cl_some', lt_eq, rm_eq, dv_eq, iv_01, iv_10, the, lastA, lpA, st_eq, st_ne, cV_tw, gR_0, gR_3, gR_4, gR_27, gR_28, gI_29, aI_now, aI_mn, aI_mi, aI_fa, sI_now, sI_mn, sI_mi, sI_fa, pI_29, e1]
    rw [if_neg c1]
def endG (Λ : Law) (g : Row) (n : Int) : Row := if newA g n ≠ 0 ∨ ¬ cfgHeld g n ∨ hasI (membA g n) n then g else timerG Λ (followG g n (-1)) n
theorem m_holdsStep (h : LT M) (hΛ : LawT M Λ) {n : Int} (K : Option Nat → Int32 → Int32 → Mem → Option (Unit × Mem)) (d : Nat)
    (hE : ∀ (g mn F : Row) (S : Nat → Int32), HoA g n → ∃ mn' F' S', K (some 3772) (iI n) (iI 0) (tw g mi mn F S M) = some ((), tw (endG Λ g n) mi mn' F' S' M))
    {g mn F : Row} {S : Nat → Int32} (hH : HoA g n)
    (hI : newA g n = 0 ∨ ∀ (g mn F : Row) (S : Nat → Int32), HoA g n → newA g n = 0 → ∃ mn' F' S', K (some 3772) (iI n) (iI 1) (tw g mi mn F S M) = some ((), tw (holdF Λ n d g) mi mn' F' S' M)) :
    ∃ mn' F' S', sX8_holds_2b K (some 3772) (iI n) (iI 1) (tw g mi mn F S M) = some ((), tw (holdF Λ n (d + 1) g) mi mn' F' S' M) := by
  have hn := hH.n0
  have hL := hH.1.1
  have ht := topA_le hL
  have hh := growG_Ho hH ht.2
  have hC := hH.cm
  have o := fun x a b c d e f => growG_ne (x := x) hC ht.2 a b c d e f
  have cx := cfg_ext (g' := growG g n (topA g n)) hL (fun x _ _ _ => o x (by omega) (by omega) (by omega) (by omega) (by omega) (by omega))
  have hLh := hh.1.1
  have hnw := newR hLh
  have hx : -2147483648 ≤ topA g n := by
    have := hL.1
    omega
  have e1 := m_mostHeld (mi := mi) (mn := mn) (F := F) (S := S) h hL hH.2.1 hH.1.2.1 hH.1.2.2.1
  have e2 := m_growsCommit (mi := mi) (mn := mn) (F := F) (S := S) h hC ht.2 hx
  have e3 := m_newOf (mi := mi) (mn := mn) (F := F) (S := S) h hLh
  have e4 := m_isHeldConfig (mi := mi) (mn := mn) (F := F) (S := S) h hLh
  obtain ⟨m1, F1, S1, e5⟩ := hE _ mn F S hh
  have hnwg : newA (growG g n (topA g n)) n = newA g n := cx.2.1
  unfold holdF
  simp only []
  generalize hg : growG g n (topA g n) = hr at *
  by_cases c1 : newA hr n = 0
  · refine ⟨m1, F1, S1, ?_⟩
    rw [if_neg (fun hc => hc c1)]
    simp (disch := first | assumption | omega) only [sX8_holds_2b, sX8_holds_55, sX8_holds_56, z10, z00, if_true, if_false, iv_add, iv_sub, iv_mul, iv_le, iv_lt, iv_eq, iv_mx, iv_mn, bI_z, bI_o, rZ0, rZ1, rZb, cl_some', lt_eq, rm_eq, dv_eq, iv_01, iv_10, the, lastA, lpA, st_eq, st_ne, cV_tw, gR_0, gR_3, gR_4, gR_27, gR_28, gI_29, aI_now, aI_mn, aI_mi, aI_fa, sI_now, sI_mn, sI_mi, sI_fa, pI_29, e1, e2, e3]
    rw [if_pos c1]
    refine e5.trans ?_
    unfold endG
    congr 3
    by_cases c2 : cfgHeld hr n
    · by_cases c3 : hasI (membA hr n) n
      · rw [if_pos (show newA hr n ≠ 0 ∨ ¬ cfgHeld hr n ∨ hasI (membA hr n) n from Or.inr (Or.inr c3)), if_neg (fun hc => hc c2), if_pos c3]
      · rw [if_neg (show ¬ (newA hr n ≠ 0 ∨ ¬ cfgHeld hr n ∨ hasI (membA hr n) n) from fun hc => by rcases hc with hc | hc | hc <;> contradiction), if_neg (fun hc => hc c2), if_neg c3]
    · rw [if_pos (show newA hr n ≠ 0 ∨ ¬ cfgHeld hr n ∨ hasI (membA hr n) n from Or.inr (Or.inl c2)), if_pos c2]
  · rw [if_pos c1]
    have eend : endG Λ hr n = hr := if_pos (Or.inl c1)
    by_cases c2 : cfgHeld hr n
    · rw [if_pos c2]
      have e6 := m_the (g := hr) (mi := mi) (mn := mn) (F := F) (S := S) (n := n) (w := 1) h (by omega) (by omega)
      have e7 := m_lays (g := hr) (mi := mi) (mn := mn) (F := F) (S := S) (t := hr (244 * n + 1)) (k := 1) (a := newA hr n) (b := 0) h hLh
      have hw := layG_Ho (k := 1) (a := newA hr n) (b := 0) hh (by omega) (by omega) (by omega) (by omega)
      by_cases c3 : layOk hr n
      · rw [if_pos c3]
        have hw2 := matchO_Ho hw
        have hw3 := sendAll_Ho (Λ := Λ) hw2
        have e8 := m_lastOf (g := layG hr n (hr (244 * n + 1)) 1 (newA hr n) 0) (mi := mi) (mn := mn) (F := F) (S := S) h hn.1 hn.2
        have e9 := m_sets (g := layG hr n (hr (244 * n + 1)) 1 (newA hr n) 0) (mi := mi) (mn := mn) (F := F) (S := S) (n := n) (w := 38 + n) (v := lastA (layG hr n (hr (244 * n + 1)) 1 (newA hr n) 0) n) h (by omega) (by omega)
        rw [show 244 * n + (38 + n) = 244 * n + 38 + n by omega] at e9
        obtain ⟨m2, F2, S2, e10⟩ := m_sendsToAll (mi := mi) (mn := mn) (F := F) (S := S) h hΛ hw2.1 hw2.2.2.2.1
        rcases hI with hI | hI
        · exfalso
          exact c1 (hnwg.trans hI)
        · have hz : newA (sendAllG Λ (st (layG hr n (hr (244 * n + 1)) 1 (newA hr n) 0) (244 * n + 38 + n) (lastA (layG hr n (hr (244 * n + 1)) 1 (newA hr n) 0) n)) n) n = 0 := by
            rw [(cfg_ext hw2.1.1 (fun x _ _ _ => sendAllG_lo hw2.2.2.2.1 (by omega))).2.1, (cfg_ext hw.1.1 (fun x _ _ _ => st_ne (by omega))).2.1]
            unfold layG
            rw [if_pos c3, lay0_new (lay1_Lg hLh)]
            rfl
          obtain ⟨m3, F3, S3, e11⟩ := hI _ m2 F2 S2 hw3 hz
          refine ⟨m3, F3, S3, ?_⟩
          simp (disch := first | assumption | omega) only [sX8_holds_2b, sX8_holds_55, sX8_holds_56, z10, z00, if_true, if_false, iv_add, iv_sub, iv_mul, iv_le, iv_lt, iv_eq, iv_mx, iv_mn, bI_z, bI_o, rZ0, rZ1, rZb, cl_some', lt_eq, rm_eq, dv_eq, iv_01, iv_10, the, lastA, lpA, st_eq, st_ne, cV_tw, gR_0, gR_3, gR_4, gR_27, gR_28, gI_29, aI_now, aI_mn, aI_mi, aI_fa, sI_now, sI_mn, sI_mi, sI_fa, pI_29, e1, e2, e3]
          rw [if_neg c1]
          simp (disch := first | assumption | omega) only [sX8_holds_56, z10, z00, if_true, if_false, iv_add, iv_sub, iv_mul, iv_le, iv_lt, iv_eq, iv_mx, iv_mn, bI_z, bI_o, rZ0, rZ1, rZb, cl_some', lt_eq, rm_eq, dv_eq, iv_01, iv_10, the, lastA, lpA, st_eq, st_ne, cV_tw, gR_0, gR_3, gR_4, gR_27, gR_28, gI_29, aI_now, aI_mn, aI_mi, aI_fa, sI_now, sI_mn, sI_mi, sI_fa, pI_29, e4, e6, e7]
          rw [if_neg (fun hc => hc c2), if_neg (fun hc => hc c3)]
          simp only [lastA, the] at e9 e10 e11
          simp (disch := first | assumption | omega) only [z10, z00, if_true, if_false, iv_add, iv_sub, iv_mul, iv_le, iv_lt, iv_eq, iv_mx, iv_mn, bI_z, bI_o, rZ0, rZ1, rZb, cl_some', lt_eq, rm_eq, dv_eq, iv_01, iv_10, the, lastA, lpA, st_eq, st_ne, cV_tw, gR_0, gR_3, gR_4, gR_27, gR_28, gI_29, aI_now, aI_mn, aI_mi, aI_fa, sI_now, sI_mn, sI_mi, sI_fa, pI_29, e8, e9, e10]
          exact e11
      · rw [if_neg c3]
        obtain ⟨m2, F2, S2, e8⟩ := hE _ mn F S hw
        refine ⟨m2, F2, S2, ?_⟩
        have hz : endG Λ (layG hr n (hr (244 * n + 1)) 1 (newA hr n) 0) n = layG hr n (hr (244 * n + 1)) 1 (newA hr n) 0 := by
          apply if_pos
          refine Or.inl ?_
          unfold layG
          rw [if_neg c3, lay1_new hLh]
          exact c1
        rw [hz] at e8
        simp (disch := first | assumption | omega) only [sX8_holds_2b, sX8_holds_55, sX8_holds_56, z10, z00, if_true, if_false, iv_add, iv_sub, iv_mul, iv_le, iv_lt, iv_eq, iv_mx, iv_mn, bI_z, bI_o, rZ0, rZ1, rZb, cl_some', lt_eq, rm_eq, dv_eq, iv_01, iv_10, the, lastA, lpA, st_eq, st_ne, cV_tw, gR_0, gR_3, gR_4, gR_27, gR_28, gI_29, aI_now, aI_mn, aI_mi, aI_fa, sI_now, sI_mn, sI_mi, sI_fa, pI_29, e1, e2, e3]
        rw [if_neg c1]
        simp (disch := first | assumption | omega) only [sX8_holds_56, z10, z00, if_true, if_false, iv_add, iv_sub, iv_mul, iv_le, iv_lt, iv_eq, iv_mx, iv_mn, bI_z, bI_o, rZ0, rZ1, rZb, cl_some', lt_eq, rm_eq, dv_eq, iv_01, iv_10, the, lastA, lpA, st_eq, st_ne, cV_tw, gR_0, gR_3, gR_4, gR_27, gR_28, gI_29, aI_now, aI_mn, aI_mi, aI_fa, sI_now, sI_mn, sI_mi, sI_fa, pI_29, e4, e6, e7]
        rw [if_neg (fun hc => hc c2), if_pos c3]
        exact e8
    · rw [if_neg c2]
      refine ⟨m1, F1, S1, ?_⟩
      simp (disch := first | assumption | omega) only [sX8_holds_2b, sX8_holds_55, sX8_holds_56, z10, z00, if_true, if_false, iv_add, iv_sub, iv_mul, iv_le, iv_lt, iv_eq, iv_mx, iv_mn, bI_z, bI_o, rZ0, rZ1, rZb, cl_some', lt_eq, rm_eq, dv_eq, iv_01, iv_10, the, lastA, lpA, st_eq, st_ne, cV_tw, gR_0, gR_3, gR_4, gR_27, gR_28, gI_29, aI_now, aI_mn, aI_mi, aI_fa, sI_now, sI_mn, sI_mi, sI_fa, pI_29, e1, e2, e3]
      rw [if_neg c1]
      simp (disch := first | assumption | omega) only [sX8_holds_56, z10, z00, if_true, if_false, iv_add, iv_sub, iv_mul, iv_le, iv_lt, iv_eq, iv_mx, iv_mn, bI_z, bI_o, rZ0, rZ1, rZb, cl_some', lt_eq, rm_eq, dv_eq, iv_01, iv_10, the, lastA, lpA, st_eq, st_ne, cV_tw, gR_0, gR_3, gR_4, gR_27, gR_28, gI_29, aI_now, aI_mn, aI_mi, aI_fa, sI_now, sI_mn, sI_mi, sI_fa, pI_29, e4]
      rw [if_pos c2]
      rw [eend] at e5
      exact e5
theorem m_holds (h : LT M) (hΛ : LawT M Λ) {g mn F : Row} {S : Nat → Int32} {n : Int} (hH : HoA g n) :
    ∃ mn' F' S', sX8_holds (some 3772) (iI n) (tw g mi mn F S M) = some ((), tw (holdG Λ g n) mi mn' F' S' M) := by
  have hE : ∀ (fu : Nat) (g mn F : Row) (S : Nat → Int32), HoA g n → ∃ mn' F' S', sX8_holds_2 (fu + 1) (some 3772) (iI n) (iI 0) (tw g mi mn F S M) = some ((), tw (endG Λ g n) mi mn' F' S' M) := fun fu g mn F S hH => m_holdsEnd h hΛ hH fu
  have hI : ∀ (fu d : Nat) (g mn F : Row) (S : Nat → Int32), HoA g n → newA g n = 0 → ∃ mn' F' S', sX8_holds_2 (fu + 1 + 1) (some 3772) (iI n) (iI 1) (tw g mi mn F S M) = some ((), tw (holdF Λ n (d + 1) g) mi mn' F' S' M) := fun fu d g mn F S hH hz => m_holdsStep h hΛ (sX8_holds_2 (fu + 1)) d (hE fu) hH (Or.inl hz)
  exact m_holdsStep h hΛ (sX8_holds_2 999999) 2 (hE 999998) hH (Or.inr (hI 999997 1))
end
