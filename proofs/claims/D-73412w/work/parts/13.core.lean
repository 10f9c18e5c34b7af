/-! CORE 7: calls by the kind of answer, new cells, abstract calls -/
theorem cty_ok (ci k : Nat) {q : vw_C} (hq : vwCl[ci]? = some q) (hk : k < q.2.2) : isJ (cty ci k) = true ∨ isR (cty ci k) = true := by
  have h14 := cls_lt hq
  have key : ∀ ci, ci < 14 → ∀ k, k < 45 → isJ (cty ci k) = true ∨ isR (cty ci k) = true := by decide +kernel
  have h45 : q.2.2 ≤ 45 := by
    have key2 : ∀ q ∈ vwCl, q.2.2 ≤ 45 := by
      intro q hq
      simp only [List.mem_cons, List.not_mem_nil, or_false] at hq
      rcases hq with rfl | rfl | rfl | rfl | rfl | rfl | rfl | rfl | rfl | rfl | rfl | rfl | rfl | rfl <;> decide
    exact key2 q (List.mem_of_getElem? hq)
  exact key ci h14 k (by omega)
theorem look_out {x : Int32} {dflt : Int} : ∀ {l : List (Int × Int)}, (∀ q ∈ l, ¬ x = iI q.1) → (∀ q ∈ l, -2 ^ 31 ≤ q.1 ∧ q.1 < 2 ^ 31) → Op.lookupswitch.offset l dflt x.toInt = dflt
  | [], _, _ => rfl
  | (a, o) :: t, h, hr => by
    rw [Op.lookupswitch.offset_cons, if_neg, look_out (fun q hq => h q (List.mem_cons_of_mem _ hq)) (fun q hq => hr q (List.mem_cons_of_mem _ hq))]
    intro e
    refine h (a, o) List.mem_cons_self ?_
    show x = Int32.ofInt a
    rw [e]
    exact (Int32.ofInt_toInt x).symm
section VW7
variable {E : EE} {M : MM} {G : GG} {pc : Nat} {L : List (Option AV)} {st : List AV} {σ : Mem} {res : Option AV × Mem} {β : Type} {z : β}
theorem v_callV1 {ci : Nat} {q : vw_C} (hc : ClsOk ci q) {M' : MM} {r : Option Nat} {a ixc : Nat} {As stk : List AV} {x : AV} {σ1 : Mem} (er : r = some a) (hka : (mK σ a).1 = ci) (hM : Mt E G.2.1 M' (vr r :: As) σ (some x, σ1))
    (hG : GoodIn lw_all (wsV M.1.cls ixc q.1 M'.1 (wsM M'))) (hC : M'.1.cls = q.1) (hD : DsOk M'.1 As.length) (hR : RmOk M M') (hst : st.length ≤ 8) (hd : decode M.2.1 pc = .ok (.invokevirtual ixc, 3)) (hs : stk = As.reverse ++ vr r :: st)
    (kk : V E M G (pc + 3) L (x :: st) σ1 res) : V E M G pc L stk σ res := by
  subst er
  exact v_callV hc hka hM hG hC hD hR hst hd hs kk
theorem v_callV0 {ci : Nat} {q : vw_C} (hc : ClsOk ci q) {M' : MM} {r : Option Nat} {a ixc : Nat} {As stk : List AV} {σ1 : Mem} (er : r = some a) (hka : (mK σ a).1 = ci) (hM : Mt E G.2.1 M' (vr r :: As) σ (none, σ1))
    (hG : GoodIn lw_all (wsV M.1.cls ixc q.1 M'.1 (wsM M'))) (hC : M'.1.cls = q.1) (hD : DsOk M'.1 As.length) (hR : RmOk M M') (hst : st.length ≤ 8) (hd : decode M.2.1 pc = .ok (.invokevirtual ixc, 3)) (hs : stk = As.reverse ++ vr r :: st)
    (kk : V E M G (pc + 3) L st σ1 res) : V E M G pc L stk σ res := by
  subst er
  exact v_callV hc hka hM hG hC hD hR hst hd hs kk
theorem v_callVN1 {ci : Nat} {q : vw_C} (hc : ClsOk ci q) {M' : MM} {host : String} {r : Option Nat} {a ixc : Nat} {As stk : List AV} {x : AV} {σ1 : Mem} (er : r = some a) (hka : (mK σ a).1 = ci) (hM : Mt E G.2.1 M' (vr r :: As) σ (some x, σ1))
    (hl : Cond.methodLinkNest M.1.cls ixc M'.1 host ∈ lw_tbl) (hcd : Cond.code M'.1 M'.2.1 M'.2.2.1 M'.2.2.2.1 ∈ lw_all) (hin : Cond.instanceMethod M'.1 ∈ lw_all) (hse : Cond.selects q.1 M'.1 M'.1 ∈ lw_all) (hini : Cond.initialized M'.1.cls ∈ lw_all) (hD : DsOk M'.1 As.length) (hR : RmOk M M') (hst : st.length ≤ 8) (hd : decode M.2.1 pc = .ok (.invokevirtual ixc, 3)) (hs : stk = As.reverse ++ vr r :: st)
    (kk : V E M G (pc + 3) L (x :: st) σ1 res) : V E M G pc L stk σ res := by
  subst er
  exact v_callVN hc hka hM hl hcd hin hse hini hD hR hst hd hs kk
theorem v_callVN0 {ci : Nat} {q : vw_C} (hc : ClsOk ci q) {M' : MM} {host : String} {r : Option Nat} {a ixc : Nat} {As stk : List AV} {σ1 : Mem} (er : r = some a) (hka : (mK σ a).1 = ci) (hM : Mt E G.2.1 M' (vr r :: As) σ (none, σ1))
    (hl : Cond.methodLinkNest M.1.cls ixc M'.1 host ∈ lw_tbl) (hcd : Cond.code M'.1 M'.2.1 M'.2.2.1 M'.2.2.2.1 ∈ lw_all) (hin : Cond.instanceMethod M'.1 ∈ lw_all) (hse : Cond.selects q.1 M'.1 M'.1 ∈ lw_all) (hini : Cond.initialized M'.1.cls ∈ lw_all) (hD : DsOk M'.1 As.length) (hR : RmOk M M') (hst : st.length ≤ 8) (hd : decode M.2.1 pc = .ok (.invokevirtual ixc, 3)) (hs : stk = As.reverse ++ vr r :: st)
    (kk : V E M G (pc + 3) L st σ1 res) : V E M G pc L stk σ res := by
  subst er
  exact v_callVN hc hka hM hl hcd hin hse hini hD hR hst hd hs kk
theorem v_callS1 {M' : MM} {ixc : Nat} {As stk : List AV} {x : AV} {σ1 : Mem} (hM : Mt E G.2.1 M' As σ (some x, σ1))
    (hG : GoodIn lw_all (va_wsS M.1.cls ixc M'.1 (wsM M'))) (hD : DsOk M'.1 As.length) (hR : RmOk M M') (hst : st.length ≤ 8) (hd : decode M.2.1 pc = .ok (.invokestatic ixc, 3)) (hs : stk = As.reverse ++ st)
    (kk : V E M G (pc + 3) L (x :: st) σ1 res) : V E M G pc L stk σ res := v_callS hM hG hD hR hst hd hs kk
theorem v_callS0 {M' : MM} {ixc : Nat} {As stk : List AV} {σ1 : Mem} (hM : Mt E G.2.1 M' As σ (none, σ1))
    (hG : GoodIn lw_all (va_wsS M.1.cls ixc M'.1 (wsM M'))) (hD : DsOk M'.1 As.length) (hR : RmOk M M') (hst : st.length ≤ 8) (hd : decode M.2.1 pc = .ok (.invokestatic ixc, 3)) (hs : stk = As.reverse ++ st)
    (kk : V E M G (pc + 3) L st σ1 res) : V E M G pc L stk σ res := v_callS hM hG hD hR hst hd hs kk
theorem v_callSN1 {M' : MM} {host : String} {ixc : Nat} {As stk : List AV} {x : AV} {σ1 : Mem} (hM : Mt E G.2.1 M' As σ (some x, σ1))
    (hl : Cond.methodLinkNest M.1.cls ixc M'.1 host ∈ lw_tbl) (hcd : Cond.code M'.1 M'.2.1 M'.2.2.1 M'.2.2.2.1 ∈ lw_all) (hsta : Cond.static M'.1 ∈ lw_all) (hini : Cond.initialized M'.1.cls ∈ lw_all) (hD : DsOk M'.1 As.length) (hR : RmOk M M') (hst : st.length ≤ 8) (hd : decode M.2.1 pc = .ok (.invokestatic ixc, 3)) (hs : stk = As.reverse ++ st)
    (kk : V E M G (pc + 3) L (x :: st) σ1 res) : V E M G pc L stk σ res := v_callSN hM hl hcd hsta hini hD hR hst hd hs kk
/-- a call of an abstract method, by the receiver's class -/
theorem v_callA {ci : Nat} {q : vw_C} (hc : ClsOk ci q) {x : MethodName} {M' : MM} {r : Option Nat} {a ixc : Nat} {As stk : List AV} {rt : AV} {σ1 : Mem} (er : r = some a) (hka : (mK σ a).1 = ci) (hM : Mt E G.2.1 M' (vr r :: As) σ (some rt, σ1))
    (hl : Cond.methodLink M.1.cls ixc x ∈ lw_all) (hsm : Cond.sameMethod x.cls x.cls x.name x.desc ∈ lw_all) (hse : Cond.selects q.1 x M'.1 ∈ lw_all) (hin : Cond.instanceMethod M'.1 ∈ lw_all) (hini : Cond.initialized M'.1.cls ∈ lw_all) (hcd : Cond.code M'.1 M'.2.1 M'.2.2.1 M'.2.2.2.1 ∈ lw_all) (hdc : Cond.declares x ∈ lw_tbl)
    (hD : DsOk x As.length) (hR : RmOk M M') (hst : st.length ≤ 8) (hd : decode M.2.1 pc = .ok (.invokevirtual ixc, 3)) (hs : stk = As.reverse ++ vr r :: st)
    (kk : V E M G (pc + 3) L (rt :: st) σ1 res) : V E M G pc L stk σ res := by
  subst er
  obtain ⟨p, l, e, R, s, m, args, below, meth, c⟩ := G
  intro g H locs ls hH hq hl'
  subst hs
  refine W.sized fun h1 h2 => ?_
  obtain ⟨r1, r2⟩ := room_le g hH h1 h2
  have g0 := g
  obtain ⟨g1, g2, g3, g4, g5, g6, g7, g8, gK, gR, gB⟩ := g
  have hRf : R.frames = M.2.2.2.2.1 := by rw [gR]; rfl
  have hRl : R.locals = M.2.2.2.2.2 := by rw [gR]; rfl
  have hGd : GoodIn lw_all (va_wsU M.1.cls ixc q.1 x.cls x M'.1 (wsM M')) := by
    refine lw_app ?_ (lw_meth hcd)
    intro w hw
    simp only [List.mem_cons, List.not_mem_nil, or_false] at hw
    rcases hw with e | e | e | e | e
    · rw [e]; exact hl
    · rw [e]; exact hsm
    · rw [e]; exact hse
    · rw [e]; exact hin
    · rw [e]; exact hini
  have cw := va_cwA (R := R) (s := s) (args := args) (ws := wsM M') (ws' := lw_all) (rm := rmM M' (mZ σ) (mY σ)) (mc := 1200000 - mZ σ) (ms := 5502250 - mY σ) (maxL := M'.2.2.1) (bytes := M'.2.1) (ret := M'.2.2.2.1) As.length g6 hGd rfl rfl rfl (gK.2.2.1 _ hdc rfl) hD ⟨by rw [hRf]; exact hR.1, by rw [hRl]; exact hR.2⟩
  have hr := va_runU (p := p) (l := l) (e := e) (below := below) (meth := meth) (locs := locs) (cells := H.size - s.heap.size) (slots := hsl H s.heap.size) (As := As.map (toV E)) (rest := st.map (toV E)) (b := eB E + a) (g := F0 m pc ls ((As.reverse ++ vr (some a) :: st).map (toV E))) ⟨g1, g2, g3, g5, g6⟩ hM cw ⟨blind, recvE hc gK hH hka, fun U hU hW => ⟨rfl, by rw [hU]; exact hH, gK.warm hW⟩⟩ rfl (by rw [List.length_map]) hl'.1 (by rw [List.map_append, List.map_reverse]; rfl) (lv_room (by rw [sum_cat]; exact hst)) hd ⟨by omega, by omega⟩
  refine v_run hr hq fun H1 locs1 a1 a2 => ?_
  exact kk g0 H1 locs1 ls a1 a2 hl'
/-- a call of an inherited method -/
theorem v_callU {ci : Nat} {q : vw_C} (hc : ClsOk ci q) {x : MethodName} {M' : MM} {r : Option Nat} {a ixc : Nat} {As stk : List AV} {rt : AV} {σ1 : Mem} (er : r = some a) (hka : (mK σ a).1 = ci) (hM : Mt E G.2.1 M' (vr r :: As) σ (some rt, σ1))
    (hl : Cond.methodLink M.1.cls ixc x ∈ lw_all) (hsm : Cond.sameMethod x.cls x.cls x.name x.desc ∈ lw_all) (hse : Cond.selects q.1 x M'.1 ∈ lw_all) (hin : Cond.instanceMethod M'.1 ∈ lw_all) (hini : Cond.initialized M'.1.cls ∈ lw_all) (hcd : Cond.code M'.1 M'.2.1 M'.2.2.1 M'.2.2.2.1 ∈ lw_all)
    (hD : DsOk M'.1 As.length) (hR : RmOk M M') (hst : st.length ≤ 8) (hd : decode M.2.1 pc = .ok (.invokevirtual ixc, 3)) (hs : stk = As.reverse ++ vr r :: st)
    (kk : V E M G (pc + 3) L (rt :: st) σ1 res) (hxy : M'.1 = x := by rfl) : V E M G pc L stk σ res := by
  subst er
  obtain ⟨p, l, e, R, s, m, args, below, meth, c⟩ := G
  intro g H locs ls hH hq hl'
  subst hs
  subst hxy
  refine W.sized fun h1 h2 => ?_
  obtain ⟨r1, r2⟩ := room_le g hH h1 h2
  have g0 := g
  obtain ⟨g1, g2, g3, g4, g5, g6, g7, g8, gK, gR, gB⟩ := g
  have hRf : R.frames = M.2.2.2.2.1 := by rw [gR]; rfl
  have hRl : R.locals = M.2.2.2.2.2 := by rw [gR]; rfl
  have hGd : GoodIn lw_all (va_wsU M.1.cls ixc q.1 M'.1.cls M'.1 M'.1 (wsM M')) := by
    refine lw_app ?_ (lw_meth hcd)
    intro w hw
    simp only [List.mem_cons, List.not_mem_nil, or_false] at hw
    rcases hw with e | e | e | e | e
    · rw [e]; exact hl
    · rw [e]; exact hsm
    · rw [e]; exact hse
    · rw [e]; exact hin
    · rw [e]; exact hini
  have cw := va_cwU (R := R) (s := s) (args := args) (ws := wsM M') (ws' := lw_all) (rm := rmM M' (mZ σ) (mY σ)) (mc := 1200000 - mZ σ) (ms := 5502250 - mY σ) (maxL := M'.2.2.1) (bytes := M'.2.1) (ret := M'.2.2.2.1) As.length g6 hGd rfl rfl rfl rfl hD ⟨by rw [hRf]; exact hR.1, by rw [hRl]; exact hR.2⟩
  have hr := va_runU (p := p) (l := l) (e := e) (below := below) (meth := meth) (locs := locs) (cells := H.size - s.heap.size) (slots := hsl H s.heap.size) (As := As.map (toV E)) (rest := st.map (toV E)) (b := eB E + a) (g := F0 m pc ls ((As.reverse ++ vr (some a) :: st).map (toV E))) ⟨g1, g2, g3, g5, g6⟩ hM cw ⟨blind, recvE hc gK hH hka, fun U hU hW => ⟨rfl, by rw [hU]; exact hH, gK.warm hW⟩⟩ rfl (by rw [List.length_map]) hl'.1 (by rw [List.map_append, List.map_reverse]; rfl) (lv_room (by rw [sum_cat]; exact hst)) hd ⟨by omega, by omega⟩
  refine v_run hr hq fun H1 locs1 a1 a2 => ?_
  exact kk g0 H1 locs1 ls a1 a2 hl'
theorem v_mmax {x y : Int32} {ixc : Nat} (hd : decode M.2.1 pc = .ok (.invokestatic ixc, 3)) (hl : Cond.methodLink M.1.cls ixc Lib.Math.max.name ∈ lw_all) (hst : Cond.static Lib.Math.max.name ∈ lw_all) (hini : Cond.initialized "java/lang/Math" ∈ lw_all) (hcd : Cond.code Lib.Math.max.name Lib.Math.max.code 2 (some .int) ∈ lw_all)
    (hf : 1 ≤ M.2.2.2.2.1) (hlo : 21 ≤ M.2.2.2.2.2) (h8 : st.length ≤ 8) (kk : V E M G (pc + 3) L (vi (mxi x y) :: st) σ res) : V E M G pc L (vi y :: vi x :: st) σ res := by
  obtain ⟨p, l, e, R, s, m, args, below, meth, c⟩ := G
  intro g H locs ls hH hq hl'
  refine W.sized fun h1 h2 => ?_
  obtain ⟨r1, r2⟩ := room_le g hH h1 h2
  have g0 := g
  obtain ⟨g1, g2, g3, g4, g5, g6, g7, g8, gK, gR, gB⟩ := g
  have hRf : R.frames = M.2.2.2.2.1 := by rw [gR]; rfl
  have hRl : R.locals = M.2.2.2.2.2 := by rw [gR]; rfl
  exact va_mmax g1 g2 (g3.trans hl'.1.symm) g5 (g6 _ hl) (g6 _ hst) (g6 _ hini) (g6 _ hcd) (by omega) (by rw [sum_cat]; omega) (by omega) (by omega) hd (kk g0 H locs ls hH hq hl')
theorem v_mmin {x y : Int32} {ixc : Nat} (hd : decode M.2.1 pc = .ok (.invokestatic ixc, 3)) (hl : Cond.methodLink M.1.cls ixc Lib.Math.min.name ∈ lw_all) (hst : Cond.static Lib.Math.min.name ∈ lw_all) (hini : Cond.initialized "java/lang/Math" ∈ lw_all) (hcd : Cond.code Lib.Math.min.name Lib.Math.min.code 2 (some .int) ∈ lw_all)
    (hf : 1 ≤ M.2.2.2.2.1) (hlo : 21 ≤ M.2.2.2.2.2) (h8 : st.length ≤ 8) (kk : V E M G (pc + 3) L (vi (mni x y) :: st) σ res) : V E M G pc L (vi y :: vi x :: st) σ res := by
  obtain ⟨p, l, e, R, s, m, args, below, meth, c⟩ := G
  intro g H locs ls hH hq hl'
  refine W.sized fun h1 h2 => ?_
  obtain ⟨r1, r2⟩ := room_le g hH h1 h2
  have g0 := g
  obtain ⟨g1, g2, g3, g4, g5, g6, g7, g8, gK, gR, gB⟩ := g
  have hRf : R.frames = M.2.2.2.2.1 := by rw [gR]; rfl
  have hRl : R.locals = M.2.2.2.2.2 := by rw [gR]; rfl
  exact va_mmin g1 g2 (g3.trans hl'.1.symm) g5 (g6 _ hl) (g6 _ hst) (g6 _ hini) (g6 _ hcd) (by omega) (by rw [sum_cat]; omega) (by omega) (by omega) hd (kk g0 H locs ls hH hq hl')
theorem v_cI {M' : MM} {r : Option Nat} {a ixc : Nat} {As stk : List AV} {σ1 : Mem} (er : r = some a) (hM : Mt E G.2.1 M' (vr r :: As) σ (none, σ1)) (hrt : M'.2.2.2.1 = none)
    (hl : Cond.methodLink M.1.cls ixc M'.1 ∈ lw_all) (hcd : Cond.code M'.1 M'.2.1 M'.2.2.1 none ∈ lw_all) (hin : Cond.instanceMethod M'.1 ∈ lw_all) (hini : Cond.initialized M'.1.cls ∈ lw_all) (hy1 : M'.1.name = "<init>") (hD : DsOk M'.1 As.length) (hR : RmOk M M') (hst : st.length ≤ 8) (hd : decode M.2.1 pc = .ok (.invokespecial ixc, 3)) (hs : stk = As.reverse ++ vr r :: st)
    (kk : V E M G (pc + 3) L st σ1 res) : V E M G pc L stk σ res := by
  subst er
  exact v_callI hM hrt hl hcd hin hini hy1 hD hR hst hd hs kk
theorem v_cIN {M' : MM} {host : String} {r : Option Nat} {a ixc : Nat} {As stk : List AV} {σ1 : Mem} (er : r = some a) (hM : Mt E G.2.1 M' (vr r :: As) σ (none, σ1)) (hrt : M'.2.2.2.1 = none)
    (hl : Cond.methodLinkNest M.1.cls ixc M'.1 host ∈ lw_tbl) (hcd : Cond.code M'.1 M'.2.1 M'.2.2.1 none ∈ lw_all) (hin : Cond.instanceMethod M'.1 ∈ lw_all) (hini : Cond.initialized M'.1.cls ∈ lw_all) (hy1 : M'.1.name = "<init>") (hD : DsOk M'.1 As.length) (hR : RmOk M M') (hst : st.length ≤ 8) (hd : decode M.2.1 pc = .ok (.invokespecial ixc, 3)) (hs : stk = As.reverse ++ vr r :: st)
    (kk : V E M G (pc + 3) L st σ1 res) : V E M G pc L stk σ res := by
  subst er
  exact v_callIN hM hrt hl hcd hin hini hy1 hD hR hst hd hs kk
theorem v_oI {r : Option Nat} {a ixc : Nat} (er : r = some a) (hl : Cond.methodLink M.1.cls ixc Lib.objectInit ∈ lw_all) (hin : Cond.instanceMethod Lib.objectInit ∈ lw_all) (hcd : Cond.code Lib.objectInit ⟨#[0xb1]⟩ 1 none ∈ lw_all) (hR : 1 ≤ M.2.2.2.2.1 ∧ 20 ≤ M.2.2.2.2.2) (hst : st.length ≤ 8) (hd : decode M.2.1 pc = .ok (.invokespecial ixc, 3))
    (kk : V E M G (pc + 3) L st σ res) : V E M G pc L (vr r :: st) σ res := by
  subst er
  exact v_objI hl hin hcd hR hst hd kk
/-! new cells -/
theorem v_new {ci ixc : Nat} {q : vw_C} (hc : ClsOk ci q) {f : Option Nat → Mem → Option β} (hg : nO σ ci q.2.2 f = some z) (hd : decode M.2.1 pc = .ok (.new ixc, 3)) (hl : Cond.classLink M.1.cls ixc q.1 ∈ lw_all)
    (kk : ∀ (r : Option Nat) (s : Mem), f r s = some z → V E M G (pc + 3) L (vr r :: st) s res) : V E M G pc L st σ res := by
  obtain ⟨p, l, e, R, s, m, args, below, meth, c⟩ := G
  intro g H locs ls hH hq hl'
  unfold nO at hg
  split at hg
  case isFalse => cases hg
  rename_i hh
  refine W.sized fun h1 h2 => ?_
  obtain ⟨r1, r2⟩ := room_le g hH h1 h2
  have g0 := g
  obtain ⟨g1, g2, g3, g4, g5, g6, g7, g8, gK, gR, gB⟩ := g
  have hKn := gK.1 ci q hc.1
  have hsz : H.size = eB E + mZ σ := hH.1
  refine W.newc g1 g2 g5 (g6 _ hl) (g6 _ hc.2.2.2.2.1) (g6 _ hc.2.2.2.2.2) rfl hd (n := q.2.2) (by omega) (by omega) fun cC kC f1 f2 f3 f4 => ?_
  have e9 : cC = E.1.1 ci := Option.some.inj (f1.symm.trans hKn.2.1)
  subst e9
  have hb := u_born (o := H.size) (H := H.push (blank (E.1.1 ci) kC)) (cty ci) g6 hc.2.1 hKn f2 (by rw [Array.getElem?_push_size]) hc.2.2.1
  obtain ⟨cell, b1, b2, b3, b4⟩ := hb
  rw [Array.getElem?_push_size] at b1
  cases b1
  have hp : Hp E (mNew σ ci q.2.2) (H.push (blank (E.1.1 ci) kC)) := by
    refine hp_new hH (by show (kC.instanceTypes.map defaultValue).size = _; rw [Array.size_map, f4]) hh.1 hh.2 (Or.inl ⟨q, hc.1, _, rfl, b2, b3, fun k hk => ?_⟩)
    rw [b4 k hk]
    have : ∀ ty : FieldType, isJ ty = true ∨ isR ty = true → defaultValue ty = fv E ty 0 none := by
      intro ty h
      cases ty <;> first | rfl | (exfalso; rcases h with h | h <;> cases h)
    exact congrArg some (this _ (cty_ok ci k hc.1 hk))
  have e8 : (Value.ref H.size) = toV E (vr (some (mZ σ))) := by rw [hsz]; rfl
  show W p l e R s m args below meth c (H.push (blank (E.1.1 ci) kC)) locs _ _ _ (F0 m (pc + 3) ls (.ref H.size :: st.map (toV E)))
  rw [e8]
  exact W.tight (kk _ _ hg g0 _ locs ls hp hq hl')
theorem v_newaX {ty : ArrayType} {kd : Nat} {i : Int32} {f : Option Nat → Mem → Option β} (hg : nA σ kd i f = some z) (hd : decode M.2.1 pc = .ok (.newarray ty, 2)) (hl : Cond.arrayClass (newarray.typeOf ty) ∈ lw_all) (hk : kd = 20 ∨ kd = 21) (ht : newarray.typeOf ty = aty kd) (hz : ∀ E, defaultValue (aty kd) = fv E .int 0 none) (hcb : componentBytes (aty kd) ≤ 8)
    (kk : ∀ (r : Option Nat) (s : Mem), f r s = some z → V E M G (pc + 2) L (vr r :: st) s res) : V E M G pc L (vi i :: st) σ res := by
  obtain ⟨p, l, e, R, s, m, args, below, meth, c⟩ := G
  intro g H locs ls hH hq hl'
  unfold nA at hg
  split at hg
  case isFalse => cases hg
  rename_i hh
  refine W.sized fun h1 h2 => ?_
  obtain ⟨r1, r2⟩ := room_le g hH h1 h2
  have g0 := g
  obtain ⟨g1, g2, g3, g4, g5, g6, g7, g8, gK, gR, gB⟩ := g
  have hsz : H.size = eB E + mZ σ := hH.1
  have hi0 : ¬ i < 0 := fun h => by have := (Int32.lt_iff_toInt_lt).mp h; have : i.toInt < 0 := this; omega
  have hixi : ix i ≤ 20000 := by
    show i.toInt.toNat ≤ 20000
    omega
  refine W.newa g1 g2 (g6 _ hl) rfl hd rfl hi0 (by
    rw [ht]
    show ix i * _ ≤ _
    have := Nat.mul_le_mul hixi hcb
    omega) (by omega) (by show _ + ix i ≤ _; omega) fun cA kA comp f1 f2 f3 => ?_
  rw [ht] at f1
  have e9 : cA = E.2.1 kd := Option.some.inj (f1.symm.trans (gK.2.1 kd (by omega) (by omega)).2)
  subst e9
  rw [arrV_new]
  have hp : Hp E (mNew σ kd (ix i)) (H.push (arrV (E.2.1 kd) (ix i) (fun _ => defaultValue (newarray.typeOf ty)))) := by
    refine hp_new hH (arrV_size _ _ _) hh.2.1 hh.2.2 (Or.inr (Or.inl ⟨hk, ?_⟩))
    rw [ht, hz E]
    rfl
  have e8 : (Value.ref H.size) = toV E (vr (some (mZ σ))) := by rw [hsz]; rfl
  show W p l e R s m args below meth c (H.push (arrV (E.2.1 kd) (ix i) (fun _ => defaultValue (newarray.typeOf ty)))) locs _ _ _ (F0 m (pc + 2) ls (.ref H.size :: st.map (toV E)))
  rw [e8]
  exact W.tight (kk _ _ hg g0 _ locs ls hp hq hl')
theorem v_newa20 {i : Int32} {f : Option Nat → Mem → Option β} (hg : nA σ 20 i f = some z) (hd : decode M.2.1 pc = .ok (.newarray .int, 2)) (kk : ∀ (r : Option Nat) (s : Mem), f r s = some z → V E M G (pc + 2) L (vr r :: st) s res) : V E M G pc L (vi i :: st) σ res :=
  v_newaX hg hd q358 (Or.inl rfl) rfl (fun _ => rfl) (by decide) kk
theorem v_newa21 {i : Int32} {f : Option Nat → Mem → Option β} (hg : nA σ 21 i f = some z) (hd : decode M.2.1 pc = .ok (.newarray .byte, 2)) (kk : ∀ (r : Option Nat) (s : Mem), f r s = some z → V E M G (pc + 2) L (vr r :: st) s res) : V E M G pc L (vi i :: st) σ res :=
  v_newaX hg hd q452 (Or.inr rfl) rfl (fun _ => rfl) (by decide) kk
theorem v_anewX {kd ixc : Nat} {C : String} {i : Int32} {f : Option Nat → Mem → Option β} (hg : nA σ kd i f = some z) (hd : decode M.2.1 pc = .ok (.anewarray ixc, 3)) (hl : Cond.classLink M.1.cls ixc C ∈ lw_all) (hov : Cond.arrayOver (.object C) ∈ lw_tbl) (hk : 22 ≤ kd ∧ kd ≤ 25) (ht : aty kd = .object C)
    (kk : ∀ (r : Option Nat) (s : Mem), f r s = some z → V E M G (pc + 3) L (vr r :: st) s res) : V E M G pc L (vi i :: st) σ res := by
  obtain ⟨p, l, e, R, s, m, args, below, meth, c⟩ := G
  intro g H locs ls hH hq hl'
  unfold nA at hg
  split at hg
  case isFalse => cases hg
  rename_i hh
  refine W.sized fun h1 h2 => ?_
  obtain ⟨r1, r2⟩ := room_le g hH h1 h2
  have g0 := g
  obtain ⟨g1, g2, g3, g4, g5, g6, g7, g8, gK, gR, gB⟩ := g
  have hsz : H.size = eB E + mZ σ := hH.1
  have hi0 : ¬ i < 0 := fun h => by have := (Int32.lt_iff_toInt_lt).mp h; have : i.toInt < 0 := this; omega
  have hixi : ix i ≤ 20000 := by
    show i.toInt.toNat ≤ 20000
    omega
  refine W.anew g1 g2 g5 (g6 _ hl) (va_AO.use (gK.2.2.1 _ hov rfl)) rfl hd rfl hi0 (by show ix i * 4 ≤ _; omega) (by omega) (by show _ + ix i ≤ _; omega) fun cA kA comp f1 f2 f3 f4 => ?_
  have e9 : cA = E.2.1 kd := Option.some.inj (f1.symm.trans (by have := (gK.2.1 kd (by omega) (by omega)).2; rw [ht] at this; exact this))
  subst e9
  rw [arrV_new]
  have hp : Hp E (mNew σ kd (ix i)) (H.push (arrV (E.2.1 kd) (ix i) (fun _ => .null))) := hp_new hH (arrV_size _ _ _) hh.2.1 hh.2.2 (Or.inr (Or.inr ⟨hk, rfl⟩))
  have e8 : (Value.ref H.size) = toV E (vr (some (mZ σ))) := by rw [hsz]; rfl
  show W p l e R s m args below meth c (H.push (arrV (E.2.1 kd) (ix i) (fun _ => .null))) locs _ _ _ (F0 m (pc + 3) ls (.ref H.size :: st.map (toV E)))
  rw [e8]
  exact W.tight (kk _ _ hg g0 _ locs ls hp hq hl')
theorem v_anew23 {ixc : Nat} {i : Int32} {f : Option Nat → Mem → Option β} (hg : nA σ 23 i f = some z) (hd : decode M.2.1 pc = .ok (.anewarray ixc, 3)) (hl : Cond.classLink M.1.cls ixc "TermLog$Node" ∈ lw_all) (kk : ∀ (r : Option Nat) (s : Mem), f r s = some z → V E M G (pc + 3) L (vr r :: st) s res) : V E M G pc L (vi i :: st) σ res :=
  v_anewX hg hd hl q233 (by decide) rfl kk
theorem v_anew24 {ixc : Nat} {i : Int32} {f : Option Nat → Mem → Option β} (hg : nA σ 24 i f = some z) (hd : decode M.2.1 pc = .ok (.anewarray ixc, 3)) (hl : Cond.classLink M.1.cls ixc "TermLog$Sum" ∈ lw_all) (kk : ∀ (r : Option Nat) (s : Mem), f r s = some z → V E M G (pc + 3) L (vr r :: st) s res) : V E M G pc L (vi i :: st) σ res :=
  v_anewX hg hd hl q431 (by decide) rfl kk
theorem v_anew25 {ixc : Nat} {i : Int32} {f : Option Nat → Mem → Option β} (hg : nA σ 25 i f = some z) (hd : decode M.2.1 pc = .ok (.anewarray ixc, 3)) (hl : Cond.classLink M.1.cls ixc "TermLog$Condition" ∈ lw_all) (kk : ∀ (r : Option Nat) (s : Mem), f r s = some z → V E M G (pc + 3) L (vr r :: st) s res) : V E M G pc L (vi i :: st) σ res :=
  v_anewX hg hd hl q433 (by decide) rfl kk
end VW7
/-! CORE 8: stores of references into arrays, grids, strings -/
section VW8
variable {E : EE} {M : MM} {G : GG} {pc : Nat} {L : List (Option AV)} {st : List AV} {σ : Mem} {res : Option AV × Mem} {β : Type} {z : β}
theorem v_sRX {C : String} {kd ci : Nat} {q : vw_C} (hc : ClsOk ci q) (hkd : 22 ≤ kd ∧ kd ≤ 25) (ht : aty kd = .object C) (hov : Cond.arrayOver (.object C) ∈ lw_tbl) (hca : ∀ (s : State) (args : Array Value), NW s → KN E s → (∀ w ∈ lw_all, w.before args s = true) → ∀ (comp c0 : ClassId), s.vm.findClass C = some comp → s.vm.findClass q.1 = some c0 → s.vm.assignable c0 comp = true)
    {r v : Option Nat} {i : Int32} {f : Mem → Option β} (hg : sR σ r kd i ci v f = some z) (hd : decode M.2.1 pc = .ok (.aastore, 1)) (kk : ∀ s : Mem, f s = some z → V E M G (pc + 1) L st s res) : V E M G pc L (vr v :: vi i :: vr r :: st) σ res := by
  cases r with
  | none => cases hg
  | some a =>
    simp only [sR] at hg
    split at hg
    case isFalse => cases hg
    rename_i hh
    obtain ⟨⟨hk, hin⟩, hv⟩ := hh
    obtain ⟨p, l, e, R, s, m, args, below, meth, c⟩ := G
    intro g H locs ls hH hq hl'
    have g0 := g
    obtain ⟨g1, g2, g3, g4, g5, g6, g7, g8, gK, gR, gB⟩ := g
    have h1 := hp_ar hH hk hkd
    have hA := (gK.2.1 kd (by omega) hkd.2)
    have hset : ∀ (H' : Heap), H'[eB E + a]? = some ((arrV (E.2.1 kd) (mK σ a).2 (fun j => rV E (mP σ a j))).setSlot (ix i) (rV E v)) → H'.size = H.size → (∀ q, q ≠ eB E + a → H'[q]? = H[q]?) → Hp E (mI σ, up2 (mP σ) a (ix i) v, σ.2.2) H' := by
      intro H' e1 e2 e3
      refine hp_put hH h1.1 h1.2 e1 (k2_slotsz _ _ _) e2 e3 rfl rfl rfl (fun b hb => rfl) (fun b hb => up2_ne hb) (Or.inr (Or.inr ⟨by rw [hk]; exact hkd, ?_⟩))
      rw [hk, arrV_store]
      congr 2
      funext j
      by_cases hj : j = ix i
      · subst hj
        simp [updV, up2, mP]
      · simp [updV, up2, mP, hj]
    cases v with
    | none =>
      refine va_WaastN (C := C) g1 g2 h1.2 (by have := hA.1 (mK σ a).2 (fun j => rV E (mP σ a j)); rw [ht] at this; exact this) (fun q => by cases q) (by rw [arrV_size]; exact inR_not hin) rfl rfl hd fun H' e1 e2 e3 => W.tight ?_
      exact kk _ hg g0 H' _ ls (hset H' e1 e2 e3) (hq_app hq) hl'
    | some b =>
      have hvb : (mK σ b).1 = ci := by rcases hv with h | h; exact h; cases h
      obtain ⟨hz, cellV, c1, c2, c3, c4⟩ := hp_obj hH hvb hc.1
      obtain ⟨comp, cA, kA, f1, f2, f3, f4, f5⟩ := Cond.arrayOver_spec (gK.2.2.1 _ hov rfl)
      have hcA : cA = E.2.1 kd := Option.some.inj (f5.symm.trans (by have := hA.2; rw [ht] at this; exact this))
      subst hcA
      obtain ⟨kComp, hkComp, -⟩ := Vm.findClass_spec f1
      obtain ⟨kC, hkC, -⟩ := (gK.1 ci q hc.1).2.2
      refine W.aast g1 g2 h1.2 (fun q h => by cases h) (fun h => by cases h) f3 f4 rfl hkComp ⟨fun q => inR_not hin (Or.inl q), by rw [arrV_size]; exact inR_lt hin⟩ c1 (fun q h => by rw [c3] at h; cases h) (by rw [c2]; exact hkC) (by rw [c2]; exact hca s args gK.2.2.1 gK g6 comp _ f1 (gK.1 ci q hc.1).2.1) rfl rfl hd fun H' e1 e2 e3 => W.tight ?_
      exact kk _ hg g0 H' _ ls (hset H' e1 e2 e3) (hq_app hq) hl'
theorem v_sR23 {r v : Option Nat} {i : Int32} {f : Mem → Option β} (hg : sR σ r 23 i 3 v f = some z) (hd : decode M.2.1 pc = .ok (.aastore, 1)) (kk : ∀ s : Mem, f s = some z → V E M G (pc + 1) L st s res) : V E M G pc L (vr v :: vi i :: vr r :: st) σ res :=
  v_sRX cok3 (by decide) rfl q233 (fun s args _ hK _ comp c0 h1 h2 => by
    have e : comp = c0 := Option.some.inj (h1.symm.trans h2)
    subst e
    have h3 := (hK.1 3 _ cok3.1).2
    have e2 : comp = E.1.1 3 := Option.some.inj (h2.symm.trans h3.1)
    subst e2
    exact va_assign h3) hg hd kk
theorem v_sR24 {r v : Option Nat} {i : Int32} {f : Mem → Option β} (hg : sR σ r 24 i 5 v f = some z) (hd : decode M.2.1 pc = .ok (.aastore, 1)) (kk : ∀ s : Mem, f s = some z → V E M G (pc + 1) L st s res) : V E M G pc L (vr v :: vi i :: vr r :: st) σ res :=
  v_sRX cok5 (by decide) rfl q431 (fun s args hN _ _ comp c0 h1 h2 => vb_asgC (C := "TermLog$Row") (E := "TermLog$Sum") (hN _ q2074 rfl) comp c0 h1 h2) hg hd kk
theorem v_sR25 {r v : Option Nat} {i : Int32} {f : Mem → Option β} (hg : sR σ r 25 i 10 v f = some z) (hd : decode M.2.1 pc = .ok (.aastore, 1)) (kk : ∀ s : Mem, f s = some z → V E M G (pc + 1) L st s res) : V E M G pc L (vr v :: vi i :: vr r :: st) σ res :=
  v_sRX cok10 (by decide) rfl q433 (fun s args hN _ _ comp c0 h1 h2 => vb_asgC (C := "TermLog$Some") (E := "TermLog$Condition") (hN _ q2077 rfl) comp c0 h1 h2) hg hd kk
theorem outer_eq (c : ClassId) (N h0 : Nat) : ∀ i, Jvm.Free.Multi.outerC c N h0 i = arrV c N (fun j => if j < i then .ref (h0 + 1 + j) else .null)
  | 0 => by
    show ({ cls := c, slots := Array.replicate N .null, vm := .none } : Cell) = _
    rw [arrV_new]
    congr 1
  | i + 1 => by
    show (Jvm.Free.Multi.outerC c N h0 i).setSlot i (.ref (h0 + 1 + i)) = _
    rw [outer_eq c N h0 i, arrV_store]
    congr 1
    funext j
    by_cases hj : j = i
    · subst hj
      simp [updV]
    · simp only [updV, if_neg hj]
      by_cases h2 : j < i
      · rw [if_pos h2, if_pos (by omega)]
      · rw [if_neg h2, if_neg (by omega)]
theorem fill_hsl (s : State) (c comp : ClassId) (N M : Nat) (dv : Value) {lo : Nat} (hlo : lo ≤ s.heap.size) : ∀ i, hsl (Jvm.Free.Multi.fill s c comp N M dv i).heap lo = hsl s.heap lo + N + i * M
  | 0 => by
    show hsl (s.heap.push _) lo = _
    rw [hsl_push _ hlo, (Jvm.Free.Multi.outerC_facts c N s.heap.size 0).2.2]
    omega
  | i + 1 => by
    have ih := fill_hsl s c comp N M dv hlo i
    obtain ⟨a, b, -, -⟩ := Jvm.Free.Multi.fill_facts s c comp N M dv i
    show hsl (((Jvm.Free.Multi.fill s c comp N M dv i).heap.push (Jvm.Free.Multi.innerC comp M dv)).setIfInBounds s.heap.size (Jvm.Free.Multi.outerC c N s.heap.size (i + 1))) lo = _
    rw [hsl_congr (H := (Jvm.Free.Multi.fill s c comp N M dv i).heap.push (Jvm.Free.Multi.innerC comp M dv)) (by simp) (fun q => ?_), hsl_push _ (by omega), ih]
    · show _ + (Array.replicate M dv).size = _
      rw [Array.size_replicate, Nat.succ_mul]
      omega
    · rw [Array.getElem?_setIfInBounds]
      by_cases hq : s.heap.size = q
      · subst hq
        rw [if_pos rfl, if_pos (by rw [Array.size_push]; omega), Array.getElem?_push, if_neg (by omega), b]
        simp [(Jvm.Free.Multi.outerC_facts c N s.heap.size _).2.2]
      · rw [if_neg hq]
theorem v_multi {ixc : Nat} {n k : Int32} {f : Option Nat → Mem → Option β} (hg : nM σ n k f = some z) (hd : decode M.2.1 pc = .ok (.multianewarray ixc 2, 4)) (hl : Cond.classLink M.1.cls ixc "[[I" ∈ lw_all) (kk : ∀ (r : Option Nat) (s : Mem), f r s = some z → V E M G (pc + 4) L (vr r :: st) s res) : V E M G pc L (vi k :: vi n :: st) σ res := by
  obtain ⟨p, l, e, R, s, m, args, below, meth, c⟩ := G
  intro g H locs ls hH hq hl'
  unfold nM at hg
  split at hg
  case isFalse => cases hg
  rename_i hh
  refine W.sized fun h1 h2 => ?_
  obtain ⟨r1, r2⟩ := room_le g hH h1 h2
  have g0 := g
  obtain ⟨g1, g2, g3, g4, g5, g6, g7, g8, gK, gR, gB⟩ := g
  have hsz : H.size = eB E + mZ σ := hH.1
  have neg : ∀ i : Int32, 0 ≤ i.toInt → ¬ i < 0 := fun i h0 h => by have := (Int32.lt_iff_toInt_lt).mp h; have : i.toInt < 0 := this; omega
  have hn : ix n ≤ 20000 := by
    show n.toInt.toNat ≤ 20000
    omega
  have hk : ix k ≤ 20000 := by
    show k.toInt.toNat ≤ 20000
    omega
  intro T hT X
  subst hT

  have hnk : ix n * ix k ≤ 20000 * 20000 := Nat.mul_le_mul hn hk
  obtain ⟨vm₁, cA, comp, hW, f1, f2, f3, f4, X1, stp⟩ := X.multianewarray2F (ty := .int) g1 g5 (g6 _ hl) (over_moved (Vm.Alike.refl _) (gK.2.2.1 _ q235 rfl)) (g6 _ q358) (g := F0 m pc ls (.int k :: .int n :: st.map (toV E))) rfl (by rw [g2]; exact hd) (n := n) (k := k) rfl (neg n hh.1.1) (neg k hh.1.2.2.1) (by show ix n * 4 ≤ _; omega) (by show ix k * 4 ≤ _; omega) (by show ix k ≤ _; omega) rfl rfl (by show _ + (1 + ix n) ≤ _; omega) (by show _ + (ix n + ix n * ix k) ≤ _; omega)
  have eA : cA = E.2.1 22 := Option.some.inj (f1.symm.trans (gK.2.1 22 (by decide) (by decide)).2)
  have eC : comp = E.2.1 20 := Option.some.inj (f2.symm.trans (gK.2.1 20 (by decide) (by decide)).2)
  subst eA; subst eC
  generalize hF : Jvm.Free.Multi.fill (T.setVm vm₁) (E.2.1 22) (E.2.1 20) n.toNatClampNeg k.toNatClampNeg (defaultValue .int) n.toNatClampNeg = F at X1 stp
  obtain ⟨a1, a2, -, -⟩ := Jvm.Free.Multi.fill_facts (T.setVm vm₁) (E.2.1 22) (E.2.1 20) n.toNatClampNeg k.toNatClampNeg (defaultValue .int) n.toNatClampNeg
  have a3 := fun q (hq : q < T.heap.size) => Jvm.Free.Multi.fill_old (T.setVm vm₁) (E.2.1 22) (E.2.1 20) n.toNatClampNeg k.toNatClampNeg (defaultValue .int) (a := q) hq n.toNatClampNeg
  have a4 := Jvm.Free.Multi.fill_inner (T.setVm vm₁) (E.2.1 22) (E.2.1 20) n.toNatClampNeg k.toNatClampNeg (defaultValue .int) n.toNatClampNeg
  have a5 := fill_hsl (T.setVm vm₁) (E.2.1 22) (E.2.1 20) n.toNatClampNeg k.toNatClampNeg (defaultValue .int) (lo := eB E) (by show _ ≤ T.heap.size; omega) n.toNatClampNeg
  rw [hF] at a1 a2 a3 a4 a5
  have ht : (T.setVm vm₁).heap = T.heap := rfl
  rw [ht] at a1 a2 a3 a4 a5
  have hp : Hp E (mMul σ (ix n) (ix k)) F.heap := by
    obtain ⟨b1, b2, b3, b4, b5, b6, b7⟩ := hH
    refine ⟨?_, ?_, ?_, ?_, ?_, hh.2.1, hh.2.2⟩
    · rw [a1]
      show _ + 1 + ix n = eB E + (mZ σ + 1 + ix n)
      omega
    · rw [a5, b2]
      rfl
    · intro q hq
      rw [a3 q (by omega)]
      exact b3 q hq
    · intro b hb
      have hb : b < mZ σ + 1 + ix n := hb
      show Cok E (if b = mZ σ then (22, ix n) else if mZ σ ≤ b ∧ b < mZ σ + 1 + ix n then (20, ix k) else mK σ b) (fun j => if mZ σ ≤ b ∧ b < mZ σ + 1 + ix n then 0 else mI σ b j) (fun j => if b = mZ σ then (if j < ix n then some (mZ σ + 1 + j) else none) else if mZ σ ≤ b ∧ b < mZ σ + 1 + ix n then none else mP σ b j) _
      by_cases e1 : b = mZ σ
      · subst e1
        rw [if_pos rfl, show eB E + mZ σ = T.heap.size by omega, a2, outer_eq]
        refine Or.inr (Or.inr ⟨⟨by show 22 ≤ 22; decide, by show 22 ≤ 25; decide⟩, ?_⟩)
        congr 2
        funext j
        simp only [if_pos]
        by_cases hj : j < ix n
        · rw [if_pos hj, if_pos (show j < n.toNatClampNeg from hj)]
          show Value.ref (T.heap.size + 1 + j) = Value.ref (eB E + (mZ σ + 1 + j))
          rw [show T.heap.size = eB E + mZ σ from hsz, Nat.add_assoc, Nat.add_assoc, Nat.add_assoc]
        · rw [if_neg hj, if_neg (show ¬ j < n.toNatClampNeg from hj)]
          rfl
      · rw [if_neg e1]
        by_cases e2 : mZ σ ≤ b
        · rw [if_pos ⟨e2, hb⟩]
          have a6 := a4 (b - mZ σ - 1) (by show _ < ix n; omega)
          rw [show T.heap.size + 1 + (b - mZ σ - 1) = eB E + b by omega] at a6
          rw [a6]
          refine Or.inr (Or.inl ⟨Or.inl rfl, ?_⟩)
          show some ({ cls := E.2.1 20, slots := Array.replicate (ix k) (defaultValue .int), vm := .none } : Cell) = _
          rw [arrV_new]
          congr 2
          funext j
          simp only [if_pos (And.intro e2 hb)]
          rfl
        · rw [if_neg (by omega), a3 _ (by omega)]
          have i1 : (fun j => if mZ σ ≤ b ∧ b < mZ σ + 1 + ix n then 0 else mI σ b j) = mI σ b := by funext j; rw [if_neg (by omega)]
          have i2 : (fun j => if b = mZ σ then (if j < ix n then some (mZ σ + 1 + j) else none) else if mZ σ ≤ b ∧ b < mZ σ + 1 + ix n then none else mP σ b j) = mP σ b := by funext j; rw [if_neg e1, if_neg (by omega)]
          rw [i1, i2]
          exact b4 b (by omega)
    · intro b hb
      have hb : mZ σ + 1 + ix n ≤ b := hb
      show (if b = mZ σ then (22, ix n) else if mZ σ ≤ b ∧ b < mZ σ + 1 + ix n then (20, ix k) else mK σ b).1 = 99
      rw [if_neg (by omega), if_neg (by omega)]
      exact b5 b (by omega)
  have e8 : (Value.ref T.heap.size) = toV E (vr (some (mZ σ))) := by rw [hsz]; rfl
  obtain ⟨t, c1, c2⟩ := W.tight (kk _ _ hg g0 F.heap locs ls hp hq hl') F rfl X1
  refine ⟨t, stp t ?_, c2⟩
  rw [e8]
  exact c1
theorem hS_of {s : State} {p : Program} {l : Launch} {e : Env} {R : Room} {m : MethodId} {args : Array Value} {below : List Frame} {meth : Method} {c : Code} {H : Heap} {locs : List Loc} (g : GOOD E M (p, l, e, R, s, m, args, below, meth, c)) (h0 : ∀ q, q < eB E → s.heap[q]? = (eH E)[q]?) (h1 : s.heap.size ≤ H.size) (hH : Hp E σ H) (hq : ∀ q ∈ locs, eB E ≤ q.base) : va_S (eA E) s.heap H locs :=
  ⟨h1, fun q _ h2 => by rw [hH.2.2.1 q (Nat.not_le.mp h2), h0 q (Nat.not_le.mp h2)], hq⟩
theorem v_ldcS {idx : Nat} (hd : decode M.2.1 pc = .ok (.ldc idx, 2)) (i : Nat) (kk : V E M G (pc + 2) L (vw (sA E i) :: st) σ res) (hi : i < 3 := by decide) (hk : (strK i).1 = M.1.cls ∧ (strK i).2.1 = idx := by exact ⟨rfl, rfl⟩) : V E M G pc L st σ res := by
  obtain ⟨p, l, e, R, s, m, args, below, meth, c⟩ := G
  intro g H locs ls hH hq hl'
  have g0 := g
  obtain ⟨g1, g2, g3, g4, g5, g6, g7, g8, gK, gR, gB⟩ := g
  have h1 := (gK.2.2.2.1 i hi).2.2.2.2
  rw [hk.1, hk.2] at h1
  exact va_ldcS g1 g2 g5 h1 hd (kk g0 H locs ls hH hq hl')
end VW8
/-! CORE 9: String.indexOf of the program's own strings -/
section VW9
variable {E : EE} {M : MM} {G : GG} {pc : Nat} {L : List (Option AV)} {st : List AV} {σ : Mem} {res : Option AV × Mem}
abbrev CS : String := "java/lang/String"
theorem v_compact (hM : M.1.cls = CS) (hd : decode M.2.1 pc = .ok (.getstatic 38, 3)) (kk : V E M G (pc + 3) L (vi (iI 1) :: st) σ res) : V E M G pc L st σ res := by
  obtain ⟨p, l, e, R, s, m, args, below, meth, c⟩ := G
  intro g H locs ls hH hq hl'
  have g0 := g
  obtain ⟨g1, g2, g3, g4, g5, g6, g7, g8, gK, gR, gB⟩ := g
  obtain ⟨cf, kf, fi, f, a, cell, h1, h2, h3, h4, h5, h6, h7, h8⟩ := gK.2.2.2.2
  rw [hM] at g5
  exact W.gets g1 g2 g5 (g6 _ q839) h1 h2 h3 h4 (by rw [hH.2.2.1 a (Nat.not_le.mp h8)]; exact h5) (fun e => by rw [e] at h6; cases h6) h7 rfl hd (kk g0 H locs ls hH hq hl')
theorem v_coder {i : Nat} (hi : i < 3) (hM : M.1.cls = CS) (hd : decode M.2.1 pc = .ok (.getfield 15, 3)) (kk : V E M G (pc + 3) L (vi (iI 0) :: st) σ res) : V E M G pc L (vw (sA E i) :: st) σ res := by
  obtain ⟨p, l, e, R, s, m, args, below, meth, c⟩ := G
  intro g H locs ls hH hq hl'
  have g0 := g
  obtain ⟨g1, g2, g3, g4, g5, g6, g7, g8, gK, gR, gB⟩ := g
  obtain ⟨cf, k, fi, f, cell, h1, h2, h3, h4, h5, h6⟩ := (gK.2.2.2.1 i hi).2.1
  rw [hM] at g5
  exact W.getf g1 g2 g5 (g6 _ q2080) h1 h2 (by rw [hH.2.2.1 _ (Nat.not_le.mp h6)]; exact h3) h4 h5 rfl rfl hd (kk g0 H locs ls hH hq hl')
theorem v_value {i : Nat} (hi : i < 3) (hM : M.1.cls = CS) (hd : decode M.2.1 pc = .ok (.getfield 9, 3)) (kk : V E M G (pc + 3) L (vw (vA E i) :: st) σ res) : V E M G pc L (vw (sA E i) :: st) σ res := by
  obtain ⟨p, l, e, R, s, m, args, below, meth, c⟩ := G
  intro g H locs ls hH hq hl'
  have g0 := g
  obtain ⟨g1, g2, g3, g4, g5, g6, g7, g8, gK, gR, gB⟩ := g
  obtain ⟨cf, k, fi, f, cell, h1, h2, h3, h4, h5, h6⟩ := (gK.2.2.2.1 i hi).2.2.1
  rw [hM] at g5
  exact W.getf g1 g2 g5 (g6 _ q2081) h1 h2 (by rw [hH.2.2.1 _ (Nat.not_le.mp h6)]; exact h3) h4 h5 rfl rfl hd (kk g0 H locs ls hH hq hl')
theorem v_slen {i : Nat} (hi : i < 3) (hd : decode M.2.1 pc = .ok (.arraylength, 1)) (kk : V E M G (pc + 1) L (vi (iI ((lits i).length : Nat)) :: st) σ res) : V E M G pc L (vw (vA E i) :: st) σ res := by
  obtain ⟨p, l, e, R, s, m, args, below, meth, c⟩ := G
  intro g H locs ls hH hq hl'
  have g0 := g
  obtain ⟨g1, g2, g3, g4, g5, g6, g7, g8, gK, gR, gB⟩ := g
  obtain ⟨cell, h1, h2, h3, h4, h5, h6, h7⟩ := (gK.2.2.2.1 i hi).2.2.2.1
  exact W.alen (n := iI ((lits i).length : Nat)) g1 g2 (by rw [hH.2.2.1 _ (Nat.not_le.mp h7)]; exact h1) h2 (by rw [h5]; rfl) rfl rfl hd (kk g0 H locs ls hH hq hl')
theorem v_sbyte {i j : Nat} (hi : i < 3) (hj : j < (lits i).length) (hd : decode M.2.1 pc = .ok (.baload, 1)) (kk : V E M G (pc + 1) L (vi (iI ((lits i).getD j 0)) :: st) σ res) : V E M G pc L (vi (iI (j : Nat)) :: vw (vA E i) :: st) σ res := by
  obtain ⟨p, l, e, R, s, m, args, below, meth, c⟩ := G
  intro g H locs ls hH hq hl'
  have g0 := g
  obtain ⟨g1, g2, g3, g4, g5, g6, g7, g8, gK, gR, gB⟩ := g
  obtain ⟨cell, h1, h2, h3, h4, h5, h6, h7⟩ := (gK.2.2.2.1 i hi).2.2.2.1
  have h9 : (lits i).length ≤ 8 := by
    rcases (show i = 0 ∨ i = 1 ∨ i = 2 by omega) with rfl | rfl | rfl <;> decide
  have hjI : (iI (j : Nat)).toInt = (j : Int) := by
    show (Int32.ofInt (j : Int)).toInt = _
    rw [Int32.toInt_ofInt_of_le] <;> omega
  have hix : (iI (j : Nat)).toNatClampNeg = j := by
    show (iI (j : Nat)).toInt.toNat = j
    rw [hjI]
    rfl
  refine W.bald (v := .int (iI ((lits i).getD j 0))) g1 g2 (by rw [hH.2.2.1 _ (Nat.not_le.mp h7)]; exact h1) h2 h3 ?_ (by rw [hix]; exact h6 j hj) rfl rfl hd (kk g0 H locs ls hH hq hl')
  refine vp_in_iff.mpr ⟨by rw [hjI]; omega, by rw [hjI]; omega⟩
/-- a call through one of the strings -/
theorem v_callW {i : Nat} (hi : i < 3) {M' : MM} {ixc : Nat} {As stk : List AV} {x : AV} {σ1 : Mem} (hM : Mt E G.2.1 M' (vw (sA E i) :: As) σ (some x, σ1))
    (hG : GoodIn lw_all (wsV M.1.cls ixc CS M'.1 (wsM M'))) (hC : M'.1.cls = CS) (hD : DsOk M'.1 As.length) (hR : RmOk M M') (hst : st.length ≤ 8) (hd : decode M.2.1 pc = .ok (.invokevirtual ixc, 3)) (hs : stk = As.reverse ++ vw (sA E i) :: st)
    (kk : V E M G (pc + 3) L (x :: st) σ1 res) : V E M G pc L stk σ res := by
  obtain ⟨p, l, e, R, s, m, args, below, meth, c⟩ := G
  intro g H locs ls hH hq hl'
  subst hs
  refine W.sized fun h1 h2 => ?_
  obtain ⟨r1, r2⟩ := room_le g hH h1 h2
  have g0 := g
  obtain ⟨g1, g2, g3, g4, g5, g6, g7, g8, gK, gR, gB⟩ := g
  have hRf : R.frames = M.2.2.2.2.1 := by rw [gR]; rfl
  have hRl : R.locals = M.2.2.2.2.2 := by rw [gR]; rfl
  obtain ⟨cellV, c1, c2, c3, c4⟩ := (gK.2.2.2.1 i hi).1
  have cw := cwV (R := R) (ws := wsM M') (ws' := lw_all) (rm := rmM M' (mZ σ) (mY σ)) (mc := 1200000 - mZ σ) (ms := 5502250 - mY σ) (maxL := M'.2.2.1) (bytes := M'.2.1) (ret := M'.2.2.2.1) As.length g6 hG rfl rfl rfl ⟨hC, hD⟩ ⟨by rw [hRf]; exact hR.1, by rw [hRl]; exact hR.2⟩
  have hr := va_runV (p := p) (l := l) (e := e) (below := below) (meth := meth) (locs := locs) (cells := H.size - s.heap.size) (slots := hsl H s.heap.size) (As := As.map (toV E)) (rest := st.map (toV E)) (b := sA E i) (g := F0 m pc ls ((As.reverse ++ vw (sA E i) :: st).map (toV E))) ⟨g1, g2, g3, g5, g6⟩ hM cw ⟨blind, ⟨cellV, by rw [hH.2.2.1 _ (Nat.not_le.mp c4)]; exact c1, c2, c3⟩, fun U hU hW => ⟨rfl, by rw [hU]; exact hH, gK.warm hW⟩⟩ rfl (by rw [List.length_map]) hl'.1 (by rw [List.map_append, List.map_reverse]; rfl) (lv_room (by rw [sum_cat]; exact hst)) hd ⟨by omega, by omega⟩
  refine v_run hr hq fun H1 locs1 a1 a2 => ?_
  exact kk g0 H1 locs1 ls a1 a2 hl'
theorem v_bret {v : Int32} {ty : FieldType} (hn : narrow ty (.int v) = .int v) (hd : decode M.2.1 pc = .ok (.ireturn, 1)) (hr : M.2.2.2.1 = some ty) (hz : res = (some (vi v), σ)) : V E M G pc L [vi v] σ res := by
  obtain ⟨p, l, e, R, s, m, args, below, meth, c⟩ := G
  intro g H locs ls hH hq hl
  subst hz
  refine W.sized fun h1 h2 => ?_
  obtain ⟨r1, r2⟩ := room_le g hH h1 h2
  refine W.widen (k := R.cells) (n := R.slots) (by omega) (by omega) ?_
  exact W.zret (v := v) (ty := ty) g.1 g.2.1 (g.2.2.2.1.trans hr) hn (fun t ht hW => ⟨rfl, by rw [ht]; exact hH⟩) hq hd g.2.2.2.2.2.2.1
abbrev mS_coder : MM := (yJ2_coder, cJ2_coder, 1, some .byte, 0, 0)
abbrev mS_isL : MM := (yJ2_isLatin1, cJ2_isLatin1, 1, some .boolean, 0, 0)
abbrev mS_len : MM := (yJ2_length, cJ2_length, 1, some .int, 1, 20)
abbrev mS_can : MM := (yJ3_canEncode, cJ3_canEncode, 1, some .boolean, 0, 0)
abbrev mS_ioc : MM := (yJ3_indexOfChar, cJ3_indexOfChar, 6, some .int, 0, 0)
abbrev mS_iol : MM := (yJ3_indexOf, cJ3_indexOf, 4, some .int, 1, 30)
abbrev mS_io2 : MM := (yJ2_indexOf_2, cJ2_indexOf_2, 3, some .int, 2, 53)
abbrev mS_io : MM := (yJ2_indexOf, cJ2_indexOf, 2, some .int, 3, 75)
theorem iI_ne0 : ¬ iI 1 = iI 0 := by decide
theorem tS_coder {l : Launch} {i : Nat} (hi : i < 3) : Mt E l mS_coder [vw (sA E i)] σ (some (vi (iI 0)), σ) := by
  refine Mt.ofVL (by decide) (Nat.le_of_ble_eq_true rfl) (fun G hG => ?_)
  refine v_compact rfl dJ2_coder_0 ?_
  refine v_if_eq (tgt := 13) dJ2_coder_3 (by decide) (fun c => absurd c iI_ne0) (fun c => ?_)
  refine v_aload_w dJ2_coder_6 rfl ?_
  refine v_coder hi rfl dJ2_coder_7 ?_
  refine v_goto (tgt := 14) dJ2_coder_10 (by decide) ?_
  exact v_bret rfl dJ2_coder_14 rfl rfl
theorem tS_isL {l : Launch} {i : Nat} (hi : i < 3) : Mt E l mS_isL [vw (sA E i)] σ (some (vi (iI 1)), σ) := by
  refine Mt.ofVL (by decide) (Nat.le_of_ble_eq_true rfl) (fun G hG => ?_)
  refine v_compact rfl dJ2_isLatin1_0 ?_
  refine v_if_eq (tgt := 17) dJ2_isLatin1_3 (by decide) (fun c => absurd c iI_ne0) (fun c => ?_)
  refine v_aload_w dJ2_isLatin1_6 rfl ?_
  refine v_coder hi rfl dJ2_isLatin1_7 ?_
  refine v_if_ne (tgt := 17) dJ2_isLatin1_10 (by decide) (fun c => absurd rfl c) (fun c => ?_)
  refine v_iconst dJ2_isLatin1_13 ?_
  refine v_goto (tgt := 18) dJ2_isLatin1_14 (by decide) ?_
  exact v_bret rfl dJ2_isLatin1_18 rfl rfl
theorem tS_len {l : Launch} {i : Nat} (hi : i < 3) : Mt E l mS_len [vw (sA E i)] σ (some (vi (iI ((lits i).length : Nat))), σ) := by
  refine Mt.ofVL (by decide) (Nat.le_of_ble_eq_true rfl) (fun G hG => ?_)
  refine v_aload_w dJ2_length_0 rfl ?_
  refine v_value hi rfl dJ2_length_1 ?_
  refine v_slen hi dJ2_length_4 ?_
  refine v_aload_w dJ2_length_5 rfl ?_
  refine v_callW hi (As := []) (tS_coder hi) (lw_V q845 q846 q847 q170 q848) rfl ⟨by decide, by decide, by decide +kernel⟩ ⟨Nat.le_of_ble_eq_true rfl, Nat.le_of_ble_eq_true rfl⟩ (Nat.le_of_ble_eq_true rfl) dJ2_length_6 rfl ?_
  refine v_ishr dJ2_length_9 ?_
  refine v_iret dJ2_length_10 rfl ?_
  rcases (show i = 0 ∨ i = 1 ∨ i = 2 by omega) with rfl | rfl | rfl <;> rfl
theorem tS_can {l : Launch} (x : Int32) : Mt E l mS_can [vi x] σ (some (vi (if x < iI 0 then iI 0 else if iI 255 < x then iI 0 else iI 1)), σ) := by
  refine Mt.ofVL (by decide) (Nat.le_of_ble_eq_true rfl) (fun G hG => ?_)
  refine v_il0 dJ3_canEncode_0 ?_
  refine v_if_lt (tgt := 15) dJ3_canEncode_1 (by decide) (fun c => ?_) (fun c => ?_)
  · rw [if_pos c]
    refine v_iconst dJ3_canEncode_15 ?_
    exact v_bret rfl dJ3_canEncode_16 rfl rfl
  · rw [if_neg c]
    refine v_il0 dJ3_canEncode_4 ?_
    refine v_sipush dJ3_canEncode_5 rfl ?_
    refine v_icmp_gt (tgt := 15) dJ3_canEncode_8 (by decide) (fun c => ?_) (fun c => ?_)
    · rw [if_pos c]
      refine v_iconst dJ3_canEncode_15 ?_
      exact v_bret rfl dJ3_canEncode_16 rfl rfl
    · rw [if_neg c]
      refine v_iconst dJ3_canEncode_11 ?_
      refine v_goto (tgt := 16) dJ3_canEncode_12 (by decide) ?_
      exact v_bret rfl dJ3_canEncode_16 rfl rfl
theorem lS_ioc {i : Nat} (hi : i < 3) (x y : Int32) (hy : x.toInt8.toInt32 = y) (hlit : ∀ j, j < (lits i).length → ((iI ((lits i).getD j 0) = y) ↔ (lits i).getD j 0 = x.toInt)) : ∀ (n j : Nat), j + n = (lits i).length → V E mS_ioc G 7 [some (vw (vA E i)), some (vi x), none, some (vi (iI ((lits i).length : Nat))), some (vi y), some (vi (iI (j : Nat)))] [] σ (some (vi (iI (ixoF ((lits i).drop j) x.toInt j))), σ) := by
  have h9 : (lits i).length ≤ 8 := by
    rcases (show i = 0 ∨ i = 1 ∨ i = 2 by omega) with rfl | rfl | rfl <;> decide
  have small0 : ∀ a : Nat, a < 9 → ∀ b : Nat, b < 9 → ((iI (a : Nat) ≤ iI (b : Nat)) ↔ a ≤ b) := by decide +kernel
  have small : ∀ a b : Nat, a ≤ 8 → b ≤ 8 → ((iI (a : Nat) ≤ iI (b : Nat)) ↔ a ≤ b) := fun a b h1 h2 => small0 a (by omega) b (by omega)
  intro n
  induction n with
  | zero =>
    intro j hj
    refine v_iload dJ3_indexOfChar_7 rfl ?_
    refine v_il3 dJ3_indexOfChar_9 ?_
    refine v_icmp_ge (tgt := 31) dJ3_indexOfChar_10 (by decide) (fun c => ?_) (fun c => absurd ((small _ _ h9 (by omega)).mpr (by omega)) c)
    refine v_iconst dJ3_indexOfChar_31 ?_
    refine v_iret dJ3_indexOfChar_32 rfl ?_
    rw [List.drop_eq_nil_of_le (by omega)]
    rfl
  | succ n ih =>
    intro j hj
    refine v_iload dJ3_indexOfChar_7 rfl ?_
    refine v_il3 dJ3_indexOfChar_9 ?_
    refine v_icmp_ge (tgt := 31) dJ3_indexOfChar_10 (by decide) (fun c => absurd ((small _ _ h9 (by omega)).mp c) (by omega)) (fun c => ?_)
    refine v_aload_w dJ3_indexOfChar_13 rfl ?_
    refine v_iload dJ3_indexOfChar_14 rfl ?_
    refine v_sbyte hi (show j < (lits i).length by omega) dJ3_indexOfChar_16 ?_
    refine v_iload dJ3_indexOfChar_17 rfl ?_
    have hdrop : (lits i).drop j = (lits i).getD j 0 :: (lits i).drop (j + 1) := by
      rw [List.drop_eq_getElem_cons (show j < (lits i).length by omega)]
      congr 1
      simp [List.getD_eq_getElem?_getD, List.getElem?_eq_getElem (show j < (lits i).length by omega)]
    refine v_icmp_ne (tgt := 25) dJ3_indexOfChar_19 (by decide) (fun c => ?_) (fun c => ?_)
    · refine v_iinc (L' := [some (vw (vA E i)), some (vi x), none, some (vi (iI ((lits i).length : Nat))), some (vi y), some (vi (iI (j : Nat) + iI 1))]) dJ3_indexOfChar_25 (Nat.le_of_ble_eq_true rfl) rfl rfl ?_
      refine v_goto (tgt := 7) dJ3_indexOfChar_28 (by decide) ?_
      have e1 : iI (j : Nat) + iI 1 = iI ((j + 1 : Nat) : Int) := by
        show Int32.ofInt _ + Int32.ofInt _ = Int32.ofInt _
        rw [← Int32.ofInt_add]
        rfl
      rw [e1, hdrop, ixoF, if_neg (fun e => c ((hlit j (by omega)).mpr e))]
      exact ih (j + 1) (by omega)
    · refine v_iload dJ3_indexOfChar_22 rfl ?_
      refine v_iret dJ3_indexOfChar_24 rfl ?_
      rw [hdrop, ixoF, if_pos ((hlit j (by omega)).mp c)]
theorem tS_ioc {l : Launch} {i : Nat} (hi : i < 3) (x : Int32) (h0 : 0 ≤ x.toInt) (h1 : x.toInt ≤ 255) : Mt E l mS_ioc [vw (vA E i), vi x, vi (iI 0), vi (iI ((lits i).length : Nat))] σ (some (vi (ixo (lits i) x)), σ) := by
  refine Mt.ofVL (by decide) (Nat.le_of_ble_eq_true rfl) (fun G hG => ?_)
  refine v_il1 dJ3_indexOfChar_0 ?_
  refine v_i2b dJ3_indexOfChar_1 ?_
  refine v_istore (L' := [some (vw (vA E i)), some (vi x), some (vi (iI 0)), some (vi (iI ((lits i).length : Nat))), some (vi x.toInt8.toInt32), none]) dJ3_indexOfChar_2 (Nat.le_of_ble_eq_true rfl) (Nat.le_of_ble_eq_true rfl) rfl ?_
  refine v_il2 dJ3_indexOfChar_4 ?_
  refine v_istore (L' := [some (vw (vA E i)), some (vi x), some (vi (iI 0)), some (vi (iI ((lits i).length : Nat))), some (vi x.toInt8.toInt32), some (vi (iI 0))]) dJ3_indexOfChar_5 (Nat.le_of_ble_eq_true rfl) (Nat.le_of_ble_eq_true rfl) rfl ?_
  refine v_weak (wss (wss (wsn (wss (wss (wss wse)))))) (lS_ioc hi x _ rfl ?_ (lits i).length 0 (by omega))
  have key : ∀ a : Nat, a < 256 → ∀ i, i < 3 → ∀ j, j < (lits i).length → ((iI ((lits i).getD j 0) = (iI (a : Nat)).toInt8.toInt32) ↔ (lits i).getD j 0 = (a : Int)) := by decide +kernel
  intro j hj
  have e2 : x = iI (x.toInt.toNat : Nat) := by
    show x = Int32.ofInt _
    rw [Int.toNat_of_nonneg h0]
    exact (Int32.ofInt_toInt x).symm
  have := key x.toInt.toNat (by omega) i hi j hj
  rw [← e2, Int.toNat_of_nonneg h0] at this
  exact this
theorem ixo_out {i : Nat} (hi : i < 3) (x : Int32) (h : x < iI 0 ∨ iI 255 < x) : ixo (lits i) x = iI (-1) := by
  have hx : x.toInt < 0 ∨ 255 < x.toInt := by
    rcases h with h | h
    · exact Or.inl (Int32.lt_iff_toInt_lt.mp h)
    · exact Or.inr (Int32.lt_iff_toInt_lt.mp h)
  have key : ∀ (l : List Int) (j : Int), (∀ a ∈ l, 0 ≤ a ∧ a ≤ 255) → ixoF l x.toInt j = -1 := by
    intro l
    induction l with
    | nil => intro j _; rfl
    | cons a t ih =>
      intro j ha
      rw [ixoF, if_neg, ih _ (fun b hb => ha b (List.mem_cons_of_mem _ hb))]
      have := ha a List.mem_cons_self
      omega
  unfold ixo
  rw [key]
  rcases (show i = 0 ∨ i = 1 ∨ i = 2 by omega) with rfl | rfl | rfl <;> decide
theorem tS_iol {l : Launch} {i : Nat} (hi : i < 3) (x : Int32) : Mt E l mS_iol [vw (vA E i), vi x, vi (iI 0), vi (iI ((lits i).length : Nat))] σ (some (vi (ixo (lits i) x)), σ) := by
  refine Mt.ofVL (by decide) (Nat.le_of_ble_eq_true rfl) (fun G hG => ?_)
  refine v_il1 dJ3_indexOf_0 ?_
  refine v_callS1 (As := [vi x]) (tS_can x) (lw_S q852 q853 q171 q854) (show DsOk yJ3_canEncode 1 from ⟨by decide, by decide, by decide +kernel⟩) ⟨Nat.le_of_ble_eq_true rfl, Nat.le_of_ble_eq_true rfl⟩ (Nat.le_of_ble_eq_true rfl) dJ3_indexOf_1 rfl ?_
  refine v_if_ne (tgt := 9) dJ3_indexOf_4 (by decide) (fun c => ?_) (fun c => ?_)
  · have hx : ¬ x < iI 0 ∧ ¬ iI 255 < x := by
      refine ⟨fun h => c (by rw [if_pos h]), fun h => c ?_⟩
      split
      · rfl
      · first | rfl | rw [if_pos h]
    have h0 : 0 ≤ x.toInt := by
      have : ¬ x.toInt < 0 := fun h => hx.1 (Int32.lt_iff_toInt_lt.mpr h)
      omega
    have h1 : x.toInt ≤ 255 := by
      have : ¬ 255 < x.toInt := fun h => hx.2 (Int32.lt_iff_toInt_lt.mpr h)
      omega
    have h9 : ∀ n : Nat, n ≤ 8 → mni (iI (n : Nat)) (iI (n : Nat)) = iI (n : Nat) := by decide +kernel
    have h8 : (lits i).length ≤ 8 ∧ 1 ≤ (lits i).length := by
      rcases (show i = 0 ∨ i = 1 ∨ i = 2 by omega) with rfl | rfl | rfl <;> decide
    refine v_il2 dJ3_indexOf_9 ?_
    refine v_iconst dJ3_indexOf_10 ?_
    refine v_mmax dJ3_indexOf_11 q855 q534 q166 q535 (by decide) (by decide) (Nat.le_of_ble_eq_true rfl) ?_
    refine v_istore_n (L' := [some (vw (vA E i)), some (vi x), some (vi (iI 0)), some (vi (iI ((lits i).length : Nat)))]) dJ3_indexOf_14 (Nat.le_of_ble_eq_true rfl) (Nat.le_of_ble_eq_true rfl) rfl ?_
    refine v_il3 dJ3_indexOf_15 ?_
    refine v_aload_w dJ3_indexOf_16 rfl ?_
    refine v_slen hi dJ3_indexOf_17 ?_
    refine v_mmin dJ3_indexOf_18 q856 q531 q166 q532 (by decide) (by decide) (Nat.le_of_ble_eq_true rfl) ?_
    rw [h9 _ h8.1]
    refine v_istore_n (L' := [some (vw (vA E i)), some (vi x), some (vi (iI 0)), some (vi (iI ((lits i).length : Nat)))]) dJ3_indexOf_21 (Nat.le_of_ble_eq_true rfl) (Nat.le_of_ble_eq_true rfl) rfl ?_
    refine v_il2 dJ3_indexOf_22 ?_
    refine v_il3 dJ3_indexOf_23 ?_
    refine v_icmp_lt (tgt := 29) dJ3_indexOf_24 (by decide) (fun c => ?_) (fun c => ?_)
    · refine v_aload_w dJ3_indexOf_29 rfl ?_
      refine v_il1 dJ3_indexOf_30 ?_
      refine v_il2 dJ3_indexOf_31 ?_
      refine v_il3 dJ3_indexOf_32 ?_
      refine v_callS1 (As := [vw (vA E i), vi x, vi (iI 0), vi (iI ((lits i).length : Nat))]) (tS_ioc hi x h0 h1) (lw_S q857 q858 q171 q859) (show DsOk yJ3_indexOfChar 4 from ⟨by decide, by decide, by decide +kernel⟩) ⟨Nat.le_of_ble_eq_true rfl, Nat.le_of_ble_eq_true rfl⟩ (Nat.le_of_ble_eq_true rfl) dJ3_indexOf_33 rfl ?_
      exact v_iret dJ3_indexOf_36 rfl rfl
    · exfalso
      have key : ∀ n : Nat, n ≤ 8 → 1 ≤ n → iI 0 < iI (n : Nat) := by decide +kernel
      exact c (key _ h8.1 h8.2)
  · have hx : x < iI 0 ∨ iI 255 < x := by
      by_cases h : x < iI 0
      · exact Or.inl h
      · by_cases h2 : iI 255 < x
        · exact Or.inr h2
        · rw [if_neg h, if_neg h2] at c
          exact absurd c iI_ne0
    refine v_iconst dJ3_indexOf_7 ?_
    refine v_iret dJ3_indexOf_8 rfl ?_
    rw [ixo_out hi x hx]
theorem tS_io2 {l : Launch} {i : Nat} (hi : i < 3) (x : Int32) : Mt E l mS_io2 [vw (sA E i), vi x, vi (iI 0)] σ (some (vi (ixo (lits i) x)), σ) := by
  refine Mt.ofVL (by decide) (Nat.le_of_ble_eq_true rfl) (fun G hG => ?_)
  refine v_aload_w dJ2_indexOf_2_0 rfl ?_
  refine v_callW hi (As := []) (tS_isL hi) (lw_V q835 q836 q837 q170 q838) rfl ⟨by decide, by decide, by decide +kernel⟩ ⟨Nat.le_of_ble_eq_true rfl, Nat.le_of_ble_eq_true rfl⟩ (Nat.le_of_ble_eq_true rfl) dJ2_indexOf_2_1 rfl ?_
  refine v_if_eq (tgt := 23) dJ2_indexOf_2_4 (by decide) (fun c => absurd c iI_ne0) (fun c => ?_)
  refine v_aload_w dJ2_indexOf_2_7 rfl ?_
  refine v_value hi rfl dJ2_indexOf_2_8 ?_
  refine v_il1 dJ2_indexOf_2_11 ?_
  refine v_il2 dJ2_indexOf_2_12 ?_
  refine v_aload_w dJ2_indexOf_2_13 rfl ?_
  refine v_callW hi (As := []) (tS_len hi) (lw_V q841 q842 q843 q170 q844) rfl ⟨by decide, by decide, by decide +kernel⟩ ⟨Nat.le_of_ble_eq_true rfl, Nat.le_of_ble_eq_true rfl⟩ (Nat.le_of_ble_eq_true rfl) dJ2_indexOf_2_14 rfl ?_
  refine v_callS1 (As := [vw (vA E i), vi x, vi (iI 0), vi (iI ((lits i).length : Nat))]) (tS_iol hi x) (lw_S q849 q850 q171 q851) (show DsOk yJ3_indexOf 4 from ⟨by decide, by decide, by decide +kernel⟩) ⟨Nat.le_of_ble_eq_true rfl, Nat.le_of_ble_eq_true rfl⟩ (Nat.le_of_ble_eq_true rfl) dJ2_indexOf_2_17 rfl ?_
  refine v_goto (tgt := 36) dJ2_indexOf_2_20 (by decide) ?_
  exact v_iret dJ2_indexOf_2_36 rfl rfl
theorem tS_io {l : Launch} {i : Nat} (hi : i < 3) (x : Int32) : Mt E l mS_io [vw (sA E i), vi x] σ (some (vi (ixo (lits i) x)), σ) := by
  refine Mt.ofVL (by decide) (Nat.le_of_ble_eq_true rfl) (fun G hG => ?_)
  refine v_aload_w dJ2_indexOf_0 rfl ?_
  refine v_il1 dJ2_indexOf_1 ?_
  refine v_iconst dJ2_indexOf_2 ?_
  refine v_callW hi (As := [vi x, vi (iI 0)]) (tS_io2 hi x) (lw_V q831 q832 q833 q170 q834) rfl (show DsOk yJ2_indexOf_2 2 from ⟨by decide, by decide, by decide +kernel⟩) ⟨Nat.le_of_ble_eq_true rfl, Nat.le_of_ble_eq_true rfl⟩ (Nat.le_of_ble_eq_true rfl) dJ2_indexOf_3 rfl ?_
  exact v_iret dJ2_indexOf_6 rfl rfl
/-- the program's call -/
theorem v_ixo {x : Int32} {idx : Nat} (i : Nat) (hd : decode M.2.1 pc = .ok (.invokevirtual idx, 3)) (hi : i < 3) (hml : Cond.methodLink M.1.cls idx yJ2_indexOf ∈ lw_all) (hR : 4 ≤ M.2.2.2.2.1 ∧ 96 ≤ M.2.2.2.2.2) (hst : st.length ≤ 8) (kk : V E M G (pc + 3) L (vi (ixo (lits i) x) :: st) σ res) : V E M G pc L (vi x :: vw (sA E i) :: st) σ res :=
  v_callW hi (As := [vi x]) (tS_io hi x) (lw_V hml q828 q829 q170 q830) rfl (show DsOk yJ2_indexOf 1 from ⟨by decide, by decide, by decide +kernel⟩) ⟨hR.1, hR.2⟩ hst hd rfl kk
end VW9
