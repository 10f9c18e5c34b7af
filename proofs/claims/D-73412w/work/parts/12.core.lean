/-! CORE 5: returns, calls, contracts -/
section VC
variable {E : EE} {M : MM} {G : GG} {pc : Nat} {L : List (Option AV)} {st : List AV} {σ : Mem} {res : Option AV × Mem} {β : Type} {z : β}
theorem sum_cat (st : List AV) : ((st.map (toV E)).map fun v => v.category).sum = st.length := by
  induction st with
  | nil => rfl
  | cons x t ih => rw [List.map_cons, List.map_cons, List.sum_cons, toV_cat, ih, List.length_cons]; omega
/-- what the room asks at any place of a body -/
theorem room_le {p : Program} {l : Launch} {e : Env} {R : Room} {s : State} {m : MethodId} {args : Array Value} {below : List Frame} {meth : Method} {c : Code} {H : Heap} (g : GOOD E M (p, l, e, R, s, m, args, below, meth, c)) (hH : Hp E σ H) (h1 : s.heap.size ≤ H.size) (h2 : ∀ (a : Nat) (c : Cell), s.heap[a]? = some c → ∃ c', H[a]? = some c' ∧ c'.slots.size = c.slots.size) :
    (H.size - s.heap.size) + (1200000 - mZ σ) = R.cells ∧ hsl H s.heap.size + (5502250 - mY σ) = R.slots := by
  obtain ⟨g1, g2, g3, g4, g5, g6, g7, g8, gK, gR, gB⟩ := g
  obtain ⟨a1, a2, a3, a4, a5, a6, a7⟩ := hH
  have e := hsl_split gB h1 h2
  rw [gR]
  show _ = 1200000 - _ ∧ _ = 5502250 - _
  constructor
  · omega
  · omega
theorem v_iret {v : Int32} (hd : decode M.2.1 pc = .ok (.ireturn, 1)) (hr : M.2.2.2.1 = some .int) (hz : res = (some (vi v), σ)) : V E M G pc L [vi v] σ res := by
  obtain ⟨p, l, e, R, s, m, args, below, meth, c⟩ := G
  intro g H locs ls hH hq hl
  subst hz
  refine W.sized fun h1 h2 => ?_
  obtain ⟨r1, r2⟩ := room_le g hH h1 h2
  refine W.widen (k := R.cells) (n := R.slots) (by omega) (by omega) ?_
  exact W.iret (v := v) g.1 g.2.1 (g.2.2.2.1.trans hr) (fun t ht hW => ⟨rfl, by rw [ht]; exact hH⟩) hq hd g.2.2.2.2.2.2.1
theorem v_zret {v : Int32} {z : Int32 × Mem} (hg : rZ v σ = some z) (hd : decode M.2.1 pc = .ok (.ireturn, 1)) (hr : M.2.2.2.1 = some .boolean) (hz : res = (some (vi v), σ)) : V E M G pc L [vi v] σ res := by
  obtain ⟨p, l, e, R, s, m, args, below, meth, c⟩ := G
  intro g H locs ls hH hq hl
  subst hz
  have hv : v = iI 0 ∨ v = iI 1 := by
    unfold rZ at hg
    split at hg
    · assumption
    · cases hg
  refine W.sized fun h1 h2 => ?_
  obtain ⟨r1, r2⟩ := room_le g hH h1 h2
  refine W.widen (k := R.cells) (n := R.slots) (by omega) (by omega) ?_
  exact W.zret (v := v) (ty := .boolean) g.1 g.2.1 (g.2.2.2.1.trans hr) (by rcases hv with rfl | rfl <;> rfl) (fun t ht hW => ⟨rfl, by rw [ht]; exact hH⟩) hq hd g.2.2.2.2.2.2.1
theorem v_vret (hd : decode M.2.1 pc = .ok (.return_, 1)) (hr : M.2.2.2.1 = none) (hz : res = (none, σ)) : V E M G pc L [] σ res := by
  obtain ⟨p, l, e, R, s, m, args, below, meth, c⟩ := G
  intro g H locs ls hH hq hl
  subst hz
  refine W.sized fun h1 h2 => ?_
  obtain ⟨r1, r2⟩ := room_le g hH h1 h2
  refine W.widen (k := R.cells) (n := R.slots) (by omega) (by omega) ?_
  exact W.vret g.1 g.2.1 (g.2.2.2.1.trans hr) (fun t ht hW => ⟨rfl, by rw [ht]; exact hH⟩) hq hd g.2.2.2.2.2.2.1
theorem v_aret {r : Option Nat} {ty : FieldType} (hd : decode M.2.1 pc = .ok (.areturn, 1)) (hr : M.2.2.2.1 = some ty) (hrt : (∃ n, ty = .object n) ∨ ∃ t, ty = .array t) (hz : res = (some (vr r), σ)) : V E M G pc L [vr r] σ res := by
  obtain ⟨p, l, e, R, s, m, args, below, meth, c⟩ := G
  intro g H locs ls hH hq hl
  subst hz
  refine W.sized fun h1 h2 => ?_
  obtain ⟨r1, r2⟩ := room_le g hH h1 h2
  refine W.widen (k := R.cells) (n := R.slots) (by omega) (by omega) ?_
  exact W.aret (v := rV E r) g.1 g.2.1 (g.2.2.2.1.trans hr) hrt (by cases r with | none => exact Or.inl rfl | some a => exact Or.inr ⟨_, rfl⟩) (fun t ht hW => ⟨rfl, by rw [ht]; exact hH⟩) hq hd g.2.2.2.2.2.2.1
/-- behind a call -/
theorem v_run {p : Program} {l : Launch} {e : Env} {R : Room} {s : State} {m : MethodId} {args : Array Value} {below : List Frame} {meth : Method} {c : Code} {H : Heap} {locs : List Loc} {cells slots mc ms : Nat} {Q : State → Prop} {ls : Array Slot} {st0 rest : List Value} {rt : Option AV} {σ1 : Mem} {a : Array Value}
    (hr : va_Run p l e R s m args below meth c H locs cells slots mc ms (F0 m pc ls st0) rest (Qr E (rt, σ1) a) (fun q => eB E ≤ q)) (hl : ∀ q ∈ locs, eB E ≤ q.base)
    (kk : ∀ (H1 : Heap) (locs1 : List Loc), Hp E σ1 H1 → (∀ q ∈ locs1, eB E ≤ q.base) → W p l e R s m args below meth c H1 locs1 (H1.size - s.heap.size) (hsl H1 s.heap.size) Q (F0 m (pc + 3) ls ((rt.map (toV E)).toList ++ rest))) :
    W p l e R s m args below meth c H locs cells slots Q (F0 m pc ls st0) := by
  intro T hT X
  obtain ⟨v, st₀, t, T', L', h0, X', hL, e1, e2, ⟨hv, hb⟩, st⟩ := hr T hT X
  cases hv
  obtain ⟨t2, a1, b1⟩ := W.tight (kk T'.heap (locs ++ L') (by rw [e1]; exact hb) (fun q hq => by
    rcases List.mem_append.mp hq with h | h
    · exact hl q h
    · exact hL q h)) T' rfl X'
  exact ⟨t2, st t2 a1, b1⟩
/-- a method's start does not look at the stack of frames -/
theorem blind {av : List Value} : FrameBlind (va_Pc av (fun U => Hp E σ U.heap ∧ KN E U)) := fun a U g mk q => ⟨q.1, q.2.1, KN.same (s := U) (U := U.calling g mk a) rfl q.2.2⟩
theorem recvE {s : State} {H : Heap} {a ci : Nat} {q : vw_C} (hc : ClsOk ci q) (hK : KN E s) (hH : Hp E σ H) (hka : (mK σ a).1 = ci) : ∃ cellB : Cell, H[eB E + a]? = some cellB ∧ cellB.vm.isStatics = false ∧ s.vm.findClass q.1 = some cellB.cls := by
  obtain ⟨hz, cell, c1, c2, c3, c4⟩ := hp_obj hH hka hc.1
  exact ⟨cell, c1, by rw [c3]; rfl, by rw [c2]; exact (hK.1 ci q hc.1).2.1⟩
/-- the rooms of two methods, caller and callee -/
def RmOk (M M' : MM) : Prop := M'.2.2.2.2.1 + 1 ≤ M.2.2.2.2.1 ∧ 8 + (M'.2.2.1 + 11) + M'.2.2.2.2.2 ≤ M.2.2.2.2.2
def DsOk (y : MethodName) (n : Nat) : Prop := y.cls ≠ "java/lang/invoke/MethodHandle" ∧ y.cls ≠ "java/lang/invoke/VarHandle" ∧ (parseMethodDescriptor y.desc).map (fun d => d.parameters.length) = some n
abbrev wsM (M : MM) : List Cond := ws_ M.1 M.2.1 M.2.2.1 M.2.2.2.1
theorem v_callV {ci : Nat} {q : vw_C} (hc : ClsOk ci q) {M' : MM} {a ixc : Nat} {As stk : List AV} {rt : Option AV} {σ1 : Mem} (hka : (mK σ a).1 = ci) (hM : Mt E G.2.1 M' (vr (some a) :: As) σ (rt, σ1))
    (hG : GoodIn lw_all (wsV M.1.cls ixc q.1 M'.1 (wsM M'))) (hC : M'.1.cls = q.1) (hD : DsOk M'.1 As.length) (hR : RmOk M M') (hst : st.length ≤ 8) (hd : decode M.2.1 pc = .ok (.invokevirtual ixc, 3)) (hs : stk = As.reverse ++ vr (some a) :: st)
    (kk : V E M G (pc + 3) L (rt.toList ++ st) σ1 res) : V E M G pc L stk σ res := by
  obtain ⟨p, l, e, R, s, m, args, below, meth, c⟩ := G
  intro g H locs ls hH hq hl'
  subst hs
  refine W.sized fun h1 h2 => ?_
  obtain ⟨r1, r2⟩ := room_le g hH h1 h2
  have g0 := g
  obtain ⟨g1, g2, g3, g4, g5, g6, g7, g8, gK, gR, gB⟩ := g
  have hRf : R.frames = M.2.2.2.2.1 := by rw [gR]; rfl
  have hRl : R.locals = M.2.2.2.2.2 := by rw [gR]; rfl
  have cw := cwV (R := R) (ws := wsM M') (ws' := lw_all) (rm := rmM M' (mZ σ) (mY σ)) (mc := 1200000 - mZ σ) (ms := 5502250 - mY σ) (maxL := M'.2.2.1) (bytes := M'.2.1) (ret := M'.2.2.2.1) As.length g6 hG rfl rfl rfl ⟨hC, hD⟩ ⟨by rw [hRf]; exact hR.1, by rw [hRl]; exact hR.2⟩
  have hr := va_runV (p := p) (l := l) (e := e) (below := below) (meth := meth) (locs := locs) (cells := H.size - s.heap.size) (slots := hsl H s.heap.size) (As := As.map (toV E)) (rest := st.map (toV E)) (b := eB E + a) (g := F0 m pc ls ((As.reverse ++ vr (some a) :: st).map (toV E))) ⟨g1, g2, g3, g5, g6⟩ hM cw ⟨blind, recvE hc gK hH hka, fun U hU hW => ⟨rfl, by rw [hU]; exact hH, gK.warm hW⟩⟩ rfl (by rw [List.length_map]) hl'.1 (by rw [List.map_append, List.map_reverse]; rfl) (lv_room (by rw [sum_cat]; exact hst)) hd ⟨by omega, by omega⟩
  refine v_run hr hq fun H1 locs1 a1 a2 => ?_
  have k := kk g0 H1 locs1 ls a1 a2 hl'
  rw [List.map_append] at k
  cases rt <;> exact k
theorem v_callVN {ci : Nat} {q : vw_C} (hc : ClsOk ci q) {M' : MM} {host : String} {a ixc : Nat} {As stk : List AV} {rt : Option AV} {σ1 : Mem} (hka : (mK σ a).1 = ci) (hM : Mt E G.2.1 M' (vr (some a) :: As) σ (rt, σ1))
    (hl : Cond.methodLinkNest M.1.cls ixc M'.1 host ∈ lw_tbl) (hcd : Cond.code M'.1 M'.2.1 M'.2.2.1 M'.2.2.2.1 ∈ lw_all) (hin : Cond.instanceMethod M'.1 ∈ lw_all) (hse : Cond.selects q.1 M'.1 M'.1 ∈ lw_all) (hini : Cond.initialized M'.1.cls ∈ lw_all) (hD : DsOk M'.1 As.length) (hR : RmOk M M') (hst : st.length ≤ 8) (hd : decode M.2.1 pc = .ok (.invokevirtual ixc, 3)) (hs : stk = As.reverse ++ vr (some a) :: st)
    (kk : V E M G (pc + 3) L (rt.toList ++ st) σ1 res) : V E M G pc L stk σ res := by
  obtain ⟨p, l, e, R, s, m, args, below, meth, c⟩ := G
  intro g H locs ls hH hq hl'
  subst hs
  refine W.sized fun h1 h2 => ?_
  obtain ⟨r1, r2⟩ := room_le g hH h1 h2
  have g0 := g
  obtain ⟨g1, g2, g3, g4, g5, g6, g7, g8, gK, gR, gB⟩ := g
  have hRf : R.frames = M.2.2.2.2.1 := by rw [gR]; rfl
  have hRl : R.locals = M.2.2.2.2.2 := by rw [gR]; rfl
  have cw := va_cnB (R := R) (args := args) (own := M.1.cls) (index := ixc) (ws := wsM M') (ws' := lw_all) (rm := rmM M' (mZ σ) (mY σ)) (mc := 1200000 - mZ σ) (ms := 5502250 - mY σ) (maxL := M'.2.2.1) (bytes := M'.2.1) (ret := M'.2.2.2.1) As.length g6 (lw_meth hcd) rfl rfl rfl (gK.2.2.1 _ hl rfl) (g6 _ hini) hD ⟨by rw [hRf]; exact hR.1, by rw [hRl]; exact hR.2⟩
  have hr := va_runVN (p := p) (l := l) (e := e) (below := below) (meth := meth) (locs := locs) (cells := H.size - s.heap.size) (slots := hsl H s.heap.size) (As := As.map (toV E)) (rest := st.map (toV E)) (b := eB E + a) (g := F0 m pc ls ((As.reverse ++ vr (some a) :: st).map (toV E))) ⟨g1, g2, g3, g5, g6⟩ hM ⟨cw, g6 _ hin, g6 _ hse⟩ ⟨blind, recvE hc gK hH hka, fun U hU hW => ⟨rfl, by rw [hU]; exact hH, gK.warm hW⟩⟩ rfl (by rw [List.length_map]) hl'.1 (by rw [List.map_append, List.map_reverse]; rfl) (lv_room (by rw [sum_cat]; exact hst)) hd ⟨by omega, by omega⟩
  refine v_run hr hq fun H1 locs1 a1 a2 => ?_
  have k := kk g0 H1 locs1 ls a1 a2 hl'
  rw [List.map_append] at k
  cases rt <;> exact k
theorem v_callS {M' : MM} {ixc : Nat} {As stk : List AV} {rt : Option AV} {σ1 : Mem} (hM : Mt E G.2.1 M' As σ (rt, σ1))
    (hG : GoodIn lw_all (va_wsS M.1.cls ixc M'.1 (wsM M'))) (hD : DsOk M'.1 As.length) (hR : RmOk M M') (hst : st.length ≤ 8) (hd : decode M.2.1 pc = .ok (.invokestatic ixc, 3)) (hs : stk = As.reverse ++ st)
    (kk : V E M G (pc + 3) L (rt.toList ++ st) σ1 res) : V E M G pc L stk σ res := by
  obtain ⟨p, l, e, R, s, m, args, below, meth, c⟩ := G
  intro g H locs ls hH hq hl'
  subst hs
  refine W.sized fun h1 h2 => ?_
  obtain ⟨r1, r2⟩ := room_le g hH h1 h2
  have g0 := g
  obtain ⟨g1, g2, g3, g4, g5, g6, g7, g8, gK, gR, gB⟩ := g
  have hRf : R.frames = M.2.2.2.2.1 := by rw [gR]; rfl
  have hRl : R.locals = M.2.2.2.2.2 := by rw [gR]; rfl
  have cw := va_cwS (R := R) (args := args) (ws := wsM M') (ws' := lw_all) (rm := rmM M' (mZ σ) (mY σ)) (mc := 1200000 - mZ σ) (ms := 5502250 - mY σ) (maxL := M'.2.2.1) (bytes := M'.2.1) (ret := M'.2.2.2.1) As.length g6 hG rfl rfl rfl hD ⟨by rw [hRf]; exact hR.1, by rw [hRl]; exact hR.2⟩
  have hr := va_runS (p := p) (l := l) (e := e) (below := below) (meth := meth) (locs := locs) (cells := H.size - s.heap.size) (slots := hsl H s.heap.size) (As := As.map (toV E)) (rest := st.map (toV E)) (g := F0 m pc ls ((As.reverse ++ st).map (toV E))) ⟨g1, g2, g3, g5, g6⟩ hM cw ⟨blind, fun U hU hW => ⟨rfl, by rw [hU]; exact hH, gK.warm hW⟩⟩ rfl (by rw [List.length_map]) hl'.1 (by rw [List.map_append, List.map_reverse]) (lv_room (by rw [sum_cat]; exact hst)) hd ⟨by omega, by omega⟩
  refine v_run hr hq fun H1 locs1 a1 a2 => ?_
  have k := kk g0 H1 locs1 ls a1 a2 hl'
  rw [List.map_append] at k
  cases rt <;> exact k
theorem v_callSN {M' : MM} {host : String} {ixc : Nat} {As stk : List AV} {rt : Option AV} {σ1 : Mem} (hM : Mt E G.2.1 M' As σ (rt, σ1))
    (hl : Cond.methodLinkNest M.1.cls ixc M'.1 host ∈ lw_tbl) (hcd : Cond.code M'.1 M'.2.1 M'.2.2.1 M'.2.2.2.1 ∈ lw_all) (hsta : Cond.static M'.1 ∈ lw_all) (hini : Cond.initialized M'.1.cls ∈ lw_all) (hD : DsOk M'.1 As.length) (hR : RmOk M M') (hst : st.length ≤ 8) (hd : decode M.2.1 pc = .ok (.invokestatic ixc, 3)) (hs : stk = As.reverse ++ st)
    (kk : V E M G (pc + 3) L (rt.toList ++ st) σ1 res) : V E M G pc L stk σ res := by
  obtain ⟨p, l, e, R, s, m, args, below, meth, c⟩ := G
  intro g H locs ls hH hq hl'
  subst hs
  refine W.sized fun h1 h2 => ?_
  obtain ⟨r1, r2⟩ := room_le g hH h1 h2
  have g0 := g
  obtain ⟨g1, g2, g3, g4, g5, g6, g7, g8, gK, gR, gB⟩ := g
  have hRf : R.frames = M.2.2.2.2.1 := by rw [gR]; rfl
  have hRl : R.locals = M.2.2.2.2.2 := by rw [gR]; rfl
  have cw := va_cnB (R := R) (args := args) (own := M.1.cls) (index := ixc) (ws := wsM M') (ws' := lw_all) (rm := rmM M' (mZ σ) (mY σ)) (mc := 1200000 - mZ σ) (ms := 5502250 - mY σ) (maxL := M'.2.2.1) (bytes := M'.2.1) (ret := M'.2.2.2.1) As.length g6 (lw_meth hcd) rfl rfl rfl (gK.2.2.1 _ hl rfl) (g6 _ hini) hD ⟨by rw [hRf]; exact hR.1, by rw [hRl]; exact hR.2⟩
  have hr := va_runSN (p := p) (l := l) (e := e) (below := below) (meth := meth) (locs := locs) (cells := H.size - s.heap.size) (slots := hsl H s.heap.size) (As := As.map (toV E)) (rest := st.map (toV E)) (g := F0 m pc ls ((As.reverse ++ st).map (toV E))) ⟨g1, g2, g3, g5, g6⟩ hM ⟨cw, g6 _ hsta, trivial⟩ ⟨blind, fun U hU hW => ⟨rfl, by rw [hU]; exact hH, gK.warm hW⟩⟩ rfl (by rw [List.length_map]) hl'.1 (by rw [List.map_append, List.map_reverse]) (lv_room (by rw [sum_cat]; exact hst)) hd ⟨by omega, by omega⟩
  refine v_run hr hq fun H1 locs1 a1 a2 => ?_
  have k := kk g0 H1 locs1 ls a1 a2 hl'
  rw [List.map_append] at k
  cases rt <;> exact k
/-- a constructor: its receiver is a cell of ours -/
theorem v_callI {M' : MM} {a ixc : Nat} {As stk : List AV} {σ1 : Mem} (hM : Mt E G.2.1 M' (vr (some a) :: As) σ (none, σ1)) (hrt : M'.2.2.2.1 = none)
    (hl : Cond.methodLink M.1.cls ixc M'.1 ∈ lw_all) (hcd : Cond.code M'.1 M'.2.1 M'.2.2.1 none ∈ lw_all) (hin : Cond.instanceMethod M'.1 ∈ lw_all) (hini : Cond.initialized M'.1.cls ∈ lw_all) (hy1 : M'.1.name = "<init>") (hD : DsOk M'.1 As.length) (hR : RmOk M M') (hst : st.length ≤ 8) (hd : decode M.2.1 pc = .ok (.invokespecial ixc, 3)) (hs : stk = As.reverse ++ vr (some a) :: st)
    (kk : V E M G (pc + 3) L st σ1 res) : V E M G pc L stk σ res := by
  obtain ⟨p, l, e, R, s, m, args, below, meth, c⟩ := G
  intro g H locs ls hH hq hl'
  subst hs
  obtain ⟨y', cc', ml', rt', fr', lo'⟩ := M'
  have hrt : rt' = none := hrt
  subst hrt
  refine W.sized fun h1 h2 => ?_
  obtain ⟨r1, r2⟩ := room_le g hH h1 h2
  have g0 := g
  obtain ⟨g1, g2, g3, g4, g5, g6, g7, g8, gK, gR, gB⟩ := g
  have hRf : R.frames = M.2.2.2.2.1 := by rw [gR]; rfl
  have hRl : R.locals = M.2.2.2.2.2 := by rw [gR]; rfl
  have cw := cwI (R := R) (args := args) (own := M.1.cls) (index := ixc) (y := y') (ws := ws_ y' cc' ml' none) (ws' := lw_all) (rm := rmM (y', cc', ml', none, fr', lo') (mZ σ) (mY σ)) (mc := 1200000 - mZ σ) (ms := 5502250 - mY σ) (maxL := ml') (bytes := cc') As.length g6 (lw_meth hcd) rfl rfl rfl (g6 _ hini) (g6 _ hl) (g6 _ hin) hy1 hD ⟨by rw [hRf]; exact hR.1, by rw [hRl]; exact hR.2⟩
  have hr := va_runI (p := p) (l := l) (e := e) (below := below) (meth := meth) (locs := locs) (cells := H.size - s.heap.size) (slots := hsl H s.heap.size) (As := As.map (toV E)) (rest := st.map (toV E)) (b := eB E + a) (g := F0 m pc ls ((As.reverse ++ vr (some a) :: st).map (toV E))) ⟨g1, g2, g3, g5, g6⟩ hM cw ⟨blind, fun U hU hW => ⟨rfl, by rw [hU]; exact hH, gK.warm hW⟩⟩ rfl (by rw [List.length_map]) hl'.1 (by rw [List.map_append, List.map_reverse]; rfl) (lv_room (by rw [sum_cat]; exact hst)) hd ⟨by omega, by omega⟩
  refine v_run hr hq fun H1 locs1 a1 a2 => ?_
  exact kk g0 H1 locs1 ls a1 a2 hl'
theorem v_callIN {M' : MM} {host : String} {a ixc : Nat} {As stk : List AV} {σ1 : Mem} (hM : Mt E G.2.1 M' (vr (some a) :: As) σ (none, σ1)) (hrt : M'.2.2.2.1 = none)
    (hl : Cond.methodLinkNest M.1.cls ixc M'.1 host ∈ lw_tbl) (hcd : Cond.code M'.1 M'.2.1 M'.2.2.1 none ∈ lw_all) (hin : Cond.instanceMethod M'.1 ∈ lw_all) (hini : Cond.initialized M'.1.cls ∈ lw_all) (hy1 : M'.1.name = "<init>") (hD : DsOk M'.1 As.length) (hR : RmOk M M') (hst : st.length ≤ 8) (hd : decode M.2.1 pc = .ok (.invokespecial ixc, 3)) (hs : stk = As.reverse ++ vr (some a) :: st)
    (kk : V E M G (pc + 3) L st σ1 res) : V E M G pc L stk σ res := by
  obtain ⟨p, l, e, R, s, m, args, below, meth, c⟩ := G
  intro g H locs ls hH hq hl'
  subst hs
  obtain ⟨y', cc', ml', rt', fr', lo'⟩ := M'
  have hrt : rt' = none := hrt
  subst hrt
  refine W.sized fun h1 h2 => ?_
  obtain ⟨r1, r2⟩ := room_le g hH h1 h2
  have g0 := g
  obtain ⟨g1, g2, g3, g4, g5, g6, g7, g8, gK, gR, gB⟩ := g
  have hRf : R.frames = M.2.2.2.2.1 := by rw [gR]; rfl
  have hRl : R.locals = M.2.2.2.2.2 := by rw [gR]; rfl
  have cw := va_cnB (R := R) (args := args) (own := M.1.cls) (index := ixc) (y := y') (ws := ws_ y' cc' ml' none) (ws' := lw_all) (rm := rmM (y', cc', ml', none, fr', lo') (mZ σ) (mY σ)) (mc := 1200000 - mZ σ) (ms := 5502250 - mY σ) (maxL := ml') (bytes := cc') (ret := none) As.length g6 (lw_meth hcd) rfl rfl rfl (gK.2.2.1 _ hl rfl) (g6 _ hini) hD ⟨by rw [hRf]; exact hR.1, by rw [hRl]; exact hR.2⟩
  have hr := va_runIN (p := p) (l := l) (e := e) (below := below) (meth := meth) (locs := locs) (cells := H.size - s.heap.size) (slots := hsl H s.heap.size) (As := As.map (toV E)) (rest := st.map (toV E)) (b := eB E + a) (g := F0 m pc ls ((As.reverse ++ vr (some a) :: st).map (toV E))) ⟨g1, g2, g3, g5, g6⟩ hM ⟨cw, hy1, g6 _ hin⟩ ⟨blind, fun U hU hW => ⟨rfl, by rw [hU]; exact hH, gK.warm hW⟩⟩ rfl (by rw [List.length_map]) hl'.1 (by rw [List.map_append, List.map_reverse]; rfl) (lv_room (by rw [sum_cat]; exact hst)) hd ⟨by omega, by omega⟩
  refine v_run hr hq fun H1 locs1 a1 a2 => ?_
  exact kk g0 H1 locs1 ls a1 a2 hl'
/-- Object's constructor -/
theorem v_objI {a ixc : Nat} (hl : Cond.methodLink M.1.cls ixc Lib.objectInit ∈ lw_all) (hin : Cond.instanceMethod Lib.objectInit ∈ lw_all) (hcd : Cond.code Lib.objectInit ⟨#[0xb1]⟩ 1 none ∈ lw_all) (hR : 1 ≤ M.2.2.2.2.1 ∧ 20 ≤ M.2.2.2.2.2) (hst : st.length ≤ 8) (hd : decode M.2.1 pc = .ok (.invokespecial ixc, 3))
    (kk : V E M G (pc + 3) L st σ res) : V E M G pc L (vr (some a) :: st) σ res := by
  obtain ⟨p, l, e, R, s, m, args, below, meth, c⟩ := G
  intro g H locs ls hH hq hl'
  have g0 := g
  obtain ⟨g1, g2, g3, g4, g5, g6, g7, g8, gK, gR, gB⟩ := g
  have hRf : R.frames = M.2.2.2.2.1 := by rw [gR]; rfl
  have hRl : R.locals = M.2.2.2.2.2 := by rw [gR]; rfl
  have h8 : 2 * (F0 m pc ls ((vr (some a) :: st).map (toV E))).monitorRoom + ((st.map (toV E)).map fun v => v.category).sum ≤ 8 := lv_room (by rw [sum_cat]; exact hst)
  exact W.objInit g1 g2 g5 (g6 _ hl) (g6 _ hin) (g6 _ hcd) rfl (hl'.1.trans g3.symm) (a := eB E + a) (rest := st.map (toV E)) rfl hd (by omega) (by omega) (kk g0 H locs ls hH hq hl')
theorem lg_len : ∀ av : List AV, (lg_sl (av.map (toV E))).length = av.length
  | [] => rfl
  | x :: t => by
    have ih := lg_len t
    unfold lg_sl at ih ⊢
    rw [List.map_cons, List.flatMap_cons, List.length_append, ih, toV_cat]
    simp
    omega
theorem Mt.ofV {l : Launch} {av : List AV} (hy : plainName M.1.cls = true) (hn : av.length ≤ M.2.2.1) (h : ∀ G : GG, G.2.1 = l → V E M G 0 (av.map some) [] σ res) : Mt E l M av σ res := by
  refine Met.ofW (cc := M.2.1) (maxL := M.2.2.1) (ret := M.2.2.2.1) hy rfl ?_
  intro p e s m args below meth c s₁ B hml hv
  obtain ⟨rfl, hH, hK⟩ := hv
  have hts := atoms_spec (ws := wsM M) B.pre
  have hts : ∀ w ∈ lw_all, w.before _ s = true := fun w h => hts w (List.mem_cons_of_mem _ h)
  have hown : s.vm.findClass M.1.cls = some m.cls := findClass_of_methodNamed B.named
  have hsz : s.heap.size - eB E = mZ σ := by have := hH.1; omega
  have hys : hsl s.heap (eB E) = mY σ := hH.2.1
  have hl := lv_entry (av.map (toV E)) (n := M.2.2.1) (by rw [lg_len]; exact hn)
  rw [lg_entry_eq]
  generalize (lg_sl (av.map (toV E)) ++ List.replicate (M.2.2.1 - (lg_sl (av.map (toV E))).length) Slot.unset).toArray = ls at hl ⊢
  have hls : LOK E ls M.2.2.1 (av.map some) := by
    refine ⟨hl.1, hl.2.1, fun i x hx => ?_⟩
    refine hl.2.2 (i, toV E x) ?_
    have : ∀ (av : List AV) (j i : Nat) (x : AV), av[i]? = some x → (j + i, toV E x) ∈ lv_args j (av.map (toV E)) := by
      intro av
      induction av with
      | nil => intro j i x h; simp at h
      | cons y t ih =>
        intro j i x h
        rw [List.map_cons, lv_args, toV_cat]
        cases i with
        | zero =>
          simp at h
          subst h
          exact List.mem_cons_self
        | succ i =>
          have := ih (j + 1) i x (by simpa using h)
          rw [show j + (i + 1) = j + 1 + i by omega]
          exact List.mem_cons_of_mem _ this
    have h2 := this av 0 i x (by
      rw [List.getElem?_map] at hx
      cases he : av[i]? with
      | none => rw [he] at hx; cases hx
      | some y => rw [he] at hx; cases hx; rfl)
    rwa [Nat.zero_add] at h2
  refine W.tight ?_
  exact h (p, l, e, rmM M (mZ σ) (mY σ), s, m, (av.map (toV E)).toArray, below, meth, c) rfl ⟨B.exec, B.bytes, hml, B.returns, hown, hts, B.notSynchronized, fun _ => (name_of_methodNamed B.named B.method).1, hK, by rw [hsz, hys], by have := hH.1; omega⟩ s.heap [] ls hH (fun q hq => by cases hq) hls
end VC
/-! CORE 6: wrappers for the printed walks -/
section VW6
variable {E : EE} {M : MM} {G : GG} {pc : Nat} {L t : List (Option AV)} {a0 a1 a2 : Option AV} {st : List AV} {σ : Mem} {res : Option AV × Mem} {β : Type} {z : β}
theorem v_il0 {x : Int32} (hd : decode M.2.1 pc = .ok (.iload_n 0, 1)) (kk : V E M G (pc + 1) (some (vi x) :: t) (vi x :: st) σ res) : V E M G pc (some (vi x) :: t) st σ res := v_iload_n hd rfl kk
theorem v_il1 {x : Int32} (hd : decode M.2.1 pc = .ok (.iload_n 1, 1)) (kk : V E M G (pc + 1) (a0 :: some (vi x) :: t) (vi x :: st) σ res) : V E M G pc (a0 :: some (vi x) :: t) st σ res := v_iload_n hd rfl kk
theorem v_il2 {x : Int32} (hd : decode M.2.1 pc = .ok (.iload_n 2, 1)) (kk : V E M G (pc + 1) (a0 :: a1 :: some (vi x) :: t) (vi x :: st) σ res) : V E M G pc (a0 :: a1 :: some (vi x) :: t) st σ res := v_iload_n hd rfl kk
theorem v_il3 {x : Int32} (hd : decode M.2.1 pc = .ok (.iload_n 3, 1)) (kk : V E M G (pc + 1) (a0 :: a1 :: a2 :: some (vi x) :: t) (vi x :: st) σ res) : V E M G pc (a0 :: a1 :: a2 :: some (vi x) :: t) st σ res := v_iload_n hd rfl kk
theorem v_al0 {x : Option Nat} (hd : decode M.2.1 pc = .ok (.aload_n 0, 1)) (kk : V E M G (pc + 1) (some (vr x) :: t) (vr x :: st) σ res) : V E M G pc (some (vr x) :: t) st σ res := v_aload_n hd rfl kk
theorem v_al1 {x : Option Nat} (hd : decode M.2.1 pc = .ok (.aload_n 1, 1)) (kk : V E M G (pc + 1) (a0 :: some (vr x) :: t) (vr x :: st) σ res) : V E M G pc (a0 :: some (vr x) :: t) st σ res := v_aload_n hd rfl kk
theorem v_al2 {x : Option Nat} (hd : decode M.2.1 pc = .ok (.aload_n 2, 1)) (kk : V E M G (pc + 1) (a0 :: a1 :: some (vr x) :: t) (vr x :: st) σ res) : V E M G pc (a0 :: a1 :: some (vr x) :: t) st σ res := v_aload_n hd rfl kk
theorem v_al3 {x : Option Nat} (hd : decode M.2.1 pc = .ok (.aload_n 3, 1)) (kk : V E M G (pc + 1) (a0 :: a1 :: a2 :: some (vr x) :: t) (vr x :: st) σ res) : V E M G pc (a0 :: a1 :: a2 :: some (vr x) :: t) st σ res := v_aload_n hd rfl kk
theorem v_retI {v : Int32} {z : Int32 × Mem} (h : some (v, σ) = some z) (hd : decode M.2.1 pc = .ok (.ireturn, 1)) (hr : M.2.2.2.1 = some .int) : V E M G pc L [vi v] σ (some (vi z.1), z.2) := by
  cases h
  exact v_iret hd hr rfl
theorem v_retZ {v : Int32} {z : Int32 × Mem} (h : rZ v σ = some z) (hd : decode M.2.1 pc = .ok (.ireturn, 1)) (hr : M.2.2.2.1 = some .boolean) : V E M G pc L [vi v] σ (some (vi z.1), z.2) := by
  have hz : z = (v, σ) := by
    unfold rZ at h
    split at h
    · cases h; rfl
    · cases h
  subst hz
  exact v_zret h hd hr rfl
theorem v_retV {z : Unit × Mem} (h : some ((), σ) = some z) (hd : decode M.2.1 pc = .ok (.return_, 1)) (hr : M.2.2.2.1 = none) : V E M G pc L [] σ (none, z.2) := by
  cases h
  exact v_vret hd hr rfl
theorem v_retR {r : Option Nat} {ty : FieldType} {z : Option Nat × Mem} (h : some (r, σ) = some z) (hd : decode M.2.1 pc = .ok (.areturn, 1)) (hr : M.2.2.2.1 = some ty) (hrt : (∃ n, ty = .object n) ∨ ∃ t, ty = .array t) : V E M G pc L [vr r] σ (some (vr z.1), z.2) := by
  cases h
  exact v_aret hd hr hrt rfl
theorem v_ldcI {index : Nat} {v : Int32} {n : Int} (hd : decode M.2.1 pc = .ok (.ldc index, 2)) (hc : Cond.constant M.1.cls index v ∈ lw_all) (hv : v = iI n) (k : V E M G (pc + 2) L (vi (iI n) :: st) σ res) : V E M G pc L st σ res := v_ldc hd hc (by rw [hv]; exact k)
theorem v_ldcwI {index : Nat} {v : Int32} {n : Int} (hd : decode M.2.1 pc = .ok (.ldc_w index, 3)) (hc : Cond.constant M.1.cls index v ∈ lw_all) (hv : v = iI n) (k : V E M G (pc + 3) L (vi (iI n) :: st) σ res) : V E M G pc L st σ res := by
  subst hv
  obtain ⟨p, l, e, R, s, m, args, below, meth, c⟩ := G
  intro g H locs ls hH hq hl
  exact lv_ldcw g.1 g.2.1 g.2.2.2.2.1 (g.2.2.2.2.2.1 _ hc) hd (k g H locs ls hH hq hl)
theorem wse : ∀ (i : Nat) (x : AV), ([] : List (Option AV))[i]? = some (some x) → L[i]? = some (some x) := fun i x h => by simp at h
theorem wsp {L' : List (Option AV)} (h : ∀ (i : Nat) (x : AV), L'[i]? = some (some x) → ([] : List (Option AV))[i]? = some (some x)) : ∀ (i : Nat) (x : AV), (none :: L')[i]? = some (some x) → ([] : List (Option AV))[i]? = some (some x) := by
  intro i x hx
  cases i with
  | zero => simp at hx
  | succ i => exact absurd (h i x (by simpa using hx)) (by simp)
theorem wspad : ∀ (n : Nat) (i : Nat) (x : AV), (L ++ List.replicate n none)[i]? = some (some x) → L[i]? = some (some x) := by
  intro n i x h
  rcases Nat.lt_or_ge i L.length with h1 | h1
  · rwa [List.getElem?_append_left h1] at h
  · rw [List.getElem?_append_right h1, List.getElem?_replicate] at h
    split at h <;> cases h
theorem Mt.ofVL {l : Launch} {av : List AV} (hy : plainName M.1.cls = true) (hn : av.length ≤ M.2.2.1) (h : ∀ G : GG, G.2.1 = l → V E M G 0 (av.map some ++ List.replicate (M.2.2.1 - av.length) none) [] σ res) : Mt E l M av σ res :=
  Mt.ofV hy hn (fun G hG => v_weak (wspad _) (h G hG))
theorem tab_out {x : Int32} {lo hi : Int} (h : ∀ j : Int, lo ≤ j → j ≤ hi → ¬ x = iI j) (h1 : -2 ^ 31 ≤ lo) (h2 : hi < 2 ^ 31) : x.toInt < lo ∨ hi < x.toInt := by
  rcases Int.lt_or_le x.toInt lo with h3 | h3
  · exact Or.inl h3
  · rcases Int.lt_or_le hi x.toInt with h4 | h4
    · exact Or.inr h4
    · refine absurd ?_ (h x.toInt h3 h4)
      exact (Int32.ofInt_toInt x).symm
end VW6
