/-! THE END: the law's contract out of the shallow law, then the claim -/
theorem clsAll : ∀ (ci : Nat) (q : vw_C), vwCl[ci]? = some q → ClsOk ci q := by
  intro ci q hq
  have h14 := cls_lt hq
  rcases (show ci = 0 ∨ ci = 1 ∨ ci = 2 ∨ ci = 3 ∨ ci = 4 ∨ ci = 5 ∨ ci = 6 ∨ ci = 7 ∨ ci = 8 ∨ ci = 9 ∨ ci = 10 ∨ ci = 11 ∨ ci = 12 ∨ ci = 13 by omega) with rfl | rfl | rfl | rfl | rfl | rfl | rfl | rfl | rfl | rfl | rfl | rfl | rfl | rfl <;> cases hq
  · exact cok0
  · exact cok1
  · exact cok2
  · exact cok3
  · exact cok4
  · exact cok5
  · exact cok6
  · exact cok7
  · exact cok8
  · exact cok9
  · exact cok10
  · exact cok11
  · exact cok12
  · exact cok13
theorem lw_cls {s : State} {args : Array Value} (hts : ∀ w ∈ lw_tbl, w.before args s = true) : ∃ (dC : Nat → ClassId) (dI : Nat → Nat → Nat), ∀ (ci : Nat) (q : vw_C), vwCl[ci]? = some q → u_Kn s q.1 q.2.1 q.2.2 (dC ci) (dI ci) := by
  have h : ∀ ci : Nat, ∃ (c : ClassId) (iS : Nat → Nat), ∀ q : vw_C, vwCl[ci]? = some q → u_Kn s q.1 q.2.1 q.2.2 c iS := by
    intro ci
    cases hq : vwCl[ci]? with
    | none => exact ⟨0, fun _ => 0, fun q h => by cases h⟩
    | some q =>
      have hc := clsAll ci q hq
      obtain ⟨c, iS, hK⟩ := u_known (ws := lw_tbl) hts (fun w h => lw_all_tbl (hc.2.1 w h)) (hts _ (lw_all_tbl hc.2.2.2.2.1))
      exact ⟨c, iS, fun q' h' => by cases h'; exact hK⟩
  exact ⟨fun ci => Classical.choose (h ci), fun ci => Classical.choose (Classical.choose_spec (h ci)), fun ci q hq => Classical.choose_spec (Classical.choose_spec (h ci)) q hq⟩
theorem lw_arr {s : State} {args : Array Value} (hts : ∀ w ∈ lw_tbl, w.before args s = true) : ∃ dA : Nat → ClassId, ∀ kd, 20 ≤ kd → kd ≤ 25 → ArrOfT s (dA kd) (aty kd) ∧ s.vm.findClass ("[" ++ (aty kd).toString) = some (dA kd) := by
  have mk : ∀ (ty : FieldType) (c : ClassId) (k : Class) (comp : ClassId), s.vm.classes[c]? = some k → k.kind = .array comp ty → ArrOfT s c ty := fun ty c k comp h1 h2 n z => ⟨(fun q h => by cases h), k, h1, comp, h2⟩
  have h : ∀ kd : Nat, ∃ c : ClassId, 20 ≤ kd → kd ≤ 25 → ArrOfT s c (aty kd) ∧ s.vm.findClass ("[" ++ (aty kd).toString) = some c := by
    intro kd
    by_cases h1 : 20 ≤ kd ∧ kd ≤ 25
    · rcases (show kd = 20 ∨ kd = 21 ∨ kd = 22 ∨ kd = 23 ∨ kd = 24 ∨ kd = 25 by omega) with rfl | rfl | rfl | rfl | rfl | rfl
      · obtain ⟨c, k, comp, g1, g2, g3⟩ := Cond.arrayClass_spec (hts _ (lw_all_tbl q358))
        exact ⟨c, fun _ _ => ⟨mk _ c k comp g2 g3, g1⟩⟩
      · obtain ⟨c, k, comp, g1, g2, g3⟩ := Cond.arrayClass_spec (hts _ (lw_all_tbl q452))
        exact ⟨c, fun _ _ => ⟨mk _ c k comp g2 g3, g1⟩⟩
      · obtain ⟨comp, c, k, g1, g2, g3, g4, g5⟩ := arrayOverA_spec (hts _ q235)
        exact ⟨c, fun _ _ => ⟨mk _ c k comp g3 g4, g5⟩⟩
      · obtain ⟨comp, c, k, g1, g2, g3, g4, g5⟩ := Cond.arrayOver_spec (hts _ q233)
        exact ⟨c, fun _ _ => ⟨mk _ c k comp g3 g4, g5⟩⟩
      · obtain ⟨comp, c, k, g1, g2, g3, g4, g5⟩ := Cond.arrayOver_spec (hts _ q431)
        exact ⟨c, fun _ _ => ⟨mk _ c k comp g3 g4, g5⟩⟩
      · obtain ⟨comp, c, k, g1, g2, g3, g4, g5⟩ := Cond.arrayOver_spec (hts _ q433)
        exact ⟨c, fun _ _ => ⟨mk _ c k comp g3 g4, g5⟩⟩
    · exact ⟨0, fun a b => absurd ⟨a, b⟩ h1⟩
  exact ⟨fun kd => Classical.choose (h kd), fun kd => Classical.choose_spec (h kd)⟩
theorem lw_nw {s : State} {args : Array Value} (hts : ∀ w ∈ lw_tbl, w.before args s = true) : NW s := by
  intro w hw hn
  have h1 := hts w hw
  unfold nestW at hn
  split at hn
  · exact va_tabs rfl rfl h1
  · exact va_tabs rfl rfl h1
  · exact va_tabs rfl rfl h1
  · exact va_tabs rfl rfl h1
  · exact h1
  · exact over_moved (Vm.Alike.refl _) h1
  · cases hn
/-! THE CLAIM OUT OF ONE WALK OF THE LAW'S BODY. Your part is whole_start (and what it stands on); all else here is the same for every law, but numbers. -/
def R_law : String := "TermLogLaw"
def lw_P (b : Addr) (xs : List Int32) (args : Array Value) (s : State) : Prop := args = #[.ref b] ∧ s.IntsAt b xs ∧ xs.length ≤ 384 ∧ (Jvm.Cond.and given_1 narrow_1).before args s = true
def lw_Q (_ : Array Value) (s : State) (o : Outcome) (t : State) : Prop := o = .returned (some (.int 1)) ∧ Framed s o t [] 1200000 5502250
def lw_Z (below : List Frame) (a : Array Value) (s : State) : State → Prop := fun t => ∃ o, t.status = .running ∧ Ended t below o ∧ lw_Q a s o t
/-- the law's own end, with 1 on the stack, nothing written that was there before, its room as the claim has it -/
theorem lw_ret {p : Program} {l : Launch} {e : Env} {s : State} {m : MethodId} {below : List Frame} {meth : Method} {c : Code} {b : Nat} (hx : p.tables.exec = Jvm.exec) (hb : c.code = code) (hr : meth.sig.returnType = ret) (hlocks : meth.locks = false) {pc : Nat} {H : Heap} {ls : Array Slot} (hdg : decode code pc = .ok (.ireturn, 1)) : W p l e room_1 s m #[Value.ref b] below meth c H [] 1200000 5502250 (lw_Z below #[Value.ref b] s) (F0 m pc ls [.int 1]) := by
  intro T hT X
  obtain ⟨fs, hret, hrun, hended, hW, hframe⟩ := X.leave (v := some (.int 1)) (hlocks := hlocks) (fun h => by rw [hr] at h; cases h)
  have hmeth' : T.vm.method? m = some meth := X.method'
  refine ⟨T.setFrames fs, ?_, .returned (some (.int 1)), hrun, hended, rfl, ⟨_, rfl⟩, hW, hframe⟩
  jvm_step X.here [X.here.top, hx, hb, hdg, hmeth', hr, ret, narrow_b1]
  (try refine ⟨rfl, ?_⟩); (try refine ⟨rfl, ?_⟩)
  first | (intro acts; rw [hret _ acts rfl rfl rfl]) | rw [hret _ _ rfl rfl rfl]
  exact Steps.refl _
/-- what holds at the law's entry: the machine, the code, the tables' words (any of lw_tbl by 'hts w (by decide +kernel)'), the script of L ints xs at the cell b, what the Statement gives of the start (any of its parts by flat_of_before) -/
def lw_At (p : Program) (s : State) (m : MethodId) (meth : Method) (c : Code) (b L : Nat) (xs : Nat → Int32) : Prop :=
  p.tables.exec = Jvm.exec ∧ c.code = code ∧ meth.sig.returnType = ret ∧ c.maxLocals = 4 ∧ s.vm.findClass R_law = some m.cls ∧ (∀ w ∈ lw_tbl, w.before #[Value.ref b] s = true) ∧ va_X b L xs s s.heap ∧ b < s.heap.size ∧ meth.locks = false ∧ (Jvm.Cond.and given_1 narrow_1).before #[Value.ref b] s = true
theorem whole_start {p : Program} {e : Env} {s : State} {m : MethodId} {below : List Frame} {meth : Method} {c : Code} (l : Launch) (hflags : l.flags = flags0) {b L : Nat} {xs : Nat → Int32} (hL : L ≤ 384) (C0 : lw_At p s m meth c b L xs) : W p l e room_1 s m #[Value.ref b] below meth c s.heap [] 0 0 (lw_Z below #[Value.ref b] s) (entryFrame m ([Value.ref b] : List Value).toArray 4) := by
  obtain ⟨hx, hcb, hr, hml, hown, hts, hX, hbl, hlocks, hgv⟩ := C0
  obtain ⟨dC, dI, hKc⟩ := lw_cls hts
  obtain ⟨dA, hKa⟩ := lw_arr hts
  have hs := flat_of_before _ hgv
  have hA : ∀ a : Nat, a < s.heap.size → ¬ (fun q : Nat => s.heap.size ≤ q) a := fun a h h2 => absurd h2 (Nat.not_le.mpr h)
  have c3 : ∀ (P : Nat → Prop), P 0 → P 1 → P 2 → ∀ i, i < 3 → P i := fun P h0 h1 h2 i hi => by
    rcases (show i = 0 ∨ i = 1 ∨ i = 2 by omega) with rfl | rfl | rfl <;> assumption
  obtain ⟨adK, adV, hstr, hev⟩ := vk_Sof (args := #[Value.ref b]) (s := s) (N := 3) (tm := fun i => .string (strK i).1 (strK i).2.1) (len := [4, 7, 8]) (byt := [[100, 108, 101, 120], [102, 116, 107, 110, 113, 115, 119], [46, 107, 117, 99, 119, 114, 120, 106]]) (A := fun q => s.heap.size ≤ q)
    (c3 _ (by decide) (by decide) (by decide))
    (c3 _ (hs _ (by decide +kernel)) (hs _ (by decide +kernel)) (hs _ (by decide +kernel)))
    (c3 _ (hs _ (by decide +kernel)) (hs _ (by decide +kernel)) (hs _ (by decide +kernel)))
    (c3 _ (hs _ (by decide +kernel)) (hs _ (by decide +kernel)) (hs _ (by decide +kernel)))
    (c3 _ (hs _ (by decide +kernel)) (hs _ (by decide +kernel)) (hs _ (by decide +kernel)))
    (c3 _ (fun j hj => by
        rcases (show j = 0 ∨ j = 1 ∨ j = 2 ∨ j = 3 by change j < 4 at hj; omega) with rfl | rfl | rfl | rfl <;> exact hs _ (by decide +kernel))
      (fun j hj => by
        rcases (show j = 0 ∨ j = 1 ∨ j = 2 ∨ j = 3 ∨ j = 4 ∨ j = 5 ∨ j = 6 by change j < 7 at hj; omega) with rfl | rfl | rfl | rfl | rfl | rfl | rfl <;> exact hs _ (by decide +kernel))
      (fun j hj => by
        rcases (show j = 0 ∨ j = 1 ∨ j = 2 ∨ j = 3 ∨ j = 4 ∨ j = 5 ∨ j = 6 ∨ j = 7 by change j < 8 at hj; omega) with rfl | rfl | rfl | rfl | rfl | rfl | rfl | rfl <;> exact hs _ (by decide +kernel)))
    (fun i j hi hj hne => by
      rcases (show i = 0 ∨ i = 1 ∨ i = 2 by omega) with rfl | rfl | rfl <;> rcases (show j = 0 ∨ j = 1 ∨ j = 2 by omega) with rfl | rfl | rfl <;> first | exact absurd rfl hne | exact Or.inl (hs _ (by decide +kernel)) | exact Or.inr (hs _ (by decide +kernel))) hA
  have hz : va_Z "java/lang/String" "COMPACT_STRINGS" "Z" (.int 1) (fun q => s.heap.size ≤ q) s s.heap := va_Zof (hts _ q840) (hts _ (lw_all_tbl q170)) (va_eqi (hs _ (by decide +kernel))) hA
  have hKS : KS ((dC, dI), dA, s.heap, adK, adV) s := by
    refine ⟨fun i hi => ⟨(hstr.1 i hi).1, (hstr.1 i hi).2.1, (hstr.1 i hi).2.2.1, ?_, ?_⟩, hz⟩
    · have h1 := (hstr.1 i hi).2.2.2
      obtain ⟨cell, t1, t2, t3, t4, t5, t6, t7⟩ := h1
      have hlen : (lits i).length = ([4, 7, 8] : List Nat).getD i 0 := by
        rcases (show i = 0 ∨ i = 1 ∨ i = 2 by omega) with rfl | rfl | rfl <;> rfl
      have h8 : ∀ i, i < 3 → (lits i).length ≤ 8 := by decide
      have h8i := h8 i hi
      have hbt : ∀ i, i < 3 → ∀ j, j < 8 → j < (lits i).length → iI ((lits i).getD j 0) = (([[100, 108, 101, 120], [102, 116, 107, 110, 113, 115, 119], [46, 107, 117, 99, 119, 114, 120, 106]] : List (List Int32)).getD i []).getD j 0 := by decide +kernel
      refine ⟨cell, t1, t2, t3, by rw [hlen]; exact t4, by rw [hlen]; exact t5, fun j hj => ?_, t7⟩
      rw [t6 j (by rw [← hlen]; exact hj)]
      exact congrArg (fun v => some (Value.int v)) (hbt i hi j (Nat.lt_of_lt_of_le hj h8i) hj).symm
    · refine vk_R.of (A := #[Value.ref b]) ?_ (hev i hi)
      rcases (show i = 0 ∨ i = 1 ∨ i = 2 by omega) with rfl | rfl | rfl
      · exact hts _ q826
      · exact hts _ q956
      · exact hts _ q1116
  have hKN : KN ((dC, dI), dA, s.heap, adK, adV) s := ⟨hKc, hKa, lw_nw hts, hKS⟩
  obtain ⟨σ', hlaw⟩ := law_pure L xs hL
  have hl := lv_entry ([.ref b]) (n := 4) (Nat.le_of_ble_eq_true rfl)
  rw [lg_entry_eq]
  generalize (lg_sl ([.ref b]) ++ List.replicate (4 - (lg_sl ([.ref b])).length) Slot.unset).toArray = ls at hl ⊢
  have hV := lL_law (E := ((dC, dI), dA, s.heap, adK, adV)) (G := (p, l, e, room_1, s, m, #[Value.ref b], below, meth, c)) (b := b) hX hbl hlaw
  have hH0 : Hp ((dC, dI), dA, s.heap, adK, adV) mem0 s.heap := ⟨rfl, hsl_self _, fun q hq => rfl, fun a ha => absurd ha (Nat.not_lt_zero a), fun a _ => rfl, Nat.zero_le _, Nat.zero_le _⟩
  have hG : GOOD ((dC, dI), dA, s.heap, adK, adV) mL_law (p, l, e, room_1, s, m, #[Value.ref b], below, meth, c) := by
    refine ⟨hx, hcb, hml, hr, hown, fun w hw => hts w (lw_all_tbl hw), hlocks, fun h => absurd h (by decide), hKN, ?_, Nat.le_refl _⟩
    · show room_1 = _
      unfold rmM
      rw [show s.heap.size - eB ((dC, dI), dA, s.heap, adK, adV) = 0 from Nat.sub_self _, show hsl s.heap (eB ((dC, dI), dA, s.heap, adK, adV)) = 0 from hsl_self _]
      rfl
  intro T hT X
  obtain ⟨t, a1, o, b1, b2, b3, L', b4, b5⟩ := W.tight (hV hG s.heap [] ls hH0 (fun q hq => by cases hq) ⟨hl.1, hl.2.1, fun i x hx' => by
    cases i with
    | zero => cases hx'; exact hl.2.2 (0, .ref b) List.mem_cons_self
    | succ i =>
      exfalso
      cases i with
      | zero => cases hx'
      | succ i => cases i with
        | zero => cases hx'
        | succ i => cases i with
          | zero => cases hx'
          | succ i => simp at hx'⟩) T hT X
  refine ⟨t, a1, o, b1, b2, b3.1, b4.1, b4.2.1, ?_⟩
  obtain ⟨e1, e2, e3, e4, e5, e6⟩ := b4.2.2
  refine ⟨e1, e2, e3, e4, e5, fun a c' hc' => ?_⟩
  obtain ⟨c2, f1, f2, f3, f4⟩ := e6 a c' hc'
  exact ⟨c2, f1, f2, f3, fun i _ => f4 i (fun hmem => by
    have h1 := b5 _ hmem
    have h2 : s.heap.size ≤ a := h1
    have h3 := (Array.getElem?_eq_some_iff.mp hc').1
    exact absurd (Nat.lt_of_lt_of_le h3 h2) (Nat.lt_irrefl _))⟩
-- ===== YOUR PART ENDS =====
set_option maxHeartbeats 4000000 in
theorem lw_walk (l : Launch) (hflags : l.flags = flags0) (b : Addr) (xs : List Int32) : MetFree l x (headSpec (Jvm.Cond.code x code maxLocals ret :: tables_1) room_1) (lw_P b xs) (fun _ _ _ _ _ => True) lw_Q := by
  refine MetFree.of_bodyS (code := code) (maxLocals := maxLocals) (ret := ret) (by decide) ?_ ?_
  · intro args s m h hn
    obtain ⟨meth, c, h1, h2, h3, h4, h5, h6, -, -⟩ := Cond.code_spec hn (atoms_spec (ws := Jvm.Cond.code x code maxLocals ret :: tables_1) h _ List.mem_cons_self)
    exact ⟨meth, c, h1, h2, h3, h4, h5, h6⟩
  · intro p e s m args below meth c s₁ B hml0 hP _
    obtain ⟨rfl, hx, hbd, hgv⟩ := hP
    obtain ⟨scr, harrAt, hlist, hof, hsmall⟩ := hx
    obtain ⟨hcb, hkn, -, -⟩ := State.arrayAt?_spec harrAt
    have hown : s.vm.findClass R_law = some m.cls := findClass_of_methodNamed B.named
    have hts0 : ∀ c ∈ (Jvm.Cond.code x code maxLocals ret :: tables_1), c.before #[Value.ref b] s = true := atoms_spec (ws := Jvm.Cond.code x code maxLocals ret :: tables_1) B.pre
    have hts : ∀ w ∈ lw_tbl, w.before #[Value.ref b] s = true := k2_hts_sels lw_privs (fun w hw => hts0 w (List.mem_cons_of_mem _ hw)) lw_privs_ok
    have hml : c.maxLocals = 4 := B.maxLocals_eq (hts0 _ List.mem_cons_self)
    have X₀ : Stand p l e room_1 s m #[Value.ref b] below meth c s₁ [] 0 0 := Stand.of_body B
    have hh0 : s₁.heap = s.heap := by rw [B.state]; rfl
    have hsz : scr.slots.size = xs.length := by rw [← Array.length_toList, hlist, List.length_map]
    have hval : ∀ j : Nat, j < xs.length → scr.slots[j]? = some (.int (xs.getD j 0)) := fun j hj => by
      rw [← Array.getElem?_toList, hlist]
      simp [hj]
    have hbl : b < s.heap.size := (Array.getElem?_eq_some_iff.mp hcb).1
    have hX : va_X b xs.length (fun j => xs.getD j 0) s s.heap := ⟨scr, hcb, hof, hkn, hsz, hval⟩
    have K : W p l e room_1 s m #[Value.ref b] below meth c s₁.heap [] 0 0 (lw_Z below #[Value.ref b] s) (entryFrame m ([Value.ref b] : List Value).toArray 4) := by
      rw [hh0]
      exact whole_start l hflags hbd ⟨B.exec, B.bytes, B.returns, hml, hown, hts, hX, hbl, B.notSynchronized, hgv⟩
    obtain ⟨t, a1, o, b1, b2, b3⟩ := K s₁ rfl X₀
    exact ⟨t, o, a1, b1, b2, b3⟩
theorem lw_pre_spec {args : Array Value} {s : State} (h : (Jvm.Cond.and given_1 narrow_1).before args s = true) (hr : rest_1_c.before args s = true) : ∃ (b : Addr) (xs : List Int32), lw_P b xs args s := by
  have hs := flat_of_before _ h
  have hq := flat_of_before _ hr
  have hc : (Cond.count 1).before args s = true := hs _ (by decide +kernel)
  have harr : (Cond.arrayOf (.arg 0) .int).before args s = true := hs _ (by decide +kernel)
  have hle : (Cond.le (.length (.arg 0)) (.int 384)).before args s = true := hs _ (by decide +kernel)
  have hlen : (Cond.isInt (.length (.arg 0))).before args s = true := hq _ (by decide +kernel)
  have hall : (Cond.all (.arg 0) (.isInt (.elem (.arg 0) (.index 0)))).before args s = true := hq _ (by decide +kernel)
  obtain ⟨b, xs, hb, hx⟩ := State.ints_of_pre rfl harr hlen hall
  have hsm : xs.length < 2 ^ 31 := hx.choose_spec.2.2.2
  have hev : (Term.length (.arg 0)).eval args s none [] s = some (.int xs.length.toInt32) := hx.length_eval hb
  have hv := Cond.le_ints hev (show (Term.int 384).eval args s none [] s = some (.int 384) from rfl)
  have hd : xs.length.toInt32 ≤ 384 := by
    simpa [Cond.before, Cond.holds, hv] using hle
  have hN : xs.length ≤ 384 := (Int32.ofNat_le_ofNat hsm (by decide)).mp (show Int32.ofNat xs.length ≤ Int32.ofNat 384 from hd)
  exact ⟨b, xs, Cond.one_arg hc (show args[0]? = some (.ref b) from hb), hx, hN, h⟩
theorem lw_comes (l : Launch) (hflags : l.flags = flags0) : Comes l x (Jvm.Cond.code x code maxLocals ret :: tables_1) room_1 (fun tb e args s => Calls_1 tb e args s ∧ rest_1 tb e args s ∧ Pre_1 tb e args s)
    (fun _ _ args s o t => lw_Q args s o t) := by
  intro p e ha hc hk s m args below hf hfit hheap happ hpre
  obtain ⟨b, xs, hP⟩ := lw_pre_spec hpre.2.2 hpre.2.1
  obtain ⟨k, o, h1, h2, h3, hQ⟩ := lw_walk l hflags b xs p e ha hc hk s m args below hf ((Spec.applies_iff_loose hf).mp happ).1 hP trivial
  exact ⟨k, o, h1, h2, h3, hQ⟩
theorem lw_frame {s t : State} {o : Outcome} {args : Array Value} (h : Framed s o t [] 1200000 5502250) :
    Framed s o t (fieldLocs frame_1_writes args s ++ arrayLocs frame_1_arrays args s ++ staticLocs frame_1_statics s) 1200000 5502250 := h
theorem lw_limb (L : Cond) (hL : ∀ (args : Array Value) (s t : State), L.after args s (.returned (some (.int 1))) t = true) :
    ArmFor flags0 classFile x code maxLocals ret World_1 tables_1 room_1 Calls_1 rest_1 Pre_1
      (fun tb e a s o t => postC L tb e a s o t ∧ Framed s o t (fieldLocs frame_1_writes a s ++ arrayLocs frame_1_arrays a s ++ staticLocs frame_1_statics s) 1200000 5502250) := by
  intro l hflags _ _ p e ha hc hk s m args below hf hfit hheap happ hpre
  obtain ⟨k, o, h1, h2, h3, rfl, hF⟩ := lw_comes l hflags p e ha hc hk s m args below hf hfit hheap happ hpre
  exact ⟨k, _, h1, h2, h3, hL args s _, lw_frame hF⟩
theorem i_vc : Claimed_1_1 ∧ Claimed_1_2 := ⟨lw_limb limb_1_1 (fun args s t => by simp [limb_1_1, Cond.after, Cond.holds, Cond.value]), lw_limb limb_1_2 (fun args s t => Cond.after_iff.mpr (by
  first | (rw [show limb_1_2 = Cond.eq .result (.int 1) from rfl, Cond.eq_ints (x := 1) (y := 1) rfl rfl]; simp; done) | (simp [limb_1_2, Cond.value, Term.eval]; done)))⟩
