/-! CORE: the heap holds the abstract memory; the judgement V over W; contracts Mt over Met -/
abbrev EE : Type := va_G × (Nat → ClassId) × Heap × (Nat → Nat) × (Nat → Nat)
abbrev eH (E : EE) : Heap := E.2.2.1
abbrev eB (E : EE) : Nat := (eH E).size
abbrev AV : Type := Int32 ⊕ (Option Nat) ⊕ Nat
abbrev vi (x : Int32) : AV := .inl x
abbrev vr (r : Option Nat) : AV := .inr (.inl r)
abbrev vw (a : Nat) : AV := .inr (.inr a)
def rV (E : EE) (r : Option Nat) : Value := match r with
  | none => .null
  | some a => .ref (eB E + a)
def toV (E : EE) (x : AV) : Value := match x with
  | .inl x => .int x
  | .inr (.inl r) => rV E r
  | .inr (.inr a) => .ref a
def fv (E : EE) (ty : FieldType) (x : Int32) (r : Option Nat) : Value := match ty with
  | .object _ => rV E r
  | .array _ => rV E r
  | _ => .int x
theorem toV_cat (E : EE) (x : AV) : (toV E x).category = 1 := by
  obtain x | r | a := x
  · rfl
  · cases r <;> rfl
  · rfl
def hsl (H : Heap) (lo : Nat) : Nat := ((H.toList.drop lo).map (·.slots.size)).sum
theorem hsl_congr {H H' : Heap} {lo : Nat} (hs : H'.size = H.size) (h : ∀ q : Nat, (H'[q]?).map (·.slots.size) = (H[q]?).map (·.slots.size)) : hsl H' lo = hsl H lo := by
  unfold hsl
  congr 1
  apply List.ext_getElem?
  intro i
  simp only [List.getElem?_map, List.getElem?_drop, Array.getElem?_toList]
  exact h (lo + i)
theorem hsl_push {H : Heap} {lo : Nat} (c : Cell) (h : lo ≤ H.size) : hsl (H.push c) lo = hsl H lo + c.slots.size := by
  unfold hsl
  rw [Array.toList_push, List.drop_append_of_le_length (by simpa using h)]
  simp
theorem hsl_self (H : Heap) : hsl H H.size = 0 := by
  unfold hsl
  rw [List.drop_eq_nil_of_le (by simp)]
  rfl
/-- the slots from B on, in two stretches: the old cells kept their sizes -/
theorem hsl_split {H0 H : Heap} {lo : Nat} (h1 : lo ≤ H0.size) (h2 : H0.size ≤ H.size) (hk : ∀ (a : Nat) (c : Cell), H0[a]? = some c → ∃ c', H[a]? = some c' ∧ c'.slots.size = c.slots.size) : hsl H lo = hsl H0 lo + hsl H H0.size := by
  have e : H.toList.drop lo = (H.toList.take H0.size).drop lo ++ H.toList.drop H0.size := by
    conv => lhs; rw [← List.take_append_drop H0.size H.toList]
    rw [List.drop_append_of_le_length]
    simp
    omega
  unfold hsl
  rw [e, List.map_append, List.sum_append]
  congr 1
  congr 1
  apply List.ext_getElem?
  intro i
  simp only [List.getElem?_map, List.getElem?_drop, List.getElem?_take, Array.getElem?_toList]
  by_cases hi : lo + i < H0.size
  · rw [if_pos hi]
    obtain ⟨c', g1, g2⟩ := hk (lo + i) H0[lo + i] (Array.getElem?_eq_getElem hi)
    rw [g1, Array.getElem?_eq_getElem hi]
    simp [g2]
  · rw [if_neg hi, Array.getElem?_eq_none (by omega)]
/-! the classes -/
abbrev vwCl : List vw_C := [(RX0, TX0, 9), (RX2, TX2, 8), (RX3, TX3, 17), (RX4, TX4, 24), (RX5, TX5, 4), (RX7, TX7, 3), (RX8, TX8, 45), (RX9, TX9, 7), (RX10, TX10, 1), (RX11, TX11, 1), (RX13, TX13, 3), (RX14, TX14, 1), (RX15, TX15, 3), (RX16, TX16, 11)]
def cty (ci : Nat) : Nat → FieldType := match ci with
  | 0 => tyX0
  | 1 => tyX2
  | 2 => tyX3
  | 3 => tyX4
  | 4 => tyX5
  | 5 => tyX7
  | 6 => tyX8
  | 7 => tyX9
  | 8 => tyX10
  | 9 => tyX11
  | 10 => tyX13
  | 11 => tyX14
  | 12 => tyX15
  | _ => tyX16
/-- what the rows ask of a class: its words are in the list, its fields' types and names -/
def ClsOk (ci : Nat) (q : vw_C) : Prop := vwCl[ci]? = some q ∧ (∀ w ∈ u_ws q.1 q.2.1 q.2.2, w ∈ lw_all) ∧ (∀ k, k < q.2.2 → parseFieldDescriptor (q.2.1 k).2.2.1 = some (cty ci k)) ∧ (∀ a, a < q.2.2 → ∀ b, b < q.2.2 → a ≠ b → (q.2.1 a).2.1 ≠ (q.2.1 b).2.1) ∧ Cond.instantiable q.1 q.2.2 ∈ lw_all ∧ Cond.initialized q.1 ∈ lw_all
theorem cok0 : ClsOk 0 (RX0, TX0, 9) := ⟨rfl, in_X0, tyX0_ok, nmX0, q183, q158⟩
theorem cok1 : ClsOk 1 (RX2, TX2, 8) := ⟨rfl, in_X2, tyX2_ok, nmX2, q191, q160⟩
theorem cok2 : ClsOk 2 (RX3, TX3, 17) := ⟨rfl, in_X3, tyX3_ok, nmX3, q227, q161⟩
theorem cok3 : ClsOk 3 (RX4, TX4, 24) := ⟨rfl, in_X4, tyX4_ok, nmX4, q236, q162⟩
theorem cok4 : ClsOk 4 (RX5, TX5, 4) := ⟨rfl, in_X5, tyX5_ok, nmX5, q425, q163⟩
theorem cok5 : ClsOk 5 (RX7, TX7, 3) := ⟨rfl, in_X7, tyX7_ok, nmX7, q918, q165⟩
theorem cok6 : ClsOk 6 (RX8, TX8, 45) := ⟨rfl, in_X8, tyX8_ok, nmX8, q1363, q167⟩
theorem cok7 : ClsOk 7 (RX9, TX9, 7) := ⟨rfl, in_X9, tyX9_ok, nmX9, q780, q169⟩
theorem cok8 : ClsOk 8 (RX10, TX10, 1) := ⟨rfl, in_X10, tyX10_ok, nmX10, q940, q175⟩
theorem cok9 : ClsOk 9 (RX11, TX11, 1) := ⟨rfl, in_X11, tyX11_ok, nmX11, q958, q176⟩
theorem cok10 : ClsOk 10 (RX13, TX13, 3) := ⟨rfl, in_X13, tyX13_ok, nmX13, q987, q178⟩
theorem cok11 : ClsOk 11 (RX14, TX14, 1) := ⟨rfl, in_X14, tyX14_ok, nmX14, q997, q179⟩
theorem cok12 : ClsOk 12 (RX15, TX15, 3) := ⟨rfl, in_X15, tyX15_ok, nmX15, q1010, q180⟩
theorem cok13 : ClsOk 13 (RX16, TX16, 11) := ⟨rfl, in_X16, tyX16_ok, nmX16, q1045, q181⟩
/-- element types of the array kinds -/
def aty (kd : Nat) : FieldType := match kd with
  | 20 => .int
  | 21 => .byte
  | 22 => .array .int
  | 23 => .object "TermLog$Node"
  | 24 => .object "TermLog$Sum"
  | _ => .object "TermLog$Condition"
/-- the cell o is of kind and length kn and holds I, P -/
def Cok (E : EE) (kn : Nat × Nat) (I : Nat → Int32) (P : Nat → Option Nat) (o : Option Cell) : Prop :=
  (∃ q : vw_C, vwCl[kn.1]? = some q ∧ ∃ cell : Cell, o = some cell ∧ cell.cls = E.1.1 kn.1 ∧ cell.vm = .none ∧ ∀ k, k < q.2.2 → cell.slots[E.1.2 kn.1 k]? = some (fv E (cty kn.1 k) (I k) (P k)))
  ∨ ((kn.1 = 20 ∨ kn.1 = 21) ∧ o = some (arrV (E.2.1 kn.1) kn.2 (fun j => .int (I j))))
  ∨ ((22 ≤ kn.1 ∧ kn.1 ≤ 25) ∧ o = some (arrV (E.2.1 kn.1) kn.2 (fun j => rV E (P j))))
def Hp (E : EE) (σ : Mem) (H : Heap) : Prop :=
  H.size = eB E + mZ σ ∧ hsl H (eB E) = mY σ ∧ (∀ q, q < eB E → H[q]? = (eH E)[q]?) ∧ (∀ a, a < mZ σ → Cok E (mK σ a) (mI σ a) (mP σ a) H[eB E + a]?) ∧ (∀ a, mZ σ ≤ a → (mK σ a).1 = 99) ∧ mZ σ ≤ 1200000 ∧ mY σ ≤ 5502250
def nestW (w : Cond) : Bool := match w with
  | .fieldLinkNest _ _ _ _ _ _ => true
  | .methodLinkNest _ _ _ _ => true
  | .declares _ => true
  | .castable _ _ => true
  | .arrayOver (.object _) => true
  | .arrayOver (.array _) => true
  | _ => false
def NW (U : State) : Prop := ∀ w ∈ lw_tbl, nestW w = true → w.before #[] U = true
/-- the program's strings: the class and entry that loads each, its text -/
def strK (i : Nat) : String × Nat × String := match i with
  | 0 => ("TermLog$Reader", 129, "dlex")
  | 1 => ("TermLog$Reader", 75, "ftknqsw")
  | _ => ("TermLog$Planner", 67, ".kucwrxj")
abbrev eA (E : EE) : Nat → Prop := fun q => eB E ≤ q
abbrev sA (E : EE) (i : Nat) : Nat := E.2.2.2.1 i
abbrev vA (E : EE) (i : Nat) : Nat := E.2.2.2.2 i
def KS (E : EE) (U : State) : Prop := (∀ i, i < 3 → va_O "java/lang/String" (sA E i) (eA E) U (eH E) ∧ va_OF "java/lang/String" "coder" "B" (.int 0) (sA E i) (eA E) U (eH E) ∧ va_OF "java/lang/String" "value" "[B" (.ref (vA E i)) (sA E i) (eA E) U (eH E) ∧ va_T .byte (vA E i) (lits i).length (fun j => .int (iI ((lits i).getD j 0))) (eA E) U (eH E) ∧ vk_R (strK i).1 (strK i).2.1 (strK i).2.2 (sA E i) U) ∧ va_Z "java/lang/String" "COMPACT_STRINGS" "Z" (.int 1) (eA E) U (eH E)
theorem KS.warm {E : EE} {s U : State} (hW : s.WarmedH U.vm) (h : KS E s) : KS E U :=
  ⟨fun i hi => ⟨(h.1 i hi).1.moved hW.alike, (h.1 i hi).2.1.moved hW.alike, (h.1 i hi).2.2.1.moved hW.alike, (h.1 i hi).2.2.2.1.moved hW.alike, vk_R.warm hW (h.1 i hi).2.2.2.2⟩, h.2.moved hW.alike⟩
theorem KS.same {E : EE} {s U : State} (hv : s.vm = U.vm) (h : KS E s) : KS E U := by
  have ha : s.vm.Alike U.vm := by rw [hv]; exact Vm.Alike.refl _
  exact ⟨fun i hi => ⟨(h.1 i hi).1.moved ha, (h.1 i hi).2.1.moved ha, (h.1 i hi).2.2.1.moved ha, (h.1 i hi).2.2.2.1.moved ha, vk_R.same hv.symm (h.1 i hi).2.2.2.2⟩, h.2.moved ha⟩
/-- what is known of the tables all through the run -/
def KN (E : EE) (U : State) : Prop := (∀ (ci : Nat) (q : vw_C), vwCl[ci]? = some q → u_Kn U q.1 q.2.1 q.2.2 (E.1.1 ci) (E.1.2 ci)) ∧ (∀ kd, 20 ≤ kd → kd ≤ 25 → ArrOfT U (E.2.1 kd) (aty kd) ∧ U.vm.findClass ("[" ++ (aty kd).toString) = some (E.2.1 kd)) ∧ NW U ∧ KS E U
theorem NW.warm {s U : State} (hW : s.WarmedH U.vm) (h : NW s) : NW U := by
  intro w hw hn
  have h1 := h w hw hn
  unfold nestW at hn
  split at hn
  · exact va_Nw.warmF hW h1
  · exact va_Nw.warmM hW h1
  · exact va_Nw.warmD hW h1
  · exact va_Nw.warmC hW h1
  · exact va_AO.moved hW.alike h1
  · exact over_moved hW.alike h1
  · cases hn
theorem KN.warm {E : EE} {s U : State} (hW : s.WarmedH U.vm) (h : KN E s) : KN E U :=
  ⟨fun ci q hq => u_Kn_moved hW.alike (h.1 ci q hq), fun kd h1 h2 => ⟨arrOfT_moved hW.alike (h.2.1 kd h1 h2).1, by rw [hW.alike.findClass]; exact (h.2.1 kd h1 h2).2⟩, h.2.2.1.warm hW, h.2.2.2.warm hW⟩
theorem NW.same {s U : State} (hv : s.vm = U.vm) (h : NW s) : NW U := by
  intro w hw hn
  have h1 := h w hw hn
  unfold nestW at hn
  split at hn
  · exact va_Nw.same rfl hv h1
  · exact va_Nw.same rfl hv h1
  · exact va_Nw.same rfl hv h1
  · exact va_Nw.same rfl hv h1
  · exact va_AO.moved (by rw [hv]; exact Vm.Alike.refl _) h1
  · exact over_moved (by rw [hv]; exact Vm.Alike.refl _) h1
  · cases hn
theorem KN.same {E : EE} {s U : State} (hv : s.vm = U.vm) (h : KN E s) : KN E U :=
  ⟨fun ci q hq => u_Kn_moved (by rw [hv]; exact Vm.Alike.refl _) (h.1 ci q hq), fun kd h1 h2 => ⟨arrOfT_moved (by rw [hv]; exact Vm.Alike.refl _) (h.2.1 kd h1 h2).1, by rw [← hv]; exact (h.2.1 kd h1 h2).2⟩, h.2.2.1.same hv, h.2.2.2.same hv⟩
/-- a method: name, code, locals, answer, frames below it, words of locals below it -/
abbrev MM : Type := MethodName × ByteArray × Nat × Option FieldType × Nat × Nat
/-- a body's surroundings -/
abbrev GG : Type := Program × Launch × Env × Room × State × MethodId × Array Value × List Frame × Method × Code
abbrev gS (G : GG) : State := G.2.2.2.2.1
abbrev gR' (G : GG) : Room := G.2.2.2.1
def rmM (M : MM) (z y : Nat) : Room := { frames := M.2.2.2.2.1, cells := 1200000 - z, slots := 5502250 - y, locals := M.2.2.2.2.2 }
def GOOD (E : EE) (M : MM) (G : GG) : Prop := match G with
  | (p, l, e, R, s, m, args, below, meth, c) => p.tables.exec = Jvm.exec ∧ c.code = M.2.1 ∧ c.maxLocals = M.2.2.1 ∧ meth.sig.returnType = M.2.2.2.1 ∧ s.vm.findClass M.1.cls = some m.cls ∧ (∀ w ∈ lw_all, w.before args s = true) ∧ meth.locks = false ∧ (M.1.name = "<init>" → meth.name = M.1.name) ∧ KN E s ∧ R = rmM M (s.heap.size - eB E) (hsl s.heap (eB E)) ∧ eB E ≤ s.heap.size
def Qr (E : EE) (res : Option AV × Mem) : Array Value → State → Outcome → State → Prop := fun _ _ o t => o = .returned (res.1.map (toV E)) ∧ Hp E res.2 t.heap
/-- the locals: L lists the known ones by place -/
def LOK (E : EE) (ls : Array Slot) (n : Nat) (L : List (Option AV)) : Prop := ls.size = n ∧ lv_wf ls ∧ ∀ (i : Nat) (x : AV), L[i]? = some (some x) → ls[i]? = some (.val (toV E x))
def V (E : EE) (M : MM) (G : GG) (pc : Nat) (L : List (Option AV)) (st : List AV) (σ : Mem) (res : Option AV × Mem) : Prop := match G with
  | (p, l, e, R, s, m, args, below, meth, c) => GOOD E M (p, l, e, R, s, m, args, below, meth, c) → ∀ (H : Heap) (locs : List Loc) (ls : Array Slot), Hp E σ H → (∀ q ∈ locs, eB E ≤ q.base) → LOK E ls M.2.2.1 L →
    W p l e R s m args below meth c H locs (H.size - s.heap.size) (hsl H s.heap.size) (MQ below (Qr E res) args s R.cells R.slots (fun q => eB E ≤ q)) (F0 m pc ls (st.map (toV E)))
/-- the contract of method M at the launch l: the answer and the memory behind it are res -/
def Mt (E : EE) (l : Launch) (M : MM) (av : List AV) (σ : Mem) (res : Option AV × Mem) : Prop :=
  Met l M.1 (ws_ M.1 M.2.1 M.2.2.1 M.2.2.2.1) (rmM M (mZ σ) (mY σ)) (va_Pc (av.map (toV E)) (fun U => Hp E σ U.heap ∧ KN E U)) (Qr E res) (1200000 - mZ σ) (5502250 - mY σ) (fun q => eB E ≤ q)
section VR
variable {E : EE} {M : MM} {G : GG} {pc : Nat} {L : List (Option AV)} {st : List AV} {σ : Mem} {res : Option AV × Mem}
/-- the counters say no more than the heap -/
theorem W.tight {p : Program} {l : Launch} {e : Env} {R : Room} {s : State} {m : MethodId} {args : Array Value} {below : List Frame} {meth : Method} {c : Code} {H : Heap} {locs : List Loc} {cells slots : Nat} {Q : State → Prop} {g : JFrame}
    (k : W p l e R s m args below meth c H locs (H.size - s.heap.size) (hsl H s.heap.size) Q g) : W p l e R s m args below meth c H locs cells slots Q g := by
  intro T hT X
  subst hT
  obtain ⟨h1, h2, h3, h4, h5, h6⟩ := X.same
  have e1 : (T.setVm s.vm).heap = T.heap := rfl
  rw [e1] at h2 h3 h4 h5 h6
  exact k T rfl { X with same := ⟨h1, h2, by show T.heap.size ≤ _; omega, h4, Nat.le_refl _, h6⟩ }
theorem W.sized {p : Program} {l : Launch} {e : Env} {R : Room} {s : State} {m : MethodId} {args : Array Value} {below : List Frame} {meth : Method} {c : Code} {H : Heap} {locs : List Loc} {cells slots : Nat} {Q : State → Prop} {g : JFrame}
    (k : s.heap.size ≤ H.size → (∀ (a : Nat) (c : Cell), s.heap[a]? = some c → ∃ c', H[a]? = some c' ∧ c'.slots.size = c.slots.size) → W p l e R s m args below meth c H locs cells slots Q g) : W p l e R s m args below meth c H locs cells slots Q g := by
  intro T hT X
  subst hT
  obtain ⟨h1, h2, h3, h4, h5, h6⟩ := X.same
  exact k h2 (fun a c hc => by obtain ⟨c', g1, g2, g3, -⟩ := h6 a c hc; exact ⟨c', g1, g3⟩) T rfl X
def lvL (E : EE) : Nat → List (Option AV) → List (Nat × Value)
  | _, [] => []
  | i, none :: t => lvL E (i + 1) t
  | i, some x :: t => (i, toV E x) :: lvL E (i + 1) t
theorem lvL_mem {E : EE} : ∀ (L : List (Option AV)) (i : Nat) (q : Nat × Value), q ∈ lvL E i L ↔ ∃ (j : Nat) (x : AV), L[j]? = some (some x) ∧ q = (i + j, toV E x)
  | [], i, q => by simp [lvL]
  | none :: t, i, q => by
    rw [lvL, lvL_mem t (i + 1) q]
    constructor
    · rintro ⟨j, x, h1, h2⟩
      exact ⟨j + 1, x, by simpa using h1, by rw [h2]; congr 1; omega⟩
    · rintro ⟨j, x, h1, h2⟩
      cases j with
      | zero => simp at h1
      | succ j => exact ⟨j, x, by simpa using h1, by rw [h2]; congr 1; omega⟩
  | some y :: t, i, q => by
    rw [lvL, List.mem_cons, lvL_mem t (i + 1) q]
    constructor
    · rintro (h | ⟨j, x, h1, h2⟩)
      · exact ⟨0, y, rfl, by rw [h]; rfl⟩
      · exact ⟨j + 1, x, by simpa using h1, by rw [h2]; congr 1; omega⟩
    · rintro ⟨j, x, h1, h2⟩
      cases j with
      | zero =>
        left
        simp at h1
        subst h1
        exact h2
      | succ j => exact Or.inr ⟨j, x, by simpa using h1, by rw [h2]; congr 1; omega⟩
theorem lok_has {E : EE} {ls : Array Slot} {n : Nat} {L : List (Option AV)} (h : LOK E ls n L) : lv_has ls n (lvL E 0 L) := by
  refine ⟨h.1, h.2.1, fun q hq => ?_⟩
  obtain ⟨j, x, h1, h2⟩ := (lvL_mem L 0 q).mp hq
  rw [h2, Nat.zero_add]
  exact h.2.2 j x h1
theorem has_lok {E : EE} {ls : Array Slot} {n i : Nat} {x : AV} {L : List (Option AV)} (hi : i < L.length)
    (h : lv_has ls n ((i, toV E x) :: (lvL E 0 L).filter (fun q => !(q.1 == i) && !(q.1 + 1 == i && q.2.category == 2)))) : LOK E ls n (L.set i (some x)) := by
  refine ⟨h.1, h.2.1, fun j y hy => ?_⟩
  by_cases hj : j = i
  · subst hj
    rw [List.getElem?_set_self hi] at hy
    cases hy
    exact h.2.2 (j, toV E x) List.mem_cons_self
  · rw [List.getElem?_set_ne (Ne.symm hj)] at hy
    refine h.2.2 (j, toV E y) (List.mem_cons_of_mem _ (List.mem_filter.mpr ⟨(lvL_mem L 0 _).mpr ⟨j, y, hy, by rw [Nat.zero_add]⟩, ?_⟩))
    simp [hj, toV_cat]

theorem v_iconst {n : Int} (hd : decode M.2.1 pc = .ok (.iconst n, 1)) (k : V E M G (pc + 1) L (vi (iI n) :: st) σ res) : V E M G pc L (st) σ res := by
  obtain ⟨p, l, e, R, s, m, args, below, meth, c⟩ := G
  intro g H locs ls hH hq hl
  exact lv_iconst g.1 g.2.1 hd rfl (k g H locs ls hH hq hl)
theorem v_bipush {n : Int} (hd : decode M.2.1 pc = .ok (.bipush n, 2)) (hn : (Int8.ofInt n).toInt32 = iI n) (k : V E M G (pc + 2) L (vi (iI n) :: st) σ res) : V E M G pc L (st) σ res := by
  obtain ⟨p, l, e, R, s, m, args, below, meth, c⟩ := G
  intro g H locs ls hH hq hl
  exact lv_bipush g.1 g.2.1 hd hn (k g H locs ls hH hq hl)
theorem v_sipush {n : Int} (hd : decode M.2.1 pc = .ok (.sipush n, 3)) (hn : (Int16.ofInt n).toInt32 = iI n) (k : V E M G (pc + 3) L (vi (iI n) :: st) σ res) : V E M G pc L (st) σ res := by
  obtain ⟨p, l, e, R, s, m, args, below, meth, c⟩ := G
  intro g H locs ls hH hq hl
  exact lv_sipush g.1 g.2.1 hd hn (k g H locs ls hH hq hl)
theorem v_iadd {x y : Int32} (hd : decode M.2.1 pc = .ok (.iadd, 1)) (k : V E M G (pc + 1) L (vi (x + y) :: st) σ res) : V E M G pc L (vi y :: vi x :: st) σ res := by
  obtain ⟨p, l, e, R, s, m, args, below, meth, c⟩ := G
  intro g H locs ls hH hq hl
  exact lv_iadd g.1 g.2.1 hd (k g H locs ls hH hq hl)
theorem v_isub {x y : Int32} (hd : decode M.2.1 pc = .ok (.isub, 1)) (k : V E M G (pc + 1) L (vi (x - y) :: st) σ res) : V E M G pc L (vi y :: vi x :: st) σ res := by
  obtain ⟨p, l, e, R, s, m, args, below, meth, c⟩ := G
  intro g H locs ls hH hq hl
  exact lv_isub g.1 g.2.1 hd (k g H locs ls hH hq hl)
theorem v_imul {x y : Int32} (hd : decode M.2.1 pc = .ok (.imul, 1)) (k : V E M G (pc + 1) L (vi (x * y) :: st) σ res) : V E M G pc L (vi y :: vi x :: st) σ res := by
  obtain ⟨p, l, e, R, s, m, args, below, meth, c⟩ := G
  intro g H locs ls hH hq hl
  exact lv_imul g.1 g.2.1 hd (k g H locs ls hH hq hl)
theorem v_iand {x y : Int32} (hd : decode M.2.1 pc = .ok (.iand, 1)) (k : V E M G (pc + 1) L (vi (x &&& y) :: st) σ res) : V E M G pc L (vi y :: vi x :: st) σ res := by
  obtain ⟨p, l, e, R, s, m, args, below, meth, c⟩ := G
  intro g H locs ls hH hq hl
  exact lv_iand g.1 g.2.1 hd (k g H locs ls hH hq hl)
theorem v_ior {x y : Int32} (hd : decode M.2.1 pc = .ok (.ior, 1)) (k : V E M G (pc + 1) L (vi (x ||| y) :: st) σ res) : V E M G pc L (vi y :: vi x :: st) σ res := by
  obtain ⟨p, l, e, R, s, m, args, below, meth, c⟩ := G
  intro g H locs ls hH hq hl
  exact lv_ior g.1 g.2.1 hd (k g H locs ls hH hq hl)
theorem v_ixor {x y : Int32} (hd : decode M.2.1 pc = .ok (.ixor, 1)) (k : V E M G (pc + 1) L (vi (x ^^^ y) :: st) σ res) : V E M G pc L (vi y :: vi x :: st) σ res := by
  obtain ⟨p, l, e, R, s, m, args, below, meth, c⟩ := G
  intro g H locs ls hH hq hl
  exact lv_ixor g.1 g.2.1 hd (k g H locs ls hH hq hl)
theorem v_ishl {x y : Int32} (hd : decode M.2.1 pc = .ok (.ishl, 1)) (k : V E M G (pc + 1) L (vi (x <<< (y &&& 31)) :: st) σ res) : V E M G pc L (vi y :: vi x :: st) σ res := by
  obtain ⟨p, l, e, R, s, m, args, below, meth, c⟩ := G
  intro g H locs ls hH hq hl
  exact lv_ishl g.1 g.2.1 hd (k g H locs ls hH hq hl)
theorem v_ishr {x y : Int32} (hd : decode M.2.1 pc = .ok (.ishr, 1)) (k : V E M G (pc + 1) L (vi (x >>> (y &&& 31)) :: st) σ res) : V E M G pc L (vi y :: vi x :: st) σ res := by
  obtain ⟨p, l, e, R, s, m, args, below, meth, c⟩ := G
  intro g H locs ls hH hq hl
  exact lv_ishr g.1 g.2.1 hd (k g H locs ls hH hq hl)
theorem v_idiv {x y : Int32} (hd : decode M.2.1 pc = .ok (.idiv, 1)) (hne : ¬ y = 0) (k : V E M G (pc + 1) L (vi (x / y) :: st) σ res) : V E M G pc L (vi y :: vi x :: st) σ res := by
  obtain ⟨p, l, e, R, s, m, args, below, meth, c⟩ := G
  intro g H locs ls hH hq hl
  exact lv_idiv g.1 g.2.1 hd hne (k g H locs ls hH hq hl)
theorem v_irem {x y : Int32} (hd : decode M.2.1 pc = .ok (.irem, 1)) (hne : ¬ y = 0) (k : V E M G (pc + 1) L (vi (x - x / y * y) :: st) σ res) : V E M G pc L (vi y :: vi x :: st) σ res := by
  obtain ⟨p, l, e, R, s, m, args, below, meth, c⟩ := G
  intro g H locs ls hH hq hl
  exact lv_irem g.1 g.2.1 hd hne (k g H locs ls hH hq hl)
theorem v_iushr {x y : Int32} (hd : decode M.2.1 pc = .ok (.iushr, 1)) (k : V E M G (pc + 1) L (vi (x.toUInt32 >>> (y.toUInt32 &&& Int32.toUInt32 31)).toInt32 :: st) σ res) : V E M G pc L (vi y :: vi x :: st) σ res := by
  obtain ⟨p, l, e, R, s, m, args, below, meth, c⟩ := G
  intro g H locs ls hH hq hl
  exact lv_iushr g.1 g.2.1 hd rfl (k g H locs ls hH hq hl)
theorem v_i2b {x : Int32} (hd : decode M.2.1 pc = .ok (.i2b, 1)) (k : V E M G (pc + 1) L (vi x.toInt8.toInt32 :: st) σ res) : V E M G pc L (vi x :: st) σ res := by
  obtain ⟨p, l, e, R, s, m, args, below, meth, c⟩ := G
  intro g H locs ls hH hq hl
  exact lv_i2b g.1 g.2.1 hd rfl (k g H locs ls hH hq hl)
theorem v_dup {x : AV} (hd : decode M.2.1 pc = .ok (.dup, 1)) (k : V E M G (pc + 1) L (x :: x :: st) σ res) : V E M G pc L (x :: st) σ res := by
  obtain ⟨p, l, e, R, s, m, args, below, meth, c⟩ := G
  intro g H locs ls hH hq hl
  exact lv_dup g.1 g.2.1 hd (toV_cat E x) (k g H locs ls hH hq hl)
theorem v_pop {x : AV} (hd : decode M.2.1 pc = .ok (.pop, 1)) (k : V E M G (pc + 1) L (st) σ res) : V E M G pc L (x :: st) σ res := by
  obtain ⟨p, l, e, R, s, m, args, below, meth, c⟩ := G
  intro g H locs ls hH hq hl
  exact lv_pop g.1 g.2.1 hd (toV_cat E x) (k g H locs ls hH hq hl)
theorem v_null  (hd : decode M.2.1 pc = .ok (.aconst_null, 1)) (k : V E M G (pc + 1) L (vr none :: st) σ res) : V E M G pc L (st) σ res := by
  obtain ⟨p, l, e, R, s, m, args, below, meth, c⟩ := G
  intro g H locs ls hH hq hl
  exact lv_null g.1 g.2.1 hd (k g H locs ls hH hq hl)
theorem v_goto {off : Int} {tgt : Nat} (hd : decode M.2.1 pc = .ok (.goto off, 3)) (ht : (pc : Int) + off = (tgt : Int)) (k : V E M G tgt L st σ res) : V E M G pc L st σ res := by
  obtain ⟨p, l, e, R, s, m, args, below, meth, c⟩ := G
  intro g H locs ls hH hq hl
  exact lv_goto g.1 g.2.1 hd ht (k g H locs ls hH hq hl)
theorem v_iload_n {k : Fin 4} {x : Int32} (hd : decode M.2.1 pc = .ok (.iload_n k, 1)) (hx : L[(k : Nat)]? = some (some (vi x))) (kk : V E M G (pc + 1) L (vi x :: st) σ res) : V E M G pc L st σ res := by
  obtain ⟨p, l, e, R, s, m, args, below, meth, c⟩ := G
  intro g H locs ls hH hq hl
  exact lv_iload_n g.1 g.2.1 hd rfl (hl.2.2 _ _ hx) (kk g H locs ls hH hq hl)
theorem v_iload {i : Nat} {x : Int32} (hd : decode M.2.1 pc = .ok (.iload i, 2)) (hx : L[i]? = some (some (vi x))) (kk : V E M G (pc + 2) L (vi x :: st) σ res) : V E M G pc L st σ res := by
  obtain ⟨p, l, e, R, s, m, args, below, meth, c⟩ := G
  intro g H locs ls hH hq hl
  exact lv_iload g.1 g.2.1 hd (hl.2.2 _ _ hx) (kk g H locs ls hH hq hl)
theorem v_aload_n {k : Fin 4} {r : Option Nat} (hd : decode M.2.1 pc = .ok (.aload_n k, 1)) (hx : L[(k : Nat)]? = some (some (vr r))) (kk : V E M G (pc + 1) L (vr r :: st) σ res) : V E M G pc L st σ res := by
  obtain ⟨p, l, e, R, s, m, args, below, meth, c⟩ := G
  intro g H locs ls hH hq hl
  cases r with
  | none => exact lv_aload_nN g.1 g.2.1 hd rfl (hl.2.2 _ _ hx) (kk g H locs ls hH hq hl)
  | some a => exact lv_aload_n g.1 g.2.1 hd rfl (hl.2.2 _ _ hx) (kk g H locs ls hH hq hl)
theorem v_aload {i : Nat} {r : Option Nat} (hd : decode M.2.1 pc = .ok (.aload i, 2)) (hx : L[i]? = some (some (vr r))) (kk : V E M G (pc + 2) L (vr r :: st) σ res) : V E M G pc L st σ res := by
  obtain ⟨p, l, e, R, s, m, args, below, meth, c⟩ := G
  intro g H locs ls hH hq hl
  cases r with
  | none => exact lv_aloadN g.1 g.2.1 hd (hl.2.2 _ _ hx) (kk g H locs ls hH hq hl)
  | some a => exact lv_aload g.1 g.2.1 hd (hl.2.2 _ _ hx) (kk g H locs ls hH hq hl)
/-- the law's own script -/
theorem v_aload_w {k : Fin 4} {a : Nat} (hd : decode M.2.1 pc = .ok (.aload_n k, 1)) (hx : L[(k : Nat)]? = some (some (vw a))) (kk : V E M G (pc + 1) L (vw a :: st) σ res) : V E M G pc L st σ res := by
  obtain ⟨p, l, e, R, s, m, args, below, meth, c⟩ := G
  intro g H locs ls hH hq hl
  exact lv_aload_n g.1 g.2.1 hd rfl (hl.2.2 _ _ hx) (kk g H locs ls hH hq hl)
theorem v_istore_n {k : Fin 4} {x : Int32} {L' : List (Option AV)} (hd : decode M.2.1 pc = .ok (.istore_n k, 1)) (hk : (k : Nat) < M.2.2.1) (hn : (k : Nat) < L.length) (hs : L.set (k : Nat) (some (vi x)) = L') (kk : V E M G (pc + 1) L' st σ res) : V E M G pc L (vi x :: st) σ res := by
  obtain ⟨p, l, e, R, s, m, args, below, meth, c⟩ := G
  intro g H locs ls hH hq hl
  subst hs
  exact lv_istore_n g.1 g.2.1 hd rfl (lok_has hl) hk rfl (fun ls' h => kk g H locs ls' hH hq (has_lok hn h))
theorem v_istore {i : Nat} {x : Int32} {L' : List (Option AV)} (hd : decode M.2.1 pc = .ok (.istore i, 2)) (hk : i < M.2.2.1) (hn : i < L.length) (hs : L.set i (some (vi x)) = L') (kk : V E M G (pc + 2) L' st σ res) : V E M G pc L (vi x :: st) σ res := by
  obtain ⟨p, l, e, R, s, m, args, below, meth, c⟩ := G
  intro g H locs ls hH hq hl
  subst hs
  exact lv_istore g.1 g.2.1 hd (lok_has hl) hk rfl (fun ls' h => kk g H locs ls' hH hq (has_lok hn h))
theorem v_astore_n {k : Fin 4} {r : Option Nat} {L' : List (Option AV)} (hd : decode M.2.1 pc = .ok (.astore_n k, 1)) (hk : (k : Nat) < M.2.2.1) (hn : (k : Nat) < L.length) (hs : L.set (k : Nat) (some (vr r)) = L') (kk : V E M G (pc + 1) L' st σ res) : V E M G pc L (vr r :: st) σ res := by
  obtain ⟨p, l, e, R, s, m, args, below, meth, c⟩ := G
  intro g H locs ls hH hq hl
  subst hs
  cases r with
  | none => exact lv_astore_nN g.1 g.2.1 hd rfl (lok_has hl) hk rfl (fun ls' h => kk g H locs ls' hH hq (has_lok (x := vr none) hn h))
  | some a => exact lv_astore_n g.1 g.2.1 hd rfl (lok_has hl) hk rfl (fun ls' h => kk g H locs ls' hH hq (has_lok (x := vr (some a)) hn h))
theorem v_astore {i : Nat} {r : Option Nat} {L' : List (Option AV)} (hd : decode M.2.1 pc = .ok (.astore i, 2)) (hk : i < M.2.2.1) (hn : i < L.length) (hs : L.set i (some (vr r)) = L') (kk : V E M G (pc + 2) L' st σ res) : V E M G pc L (vr r :: st) σ res := by
  obtain ⟨p, l, e, R, s, m, args, below, meth, c⟩ := G
  intro g H locs ls hH hq hl
  subst hs
  cases r with
  | none => exact lv_astoreN g.1 g.2.1 hd (lok_has hl) hk rfl (fun ls' h => kk g H locs ls' hH hq (has_lok (x := vr none) hn h))
  | some a => exact lv_astore g.1 g.2.1 hd (lok_has hl) hk rfl (fun ls' h => kk g H locs ls' hH hq (has_lok (x := vr (some a)) hn h))
theorem v_iinc {i : Nat} {n : Int} {x : Int32} {L' : List (Option AV)} (hd : decode M.2.1 pc = .ok (.iinc i n, 3)) (hk : i < M.2.2.1) (hx : L[i]? = some (some (vi x))) (hs : L.set i (some (vi (x + iI n))) = L') (kk : V E M G (pc + 3) L' st σ res) : V E M G pc L st σ res := by
  obtain ⟨p, l, e, R, s, m, args, below, meth, c⟩ := G
  intro g H locs ls hH hq hl
  subst hs
  obtain ⟨j, hj⟩ := List.getElem?_of_mem ((lvL_mem (E := E) L 0 (i, Value.int x)).mpr ⟨i, vi x, hx, by rw [Nat.zero_add]; rfl⟩)
  exact lv_iinc g.1 g.2.1 hd (lok_has hl) hj rfl hk rfl (fun ls' h => kk g H locs ls' hH hq (has_lok (x := vi (x + iI n)) (List.getElem?_eq_some_iff.mp hx).1 h))
/-- fewer known locals -/
theorem v_weak {L' : List (Option AV)} (h : ∀ (i : Nat) (x : AV), L'[i]? = some (some x) → L[i]? = some (some x)) (k : V E M G pc L' st σ res) : V E M G pc L st σ res := by
  obtain ⟨p, l, e, R, s, m, args, below, meth, c⟩ := G
  intro g H locs ls hH hq hl
  exact k g H locs ls hH hq ⟨hl.1, hl.2.1, fun i x hx => hl.2.2 i x (h i x hx)⟩
theorem ws0 : ∀ (i : Nat) (x : AV), ([] : List (Option AV))[i]? = some (some x) → ([] : List (Option AV))[i]? = some (some x) := fun _ _ h => h
theorem wsn {L L' : List (Option AV)} {y : Option AV} (h : ∀ (i : Nat) (x : AV), L'[i]? = some (some x) → L[i]? = some (some x)) : ∀ (i : Nat) (x : AV), (none :: L')[i]? = some (some x) → (y :: L)[i]? = some (some x) := by
  intro i x hx
  cases i with
  | zero => simp at hx
  | succ i => exact h i x (by simpa using hx)
theorem wss {L L' : List (Option AV)} {y : AV} (h : ∀ (i : Nat) (x : AV), L'[i]? = some (some x) → L[i]? = some (some x)) : ∀ (i : Nat) (x : AV), (some y :: L')[i]? = some (some x) → (some y :: L)[i]? = some (some x) := by
  intro i x hx
  cases i with
  | zero => simpa using hx
  | succ i => exact h i x (by simpa using hx)
theorem v_if_eq {x : Int32} {off : Int} {tgt : Nat} (hd : decode M.2.1 pc = .ok (.ifCond .eq off, 3)) (ht : (pc : Int) + off = (tgt : Int)) (kt : x = iI 0 → V E M G tgt L st σ res) (kf : ¬ x = iI 0 → V E M G (pc + 3) L st σ res) : V E M G pc L (vi x :: st) σ res := by
  obtain ⟨p, l, e, R, s, m, args, below, meth, c⟩ := G
  intro g H locs ls hH hq hl
  exact lv_if_eq g.1 g.2.1 hd ht (fun h => kt (by rw [iI0]; simpa using h) g H locs ls hH hq hl) (fun h => kf (by rw [iI0]; simpa using h) g H locs ls hH hq hl)
theorem v_icmp_eq {x y : Int32} {off : Int} {tgt : Nat} (hd : decode M.2.1 pc = .ok (.if_icmp .eq off, 3)) (ht : (pc : Int) + off = (tgt : Int)) (kt : x = y → V E M G tgt L st σ res) (kf : ¬ x = y → V E M G (pc + 3) L st σ res) : V E M G pc L (vi y :: vi x :: st) σ res := by
  obtain ⟨p, l, e, R, s, m, args, below, meth, c⟩ := G
  intro g H locs ls hH hq hl
  exact lv_icmp_eq g.1 g.2.1 hd ht (fun h => kt (by simpa using h) g H locs ls hH hq hl) (fun h => kf (by simpa using h) g H locs ls hH hq hl)
theorem v_if_ne {x : Int32} {off : Int} {tgt : Nat} (hd : decode M.2.1 pc = .ok (.ifCond .ne off, 3)) (ht : (pc : Int) + off = (tgt : Int)) (kt : ¬ x = iI 0 → V E M G tgt L st σ res) (kf : x = iI 0 → V E M G (pc + 3) L st σ res) : V E M G pc L (vi x :: st) σ res := by
  obtain ⟨p, l, e, R, s, m, args, below, meth, c⟩ := G
  intro g H locs ls hH hq hl
  exact lv_if_ne g.1 g.2.1 hd ht (fun h => kt (by rw [iI0]; simpa using h) g H locs ls hH hq hl) (fun h => kf (by rw [iI0]; simpa using h) g H locs ls hH hq hl)
theorem v_icmp_ne {x y : Int32} {off : Int} {tgt : Nat} (hd : decode M.2.1 pc = .ok (.if_icmp .ne off, 3)) (ht : (pc : Int) + off = (tgt : Int)) (kt : ¬ x = y → V E M G tgt L st σ res) (kf : x = y → V E M G (pc + 3) L st σ res) : V E M G pc L (vi y :: vi x :: st) σ res := by
  obtain ⟨p, l, e, R, s, m, args, below, meth, c⟩ := G
  intro g H locs ls hH hq hl
  exact lv_icmp_ne g.1 g.2.1 hd ht (fun h => kt (by simpa using h) g H locs ls hH hq hl) (fun h => kf (by simpa using h) g H locs ls hH hq hl)
theorem v_if_lt {x : Int32} {off : Int} {tgt : Nat} (hd : decode M.2.1 pc = .ok (.ifCond .lt off, 3)) (ht : (pc : Int) + off = (tgt : Int)) (kt : x < iI 0 → V E M G tgt L st σ res) (kf : ¬ x < iI 0 → V E M G (pc + 3) L st σ res) : V E M G pc L (vi x :: st) σ res := by
  obtain ⟨p, l, e, R, s, m, args, below, meth, c⟩ := G
  intro g H locs ls hH hq hl
  exact lv_if_lt g.1 g.2.1 hd ht (fun h => kt (by rw [iI0]; simpa using h) g H locs ls hH hq hl) (fun h => kf (by rw [iI0]; simpa using h) g H locs ls hH hq hl)
theorem v_icmp_lt {x y : Int32} {off : Int} {tgt : Nat} (hd : decode M.2.1 pc = .ok (.if_icmp .lt off, 3)) (ht : (pc : Int) + off = (tgt : Int)) (kt : x < y → V E M G tgt L st σ res) (kf : ¬ x < y → V E M G (pc + 3) L st σ res) : V E M G pc L (vi y :: vi x :: st) σ res := by
  obtain ⟨p, l, e, R, s, m, args, below, meth, c⟩ := G
  intro g H locs ls hH hq hl
  exact lv_icmp_lt g.1 g.2.1 hd ht (fun h => kt (by simpa using h) g H locs ls hH hq hl) (fun h => kf (by simpa using h) g H locs ls hH hq hl)
theorem v_if_ge {x : Int32} {off : Int} {tgt : Nat} (hd : decode M.2.1 pc = .ok (.ifCond .ge off, 3)) (ht : (pc : Int) + off = (tgt : Int)) (kt : iI 0 ≤ x → V E M G tgt L st σ res) (kf : ¬ iI 0 ≤ x → V E M G (pc + 3) L st σ res) : V E M G pc L (vi x :: st) σ res := by
  obtain ⟨p, l, e, R, s, m, args, below, meth, c⟩ := G
  intro g H locs ls hH hq hl
  exact lv_if_ge g.1 g.2.1 hd ht (fun h => kt (by rw [iI0]; simpa using h) g H locs ls hH hq hl) (fun h => kf (by rw [iI0]; simpa using h) g H locs ls hH hq hl)
theorem v_icmp_ge {x y : Int32} {off : Int} {tgt : Nat} (hd : decode M.2.1 pc = .ok (.if_icmp .ge off, 3)) (ht : (pc : Int) + off = (tgt : Int)) (kt : y ≤ x → V E M G tgt L st σ res) (kf : ¬ y ≤ x → V E M G (pc + 3) L st σ res) : V E M G pc L (vi y :: vi x :: st) σ res := by
  obtain ⟨p, l, e, R, s, m, args, below, meth, c⟩ := G
  intro g H locs ls hH hq hl
  exact lv_icmp_ge g.1 g.2.1 hd ht (fun h => kt (by simpa using h) g H locs ls hH hq hl) (fun h => kf (by simpa using h) g H locs ls hH hq hl)
theorem v_if_gt {x : Int32} {off : Int} {tgt : Nat} (hd : decode M.2.1 pc = .ok (.ifCond .gt off, 3)) (ht : (pc : Int) + off = (tgt : Int)) (kt : iI 0 < x → V E M G tgt L st σ res) (kf : ¬ iI 0 < x → V E M G (pc + 3) L st σ res) : V E M G pc L (vi x :: st) σ res := by
  obtain ⟨p, l, e, R, s, m, args, below, meth, c⟩ := G
  intro g H locs ls hH hq hl
  exact lv_if_gt g.1 g.2.1 hd ht (fun h => kt (by rw [iI0]; simpa using h) g H locs ls hH hq hl) (fun h => kf (by rw [iI0]; simpa using h) g H locs ls hH hq hl)
theorem v_icmp_gt {x y : Int32} {off : Int} {tgt : Nat} (hd : decode M.2.1 pc = .ok (.if_icmp .gt off, 3)) (ht : (pc : Int) + off = (tgt : Int)) (kt : y < x → V E M G tgt L st σ res) (kf : ¬ y < x → V E M G (pc + 3) L st σ res) : V E M G pc L (vi y :: vi x :: st) σ res := by
  obtain ⟨p, l, e, R, s, m, args, below, meth, c⟩ := G
  intro g H locs ls hH hq hl
  exact lv_icmp_gt g.1 g.2.1 hd ht (fun h => kt (by simpa using h) g H locs ls hH hq hl) (fun h => kf (by simpa using h) g H locs ls hH hq hl)
theorem v_if_le {x : Int32} {off : Int} {tgt : Nat} (hd : decode M.2.1 pc = .ok (.ifCond .le off, 3)) (ht : (pc : Int) + off = (tgt : Int)) (kt : x ≤ iI 0 → V E M G tgt L st σ res) (kf : ¬ x ≤ iI 0 → V E M G (pc + 3) L st σ res) : V E M G pc L (vi x :: st) σ res := by
  obtain ⟨p, l, e, R, s, m, args, below, meth, c⟩ := G
  intro g H locs ls hH hq hl
  exact lv_if_le g.1 g.2.1 hd ht (fun h => kt (by rw [iI0]; simpa using h) g H locs ls hH hq hl) (fun h => kf (by rw [iI0]; simpa using h) g H locs ls hH hq hl)
theorem v_icmp_le {x y : Int32} {off : Int} {tgt : Nat} (hd : decode M.2.1 pc = .ok (.if_icmp .le off, 3)) (ht : (pc : Int) + off = (tgt : Int)) (kt : x ≤ y → V E M G tgt L st σ res) (kf : ¬ x ≤ y → V E M G (pc + 3) L st σ res) : V E M G pc L (vi y :: vi x :: st) σ res := by
  obtain ⟨p, l, e, R, s, m, args, below, meth, c⟩ := G
  intro g H locs ls hH hq hl
  exact lv_icmp_le g.1 g.2.1 hd ht (fun h => kt (by simpa using h) g H locs ls hH hq hl) (fun h => kf (by simpa using h) g H locs ls hH hq hl)
theorem v_ifnull {r : Option Nat} {off : Int} {tgt : Nat} (hd : decode M.2.1 pc = .ok (.ifnull off, 3)) (ht : (pc : Int) + off = (tgt : Int)) (kt : r = none → V E M G tgt L st σ res) (kf : ¬ r = none → V E M G (pc + 3) L st σ res) : V E M G pc L (vr r :: st) σ res := by
  obtain ⟨p, l, e, R, s, m, args, below, meth, c⟩ := G
  intro g H locs ls hH hq hl
  cases r with
  | none => exact lv_ifnullN g.1 g.2.1 hd ht (kt rfl g H locs ls hH hq hl)
  | some a => exact lv_ifnull g.1 g.2.1 hd (kf (by simp) g H locs ls hH hq hl)
theorem v_tabIn {dflt lo hi : Int} {offs : Array Int} {len : Nat} {x : Int32} {off : Int} {tgt : Nat} (hd : decode M.2.1 pc = .ok (.tableswitch dflt lo hi offs, len)) (h1 : ¬ x.toInt < lo) (h2 : ¬ hi < x.toInt) (ho : offs[(x.toInt - lo).toNat]? = some off) (ht : (pc : Int) + off = (tgt : Int)) (k : V E M G tgt L st σ res) : V E M G pc L (vi x :: st) σ res := by
  obtain ⟨p, l, e, R, s, m, args, below, meth, c⟩ := G
  intro g H locs ls hH hq hl
  exact lv_tableIn g.1 g.2.1 hd h1 h2 ho ht (k g H locs ls hH hq hl)
theorem v_tabOut {dflt lo hi : Int} {offs : Array Int} {len : Nat} {x : Int32} {tgt : Nat} (hd : decode M.2.1 pc = .ok (.tableswitch dflt lo hi offs, len)) (h : x.toInt < lo ∨ hi < x.toInt) (ht : (pc : Int) + dflt = (tgt : Int)) (k : V E M G tgt L st σ res) : V E M G pc L (vi x :: st) σ res := by
  obtain ⟨p, l, e, R, s, m, args, below, meth, c⟩ := G
  intro g H locs ls hH hq hl
  exact lv_tableOut g.1 g.2.1 hd h ht (k g H locs ls hH hq hl)
theorem v_look {dflt : Int} {ps : Array (Int × Int)} {len : Nat} {x : Int32} {off : Int} {tgt : Nat} (hd : decode M.2.1 pc = .ok (.lookupswitch dflt ps, len)) (hp : (ps.toList.zip (ps.toList.drop 1)).all (fun (a, next) => a.1 < next.1) = true) (ho : Op.lookupswitch.offset ps.toList dflt x.toInt = off) (ht : (pc : Int) + off = (tgt : Int)) (k : V E M G tgt L st σ res) : V E M G pc L (vi x :: st) σ res := by
  obtain ⟨p, l, e, R, s, m, args, below, meth, c⟩ := G
  intro g H locs ls hH hq hl
  exact lv_lookup g.1 g.2.1 hd hp ho ht (k g H locs ls hH hq hl)
theorem v_ldc {index : Nat} {v : Int32} (hd : decode M.2.1 pc = .ok (.ldc index, 2)) (hc : Cond.constant M.1.cls index v ∈ lw_all) (k : V E M G (pc + 2) L (vi v :: st) σ res) : V E M G pc L st σ res := by
  obtain ⟨p, l, e, R, s, m, args, below, meth, c⟩ := G
  intro g H locs ls hH hq hl
  exact lv_ldc g.1 g.2.1 g.2.2.2.2.1 (g.2.2.2.2.2.1 _ hc) hd (k g H locs ls hH hq hl)
end VR
/-! CORE 3: rows of the heap -/
theorem cls_lt {ci : Nat} {q : vw_C} (h : vwCl[ci]? = some q) : ci < 14 := (List.getElem?_eq_some_iff.mp h).1
theorem hp_obj {E : EE} {σ : Mem} {H : Heap} {a ci : Nat} {q : vw_C} (hH : Hp E σ H) (hk : (mK σ a).1 = ci) (hq : vwCl[ci]? = some q) :
    a < mZ σ ∧ ∃ cell : Cell, H[eB E + a]? = some cell ∧ cell.cls = E.1.1 ci ∧ cell.vm = .none ∧ ∀ k, k < q.2.2 → cell.slots[E.1.2 ci k]? = some (fv E (cty ci k) (mI σ a k) (mP σ a k)) := by
  have h14 := cls_lt hq
  obtain ⟨h1, h2, h3, h4, h5, h6, h7⟩ := hH
  have hz : a < mZ σ := by
    rcases Nat.lt_or_ge a (mZ σ) with h | h
    · exact h
    · have := h5 a h
      omega
  refine ⟨hz, ?_⟩
  rcases h4 a hz with ⟨q', g1, g2⟩ | ⟨g, -⟩ | ⟨g, -⟩
  · rw [hk] at g1 g2
    cases hq.symm.trans g1
    exact g2
  · omega
  · omega
theorem hp_ai {E : EE} {σ : Mem} {H : Heap} {a kd : Nat} (hH : Hp E σ H) (hk : (mK σ a).1 = kd) (hq : kd = 20 ∨ kd = 21) :
    a < mZ σ ∧ H[eB E + a]? = some (arrV (E.2.1 kd) (mK σ a).2 (fun j => .int (mI σ a j))) := by
  obtain ⟨h1, h2, h3, h4, h5, h6, h7⟩ := hH
  have hz : a < mZ σ := by
    rcases Nat.lt_or_ge a (mZ σ) with h | h
    · exact h
    · have := h5 a h
      omega
  refine ⟨hz, ?_⟩
  rcases h4 a hz with ⟨q', g1, g2⟩ | ⟨g, g2⟩ | ⟨g, -⟩
  · have := cls_lt g1
    omega
  · rw [hk] at g2
    exact g2
  · omega
theorem hp_ar {E : EE} {σ : Mem} {H : Heap} {a kd : Nat} (hH : Hp E σ H) (hk : (mK σ a).1 = kd) (hq : 22 ≤ kd ∧ kd ≤ 25) :
    a < mZ σ ∧ H[eB E + a]? = some (arrV (E.2.1 kd) (mK σ a).2 (fun j => rV E (mP σ a j))) := by
  obtain ⟨h1, h2, h3, h4, h5, h6, h7⟩ := hH
  have hz : a < mZ σ := by
    rcases Nat.lt_or_ge a (mZ σ) with h | h
    · exact h
    · have := h5 a h
      omega
  refine ⟨hz, ?_⟩
  rcases h4 a hz with ⟨q', g1, g2⟩ | ⟨g, -⟩ | ⟨g, g2⟩
  · have := cls_lt g1
    omega
  · omega
  · rw [hk] at g2
    exact g2
/-- one cell changes -/
theorem hp_put {E : EE} {σ σ' : Mem} {H H' : Heap} {a : Nat} {cell cell' : Cell} (hH : Hp E σ H) (ha : a < mZ σ) (hc : H[eB E + a]? = some cell) (e1 : H'[eB E + a]? = some cell') (hz : cell'.slots.size = cell.slots.size) (e2 : H'.size = H.size) (e3 : ∀ q, q ≠ eB E + a → H'[q]? = H[q]?)
    (hK : mK σ' = mK σ) (hZ : mZ σ' = mZ σ) (hY : mY σ' = mY σ) (hI : ∀ b, b ≠ a → mI σ' b = mI σ b) (hP : ∀ b, b ≠ a → mP σ' b = mP σ b) (hok : Cok E (mK σ a) (mI σ' a) (mP σ' a) (some cell')) : Hp E σ' H' := by
  obtain ⟨h1, h2, h3, h4, h5, h6, h7⟩ := hH
  refine ⟨by rw [e2, h1, hZ], ?_, ?_, ?_, ?_, by rw [hZ]; exact h6, by rw [hY]; exact h7⟩
  · rw [hY, ← h2]
    refine hsl_congr e2 fun q => ?_
    by_cases hq : q = eB E + a
    · rw [hq, e1, hc]
      simp [hz]
    · rw [e3 q hq]
  · intro q hq
    rw [e3 q (by omega)]
    exact h3 q hq
  · intro b hb
    rw [hZ] at hb
    rw [hK]
    by_cases hba : b = a
    · subst hba
      rw [e1]
      exact hok
    · rw [e3 _ (by omega), hI b hba, hP b hba]
      exact h4 b hb
  · intro b hb
    rw [hZ] at hb
    rw [hK]
    exact h5 b hb
theorem hp_new {E : EE} {σ : Mem} {H : Heap} {kd n : Nat} {cell : Cell} (hH : Hp E σ H) (hz : cell.slots.size = n) (h1' : mZ σ + 1 ≤ 1200000) (h2' : mY σ + n ≤ 5502250) (hok : Cok E (kd, n) (fun _ => 0) (fun _ => none) (some cell)) : Hp E (mNew σ kd n) (H.push cell) := by
  obtain ⟨h1, h2, h3, h4, h5, h6, h7⟩ := hH
  refine ⟨?_, ?_, ?_, ?_, ?_, h1', h2'⟩
  · rw [Array.size_push, h1]
    show _ = eB E + (mZ σ + 1)
    omega
  · rw [hsl_push cell (by omega), h2, hz]
    rfl
  · intro q hq
    rw [Array.getElem?_push, if_neg (by omega)]
    exact h3 q hq
  · intro b hb
    have hb : b < mZ σ + 1 := hb
    show Cok E (up1 (mK σ) (mZ σ) (kd, n) b) (zr2 (mI σ) (mZ σ) 0 b) (zr2 (mP σ) (mZ σ) none b) _
    by_cases hbz : b = mZ σ
    · subst hbz
      rw [Array.getElem?_push, if_pos (by omega)]
      have e1 : zr2 (mI σ) (mZ σ) 0 (mZ σ) = fun _ => 0 := by funext j; simp [zr2]
      have e2 : zr2 (mP σ) (mZ σ) none (mZ σ) = fun _ => none := by funext j; simp [zr2]
      rw [e1, e2]
      simp only [up1, if_pos]
      exact hok
    · rw [Array.getElem?_push, if_neg (by omega)]
      have e1 : zr2 (mI σ) (mZ σ) 0 b = mI σ b := by funext j; simp [zr2, hbz]
      have e2 : zr2 (mP σ) (mZ σ) none b = mP σ b := by funext j; simp [zr2, hbz]
      rw [e1, e2]
      simp only [up1, if_neg hbz]
      exact h4 b (by omega)
  · intro b hb
    have hb : mZ σ + 1 ≤ b := hb
    show (up1 (mK σ) (mZ σ) (kd, n) b).1 = 99
    simp only [up1, if_neg (show ¬ b = mZ σ by omega)]
    exact h5 b (by omega)
theorem eq_push {H H' : Heap} {c : Cell} (h1 : H'[H.size]? = some c) (h2 : H'.size = H.size + 1) (h3 : ∀ q, q < H.size → H'[q]? = H[q]?) : H' = H.push c := by
  apply Array.ext_getElem?
  intro i
  rw [Array.getElem?_push]
  by_cases hi : i = H.size
  · rw [if_pos hi, hi, h1]
  · rw [if_neg hi]
    rcases Nat.lt_or_ge i H.size with h | h
    · exact h3 i h
    · rw [Array.getElem?_eq_none (by omega), Array.getElem?_eq_none (by omega)]
theorem up2_ne {α : Type} {F : Nat → Nat → α} {a k b : Nat} {v : α} (h : b ≠ a) : up2 F a k v b = F b := by
  funext j
  simp [up2, h]
theorem fv_I {E : EE} {ty : FieldType} {x : Int32} {r : Option Nat} (h : ty = .int ∨ ty = .boolean) : fv E ty x r = .int x := by
  rcases h with rfl | rfl <;> rfl
def isR (ty : FieldType) : Bool := match ty with
  | .object _ => true
  | .array _ => true
  | _ => false
def isII (ty : FieldType) : Bool := match ty with
  | .int => true
  | _ => false
def isZZ (ty : FieldType) : Bool := match ty with
  | .boolean => true
  | _ => false
def isJ (ty : FieldType) : Bool := match ty with
  | .int => true
  | .boolean => true
  | _ => false
theorem fv_J {E : EE} {ty : FieldType} {x : Int32} {r : Option Nat} (h : isJ ty = true) : fv E ty x r = .int x := by
  cases ty <;> first | rfl | cases h
theorem fv_R {E : EE} {ty : FieldType} {x : Int32} {r : Option Nat} (h : isR ty = true) : fv E ty x r = rV E r := by
  cases ty <;> first | rfl | cases h
section VH
variable {E : EE} {M : MM} {G : GG} {pc : Nat} {L : List (Option AV)} {st : List AV} {σ : Mem} {res : Option AV × Mem} {β : Type} {z : β}
/-- reading a field: what the machine finds -/
theorem v_getf {ci k : Nat} {q : vw_C} (hc : ClsOk ci q) {a ixc : Nat} (hka : (mK σ a).1 = ci) (hd : decode M.2.1 pc = .ok (.getfield ixc, 3)) (hk : k < q.2.2)
    (hl : Cond.fieldLink M.1.cls ixc (q.2.1 k).1 (q.2.1 k).2.1 (q.2.1 k).2.2.1 ∈ lw_all) {x : AV} (hx : fv E (cty ci k) (mI σ a k) (mP σ a k) = toV E x) (kk : V E M G (pc + 3) L (x :: st) σ res) : V E M G pc L (vr (some a) :: st) σ res := by
  obtain ⟨p, l, e, R, s, m, args, below, meth, c⟩ := G
  intro g H locs ls hH hq hl'
  obtain ⟨g1, g2, g3, g4, g5, g6, g7, g8, gK, gR, gB⟩ := g
  obtain ⟨hz, cell, c1, c2, c3, c4⟩ := hp_obj hH hka hc.1
  obtain ⟨hS, hfc, kC, hkC, hkind⟩ := gK.1 ci q hc.1
  obtain ⟨cf, kf, fi, f, hi, hsl⟩ := hS k hk
  refine W.getf g1 g2 g5 (g6 _ hl) hi (u_facts hfc hkC (u_lays g6 hc.2.1 hk) hi).1 c1 (by rw [c3]; exact fun h => by cases h) (v := toV E x) ?_ rfl rfl hd (kk ⟨g1, g2, g3, g4, g5, g6, g7, g8, gK, gR, gB⟩ H locs ls hH hq hl')
  rw [hsl, c4 k hk, hx]
theorem v_getfN {ci k : Nat} {q : vw_C} (hc : ClsOk ci q) {a ixc : Nat} {host : String} (hka : (mK σ a).1 = ci) (hd : decode M.2.1 pc = .ok (.getfield ixc, 3)) (hk : k < q.2.2)
    (hl : Cond.fieldLinkNest M.1.cls ixc (q.2.1 k).1 (q.2.1 k).2.1 (q.2.1 k).2.2.1 host ∈ lw_tbl) {x : AV} (hx : fv E (cty ci k) (mI σ a k) (mP σ a k) = toV E x) (kk : V E M G (pc + 3) L (x :: st) σ res) : V E M G pc L (vr (some a) :: st) σ res := by
  obtain ⟨p, l, e, R, s, m, args, below, meth, c⟩ := G
  intro g H locs ls hH hq hl'
  obtain ⟨g1, g2, g3, g4, g5, g6, g7, g8, gK, gR, gB⟩ := g
  obtain ⟨hz, cell, c1, c2, c3, c4⟩ := hp_obj hH hka hc.1
  obtain ⟨hS, hfc, kC, hkC, hkind⟩ := gK.1 ci q hc.1
  obtain ⟨cf, kf, fi, f, hi, hsl⟩ := hS k hk
  refine va_Wgetf g1 g2 g5 (va_Nw.use (A := args) rfl (gK.2.2.1 _ hl rfl)) hi (u_facts hfc hkC (u_lays g6 hc.2.1 hk) hi).1 c1 (by rw [c3]; exact fun h => by cases h) (v := toV E x) ?_ rfl rfl hd (kk ⟨g1, g2, g3, g4, g5, g6, g7, g8, gK, gR, gB⟩ H locs ls hH hq hl')
  rw [hsl, c4 k hk, hx]
theorem v_gI {ci k : Nat} {q : vw_C} (hc : ClsOk ci q) {r : Option Nat} {ixc : Nat} {f : Int32 → Option β} (hg : gI σ r ci k f = some z) (hd : decode M.2.1 pc = .ok (.getfield ixc, 3)) (hk : k < q.2.2)
    (hl : Cond.fieldLink M.1.cls ixc (q.2.1 k).1 (q.2.1 k).2.1 (q.2.1 k).2.2.1 ∈ lw_all) (ht : isJ (cty ci k) = true) (kk : ∀ x : Int32, f x = some z → V E M G (pc + 3) L (vi x :: st) σ res) : V E M G pc L (vr r :: st) σ res := by
  cases r with
  | none => cases hg
  | some a =>
    simp only [gI] at hg
    split at hg
    · exact v_getf hc (by assumption) hd hk hl (x := vi (mI σ a k)) (fv_J ht) (kk _ hg)
    · cases hg
theorem v_gIN {ci k : Nat} {q : vw_C} (hc : ClsOk ci q) {r : Option Nat} {ixc : Nat} {host : String} {f : Int32 → Option β} (hg : gI σ r ci k f = some z) (hd : decode M.2.1 pc = .ok (.getfield ixc, 3)) (hk : k < q.2.2)
    (hl : Cond.fieldLinkNest M.1.cls ixc (q.2.1 k).1 (q.2.1 k).2.1 (q.2.1 k).2.2.1 host ∈ lw_tbl) (ht : isJ (cty ci k) = true) (kk : ∀ x : Int32, f x = some z → V E M G (pc + 3) L (vi x :: st) σ res) : V E M G pc L (vr r :: st) σ res := by
  cases r with
  | none => cases hg
  | some a =>
    simp only [gI] at hg
    split at hg
    · exact v_getfN hc (by assumption) hd hk hl (x := vi (mI σ a k)) (fv_J ht) (kk _ hg)
    · cases hg
theorem v_gR {ci k : Nat} {q : vw_C} (hc : ClsOk ci q) {r : Option Nat} {ixc : Nat} {f : Option Nat → Option β} (hg : gR σ r ci k f = some z) (hd : decode M.2.1 pc = .ok (.getfield ixc, 3)) (hk : k < q.2.2)
    (hl : Cond.fieldLink M.1.cls ixc (q.2.1 k).1 (q.2.1 k).2.1 (q.2.1 k).2.2.1 ∈ lw_all) (ht : isR (cty ci k) = true) (kk : ∀ x : Option Nat, f x = some z → V E M G (pc + 3) L (vr x :: st) σ res) : V E M G pc L (vr r :: st) σ res := by
  cases r with
  | none => cases hg
  | some a =>
    simp only [gR] at hg
    split at hg
    · exact v_getf hc (by assumption) hd hk hl (x := vr (mP σ a k)) (fv_R ht) (kk _ hg)
    · cases hg
theorem v_gRN {ci k : Nat} {q : vw_C} (hc : ClsOk ci q) {r : Option Nat} {ixc : Nat} {host : String} {f : Option Nat → Option β} (hg : gR σ r ci k f = some z) (hd : decode M.2.1 pc = .ok (.getfield ixc, 3)) (hk : k < q.2.2)
    (hl : Cond.fieldLinkNest M.1.cls ixc (q.2.1 k).1 (q.2.1 k).2.1 (q.2.1 k).2.2.1 host ∈ lw_tbl) (ht : isR (cty ci k) = true) (kk : ∀ x : Option Nat, f x = some z → V E M G (pc + 3) L (vr x :: st) σ res) : V E M G pc L (vr r :: st) σ res := by
  cases r with
  | none => cases hg
  | some a =>
    simp only [gR] at hg
    split at hg
    · exact v_getfN hc (by assumption) hd hk hl (x := vr (mP σ a k)) (fv_R ht) (kk _ hg)
    · cases hg
/-- the slots of a class's fields are apart -/
theorem cls_apart {ci : Nat} {q : vw_C} (hc : ClsOk ci q) {s : State} {args : Array Value} (hts : ∀ w ∈ lw_all, w.before args s = true) (hK : KN E s) : ∀ x y, x < q.2.2 → y < q.2.2 → x ≠ y → (E.1.2 ci) x ≠ (E.1.2 ci) y := by
  intro x y hx hy hne
  obtain ⟨hS, -⟩ := hK.1 ci q hc.1
  obtain ⟨_, _, _, fa, hia, ea⟩ := hS x hx
  obtain ⟨_, _, _, fb, hib, eb⟩ := hS y hy
  rw [← ea, ← eb]
  refine u_apart (u_lays hts hc.2.1 hx) (u_lays hts hc.2.1 hy) hia hib ?_
  rw [(State.fieldFound?_type hia (hc.2.2.1 x hx)).1, (State.fieldFound?_type hib (hc.2.2.1 y hy)).1]
  exact hc.2.2.2.1 x hx y hy hne
/-- the memory behind a store to a field -/
theorem hp_setf {ci k : Nat} {q : vw_C} (hc : ClsOk ci q) {s : State} {args : Array Value} (hts : ∀ w ∈ lw_all, w.before args s = true) (hK : KN E s) {H H' : Heap} {a : Nat} {cell : Cell} {σ' : Mem} {x : Int32} {r : Option Nat} (hH : Hp E σ H) (hka : (mK σ a).1 = ci) (hk : k < q.2.2) (c1 : H[eB E + a]? = some cell)
    (c2 : cell.cls = E.1.1 ci) (c3 : cell.vm = .none) (c4 : ∀ j, j < q.2.2 → cell.slots[E.1.2 ci j]? = some (fv E (cty ci j) (mI σ a j) (mP σ a j)))
    (e1 : H'[eB E + a]? = some (cell.setSlot (E.1.2 ci k) (fv E (cty ci k) x r))) (e2 : H'.size = H.size) (e3 : ∀ q, q ≠ eB E + a → H'[q]? = H[q]?)
    (hσ : (σ' = (up2 (mI σ) a k x, σ.2) ∧ fv E (cty ci k) x r = fv E (cty ci k) x (mP σ a k)) ∨ (σ' = (mI σ, up2 (mP σ) a k r, σ.2.2) ∧ fv E (cty ci k) x r = fv E (cty ci k) (mI σ a k) r)) : Hp E σ' H' := by
  have hz : a < mZ σ := (hp_obj hH hka hc.1).1
  have hts' := t_set c4 (cls_apart hc hts hK) hk (fv E (cty ci k) x r)
  rcases hσ with ⟨rfl, hf⟩ | ⟨rfl, hf⟩
  · refine hp_put hH hz c1 e1 (k2_slotsz _ _ _) e2 e3 rfl rfl rfl (fun b hb => up2_ne hb) (fun b hb => rfl) (Or.inl ⟨q, by rw [hka]; exact hc.1, _, rfl, by rw [hka]; exact c2, c3, fun j hj => ?_⟩)
    rw [hka, hts' j hj]
    show some (updV _ k _ j) = some (fv E (cty ci j) (up2 (mI σ) a k x a j) (mP σ a j))
    by_cases hjk : j = k
    · subst hjk
      simp only [updV, up2, if_pos, and_self]
      exact congrArg some hf
    · simp [updV, up2, hjk]
  · refine hp_put hH hz c1 e1 (k2_slotsz _ _ _) e2 e3 rfl rfl rfl (fun b hb => rfl) (fun b hb => up2_ne hb) (Or.inl ⟨q, by rw [hka]; exact hc.1, _, rfl, by rw [hka]; exact c2, c3, fun j hj => ?_⟩)
    rw [hka, hts' j hj]
    show some (updV _ k _ j) = some (fv E (cty ci j) (mI σ a j) (up2 (mP σ) a k r a j))
    by_cases hjk : j = k
    · subst hjk
      simp only [updV, up2, if_pos, and_self]
      exact congrArg some hf
    · simp [updV, up2, hjk]
/-- a store to a field: f fresh heaps -/
theorem v_putf {ci k : Nat} {q : vw_C} (hc : ClsOk ci q) {a ixc : Nat} {σ' : Mem} {x : Int32} {r : Option Nat} (hka : (mK σ a).1 = ci) (hd : decode M.2.1 pc = .ok (.putfield ixc, 3)) (hk : k < q.2.2)
    (hl : Cond.fieldLink M.1.cls ixc (q.2.1 k).1 (q.2.1 k).2.1 (q.2.1 k).2.2.1 ∈ lw_all) (hfin : (q.2.1 k).2.2.2 = false) (hn : narrow (cty ci k) (fv E (cty ci k) x r) = fv E (cty ci k) x r) (hfit : fits (cty ci k) (fv E (cty ci k) x r) = true)
    (hσ : (σ' = (up2 (mI σ) a k x, σ.2) ∧ fv E (cty ci k) x r = fv E (cty ci k) x (mP σ a k)) ∨ (σ' = (mI σ, up2 (mP σ) a k r, σ.2.2) ∧ fv E (cty ci k) x r = fv E (cty ci k) (mI σ a k) r))
    {v : AV} (hv : toV E v = fv E (cty ci k) x r) (kk : V E M G (pc + 3) L st σ' res) : V E M G pc L (v :: vr (some a) :: st) σ res := by
  obtain ⟨p, l, e, R, s, m, args, below, meth, c⟩ := G
  intro g H locs ls hH hq hl'
  obtain ⟨g1, g2, g3, g4, g5, g6, g7, g8, gK, gR, gB⟩ := g
  obtain ⟨hz, cell, c1, c2, c3, c4⟩ := hp_obj hH hka hc.1
  obtain ⟨hS, hfc, kC, hkC, hkind⟩ := gK.1 ci q hc.1
  obtain ⟨cf, kf, fi, f, hi, hsl⟩ := hS k hk
  have hlay := g6 _ (hc.2.1 _ (u_in_lay hk))
  unfold u_lay at hlay
  rw [if_neg (by rw [hfin]; decide)] at hlay
  have hst := (u_facts hfc hkC (u_lays g6 hc.2.1 hk) hi).1
  have h6 := u_store hfc hkC hkind hlay hi (hc.2.2.1 k hk) hn hfit
  have hv' : F0 m pc ls ((v :: vr (some a) :: st).map (toV E)) = F0 m pc ls (fv E (cty ci k) x r :: .ref (eB E + a) :: st.map (toV E)) := by rw [← hv]; rfl
  refine W.eq hv' ?_
  refine W.putK g1 g2 (f := f) ⟨g5, g6 _ hl, ⟨_, _, _, hi⟩, hst⟩ (by rw [c2]; exact h6) c1 c3 (by rw [hsl]; exact k2_hasslot (c4 k hk)) rfl rfl hd fun H' e1 e2 e3 => W.tight ?_
  rw [hsl] at e1 ⊢
  exact kk ⟨g1, g2, g3, g4, g5, g6, g7, g8, gK, gR, gB⟩ H' _ ls (hp_setf hc g6 gK hH hka hk c1 c2 c3 c4 e1 e2 e3 hσ) (fun y hy => by
    rcases List.mem_append.mp hy with h | h
    · exact hq y h
    · rw [List.mem_singleton.mp h]; exact Nat.le_add_right _ _) hl'
theorem v_putfN {ci k : Nat} {q : vw_C} (hc : ClsOk ci q) {a ixc : Nat} {host : String} {σ' : Mem} {x : Int32} {r : Option Nat} (hka : (mK σ a).1 = ci) (hd : decode M.2.1 pc = .ok (.putfield ixc, 3)) (hk : k < q.2.2)
    (hl : Cond.fieldLinkNest M.1.cls ixc (q.2.1 k).1 (q.2.1 k).2.1 (q.2.1 k).2.2.1 host ∈ lw_tbl) (hfin : (q.2.1 k).2.2.2 = false) (hn : narrow (cty ci k) (fv E (cty ci k) x r) = fv E (cty ci k) x r) (hfit : fits (cty ci k) (fv E (cty ci k) x r) = true)
    (hσ : (σ' = (up2 (mI σ) a k x, σ.2) ∧ fv E (cty ci k) x r = fv E (cty ci k) x (mP σ a k)) ∨ (σ' = (mI σ, up2 (mP σ) a k r, σ.2.2) ∧ fv E (cty ci k) x r = fv E (cty ci k) (mI σ a k) r))
    {v : AV} (hv : toV E v = fv E (cty ci k) x r) (kk : V E M G (pc + 3) L st σ' res) : V E M G pc L (v :: vr (some a) :: st) σ res := by
  obtain ⟨p, l, e, R, s, m, args, below, meth, c⟩ := G
  intro g H locs ls hH hq hl'
  obtain ⟨g1, g2, g3, g4, g5, g6, g7, g8, gK, gR, gB⟩ := g
  obtain ⟨hz, cell, c1, c2, c3, c4⟩ := hp_obj hH hka hc.1
  obtain ⟨hS, hfc, kC, hkC, hkind⟩ := gK.1 ci q hc.1
  obtain ⟨cf, kf, fi, f, hi, hsl⟩ := hS k hk
  have hlay := g6 _ (hc.2.1 _ (u_in_lay hk))
  unfold u_lay at hlay
  rw [if_neg (by rw [hfin]; decide)] at hlay
  have hst := (u_facts hfc hkC (u_lays g6 hc.2.1 hk) hi).1
  have h6 := u_store hfc hkC hkind hlay hi (hc.2.2.1 k hk) hn hfit
  have hv' : F0 m pc ls ((v :: vr (some a) :: st).map (toV E)) = F0 m pc ls (fv E (cty ci k) x r :: .ref (eB E + a) :: st.map (toV E)) := by rw [← hv]; rfl
  refine W.eq hv' ?_
  have ha : eB E + a < H.size := (Array.getElem?_eq_some_iff.mp c1).1
  refine va_Wputf g1 g2 g5 (va_Nw.use (A := args) rfl (gK.2.2.1 _ hl rfl)) hi hst (Or.inl h6.1) c1 (by rw [c3]; exact fun h => by cases h) (by rw [hsl]; exact k2_hasslot (c4 k hk)) h6.2.1 (by rw [c2, c3]; exact h6.2.2) rfl rfl hd (W.tight ?_)
  refine kk ⟨g1, g2, g3, g4, g5, g6, g7, g8, gK, gR, gB⟩ _ _ ls (hp_setf hc g6 gK hH hka hk c1 c2 c3 c4 ?_ ?_ ?_ hσ) (fun y hy => by
    rcases List.mem_append.mp hy with h | h
    · exact hq y h
    · rw [List.mem_singleton.mp h]; exact Nat.le_add_right _ _) hl'
  · rw [hsl]
    simp [Array.getElem?_setIfInBounds, ha]
  · simp
  · intro y hy
    simp [Array.getElem?_setIfInBounds, Ne.symm hy]
theorem v_putfF {ci k : Nat} {q : vw_C} (hc : ClsOk ci q) {a ixc : Nat} {σ' : Mem} {x : Int32} {r : Option Nat} (hka : (mK σ a).1 = ci) (hd : decode M.2.1 pc = .ok (.putfield ixc, 3)) (hk : k < q.2.2)
    (hl : Cond.fieldLink M.1.cls ixc (q.2.1 k).1 (q.2.1 k).2.1 (q.2.1 k).2.2.1 ∈ lw_all) (hfin : (q.2.1 k).2.2.2 = true) (hinit : M.1.name = "<init>") (hdecl : (q.2.1 k).1 = M.1.cls) (hn : narrow (cty ci k) (fv E (cty ci k) x r) = fv E (cty ci k) x r) (hfit : fits (cty ci k) (fv E (cty ci k) x r) = true)
    (hσ : (σ' = (up2 (mI σ) a k x, σ.2) ∧ fv E (cty ci k) x r = fv E (cty ci k) x (mP σ a k)) ∨ (σ' = (mI σ, up2 (mP σ) a k r, σ.2.2) ∧ fv E (cty ci k) x r = fv E (cty ci k) (mI σ a k) r))
    {v : AV} (hv : toV E v = fv E (cty ci k) x r) (kk : V E M G (pc + 3) L st σ' res) : V E M G pc L (v :: vr (some a) :: st) σ res := by
  obtain ⟨p, l, e, R, s, m, args, below, meth, c⟩ := G
  intro g H locs ls hH hq hl'
  obtain ⟨g1, g2, g3, g4, g5, g6, g7, g8, gK, gR, gB⟩ := g
  obtain ⟨hz, cell, c1, c2, c3, c4⟩ := hp_obj hH hka hc.1
  obtain ⟨hS, hfc, kC, hkC, hkind⟩ := gK.1 ci q hc.1
  obtain ⟨cf, kf, fi, f, hi, hsl⟩ := hS k hk
  have hlay := g6 _ (hc.2.1 _ (u_in_lay hk))
  unfold u_lay at hlay
  rw [if_pos hfin] at hlay
  have hst := (u_facts hfc hkC (u_lays g6 hc.2.1 hk) hi).1
  have hcf : m.cls = cf := by
    obtain ⟨_, _, c', _, _, _, -, -, hf', -, -, -, hown2, -⟩ := Cond.laysFinal_spec hlay
    have e1 : c' = cf := by have := hi.symm.trans hf'; simp at this; exact this.1.symm
    rw [hdecl] at hown2
    rw [← e1]; exact Option.some.inj (g5.symm.trans hown2)
  have h6 := u_fits hfc hkC hkind (Or.inr hlay) hi (hc.2.2.1 k hk) hn hfit
  have hv' : F0 m pc ls ((v :: vr (some a) :: st).map (toV E)) = F0 m pc ls (fv E (cty ci k) x r :: .ref (eB E + a) :: st.map (toV E)) := by rw [← hv]; rfl
  refine W.eq hv' ?_
  refine W.putFinK g1 g2 g5 (g6 _ hl) hi hst hcf ((g8 hinit).trans hinit) (by rw [c2]; exact h6) c1 c3 (by rw [hsl]; exact k2_hasslot (c4 k hk)) rfl rfl hd fun H' e1 e2 e3 => W.tight ?_
  rw [hsl] at e1 ⊢
  exact kk ⟨g1, g2, g3, g4, g5, g6, g7, g8, gK, gR, gB⟩ H' _ ls (hp_setf hc g6 gK hH hka hk c1 c2 c3 c4 e1 e2 e3 hσ) (fun y hy => by
    rcases List.mem_append.mp hy with h | h
    · exact hq y h
    · rw [List.mem_singleton.mp h]; exact Nat.le_add_right _ _) hl'
theorem v_pI {ci k : Nat} {q : vw_C} (hc : ClsOk ci q) {r : Option Nat} {ixc : Nat} {v : Int32} {f : Mem → Option β} (hg : pI σ r ci k v f = some z) (hd : decode M.2.1 pc = .ok (.putfield ixc, 3)) (hk : k < q.2.2)
    (hl : Cond.fieldLink M.1.cls ixc (q.2.1 k).1 (q.2.1 k).2.1 (q.2.1 k).2.2.1 ∈ lw_all) (hfin : (q.2.1 k).2.2.2 = false) (ht : isII (cty ci k) = true) (kk : ∀ σ' : Mem, f σ' = some z → V E M G (pc + 3) L st σ' res) : V E M G pc L (vi v :: vr r :: st) σ res := by
  have e : cty ci k = .int := by revert ht; cases cty ci k <;> intro ht <;> first | rfl | cases ht
  cases r with
  | none => cases hg
  | some a =>
    simp only [pI] at hg
    split at hg
    · exact v_putf hc (x := v) (r := none) (by assumption) hd hk hl hfin (by rw [e]; rfl) (by rw [e]; rfl) (Or.inl ⟨rfl, by rw [e]; rfl⟩) (by rw [e]; rfl) (kk _ hg)
    · cases hg
theorem v_pIN {ci k : Nat} {q : vw_C} (hc : ClsOk ci q) {r : Option Nat} {ixc : Nat} {host : String} {v : Int32} {f : Mem → Option β} (hg : pI σ r ci k v f = some z) (hd : decode M.2.1 pc = .ok (.putfield ixc, 3)) (hk : k < q.2.2)
    (hl : Cond.fieldLinkNest M.1.cls ixc (q.2.1 k).1 (q.2.1 k).2.1 (q.2.1 k).2.2.1 host ∈ lw_tbl) (hfin : (q.2.1 k).2.2.2 = false) (ht : isII (cty ci k) = true) (kk : ∀ σ' : Mem, f σ' = some z → V E M G (pc + 3) L st σ' res) : V E M G pc L (vi v :: vr r :: st) σ res := by
  have e : cty ci k = .int := by revert ht; cases cty ci k <;> intro ht <;> first | rfl | cases ht
  cases r with
  | none => cases hg
  | some a =>
    simp only [pI] at hg
    split at hg
    · exact v_putfN hc (x := v) (r := none) (by assumption) hd hk hl hfin (by rw [e]; rfl) (by rw [e]; rfl) (Or.inl ⟨rfl, by rw [e]; rfl⟩) (by rw [e]; rfl) (kk _ hg)
    · cases hg
theorem v_pIF {ci k : Nat} {q : vw_C} (hc : ClsOk ci q) {r : Option Nat} {ixc : Nat} {v : Int32} {f : Mem → Option β} (hg : pI σ r ci k v f = some z) (hd : decode M.2.1 pc = .ok (.putfield ixc, 3)) (hk : k < q.2.2)
    (hl : Cond.fieldLink M.1.cls ixc (q.2.1 k).1 (q.2.1 k).2.1 (q.2.1 k).2.2.1 ∈ lw_all) (hfin : (q.2.1 k).2.2.2 = true) (hinit : M.1.name = "<init>") (hdecl : (q.2.1 k).1 = M.1.cls) (ht : isII (cty ci k) = true) (kk : ∀ σ' : Mem, f σ' = some z → V E M G (pc + 3) L st σ' res) : V E M G pc L (vi v :: vr r :: st) σ res := by
  have e : cty ci k = .int := by revert ht; cases cty ci k <;> intro ht <;> first | rfl | cases ht
  cases r with
  | none => cases hg
  | some a =>
    simp only [pI] at hg
    split at hg
    · exact v_putfF hc (x := v) (r := none) (by assumption) hd hk hl hfin hinit hdecl (by rw [e]; rfl) (by rw [e]; rfl) (Or.inl ⟨rfl, by rw [e]; rfl⟩) (by rw [e]; rfl) (kk _ hg)
    · cases hg
theorem v_pZ {ci k : Nat} {q : vw_C} (hc : ClsOk ci q) {r : Option Nat} {ixc : Nat} {v : Int32} {f : Mem → Option β} (hg : pZ σ r ci k v f = some z) (hd : decode M.2.1 pc = .ok (.putfield ixc, 3)) (hk : k < q.2.2)
    (hl : Cond.fieldLink M.1.cls ixc (q.2.1 k).1 (q.2.1 k).2.1 (q.2.1 k).2.2.1 ∈ lw_all) (hfin : (q.2.1 k).2.2.2 = false) (ht : isZZ (cty ci k) = true) (kk : ∀ σ' : Mem, f σ' = some z → V E M G (pc + 3) L st σ' res) : V E M G pc L (vi v :: vr r :: st) σ res := by
  have e : cty ci k = .boolean := by revert ht; cases cty ci k <;> intro ht <;> first | rfl | cases ht
  cases r with
  | none => cases hg
  | some a =>
    simp only [pZ] at hg
    split at hg
    · rename_i hh
      exact v_putf hc (x := v) (r := none) hh.1 hd hk hl hfin (by rw [e]; rcases hh.2 with rfl | rfl <;> rfl) (by rw [e]; rcases hh.2 with rfl | rfl <;> rfl) (Or.inl ⟨rfl, by rw [e]; rfl⟩) (by rw [e]; rfl) (kk _ hg)
    · cases hg
theorem v_pZN {ci k : Nat} {q : vw_C} (hc : ClsOk ci q) {r : Option Nat} {ixc : Nat} {host : String} {v : Int32} {f : Mem → Option β} (hg : pZ σ r ci k v f = some z) (hd : decode M.2.1 pc = .ok (.putfield ixc, 3)) (hk : k < q.2.2)
    (hl : Cond.fieldLinkNest M.1.cls ixc (q.2.1 k).1 (q.2.1 k).2.1 (q.2.1 k).2.2.1 host ∈ lw_tbl) (hfin : (q.2.1 k).2.2.2 = false) (ht : isZZ (cty ci k) = true) (kk : ∀ σ' : Mem, f σ' = some z → V E M G (pc + 3) L st σ' res) : V E M G pc L (vi v :: vr r :: st) σ res := by
  have e : cty ci k = .boolean := by revert ht; cases cty ci k <;> intro ht <;> first | rfl | cases ht
  cases r with
  | none => cases hg
  | some a =>
    simp only [pZ] at hg
    split at hg
    · rename_i hh
      exact v_putfN hc (x := v) (r := none) hh.1 hd hk hl hfin (by rw [e]; rcases hh.2 with rfl | rfl <;> rfl) (by rw [e]; rcases hh.2 with rfl | rfl <;> rfl) (Or.inl ⟨rfl, by rw [e]; rfl⟩) (by rw [e]; rfl) (kk _ hg)
    · cases hg
theorem fits_R {ty : FieldType} (h : isR ty = true) (r : Option Nat) : narrow ty (rV E r) = rV E r ∧ fits ty (rV E r) = true := by
  cases ty with
  | object _ => cases r <;> exact ⟨rfl, rfl⟩
  | array _ => cases r <;> exact ⟨rfl, rfl⟩
  | _ => cases h
theorem v_pR {ci k : Nat} {q : vw_C} (hc : ClsOk ci q) {r : Option Nat} {ixc : Nat} {v : Option Nat} {f : Mem → Option β} (hg : pR σ r ci k v f = some z) (hd : decode M.2.1 pc = .ok (.putfield ixc, 3)) (hk : k < q.2.2)
    (hl : Cond.fieldLink M.1.cls ixc (q.2.1 k).1 (q.2.1 k).2.1 (q.2.1 k).2.2.1 ∈ lw_all) (hfin : (q.2.1 k).2.2.2 = false) (ht : isR (cty ci k) = true) (kk : ∀ σ' : Mem, f σ' = some z → V E M G (pc + 3) L st σ' res) : V E M G pc L (vr v :: vr r :: st) σ res := by
  cases r with
  | none => cases hg
  | some a =>
    simp only [pR] at hg
    split at hg
    · exact v_putf hc (x := 0) (r := v) (by assumption) hd hk hl hfin (by rw [fv_R ht]; exact (fits_R ht v).1) (by rw [fv_R ht]; exact (fits_R ht v).2) (Or.inr ⟨rfl, by rw [fv_R ht, fv_R ht]⟩) (by rw [fv_R ht]; rfl) (kk _ hg)
    · cases hg
theorem v_pRN {ci k : Nat} {q : vw_C} (hc : ClsOk ci q) {r : Option Nat} {ixc : Nat} {host : String} {v : Option Nat} {f : Mem → Option β} (hg : pR σ r ci k v f = some z) (hd : decode M.2.1 pc = .ok (.putfield ixc, 3)) (hk : k < q.2.2)
    (hl : Cond.fieldLinkNest M.1.cls ixc (q.2.1 k).1 (q.2.1 k).2.1 (q.2.1 k).2.2.1 host ∈ lw_tbl) (hfin : (q.2.1 k).2.2.2 = false) (ht : isR (cty ci k) = true) (kk : ∀ σ' : Mem, f σ' = some z → V E M G (pc + 3) L st σ' res) : V E M G pc L (vr v :: vr r :: st) σ res := by
  cases r with
  | none => cases hg
  | some a =>
    simp only [pR] at hg
    split at hg
    · exact v_putfN hc (x := 0) (r := v) (by assumption) hd hk hl hfin (by rw [fv_R ht]; exact (fits_R ht v).1) (by rw [fv_R ht]; exact (fits_R ht v).2) (Or.inr ⟨rfl, by rw [fv_R ht, fv_R ht]⟩) (by rw [fv_R ht]; rfl) (kk _ hg)
    · cases hg
theorem v_pRF {ci k : Nat} {q : vw_C} (hc : ClsOk ci q) {r : Option Nat} {ixc : Nat} {v : Option Nat} {f : Mem → Option β} (hg : pR σ r ci k v f = some z) (hd : decode M.2.1 pc = .ok (.putfield ixc, 3)) (hk : k < q.2.2)
    (hl : Cond.fieldLink M.1.cls ixc (q.2.1 k).1 (q.2.1 k).2.1 (q.2.1 k).2.2.1 ∈ lw_all) (hfin : (q.2.1 k).2.2.2 = true) (hinit : M.1.name = "<init>") (hdecl : (q.2.1 k).1 = M.1.cls) (ht : isR (cty ci k) = true) (kk : ∀ σ' : Mem, f σ' = some z → V E M G (pc + 3) L st σ' res) : V E M G pc L (vr v :: vr r :: st) σ res := by
  cases r with
  | none => cases hg
  | some a =>
    simp only [pR] at hg
    split at hg
    · exact v_putfF hc (x := 0) (r := v) (by assumption) hd hk hl hfin hinit hdecl (by rw [fv_R ht]; exact (fits_R ht v).1) (by rw [fv_R ht]; exact (fits_R ht v).2) (Or.inr ⟨rfl, by rw [fv_R ht, fv_R ht]⟩) (by rw [fv_R ht]; rfl) (kk _ hg)
    · cases hg
/-! arrays -/
theorem inR_not {i : Int32} {n : Nat} (h : inR i n) : ¬ (i < 0 ∨ n ≤ i.toNatClampNeg) := vp_in_iff.mpr h
theorem inR_lt {i : Int32} {n : Nat} (h : inR i n) : ix i < n := Nat.not_le.mp fun q => inR_not h (Or.inr q)
theorem v_aI {r : Option Nat} {i : Int32} {f : Int32 → Option β} (hg : aI σ r i f = some z) (hd : decode M.2.1 pc = .ok (.iaload, 1)) (kk : ∀ x : Int32, f x = some z → V E M G (pc + 1) L (vi x :: st) σ res) : V E M G pc L (vi i :: vr r :: st) σ res := by
  cases r with
  | none => cases hg
  | some a =>
    simp only [aI] at hg
    split at hg
    · rename_i hh
      obtain ⟨p, l, e, R, s, m, args, below, meth, c⟩ := G
      intro g H locs ls hH hq hl'
      have h1 := (hp_ai hH hh.1 (Or.inl rfl)).2
      exact W.iald (v := .int (mI σ a (ix i))) g.1 g.2.1 h1 (((g.2.2.2.2.2.2.2.2.1).2.1 20 (by decide) (by decide)).1 _ _) (fun q => by cases q) (by rw [arrV_size]; exact inR_not hh.2) (by rw [show i.toNatClampNeg = ix i from rfl, arrV_read _ _ (inR_lt hh.2)]) rfl rfl hd (kk _ hg g H locs ls hH hq hl')
    · cases hg
theorem v_aB {r : Option Nat} {i : Int32} {f : Int32 → Option β} (hg : aB σ r i f = some z) (hd : decode M.2.1 pc = .ok (.baload, 1)) (kk : ∀ x : Int32, f x = some z → V E M G (pc + 1) L (vi x :: st) σ res) : V E M G pc L (vi i :: vr r :: st) σ res := by
  cases r with
  | none => cases hg
  | some a =>
    simp only [aB] at hg
    split at hg
    · rename_i hh
      obtain ⟨p, l, e, R, s, m, args, below, meth, c⟩ := G
      intro g H locs ls hH hq hl'
      have h1 := (hp_ai hH hh.1 (Or.inr rfl)).2
      exact W.bald (v := .int (mI σ a (ix i))) g.1 g.2.1 h1 (((g.2.2.2.2.2.2.2.2.1).2.1 21 (by decide) (by decide)).1 _ _) (fun q => by cases q) (by rw [arrV_size]; exact inR_not hh.2) (by rw [show i.toNatClampNeg = ix i from rfl, arrV_read _ _ (inR_lt hh.2)]) rfl rfl hd (kk _ hg g H locs ls hH hq hl')
    · cases hg
theorem aty_ref {kd : Nat} (h : 22 ≤ kd ∧ kd ≤ 25) : (aty kd).isReference = true := by
  obtain ⟨h1, h2⟩ := h
  rcases (show kd = 22 ∨ kd = 23 ∨ kd = 24 ∨ kd = 25 by omega) with rfl | rfl | rfl | rfl <;> rfl
theorem v_aR {r : Option Nat} {kd : Nat} {i : Int32} {f : Option Nat → Option β} (hg : aR σ r kd i f = some z) (hkd : 22 ≤ kd ∧ kd ≤ 25) (hd : decode M.2.1 pc = .ok (.aaload, 1)) (kk : ∀ x : Option Nat, f x = some z → V E M G (pc + 1) L (vr x :: st) σ res) : V E M G pc L (vi i :: vr r :: st) σ res := by
  cases r with
  | none => cases hg
  | some a =>
    simp only [aR] at hg
    split at hg
    · rename_i hh
      obtain ⟨p, l, e, R, s, m, args, below, meth, c⟩ := G
      intro g H locs ls hH hq hl'
      have h1 := (hp_ar hH hh.1 hkd).2
      exact W.aald (v := rV E (mP σ a (ix i))) (ty := aty kd) g.1 g.2.1 h1 (((g.2.2.2.2.2.2.2.2.1).2.1 kd (by omega) hkd.2).1 _ _) (aty_ref hkd) (fun q => by cases q) (by rw [arrV_size]; exact inR_not hh.2) (by rw [show i.toNatClampNeg = ix i from rfl, arrV_read _ _ (inR_lt hh.2)]) rfl rfl hd (kk _ hg g H locs ls hH hq hl')
    · cases hg
theorem v_aLi {r : Option Nat} {kd : Nat} {f : Int32 → Option β} (hg : aL σ r kd f = some z) (hkd : kd = 20 ∨ kd = 21) (hd : decode M.2.1 pc = .ok (.arraylength, 1)) (kk : ∀ x : Int32, f x = some z → V E M G (pc + 1) L (vi x :: st) σ res) : V E M G pc L (vr r :: st) σ res := by
  cases r with
  | none => cases hg
  | some a =>
    simp only [aL] at hg
    split at hg
    · rename_i hh
      obtain ⟨p, l, e, R, s, m, args, below, meth, c⟩ := G
      intro g H locs ls hH hq hl'
      have h1 := (hp_ai hH hh hkd).2
      refine W.alen (n := Int32.ofNat (mK σ a).2) g.1 g.2.1 h1 (((g.2.2.2.2.2.2.2.2.1).2.1 kd (by omega) (by omega)).1 _ _) (by rw [arrV_size] <;> rfl) rfl rfl hd (kk _ hg g H locs ls hH hq hl')
    · cases hg
theorem v_aLr {r : Option Nat} {kd : Nat} {f : Int32 → Option β} (hg : aL σ r kd f = some z) (hkd : 22 ≤ kd ∧ kd ≤ 25) (hd : decode M.2.1 pc = .ok (.arraylength, 1)) (kk : ∀ x : Int32, f x = some z → V E M G (pc + 1) L (vi x :: st) σ res) : V E M G pc L (vr r :: st) σ res := by
  cases r with
  | none => cases hg
  | some a =>
    simp only [aL] at hg
    split at hg
    · rename_i hh
      obtain ⟨p, l, e, R, s, m, args, below, meth, c⟩ := G
      intro g H locs ls hH hq hl'
      have h1 := (hp_ar hH hh hkd).2
      refine W.alen (n := Int32.ofNat (mK σ a).2) g.1 g.2.1 h1 (((g.2.2.2.2.2.2.2.2.1).2.1 kd (by omega) (by omega)).1 _ _) (by rw [arrV_size] <;> rfl) rfl rfl hd (kk _ hg g H locs ls hH hq hl')
    · cases hg
theorem hq_app {locs : List Loc} {a j : Nat} (hq : ∀ q ∈ locs, eB E ≤ q.base) : ∀ q ∈ locs ++ [⟨eB E + a, j⟩], eB E ≤ q.base := by
  intro y hy
  rcases List.mem_append.mp hy with h | h
  · exact hq y h
  · rw [List.mem_singleton.mp h]; exact Nat.le_add_right _ _
theorem v_sI {r : Option Nat} {i v : Int32} {f : Mem → Option β} (hg : sI σ r i v f = some z) (hd : decode M.2.1 pc = .ok (.iastore, 1)) (kk : ∀ σ' : Mem, f σ' = some z → V E M G (pc + 1) L st σ' res) : V E M G pc L (vi v :: vi i :: vr r :: st) σ res := by
  cases r with
  | none => cases hg
  | some a =>
    simp only [sI] at hg
    split at hg
    · rename_i hh
      obtain ⟨p, l, e, R, s, m, args, below, meth, c⟩ := G
      intro g H locs ls hH hq hl'
      have h1 := hp_ai hH hh.1 (Or.inl rfl)
      refine W.iast g.1 g.2.1 h1.2 (((g.2.2.2.2.2.2.2.2.1).2.1 20 (by decide) (by decide)).1 _ _) (fun q => by cases q) (by rw [arrV_size]; exact inR_not hh.2) rfl rfl hd fun H' e1 e2 e3 => W.tight ?_
      refine kk _ hg g H' _ ls (hp_put hH h1.1 h1.2 e1 (k2_slotsz _ _ _) e2 e3 rfl rfl rfl (fun b hb => up2_ne hb) (fun b hb => rfl) (Or.inr (Or.inl ⟨Or.inl hh.1, ?_⟩))) (hq_app hq) hl'
      rw [hh.1, arrV_store]
      congr 2
      funext j
      by_cases hj : j = ix i
      · subst hj
        simp [updV, up2, mI, ix]
      · have hj' : ¬ j = i.toNatClampNeg := hj
        simp [updV, up2, mI, hj, hj']
    · cases hg
theorem v_sB {r : Option Nat} {i v : Int32} {f : Mem → Option β} (hg : sB σ r i v f = some z) (hd : decode M.2.1 pc = .ok (.bastore, 1)) (kk : ∀ σ' : Mem, f σ' = some z → V E M G (pc + 1) L st σ' res) : V E M G pc L (vi v :: vi i :: vr r :: st) σ res := by
  cases r with
  | none => cases hg
  | some a =>
    simp only [sB] at hg
    split at hg
    · rename_i hh
      obtain ⟨p, l, e, R, s, m, args, below, meth, c⟩ := G
      intro g H locs ls hH hq hl'
      have h1 := hp_ai hH hh.1 (Or.inr rfl)
      refine W.bast g.1 g.2.1 h1.2 (((g.2.2.2.2.2.2.2.2.1).2.1 21 (by decide) (by decide)).1 _ _) (fun q => by cases q) (by rw [arrV_size]; exact inR_not hh.2) rfl rfl hd fun H' e1 e2 e3 => W.tight ?_
      refine kk _ hg g H' _ ls (hp_put hH h1.1 h1.2 e1 (k2_slotsz _ _ _) e2 e3 rfl rfl rfl (fun b hb => up2_ne hb) (fun b hb => rfl) (Or.inr (Or.inl ⟨Or.inr hh.1, ?_⟩))) (hq_app hq) hl'
      rw [hh.1, arrV_store]
      congr 2
      funext j
      by_cases hj : j = ix i
      · subst hj
        simp [updV, up2, mI, ix]
        try rfl
      · have hj' : ¬ j = i.toNatClampNeg := hj
        simp [updV, up2, mI, hj, hj']
    · cases hg
end VH
