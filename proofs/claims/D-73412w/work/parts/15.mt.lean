set_option maxRecDepth 100000
abbrev mJ1_bitCount : MM := (yJ1_bitCount, cJ1_bitCount, 1, (Option.some Jvm.ClassFile.FieldType.int), 0, 0)
theorem dsJ1_bitCount : DsOk yJ1_bitCount 1 := ⟨by decide, by decide, by decide +kernel⟩
theorem lJ1_bitCount {E : EE} {G : GG} {v0 : Int32} {σ : Mem} {z : Int32 × Mem} (h : sJ1_bitCount v0 σ = some z) : V E mJ1_bitCount G 0 [some (vi v0)] [] σ (some (vi z.1), z.2) := by
  unfold sJ1_bitCount at h
  refine v_il0 dJ1_bitCount_0 ?_
  refine v_il0 dJ1_bitCount_1 ?_
  refine v_iconst dJ1_bitCount_2 ?_
  refine v_iushr dJ1_bitCount_3 ?_
  refine v_ldcwI (n := 1431655765) dJ1_bitCount_4 q725 rfl ?_
  refine v_iand dJ1_bitCount_7 ?_
  refine v_isub dJ1_bitCount_8 ?_
  obtain ⟨x1, ex1, h⟩ := lt_some h
  rw [ex1]
  refine v_istore_n (L' := [some (vi x1)]) dJ1_bitCount_9 (Nat.le_of_ble_eq_true rfl) (Nat.le_of_ble_eq_true rfl) rfl ?_
  refine v_il0 dJ1_bitCount_10 ?_
  refine v_ldcwI (n := 858993459) dJ1_bitCount_11 q726 rfl ?_
  refine v_iand dJ1_bitCount_14 ?_
  refine v_il0 dJ1_bitCount_15 ?_
  refine v_iconst dJ1_bitCount_16 ?_
  refine v_iushr dJ1_bitCount_17 ?_
  refine v_ldcwI (n := 858993459) dJ1_bitCount_18 q726 rfl ?_
  refine v_iand dJ1_bitCount_21 ?_
  refine v_iadd dJ1_bitCount_22 ?_
  obtain ⟨x2, ex2, h⟩ := lt_some h
  rw [ex2]
  refine v_istore_n (L' := [some (vi x2)]) dJ1_bitCount_23 (Nat.le_of_ble_eq_true rfl) (Nat.le_of_ble_eq_true rfl) rfl ?_
  refine v_il0 dJ1_bitCount_24 ?_
  refine v_il0 dJ1_bitCount_25 ?_
  refine v_iconst dJ1_bitCount_26 ?_
  refine v_iushr dJ1_bitCount_27 ?_
  refine v_iadd dJ1_bitCount_28 ?_
  refine v_ldcwI (n := 252645135) dJ1_bitCount_29 q727 rfl ?_
  refine v_iand dJ1_bitCount_32 ?_
  obtain ⟨x3, ex3, h⟩ := lt_some h
  rw [ex3]
  refine v_istore_n (L' := [some (vi x3)]) dJ1_bitCount_33 (Nat.le_of_ble_eq_true rfl) (Nat.le_of_ble_eq_true rfl) rfl ?_
  refine v_il0 dJ1_bitCount_34 ?_
  refine v_il0 dJ1_bitCount_35 ?_
  refine v_bipush dJ1_bitCount_36 rfl ?_
  refine v_iushr dJ1_bitCount_38 ?_
  refine v_iadd dJ1_bitCount_39 ?_
  obtain ⟨x4, ex4, h⟩ := lt_some h
  rw [ex4]
  refine v_istore_n (L' := [some (vi x4)]) dJ1_bitCount_40 (Nat.le_of_ble_eq_true rfl) (Nat.le_of_ble_eq_true rfl) rfl ?_
  refine v_il0 dJ1_bitCount_41 ?_
  refine v_il0 dJ1_bitCount_42 ?_
  refine v_bipush dJ1_bitCount_43 rfl ?_
  refine v_iushr dJ1_bitCount_45 ?_
  refine v_iadd dJ1_bitCount_46 ?_
  obtain ⟨x5, ex5, h⟩ := lt_some h
  rw [ex5]
  refine v_istore_n (L' := [some (vi x5)]) dJ1_bitCount_47 (Nat.le_of_ble_eq_true rfl) (Nat.le_of_ble_eq_true rfl) rfl ?_
  refine v_il0 dJ1_bitCount_48 ?_
  refine v_bipush dJ1_bitCount_49 rfl ?_
  refine v_iand dJ1_bitCount_51 ?_
  exact v_retI h dJ1_bitCount_52 rfl
theorem tJ1_bitCount {E : EE} {l : Launch} {v0 : Int32} {σ : Mem} {z : Int32 × Mem} (h : sJ1_bitCount v0 σ = some z) : Mt E l mJ1_bitCount [vi v0] σ (some (vi z.1), z.2) :=
  Mt.ofVL (by decide) (Nat.le_of_ble_eq_true rfl) (fun G hG => lJ1_bitCount h)
set_option maxRecDepth 100000
abbrev mX4_init : MM := (yX4_init, cX4_init, 1, (Option.none : Option Jvm.ClassFile.FieldType), 1, 20)
theorem dsX4_init : DsOk yX4_init 0 := ⟨by decide, by decide, by decide +kernel⟩
theorem lX4_init {E : EE} {G : GG} {v0 : Option Nat} {σ : Mem} {z : Unit × Mem} (h : sX4_init v0 σ = some z) : V E mX4_init G 0 [some (vr v0)] [] σ (none, z.2) := by
  unfold sX4_init at h
  refine v_al0 dX4_init_0 ?_
  obtain ⟨b1, er, h⟩ := cI_some h
  refine v_oI er q240 q188 q189 ⟨by decide, by decide⟩ (Nat.le_of_ble_eq_true rfl) dX4_init_1 ?_
  refine v_al0 dX4_init_4 ?_
  refine v_bipush dX4_init_5 rfl ?_
  refine v_newa20 h dX4_init_7 (fun x1 s2 h => ?_)
  refine v_pRF cok3 h dX4_init_9 (by decide) q241 rfl rfl rfl rfl (fun s3 h => ?_)
  refine v_al0 dX4_init_12 ?_
  refine v_bipush dX4_init_13 rfl ?_
  refine v_newa20 h dX4_init_15 (fun x4 s5 h => ?_)
  refine v_pRF cok3 h dX4_init_17 (by decide) q244 rfl rfl rfl rfl (fun s6 h => ?_)
  refine v_al0 dX4_init_20 ?_
  refine v_bipush dX4_init_21 rfl ?_
  refine v_newa20 h dX4_init_23 (fun x7 s8 h => ?_)
  refine v_pRF cok3 h dX4_init_25 (by decide) q247 rfl rfl rfl rfl (fun s9 h => ?_)
  refine v_al0 dX4_init_28 ?_
  refine v_bipush dX4_init_29 rfl ?_
  refine v_newa20 h dX4_init_31 (fun x10 s11 h => ?_)
  refine v_pRF cok3 h dX4_init_33 (by decide) q250 rfl rfl rfl rfl (fun s12 h => ?_)
  refine v_al0 dX4_init_36 ?_
  refine v_bipush dX4_init_37 rfl ?_
  refine v_newa20 h dX4_init_39 (fun x13 s14 h => ?_)
  refine v_pRF cok3 h dX4_init_41 (by decide) q253 rfl rfl rfl rfl (fun s15 h => ?_)
  refine v_al0 dX4_init_44 ?_
  refine v_bipush dX4_init_45 rfl ?_
  refine v_newa20 h dX4_init_47 (fun x16 s17 h => ?_)
  refine v_pRF cok3 h dX4_init_49 (by decide) q256 rfl rfl rfl rfl (fun s18 h => ?_)
  refine v_al0 dX4_init_52 ?_
  refine v_bipush dX4_init_53 rfl ?_
  refine v_newa20 h dX4_init_55 (fun x19 s20 h => ?_)
  refine v_pRF cok3 h dX4_init_57 (by decide) q259 rfl rfl rfl rfl (fun s21 h => ?_)
  refine v_al0 dX4_init_60 ?_
  refine v_bipush dX4_init_61 rfl ?_
  refine v_newa20 h dX4_init_63 (fun x22 s23 h => ?_)
  refine v_pRF cok3 h dX4_init_65 (by decide) q262 rfl rfl rfl rfl (fun s24 h => ?_)
  refine v_al0 dX4_init_68 ?_
  refine v_bipush dX4_init_69 rfl ?_
  refine v_newa20 h dX4_init_71 (fun x25 s26 h => ?_)
  refine v_pRF cok3 h dX4_init_73 (by decide) q265 rfl rfl rfl rfl (fun s27 h => ?_)
  exact v_retV h dX4_init_76 rfl
theorem tX4_init {E : EE} {l : Launch} {v0 : Option Nat} {σ : Mem} {z : Unit × Mem} (h : sX4_init v0 σ = some z) : Mt E l mX4_init [vr v0] σ (none, z.2) :=
  Mt.ofVL (by decide) (Nat.le_of_ble_eq_true rfl) (fun G hG => lX4_init h)
abbrev mX4_comesUp : MM := (yX4_comesUp, cX4_comesUp, 2, (Option.none : Option Jvm.ClassFile.FieldType), 0, 0)
theorem dsX4_comesUp : DsOk yX4_comesUp 0 := ⟨by decide, by decide, by decide +kernel⟩
theorem lX4_comesUp_40b {E : EE} {G : GG} {k40 : Option Nat → Int32 → Mem → Option (Unit × Mem)} (hk40 : ∀ (v0 : Option Nat) (v1 : Int32) (s : Mem) (z : Unit × Mem), k40 v0 v1 s = some z → V E mX4_comesUp G 40 [some (vr v0), some (vi v1)] [] s (none, z.2)) {v0 : Option Nat} {v1 : Int32} {σ : Mem} {z : Unit × Mem} (h : sX4_comesUp_40b k40 v0 v1 σ = some z) : V E mX4_comesUp G 40 [some (vr v0), some (vi v1)] [] σ (none, z.2) := by
  unfold sX4_comesUp_40b at h
  refine v_il1 dX4_comesUp_40 ?_
  refine v_bipush dX4_comesUp_41 rfl ?_
  refine v_icmp_ge (tgt := 64) dX4_comesUp_43 (by decide) (fun c => ?_) (fun c => ?_)
  · rw [if_pos c] at h
    exact v_retV h dX4_comesUp_64 rfl
  · rw [if_neg c] at h
    refine v_al0 dX4_comesUp_46 ?_
    refine v_gR cok3 h dX4_comesUp_47 (by decide) q253 rfl (fun x1 h => ?_)
    refine v_il1 dX4_comesUp_50 ?_
    refine v_al0 dX4_comesUp_51 ?_
    refine v_gR cok3 h dX4_comesUp_52 (by decide) q256 rfl (fun x2 h => ?_)
    refine v_il1 dX4_comesUp_55 ?_
    refine v_aI h dX4_comesUp_56 (fun x3 h => ?_)
    refine v_sI h dX4_comesUp_57 (fun s4 h => ?_)
    refine v_iinc (L' := [some (vr v0), some (vi (v1 + iI 1))]) dX4_comesUp_58 (Nat.le_of_ble_eq_true rfl) rfl rfl ?_
    refine v_goto (tgt := 40) dX4_comesUp_61 (by decide) ?_
    exact v_weak (wss (wss wse)) (hk40 _ _ _ _ h)
theorem lX4_comesUp_40 {E : EE} {G : GG} : ∀ (f : Nat) {v0 : Option Nat} {v1 : Int32} {σ : Mem} {z : Unit × Mem}, sX4_comesUp_40 f v0 v1 σ = some z → V E mX4_comesUp G 40 [some (vr v0), some (vi v1)] [] σ (none, z.2)
  | 0, _, _, _, _, h => by cases h
  | f + 1, _, _, _, _, h => lX4_comesUp_40b (fun _ _ _ _ h => lX4_comesUp_40 f h) h
theorem lX4_comesUp {E : EE} {G : GG} {v0 : Option Nat} {σ : Mem} {z : Unit × Mem} (h : sX4_comesUp v0 σ = some z) : V E mX4_comesUp G 0 [some (vr v0), none] [] σ (none, z.2) := by
  unfold sX4_comesUp at h
  refine v_al0 dX4_comesUp_0 ?_
  refine v_iconst dX4_comesUp_1 ?_
  refine v_pZ cok3 h dX4_comesUp_2 (by decide) q306 rfl rfl (fun s1 h => ?_)
  refine v_al0 dX4_comesUp_5 ?_
  refine v_iconst dX4_comesUp_6 ?_
  refine v_pI cok3 h dX4_comesUp_7 (by decide) q285 rfl rfl (fun s2 h => ?_)
  refine v_al0 dX4_comesUp_10 ?_
  refine v_al0 dX4_comesUp_11 ?_
  refine v_gI cok3 h dX4_comesUp_12 (by decide) q274 rfl (fun x3 h => ?_)
  refine v_pI cok3 h dX4_comesUp_15 (by decide) q288 rfl rfl (fun s4 h => ?_)
  refine v_al0 dX4_comesUp_18 ?_
  refine v_iconst dX4_comesUp_19 ?_
  refine v_pI cok3 h dX4_comesUp_20 (by decide) q294 rfl rfl (fun s5 h => ?_)
  refine v_al0 dX4_comesUp_23 ?_
  refine v_iconst dX4_comesUp_24 ?_
  refine v_pI cok3 h dX4_comesUp_25 (by decide) q297 rfl rfl (fun s6 h => ?_)
  refine v_al0 dX4_comesUp_28 ?_
  refine v_iconst dX4_comesUp_29 ?_
  refine v_pI cok3 h dX4_comesUp_30 (by decide) q300 rfl rfl (fun s7 h => ?_)
  refine v_al0 dX4_comesUp_33 ?_
  refine v_iconst dX4_comesUp_34 ?_
  refine v_pI cok3 h dX4_comesUp_35 (by decide) q303 rfl rfl (fun s8 h => ?_)
  refine v_iconst dX4_comesUp_38 ?_
  refine v_istore_n (L' := [some (vr v0), some (vi (iI 0))]) dX4_comesUp_39 (Nat.le_of_ble_eq_true rfl) (Nat.le_of_ble_eq_true rfl) rfl ?_
  exact v_weak (wss (wss wse)) (lX4_comesUp_40 FU h)
theorem tX4_comesUp {E : EE} {l : Launch} {v0 : Option Nat} {σ : Mem} {z : Unit × Mem} (h : sX4_comesUp v0 σ = some z) : Mt E l mX4_comesUp [vr v0] σ (none, z.2) :=
  Mt.ofVL (by decide) (Nat.le_of_ble_eq_true rfl) (fun G hG => lX4_comesUp h)
abbrev mX4_begins : MM := (yX4_begins, cX4_begins, 3, (Option.none : Option Jvm.ClassFile.FieldType), 1, 21)
theorem dsX4_begins : DsOk yX4_begins 1 := ⟨by decide, by decide, by decide +kernel⟩
theorem lX4_begins_37b {E : EE} {G : GG} {k37 : Option Nat → Int32 → Mem → Option (Unit × Mem)} (hk37 : ∀ (v0 : Option Nat) (v2 : Int32) (s : Mem) (z : Unit × Mem), k37 v0 v2 s = some z → V E mX4_begins G 37 [some (vr v0), none, some (vi v2)] [] s (none, z.2)) {v0 : Option Nat} {v2 : Int32} {σ : Mem} {z : Unit × Mem} (h : sX4_begins_37b k37 v0 v2 σ = some z) : V E mX4_begins G 37 [some (vr v0), none, some (vi v2)] [] σ (none, z.2) := by
  unfold sX4_begins_37b at h
  refine v_il2 dX4_begins_37 ?_
  refine v_bipush dX4_begins_38 rfl ?_
  refine v_icmp_ge (tgt := 56) dX4_begins_40 (by decide) (fun c => ?_) (fun c => ?_)
  · rw [if_pos c] at h
    refine v_al0 dX4_begins_56 ?_
    obtain ⟨b57, er, ka, h⟩ := cV_some h
    obtain ⟨_, s1, h1, h⟩ := cl_some h
    refine v_callV0 cok3 (As := []) er ka (tX4_comesUp h1) (lw_V q461 q462 q463 q162 q464) rfl dsX4_comesUp ⟨Nat.le_of_ble_eq_true rfl, Nat.le_of_ble_eq_true rfl⟩ (Nat.le_of_ble_eq_true rfl) dX4_begins_57 rfl ?_
    exact v_retV h dX4_begins_60 rfl
  · rw [if_neg c] at h
    refine v_al0 dX4_begins_43 ?_
    refine v_gR cok3 h dX4_begins_44 (by decide) q256 rfl (fun x2 h => ?_)
    refine v_il2 dX4_begins_47 ?_
    refine v_iconst dX4_begins_48 ?_
    refine v_sI h dX4_begins_49 (fun s3 h => ?_)
    refine v_iinc (L' := [some (vr v0), none, some (vi (v2 + iI 1))]) dX4_begins_50 (Nat.le_of_ble_eq_true rfl) rfl rfl ?_
    refine v_goto (tgt := 37) dX4_begins_53 (by decide) ?_
    exact v_weak (wss (wsn (wss wse))) (hk37 _ _ _ _ h)
theorem lX4_begins_37 {E : EE} {G : GG} : ∀ (f : Nat) {v0 : Option Nat} {v2 : Int32} {σ : Mem} {z : Unit × Mem}, sX4_begins_37 f v0 v2 σ = some z → V E mX4_begins G 37 [some (vr v0), none, some (vi v2)] [] σ (none, z.2)
  | 0, _, _, _, _, h => by cases h
  | f + 1, _, _, _, _, h => lX4_begins_37b (fun _ _ _ _ h => lX4_begins_37 f h) h
theorem lX4_begins {E : EE} {G : GG} {v0 : Option Nat} {v1 : Int32} {σ : Mem} {z : Unit × Mem} (h : sX4_begins v0 v1 σ = some z) : V E mX4_begins G 0 [some (vr v0), some (vi v1), none] [] σ (none, z.2) := by
  unfold sX4_begins at h
  refine v_al0 dX4_begins_0 ?_
  refine v_iconst dX4_begins_1 ?_
  refine v_pI cok3 h dX4_begins_2 (by decide) q268 rfl rfl (fun s1 h => ?_)
  refine v_al0 dX4_begins_5 ?_
  refine v_iconst dX4_begins_6 ?_
  refine v_pI cok3 h dX4_begins_7 (by decide) q271 rfl rfl (fun s2 h => ?_)
  refine v_al0 dX4_begins_10 ?_
  refine v_iconst dX4_begins_11 ?_
  refine v_pI cok3 h dX4_begins_12 (by decide) q274 rfl rfl (fun s3 h => ?_)
  refine v_al0 dX4_begins_15 ?_
  refine v_iconst dX4_begins_16 ?_
  refine v_pI cok3 h dX4_begins_17 (by decide) q277 rfl rfl (fun s4 h => ?_)
  refine v_al0 dX4_begins_20 ?_
  refine v_il1 dX4_begins_21 ?_
  refine v_pI cok3 h dX4_begins_22 (by decide) q279 rfl rfl (fun s5 h => ?_)
  refine v_al0 dX4_begins_25 ?_
  refine v_iconst dX4_begins_26 ?_
  refine v_pI cok3 h dX4_begins_27 (by decide) q281 rfl rfl (fun s6 h => ?_)
  refine v_al0 dX4_begins_30 ?_
  refine v_iconst dX4_begins_31 ?_
  refine v_pI cok3 h dX4_begins_32 (by decide) q283 rfl rfl (fun s7 h => ?_)
  refine v_iconst dX4_begins_35 ?_
  refine v_istore_n (L' := [some (vr v0), some (vi v1), some (vi (iI 0))]) dX4_begins_36 (Nat.le_of_ble_eq_true rfl) (Nat.le_of_ble_eq_true rfl) rfl ?_
  exact v_weak (wss (wsn (wss wse))) (lX4_begins_37 FU h)
theorem tX4_begins {E : EE} {l : Launch} {v0 : Option Nat} {v1 : Int32} {σ : Mem} {z : Unit × Mem} (h : sX4_begins v0 v1 σ = some z) : Mt E l mX4_begins [vr v0, vi v1] σ (none, z.2) :=
  Mt.ofVL (by decide) (Nat.le_of_ble_eq_true rfl) (fun G hG => lX4_begins h)
abbrev mX4_kindAt : MM := (yX4_kindAt, cX4_kindAt, 2, (Option.some Jvm.ClassFile.FieldType.int), 0, 0)
theorem dsX4_kindAt : DsOk yX4_kindAt 1 := ⟨by decide, by decide, by decide +kernel⟩
theorem lX4_kindAt {E : EE} {G : GG} {v0 : Option Nat} {v1 : Int32} {σ : Mem} {z : Int32 × Mem} (h : sX4_kindAt v0 v1 σ = some z) : V E mX4_kindAt G 0 [some (vr v0), some (vi v1)] [] σ (some (vi z.1), z.2) := by
  unfold sX4_kindAt at h
  refine v_al0 dX4_kindAt_0 ?_
  refine v_gR cok3 h dX4_kindAt_1 (by decide) q244 rfl (fun x1 h => ?_)
  refine v_il1 dX4_kindAt_4 ?_
  refine v_al0 dX4_kindAt_5 ?_
  refine v_gI cok3 h dX4_kindAt_6 (by decide) q274 rfl (fun x2 h => ?_)
  refine v_isub dX4_kindAt_9 ?_
  refine v_iconst dX4_kindAt_10 ?_
  refine v_isub dX4_kindAt_11 ?_
  refine v_aI h dX4_kindAt_12 (fun x3 h => ?_)
  exact v_retI h dX4_kindAt_13 rfl
theorem tX4_kindAt {E : EE} {l : Launch} {v0 : Option Nat} {v1 : Int32} {σ : Mem} {z : Int32 × Mem} (h : sX4_kindAt v0 v1 σ = some z) : Mt E l mX4_kindAt [vr v0, vi v1] σ (some (vi z.1), z.2) :=
  Mt.ofVL (by decide) (Nat.le_of_ble_eq_true rfl) (fun G hG => lX4_kindAt h)
abbrev mX4_configAt : MM := (yX4_configAt, cX4_configAt, 3, (Option.some Jvm.ClassFile.FieldType.int), 1, 21)
theorem dsX4_configAt : DsOk yX4_configAt 1 := ⟨by decide, by decide, by decide +kernel⟩
theorem lX4_configAt_2b {E : EE} {G : GG} {k2 : Option Nat → Int32 → Mem → Option (Int32 × Mem)} (hk2 : ∀ (v0 : Option Nat) (v2 : Int32) (s : Mem) (z : Int32 × Mem), k2 v0 v2 s = some z → V E mX4_configAt G 2 [some (vr v0), none, some (vi v2)] [] s (some (vi z.1), z.2)) {v0 : Option Nat} {v2 : Int32} {σ : Mem} {z : Int32 × Mem} (h : sX4_configAt_2b k2 v0 v2 σ = some z) : V E mX4_configAt G 2 [some (vr v0), none, some (vi v2)] [] σ (some (vi z.1), z.2) := by
  unfold sX4_configAt_2b at h
  refine v_il2 dX4_configAt_2 ?_
  refine v_al0 dX4_configAt_3 ?_
  refine v_gI cok3 h dX4_configAt_4 (by decide) q274 rfl (fun x1 h => ?_)
  refine v_icmp_le (tgt := 25) dX4_configAt_7 (by decide) (fun c => ?_) (fun c => ?_)
  · rw [if_pos c] at h
    refine v_il2 dX4_configAt_25 ?_
    exact v_retI h dX4_configAt_26 rfl
  · rw [if_neg c] at h
    refine v_al0 dX4_configAt_10 ?_
    refine v_il2 dX4_configAt_11 ?_
    obtain ⟨b12, er, ka, h⟩ := cV_some h
    obtain ⟨x2, s3, h1, h⟩ := cl_some h
    refine v_callV1 cok3 (As := [vi v2]) er ka (tX4_kindAt h1) (lw_V q611 q612 q613 q162 q614) rfl dsX4_kindAt ⟨Nat.le_of_ble_eq_true rfl, Nat.le_of_ble_eq_true rfl⟩ (Nat.le_of_ble_eq_true rfl) dX4_configAt_12 rfl ?_
    refine v_iconst dX4_configAt_15 ?_
    refine v_icmp_eq (tgt := 25) dX4_configAt_16 (by decide) (fun c => ?_) (fun c => ?_)
    · rw [if_pos c] at h
      refine v_il2 dX4_configAt_25 ?_
      exact v_retI h dX4_configAt_26 rfl
    · rw [if_neg c] at h
      refine v_iinc (L' := [some (vr v0), none, some (vi (v2 + iI (-1)))]) dX4_configAt_19 (Nat.le_of_ble_eq_true rfl) rfl rfl ?_
      refine v_goto (tgt := 2) dX4_configAt_22 (by decide) ?_
      exact v_weak (wss (wsn (wss wse))) (hk2 _ _ _ _ h)
theorem lX4_configAt_2 {E : EE} {G : GG} : ∀ (f : Nat) {v0 : Option Nat} {v2 : Int32} {σ : Mem} {z : Int32 × Mem}, sX4_configAt_2 f v0 v2 σ = some z → V E mX4_configAt G 2 [some (vr v0), none, some (vi v2)] [] σ (some (vi z.1), z.2)
  | 0, _, _, _, _, h => by cases h
  | f + 1, _, _, _, _, h => lX4_configAt_2b (fun _ _ _ _ h => lX4_configAt_2 f h) h
theorem lX4_configAt {E : EE} {G : GG} {v0 : Option Nat} {v1 : Int32} {σ : Mem} {z : Int32 × Mem} (h : sX4_configAt v0 v1 σ = some z) : V E mX4_configAt G 0 [some (vr v0), some (vi v1), none] [] σ (some (vi z.1), z.2) := by
  unfold sX4_configAt at h
  refine v_il1 dX4_configAt_0 ?_
  refine v_istore_n (L' := [some (vr v0), some (vi v1), some (vi v1)]) dX4_configAt_1 (Nat.le_of_ble_eq_true rfl) (Nat.le_of_ble_eq_true rfl) rfl ?_
  exact v_weak (wss (wsn (wss wse))) (lX4_configAt_2 FU h)
theorem tX4_configAt {E : EE} {l : Launch} {v0 : Option Nat} {v1 : Int32} {σ : Mem} {z : Int32 × Mem} (h : sX4_configAt v0 v1 σ = some z) : Mt E l mX4_configAt [vr v0, vi v1] σ (some (vi z.1), z.2) :=
  Mt.ofVL (by decide) (Nat.le_of_ble_eq_true rfl) (fun G hG => lX4_configAt h)
abbrev mX4_oldAt : MM := (yX4_oldAt, cX4_oldAt, 2, (Option.some Jvm.ClassFile.FieldType.int), 0, 0)
theorem dsX4_oldAt : DsOk yX4_oldAt 1 := ⟨by decide, by decide, by decide +kernel⟩
theorem lX4_oldAt {E : EE} {G : GG} {v0 : Option Nat} {v1 : Int32} {σ : Mem} {z : Int32 × Mem} (h : sX4_oldAt v0 v1 σ = some z) : V E mX4_oldAt G 0 [some (vr v0), some (vi v1)] [] σ (some (vi z.1), z.2) := by
  unfold sX4_oldAt at h
  refine v_il1 dX4_oldAt_0 ?_
  refine v_al0 dX4_oldAt_1 ?_
  refine v_gI cok3 h dX4_oldAt_2 (by decide) q274 rfl (fun x1 h => ?_)
  refine v_icmp_ne (tgt := 15) dX4_oldAt_5 (by decide) (fun c => ?_) (fun c => ?_)
  · rw [if_neg c] at h
    refine v_al0 dX4_oldAt_15 ?_
    refine v_gR cok3 h dX4_oldAt_16 (by decide) q247 rfl (fun x2 h => ?_)
    refine v_il1 dX4_oldAt_19 ?_
    refine v_al0 dX4_oldAt_20 ?_
    refine v_gI cok3 h dX4_oldAt_21 (by decide) q274 rfl (fun x3 h => ?_)
    refine v_isub dX4_oldAt_24 ?_
    refine v_iconst dX4_oldAt_25 ?_
    refine v_isub dX4_oldAt_26 ?_
    refine v_aI h dX4_oldAt_27 (fun x4 h => ?_)
    exact v_retI h dX4_oldAt_28 rfl
  · rw [if_pos c] at h
    refine v_al0 dX4_oldAt_8 ?_
    refine v_gI cok3 h dX4_oldAt_9 (by decide) q279 rfl (fun x5 h => ?_)
    refine v_goto (tgt := 28) dX4_oldAt_12 (by decide) ?_
    exact v_retI h dX4_oldAt_28 rfl
theorem tX4_oldAt {E : EE} {l : Launch} {v0 : Option Nat} {v1 : Int32} {σ : Mem} {z : Int32 × Mem} (h : sX4_oldAt v0 v1 σ = some z) : Mt E l mX4_oldAt [vr v0, vi v1] σ (some (vi z.1), z.2) :=
  Mt.ofVL (by decide) (Nat.le_of_ble_eq_true rfl) (fun G hG => lX4_oldAt h)
abbrev mX4_newAt : MM := (yX4_newAt, cX4_newAt, 2, (Option.some Jvm.ClassFile.FieldType.int), 0, 0)
theorem dsX4_newAt : DsOk yX4_newAt 1 := ⟨by decide, by decide, by decide +kernel⟩
theorem lX4_newAt {E : EE} {G : GG} {v0 : Option Nat} {v1 : Int32} {σ : Mem} {z : Int32 × Mem} (h : sX4_newAt v0 v1 σ = some z) : V E mX4_newAt G 0 [some (vr v0), some (vi v1)] [] σ (some (vi z.1), z.2) := by
  unfold sX4_newAt at h
  refine v_il1 dX4_newAt_0 ?_
  refine v_al0 dX4_newAt_1 ?_
  refine v_gI cok3 h dX4_newAt_2 (by decide) q274 rfl (fun x1 h => ?_)
  refine v_icmp_ne (tgt := 15) dX4_newAt_5 (by decide) (fun c => ?_) (fun c => ?_)
  · rw [if_neg c] at h
    refine v_al0 dX4_newAt_15 ?_
    refine v_gR cok3 h dX4_newAt_16 (by decide) q250 rfl (fun x2 h => ?_)
    refine v_il1 dX4_newAt_19 ?_
    refine v_al0 dX4_newAt_20 ?_
    refine v_gI cok3 h dX4_newAt_21 (by decide) q274 rfl (fun x3 h => ?_)
    refine v_isub dX4_newAt_24 ?_
    refine v_iconst dX4_newAt_25 ?_
    refine v_isub dX4_newAt_26 ?_
    refine v_aI h dX4_newAt_27 (fun x4 h => ?_)
    exact v_retI h dX4_newAt_28 rfl
  · rw [if_pos c] at h
    refine v_al0 dX4_newAt_8 ?_
    refine v_gI cok3 h dX4_newAt_9 (by decide) q281 rfl (fun x5 h => ?_)
    refine v_goto (tgt := 28) dX4_newAt_12 (by decide) ?_
    exact v_retI h dX4_newAt_28 rfl
theorem tX4_newAt {E : EE} {l : Launch} {v0 : Option Nat} {v1 : Int32} {σ : Mem} {z : Int32 × Mem} (h : sX4_newAt v0 v1 σ = some z) : Mt E l mX4_newAt [vr v0, vi v1] σ (some (vi z.1), z.2) :=
  Mt.ofVL (by decide) (Nat.le_of_ble_eq_true rfl) (fun G hG => lX4_newAt h)
abbrev mX4_termAt : MM := (yX4_termAt, cX4_termAt, 2, (Option.some Jvm.ClassFile.FieldType.int), 0, 0)
theorem dsX4_termAt : DsOk yX4_termAt 1 := ⟨by decide, by decide, by decide +kernel⟩
theorem lX4_termAt {E : EE} {G : GG} {v0 : Option Nat} {v1 : Int32} {σ : Mem} {z : Int32 × Mem} (h : sX4_termAt v0 v1 σ = some z) : V E mX4_termAt G 0 [some (vr v0), some (vi v1)] [] σ (some (vi z.1), z.2) := by
  unfold sX4_termAt at h
  refine v_il1 dX4_termAt_0 ?_
  refine v_al0 dX4_termAt_1 ?_
  refine v_gI cok3 h dX4_termAt_2 (by decide) q274 rfl (fun x1 h => ?_)
  refine v_icmp_ne (tgt := 15) dX4_termAt_5 (by decide) (fun c => ?_) (fun c => ?_)
  · rw [if_neg c] at h
    refine v_al0 dX4_termAt_15 ?_
    refine v_gR cok3 h dX4_termAt_16 (by decide) q241 rfl (fun x2 h => ?_)
    refine v_il1 dX4_termAt_19 ?_
    refine v_al0 dX4_termAt_20 ?_
    refine v_gI cok3 h dX4_termAt_21 (by decide) q274 rfl (fun x3 h => ?_)
    refine v_isub dX4_termAt_24 ?_
    refine v_iconst dX4_termAt_25 ?_
    refine v_isub dX4_termAt_26 ?_
    refine v_aI h dX4_termAt_27 (fun x4 h => ?_)
    exact v_retI h dX4_termAt_28 rfl
  · rw [if_pos c] at h
    refine v_al0 dX4_termAt_8 ?_
    refine v_gI cok3 h dX4_termAt_9 (by decide) q277 rfl (fun x5 h => ?_)
    refine v_goto (tgt := 28) dX4_termAt_12 (by decide) ?_
    exact v_retI h dX4_termAt_28 rfl
theorem tX4_termAt {E : EE} {l : Launch} {v0 : Option Nat} {v1 : Int32} {σ : Mem} {z : Int32 × Mem} (h : sX4_termAt v0 v1 σ = some z) : Mt E l mX4_termAt [vr v0, vi v1] σ (some (vi z.1), z.2) :=
  Mt.ofVL (by decide) (Nat.le_of_ble_eq_true rfl) (fun G hG => lX4_termAt h)
abbrev mX4_goes : MM := (yX4_goes, cX4_goes, 3, (Option.none : Option Jvm.ClassFile.FieldType), 0, 0)
theorem dsX4_goes : DsOk yX4_goes 1 := ⟨by decide, by decide, by decide +kernel⟩
theorem lX4_goes_2b {E : EE} {G : GG} {k2 : Option Nat → Int32 → Int32 → Mem → Option (Unit × Mem)} (hk2 : ∀ (v0 : Option Nat) (v1 : Int32) (v2 : Int32) (s : Mem) (z : Unit × Mem), k2 v0 v1 v2 s = some z → V E mX4_goes G 2 [some (vr v0), some (vi v1), some (vi v2)] [] s (none, z.2)) {v0 : Option Nat} {v1 : Int32} {v2 : Int32} {σ : Mem} {z : Unit × Mem} (h : sX4_goes_2b k2 v0 v1 v2 σ = some z) : V E mX4_goes G 2 [some (vr v0), some (vi v1), some (vi v2)] [] σ (none, z.2) := by
  unfold sX4_goes_2b at h
  refine v_il2 dX4_goes_2 ?_
  refine v_al0 dX4_goes_3 ?_
  refine v_gI cok3 h dX4_goes_4 (by decide) q283 rfl (fun x1 h => ?_)
  refine v_icmp_ge (tgt := 72) dX4_goes_7 (by decide) (fun c => ?_) (fun c => ?_)
  · rw [if_pos c] at h
    refine v_al0 dX4_goes_72 ?_
    refine v_dup dX4_goes_73 ?_
    refine v_gI cok3 h dX4_goes_74 (by decide) q283 rfl (fun x2 h => ?_)
    refine v_il1 dX4_goes_77 ?_
    refine v_isub dX4_goes_78 ?_
    refine v_pI cok3 h dX4_goes_79 (by decide) q283 rfl rfl (fun s3 h => ?_)
    exact v_retV h dX4_goes_82 rfl
  · rw [if_neg c] at h
    refine v_al0 dX4_goes_10 ?_
    refine v_gR cok3 h dX4_goes_11 (by decide) q241 rfl (fun x4 h => ?_)
    refine v_il2 dX4_goes_14 ?_
    refine v_il1 dX4_goes_15 ?_
    refine v_isub dX4_goes_16 ?_
    refine v_al0 dX4_goes_17 ?_
    refine v_gR cok3 h dX4_goes_18 (by decide) q241 rfl (fun x5 h => ?_)
    refine v_il2 dX4_goes_21 ?_
    refine v_aI h dX4_goes_22 (fun x6 h => ?_)
    refine v_sI h dX4_goes_23 (fun s7 h => ?_)
    refine v_al0 dX4_goes_24 ?_
    refine v_gR cok3 h dX4_goes_25 (by decide) q244 rfl (fun x8 h => ?_)
    refine v_il2 dX4_goes_28 ?_
    refine v_il1 dX4_goes_29 ?_
    refine v_isub dX4_goes_30 ?_
    refine v_al0 dX4_goes_31 ?_
    refine v_gR cok3 h dX4_goes_32 (by decide) q244 rfl (fun x9 h => ?_)
    refine v_il2 dX4_goes_35 ?_
    refine v_aI h dX4_goes_36 (fun x10 h => ?_)
    refine v_sI h dX4_goes_37 (fun s11 h => ?_)
    refine v_al0 dX4_goes_38 ?_
    refine v_gR cok3 h dX4_goes_39 (by decide) q247 rfl (fun x12 h => ?_)
    refine v_il2 dX4_goes_42 ?_
    refine v_il1 dX4_goes_43 ?_
    refine v_isub dX4_goes_44 ?_
    refine v_al0 dX4_goes_45 ?_
    refine v_gR cok3 h dX4_goes_46 (by decide) q247 rfl (fun x13 h => ?_)
    refine v_il2 dX4_goes_49 ?_
    refine v_aI h dX4_goes_50 (fun x14 h => ?_)
    refine v_sI h dX4_goes_51 (fun s15 h => ?_)
    refine v_al0 dX4_goes_52 ?_
    refine v_gR cok3 h dX4_goes_53 (by decide) q250 rfl (fun x16 h => ?_)
    refine v_il2 dX4_goes_56 ?_
    refine v_il1 dX4_goes_57 ?_
    refine v_isub dX4_goes_58 ?_
    refine v_al0 dX4_goes_59 ?_
    refine v_gR cok3 h dX4_goes_60 (by decide) q250 rfl (fun x17 h => ?_)
    refine v_il2 dX4_goes_63 ?_
    refine v_aI h dX4_goes_64 (fun x18 h => ?_)
    refine v_sI h dX4_goes_65 (fun s19 h => ?_)
    refine v_iinc (L' := [some (vr v0), some (vi v1), some (vi (v2 + iI 1))]) dX4_goes_66 (Nat.le_of_ble_eq_true rfl) rfl rfl ?_
    refine v_goto (tgt := 2) dX4_goes_69 (by decide) ?_
    exact v_weak (wss (wss (wss wse))) (hk2 _ _ _ _ _ h)
theorem lX4_goes_2 {E : EE} {G : GG} : ∀ (f : Nat) {v0 : Option Nat} {v1 : Int32} {v2 : Int32} {σ : Mem} {z : Unit × Mem}, sX4_goes_2 f v0 v1 v2 σ = some z → V E mX4_goes G 2 [some (vr v0), some (vi v1), some (vi v2)] [] σ (none, z.2)
  | 0, _, _, _, _, _, h => by cases h
  | f + 1, _, _, _, _, _, h => lX4_goes_2b (fun _ _ _ _ _ h => lX4_goes_2 f h) h
theorem lX4_goes {E : EE} {G : GG} {v0 : Option Nat} {v1 : Int32} {σ : Mem} {z : Unit × Mem} (h : sX4_goes v0 v1 σ = some z) : V E mX4_goes G 0 [some (vr v0), some (vi v1), none] [] σ (none, z.2) := by
  unfold sX4_goes at h
  refine v_il1 dX4_goes_0 ?_
  refine v_istore_n (L' := [some (vr v0), some (vi v1), some (vi v1)]) dX4_goes_1 (Nat.le_of_ble_eq_true rfl) (Nat.le_of_ble_eq_true rfl) rfl ?_
  exact v_weak (wss (wss (wss wse))) (lX4_goes_2 FU h)
theorem tX4_goes {E : EE} {l : Launch} {v0 : Option Nat} {v1 : Int32} {σ : Mem} {z : Unit × Mem} (h : sX4_goes v0 v1 σ = some z) : Mt E l mX4_goes [vr v0, vi v1] σ (none, z.2) :=
  Mt.ofVL (by decide) (Nat.le_of_ble_eq_true rfl) (fun G hG => lX4_goes h)
abbrev mX4_compacts : MM := (yX4_compacts, cX4_compacts, 5, (Option.none : Option Jvm.ClassFile.FieldType), 2, 43)
theorem dsX4_compacts : DsOk yX4_compacts 0 := ⟨by decide, by decide, by decide +kernel⟩
theorem lX4_compacts_46b {E : EE} {G : GG} {k46 : Option Nat → Int32 → Mem → Option (Unit × Mem)} (hk46 : ∀ (v0 : Option Nat) (v4 : Int32) (s : Mem) (z : Unit × Mem), k46 v0 v4 s = some z → V E mX4_compacts G 46 [some (vr v0), none, none, none, some (vi v4)] [] s (none, z.2)) {v0 : Option Nat} {v4 : Int32} {σ : Mem} {z : Unit × Mem} (h : sX4_compacts_46b k46 v0 v4 σ = some z) : V E mX4_compacts G 46 [some (vr v0), none, none, none, some (vi v4)] [] σ (none, z.2) := by
  unfold sX4_compacts_46b at h
  refine v_iload dX4_compacts_46 rfl ?_
  refine v_bipush dX4_compacts_48 rfl ?_
  refine v_icmp_ge (tgt := 73) dX4_compacts_50 (by decide) (fun c => ?_) (fun c => ?_)
  · rw [if_pos c] at h
    refine v_al0 dX4_compacts_73 ?_
    refine v_al0 dX4_compacts_74 ?_
    refine v_gI cok3 h dX4_compacts_75 (by decide) q288 rfl (fun x1 h => ?_)
    refine v_al0 dX4_compacts_78 ?_
    refine v_gI cok3 h dX4_compacts_79 (by decide) q274 rfl (fun x2 h => ?_)
    refine v_isub dX4_compacts_82 ?_
    obtain ⟨b83, er, ka, h⟩ := cV_some h
    obtain ⟨_, s3, h1, h⟩ := cl_some h
    refine v_callV0 cok3 (As := [vi (x1 - x2)]) er ka (tX4_goes h1) (lw_V q627 q629 qs1 q162 q630) rfl dsX4_goes ⟨Nat.le_of_ble_eq_true rfl, Nat.le_of_ble_eq_true rfl⟩ (Nat.le_of_ble_eq_true rfl) dX4_compacts_83 rfl ?_
    refine v_al0 dX4_compacts_86 ?_
    refine v_al0 dX4_compacts_87 ?_
    refine v_gI cok3 h dX4_compacts_88 (by decide) q288 rfl (fun x4 h => ?_)
    refine v_pI cok3 h dX4_compacts_91 (by decide) q274 rfl rfl (fun s5 h => ?_)
    exact v_retV h dX4_compacts_94 rfl
  · rw [if_neg c] at h
    refine v_al0 dX4_compacts_53 ?_
    refine v_gR cok3 h dX4_compacts_54 (by decide) q256 rfl (fun x6 h => ?_)
    refine v_iload dX4_compacts_57 rfl ?_
    refine v_al0 dX4_compacts_59 ?_
    refine v_gR cok3 h dX4_compacts_60 (by decide) q253 rfl (fun x7 h => ?_)
    refine v_iload dX4_compacts_63 rfl ?_
    refine v_aI h dX4_compacts_65 (fun x8 h => ?_)
    refine v_sI h dX4_compacts_66 (fun s9 h => ?_)
    refine v_iinc (L' := [some (vr v0), none, none, none, some (vi (v4 + iI 1))]) dX4_compacts_67 (Nat.le_of_ble_eq_true rfl) rfl rfl ?_
    refine v_goto (tgt := 46) dX4_compacts_70 (by decide) ?_
    exact v_weak (wss (wsn (wsn (wsn (wss wse))))) (hk46 _ _ _ _ h)
theorem lX4_compacts_46 {E : EE} {G : GG} : ∀ (f : Nat) {v0 : Option Nat} {v4 : Int32} {σ : Mem} {z : Unit × Mem}, sX4_compacts_46 f v0 v4 σ = some z → V E mX4_compacts G 46 [some (vr v0), none, none, none, some (vi v4)] [] σ (none, z.2)
  | 0, _, _, _, _, h => by cases h
  | f + 1, _, _, _, _, h => lX4_compacts_46b (fun _ _ _ _ h => lX4_compacts_46 f h) h
theorem lX4_compacts {E : EE} {G : GG} {v0 : Option Nat} {σ : Mem} {z : Unit × Mem} (h : sX4_compacts v0 σ = some z) : V E mX4_compacts G 0 [some (vr v0), none, none, none, none] [] σ (none, z.2) := by
  unfold sX4_compacts at h
  refine v_al0 dX4_compacts_0 ?_
  refine v_al0 dX4_compacts_1 ?_
  refine v_gI cok3 h dX4_compacts_2 (by decide) q288 rfl (fun x1 h => ?_)
  obtain ⟨b5, er, ka, h⟩ := cV_some h
  obtain ⟨x2, s3, h1, h⟩ := cl_some h
  refine v_callV1 cok3 (As := [vi x1]) er ka (tX4_configAt h1) (lw_V q607 q608 q609 q162 q610) rfl dsX4_configAt ⟨Nat.le_of_ble_eq_true rfl, Nat.le_of_ble_eq_true rfl⟩ (Nat.le_of_ble_eq_true rfl) dX4_compacts_5 rfl ?_
  refine v_istore_n (L' := [some (vr v0), some (vi x2), none, none, none]) dX4_compacts_8 (Nat.le_of_ble_eq_true rfl) (Nat.le_of_ble_eq_true rfl) rfl ?_
  refine v_al0 dX4_compacts_9 ?_
  refine v_il1 dX4_compacts_10 ?_
  obtain ⟨b11, er, ka, h⟩ := cV_some h
  obtain ⟨x4, s5, h1, h⟩ := cl_some h
  refine v_callV1 cok3 (As := [vi x2]) er ka (tX4_oldAt h1) (lw_V q615 q616 q617 q162 q618) rfl dsX4_oldAt ⟨Nat.le_of_ble_eq_true rfl, Nat.le_of_ble_eq_true rfl⟩ (Nat.le_of_ble_eq_true rfl) dX4_compacts_11 rfl ?_
  refine v_istore_n (L' := [some (vr v0), some (vi x2), some (vi x4), none, none]) dX4_compacts_14 (Nat.le_of_ble_eq_true rfl) (Nat.le_of_ble_eq_true rfl) rfl ?_
  refine v_al0 dX4_compacts_15 ?_
  refine v_il1 dX4_compacts_16 ?_
  obtain ⟨b17, er, ka, h⟩ := cV_some h
  obtain ⟨x6, s7, h1, h⟩ := cl_some h
  refine v_callV1 cok3 (As := [vi x2]) er ka (tX4_newAt h1) (lw_V q619 q620 q621 q162 q622) rfl dsX4_newAt ⟨Nat.le_of_ble_eq_true rfl, Nat.le_of_ble_eq_true rfl⟩ (Nat.le_of_ble_eq_true rfl) dX4_compacts_17 rfl ?_
  refine v_istore_n (L' := [some (vr v0), some (vi x2), some (vi x4), some (vi x6), none]) dX4_compacts_20 (Nat.le_of_ble_eq_true rfl) (Nat.le_of_ble_eq_true rfl) rfl ?_
  refine v_al0 dX4_compacts_21 ?_
  refine v_al0 dX4_compacts_22 ?_
  refine v_al0 dX4_compacts_23 ?_
  refine v_gI cok3 h dX4_compacts_24 (by decide) q288 rfl (fun x8 h => ?_)
  obtain ⟨b27, er, ka, h⟩ := cV_some h
  obtain ⟨x9, s10, h1, h⟩ := cl_some h
  refine v_callV1 cok3 (As := [vi x8]) er ka (tX4_termAt h1) (lw_V q623 q624 q625 q162 q626) rfl dsX4_termAt ⟨Nat.le_of_ble_eq_true rfl, Nat.le_of_ble_eq_true rfl⟩ (Nat.le_of_ble_eq_true rfl) dX4_compacts_27 rfl ?_
  refine v_pI cok3 h dX4_compacts_30 (by decide) q277 rfl rfl (fun s11 h => ?_)
  refine v_al0 dX4_compacts_33 ?_
  refine v_il2 dX4_compacts_34 ?_
  refine v_pI cok3 h dX4_compacts_35 (by decide) q279 rfl rfl (fun s12 h => ?_)
  refine v_al0 dX4_compacts_38 ?_
  refine v_il3 dX4_compacts_39 ?_
  refine v_pI cok3 h dX4_compacts_40 (by decide) q281 rfl rfl (fun s13 h => ?_)
  refine v_iconst dX4_compacts_43 ?_
  refine v_istore (L' := [some (vr v0), some (vi x2), some (vi x4), some (vi x6), some (vi (iI 0))]) dX4_compacts_44 (Nat.le_of_ble_eq_true rfl) (Nat.le_of_ble_eq_true rfl) rfl ?_
  exact v_weak (wss (wsn (wsn (wsn (wss wse))))) (lX4_compacts_46 FU h)
theorem tX4_compacts {E : EE} {l : Launch} {v0 : Option Nat} {σ : Mem} {z : Unit × Mem} (h : sX4_compacts v0 σ = some z) : Mt E l mX4_compacts [vr v0] σ (none, z.2) :=
  Mt.ofVL (by decide) (Nat.le_of_ble_eq_true rfl) (fun G hG => lX4_compacts h)
abbrev mX4_last : MM := (yX4_last, cX4_last, 1, (Option.some Jvm.ClassFile.FieldType.int), 0, 0)
theorem dsX4_last : DsOk yX4_last 0 := ⟨by decide, by decide, by decide +kernel⟩
theorem lX4_last {E : EE} {G : GG} {v0 : Option Nat} {σ : Mem} {z : Int32 × Mem} (h : sX4_last v0 σ = some z) : V E mX4_last G 0 [some (vr v0)] [] σ (some (vi z.1), z.2) := by
  unfold sX4_last at h
  refine v_al0 dX4_last_0 ?_
  refine v_gI cok3 h dX4_last_1 (by decide) q274 rfl (fun x1 h => ?_)
  refine v_al0 dX4_last_4 ?_
  refine v_gI cok3 h dX4_last_5 (by decide) q283 rfl (fun x2 h => ?_)
  refine v_iadd dX4_last_8 ?_
  exact v_retI h dX4_last_9 rfl
theorem tX4_last {E : EE} {l : Launch} {v0 : Option Nat} {σ : Mem} {z : Int32 × Mem} (h : sX4_last v0 σ = some z) : Mt E l mX4_last [vr v0] σ (some (vi z.1), z.2) :=
  Mt.ofVL (by decide) (Nat.le_of_ble_eq_true rfl) (fun G hG => lX4_last h)
abbrev mX4_lays : MM := (yX4_lays, cX4_lays, 5, (Option.some Jvm.ClassFile.FieldType.boolean), 3, 67)
theorem dsX4_lays : DsOk yX4_lays 4 := ⟨by decide, by decide, by decide +kernel⟩
theorem lX4_lays_24 {E : EE} {G : GG} {v0 : Option Nat} {v1 : Int32} {v2 : Int32} {v3 : Int32} {v4 : Int32} {σ : Mem} {z : Int32 × Mem} (h : sX4_lays_24 v0 v1 v2 v3 v4 σ = some z) : V E mX4_lays G 24 [some (vr v0), some (vi v1), some (vi v2), some (vi v3), some (vi v4)] [] σ (some (vi z.1), z.2) := by
  unfold sX4_lays_24 at h
  refine v_al0 dX4_lays_24 ?_
  refine v_gI cok3 h dX4_lays_25 (by decide) q283 rfl (fun x1 h => ?_)
  refine v_bipush dX4_lays_28 rfl ?_
  refine v_icmp_eq (tgt := 43) dX4_lays_30 (by decide) (fun c => ?_) (fun c => ?_)
  · rw [if_pos c] at h
    refine v_iconst dX4_lays_43 ?_
    exact v_retZ h dX4_lays_44 rfl
  · rw [if_neg c] at h
    refine v_al0 dX4_lays_33 ?_
    obtain ⟨b34, er, ka, h⟩ := cV_some h
    obtain ⟨x2, s3, h1, h⟩ := cl_some h
    refine v_callV1 cok3 (As := []) er ka (tX4_last h1) (lw_V q656 q644 q645 q162 q646) rfl dsX4_last ⟨Nat.le_of_ble_eq_true rfl, Nat.le_of_ble_eq_true rfl⟩ (Nat.le_of_ble_eq_true rfl) dX4_lays_34 rfl ?_
    refine v_sipush dX4_lays_37 rfl ?_
    refine v_icmp_ne (tgt := 45) dX4_lays_40 (by decide) (fun c => ?_) (fun c => ?_)
    · rw [if_neg c] at h
      refine v_al0 dX4_lays_45 ?_
      refine v_gR cok3 h dX4_lays_46 (by decide) q241 rfl (fun x4 h => ?_)
      refine v_al0 dX4_lays_49 ?_
      refine v_gI cok3 h dX4_lays_50 (by decide) q283 rfl (fun x5 h => ?_)
      refine v_il1 dX4_lays_53 ?_
      refine v_sI h dX4_lays_54 (fun s6 h => ?_)
      refine v_al0 dX4_lays_55 ?_
      refine v_gR cok3 h dX4_lays_56 (by decide) q244 rfl (fun x7 h => ?_)
      refine v_al0 dX4_lays_59 ?_
      refine v_gI cok3 h dX4_lays_60 (by decide) q283 rfl (fun x8 h => ?_)
      refine v_il2 dX4_lays_63 ?_
      refine v_sI h dX4_lays_64 (fun s9 h => ?_)
      refine v_al0 dX4_lays_65 ?_
      refine v_gR cok3 h dX4_lays_66 (by decide) q247 rfl (fun x10 h => ?_)
      refine v_al0 dX4_lays_69 ?_
      refine v_gI cok3 h dX4_lays_70 (by decide) q283 rfl (fun x11 h => ?_)
      refine v_il3 dX4_lays_73 ?_
      refine v_sI h dX4_lays_74 (fun s12 h => ?_)
      refine v_al0 dX4_lays_75 ?_
      refine v_gR cok3 h dX4_lays_76 (by decide) q250 rfl (fun x13 h => ?_)
      refine v_al0 dX4_lays_79 ?_
      refine v_gI cok3 h dX4_lays_80 (by decide) q283 rfl (fun x14 h => ?_)
      refine v_iload dX4_lays_83 rfl ?_
      refine v_sI h dX4_lays_85 (fun s15 h => ?_)
      refine v_al0 dX4_lays_86 ?_
      refine v_dup dX4_lays_87 ?_
      refine v_gI cok3 h dX4_lays_88 (by decide) q283 rfl (fun x16 h => ?_)
      refine v_iconst dX4_lays_91 ?_
      refine v_iadd dX4_lays_92 ?_
      refine v_pI cok3 h dX4_lays_93 (by decide) q283 rfl rfl (fun s17 h => ?_)
      refine v_iconst dX4_lays_96 ?_
      exact v_retZ h dX4_lays_97 rfl
    · rw [if_pos c] at h
      refine v_iconst dX4_lays_43 ?_
      exact v_retZ h dX4_lays_44 rfl
theorem lX4_lays {E : EE} {G : GG} {v0 : Option Nat} {v1 : Int32} {v2 : Int32} {v3 : Int32} {v4 : Int32} {σ : Mem} {z : Int32 × Mem} (h : sX4_lays v0 v1 v2 v3 v4 σ = some z) : V E mX4_lays G 0 [some (vr v0), some (vi v1), some (vi v2), some (vi v3), some (vi v4)] [] σ (some (vi z.1), z.2) := by
  unfold sX4_lays at h
  refine v_al0 dX4_lays_0 ?_
  refine v_gI cok3 h dX4_lays_1 (by decide) q283 rfl (fun x1 h => ?_)
  refine v_bipush dX4_lays_4 rfl ?_
  refine v_icmp_ne (tgt := 24) dX4_lays_6 (by decide) (fun c => ?_) (fun c => ?_)
  · rw [if_neg c] at h
    exact v_weak (wss (wss (wss (wss (wss wse))))) (lX4_lays_24 h)
  · rw [if_pos c] at h
    refine v_al0 dX4_lays_9 ?_
    refine v_gI cok3 h dX4_lays_10 (by decide) q288 rfl (fun x2 h => ?_)
    refine v_al0 dX4_lays_13 ?_
    refine v_gI cok3 h dX4_lays_14 (by decide) q274 rfl (fun x3 h => ?_)
    refine v_icmp_le (tgt := 24) dX4_lays_17 (by decide) (fun c => ?_) (fun c => ?_)
    · rw [if_pos c] at h
      exact v_weak (wss (wss (wss (wss (wss wse))))) (lX4_lays_24 h)
    · rw [if_neg c] at h
      refine v_al0 dX4_lays_20 ?_
      obtain ⟨b21, er, ka, h⟩ := cV_some h
      obtain ⟨_, s4, h1, h⟩ := cl_some h
      refine v_callV0 cok3 (As := []) er ka (tX4_compacts h1) (lw_V q655 q604 q605 q162 q606) rfl dsX4_compacts ⟨Nat.le_of_ble_eq_true rfl, Nat.le_of_ble_eq_true rfl⟩ (Nat.le_of_ble_eq_true rfl) dX4_lays_21 rfl ?_
      exact v_weak (wss (wss (wss (wss (wss wse))))) (lX4_lays_24 h)
theorem tX4_lays {E : EE} {l : Launch} {v0 : Option Nat} {v1 : Int32} {v2 : Int32} {v3 : Int32} {v4 : Int32} {σ : Mem} {z : Int32 × Mem} (h : sX4_lays v0 v1 v2 v3 v4 σ = some z) : Mt E l mX4_lays [vr v0, vi v1, vi v2, vi v3, vi v4] σ (some (vi z.1), z.2) :=
  Mt.ofVL (by decide) (Nat.le_of_ble_eq_true rfl) (fun G hG => lX4_lays h)
abbrev mX4_olds : MM := (yX4_olds, cX4_olds, 1, (Option.some Jvm.ClassFile.FieldType.int), 2, 43)
theorem dsX4_olds : DsOk yX4_olds 0 := ⟨by decide, by decide, by decide +kernel⟩
theorem lX4_olds {E : EE} {G : GG} {v0 : Option Nat} {σ : Mem} {z : Int32 × Mem} (h : sX4_olds v0 σ = some z) : V E mX4_olds G 0 [some (vr v0)] [] σ (some (vi z.1), z.2) := by
  unfold sX4_olds at h
  refine v_al0 dX4_olds_0 ?_
  refine v_al0 dX4_olds_1 ?_
  refine v_al0 dX4_olds_2 ?_
  obtain ⟨b3, er, ka, h⟩ := cV_some h
  obtain ⟨x1, s2, h1, h⟩ := cl_some h
  refine v_callV1 cok3 (As := []) er ka (tX4_last h1) (lw_V q656 q644 q645 q162 q646) rfl dsX4_last ⟨Nat.le_of_ble_eq_true rfl, Nat.le_of_ble_eq_true rfl⟩ (Nat.le_of_ble_eq_true rfl) dX4_olds_3 rfl ?_
  obtain ⟨b6, er, ka, h⟩ := cV_some h
  obtain ⟨x3, s4, h1, h⟩ := cl_some h
  refine v_callV1 cok3 (As := [vi x1]) er ka (tX4_configAt h1) (lw_V q607 q608 q609 q162 q610) rfl dsX4_configAt ⟨Nat.le_of_ble_eq_true rfl, Nat.le_of_ble_eq_true rfl⟩ (Nat.le_of_ble_eq_true rfl) dX4_olds_6 rfl ?_
  obtain ⟨b9, er, ka, h⟩ := cV_some h
  obtain ⟨x5, s6, h1, h⟩ := cl_some h
  refine v_callV1 cok3 (As := [vi x3]) er ka (tX4_oldAt h1) (lw_V q615 q616 q617 q162 q618) rfl dsX4_oldAt ⟨Nat.le_of_ble_eq_true rfl, Nat.le_of_ble_eq_true rfl⟩ (Nat.le_of_ble_eq_true rfl) dX4_olds_9 rfl ?_
  exact v_retI h dX4_olds_12 rfl
theorem tX4_olds {E : EE} {l : Launch} {v0 : Option Nat} {σ : Mem} {z : Int32 × Mem} (h : sX4_olds v0 σ = some z) : Mt E l mX4_olds [vr v0] σ (some (vi z.1), z.2) :=
  Mt.ofVL (by decide) (Nat.le_of_ble_eq_true rfl) (fun G hG => lX4_olds h)
abbrev mX4_news : MM := (yX4_news, cX4_news, 1, (Option.some Jvm.ClassFile.FieldType.int), 2, 43)
theorem dsX4_news : DsOk yX4_news 0 := ⟨by decide, by decide, by decide +kernel⟩
theorem lX4_news {E : EE} {G : GG} {v0 : Option Nat} {σ : Mem} {z : Int32 × Mem} (h : sX4_news v0 σ = some z) : V E mX4_news G 0 [some (vr v0)] [] σ (some (vi z.1), z.2) := by
  unfold sX4_news at h
  refine v_al0 dX4_news_0 ?_
  refine v_al0 dX4_news_1 ?_
  refine v_al0 dX4_news_2 ?_
  obtain ⟨b3, er, ka, h⟩ := cV_some h
  obtain ⟨x1, s2, h1, h⟩ := cl_some h
  refine v_callV1 cok3 (As := []) er ka (tX4_last h1) (lw_V q656 q644 q645 q162 q646) rfl dsX4_last ⟨Nat.le_of_ble_eq_true rfl, Nat.le_of_ble_eq_true rfl⟩ (Nat.le_of_ble_eq_true rfl) dX4_news_3 rfl ?_
  obtain ⟨b6, er, ka, h⟩ := cV_some h
  obtain ⟨x3, s4, h1, h⟩ := cl_some h
  refine v_callV1 cok3 (As := [vi x1]) er ka (tX4_configAt h1) (lw_V q607 q608 q609 q162 q610) rfl dsX4_configAt ⟨Nat.le_of_ble_eq_true rfl, Nat.le_of_ble_eq_true rfl⟩ (Nat.le_of_ble_eq_true rfl) dX4_news_6 rfl ?_
  obtain ⟨b9, er, ka, h⟩ := cV_some h
  obtain ⟨x5, s6, h1, h⟩ := cl_some h
  refine v_callV1 cok3 (As := [vi x3]) er ka (tX4_newAt h1) (lw_V q619 q620 q621 q162 q622) rfl dsX4_newAt ⟨Nat.le_of_ble_eq_true rfl, Nat.le_of_ble_eq_true rfl⟩ (Nat.le_of_ble_eq_true rfl) dX4_news_9 rfl ?_
  exact v_retI h dX4_news_12 rfl
theorem tX4_news {E : EE} {l : Launch} {v0 : Option Nat} {σ : Mem} {z : Int32 × Mem} (h : sX4_news v0 σ = some z) : Mt E l mX4_news [vr v0] σ (some (vi z.1), z.2) :=
  Mt.ofVL (by decide) (Nat.le_of_ble_eq_true rfl) (fun G hG => lX4_news h)
abbrev mX4_members : MM := (yX4_members, cX4_members, 1, (Option.some Jvm.ClassFile.FieldType.int), 3, 63)
theorem dsX4_members : DsOk yX4_members 0 := ⟨by decide, by decide, by decide +kernel⟩
theorem lX4_members {E : EE} {G : GG} {v0 : Option Nat} {σ : Mem} {z : Int32 × Mem} (h : sX4_members v0 σ = some z) : V E mX4_members G 0 [some (vr v0)] [] σ (some (vi z.1), z.2) := by
  unfold sX4_members at h
  refine v_al0 dX4_members_0 ?_
  obtain ⟨b1, er, ka, h⟩ := cV_some h
  obtain ⟨x1, s2, h1, h⟩ := cl_some h
  refine v_callV1 cok3 (As := []) er ka (tX4_olds h1) (lw_V q665 q666 q667 q162 q668) rfl dsX4_olds ⟨Nat.le_of_ble_eq_true rfl, Nat.le_of_ble_eq_true rfl⟩ (Nat.le_of_ble_eq_true rfl) dX4_members_1 rfl ?_
  refine v_al0 dX4_members_4 ?_
  obtain ⟨b5, er, ka, h⟩ := cV_some h
  obtain ⟨x3, s4, h1, h⟩ := cl_some h
  refine v_callV1 cok3 (As := []) er ka (tX4_news h1) (lw_V q669 q670 q671 q162 q672) rfl dsX4_news ⟨Nat.le_of_ble_eq_true rfl, Nat.le_of_ble_eq_true rfl⟩ (Nat.le_of_ble_eq_true rfl) dX4_members_5 rfl ?_
  refine v_ior dX4_members_8 ?_
  exact v_retI h dX4_members_9 rfl
theorem tX4_members {E : EE} {l : Launch} {v0 : Option Nat} {σ : Mem} {z : Int32 × Mem} (h : sX4_members v0 σ = some z) : Mt E l mX4_members [vr v0] σ (some (vi z.1), z.2) :=
  Mt.ofVL (by decide) (Nat.le_of_ble_eq_true rfl) (fun G hG => lX4_members h)
abbrev mX4_isMore : MM := (yX4_isMore, cX4_isMore, 2, (Option.some Jvm.ClassFile.FieldType.boolean), 1, 20)
theorem dsX4_isMore : DsOk yX4_isMore 2 := ⟨by decide, by decide, by decide +kernel⟩
theorem lX4_isMore {E : EE} {G : GG} {v0 : Int32} {v1 : Int32} {σ : Mem} {z : Int32 × Mem} (h : sX4_isMore v0 v1 σ = some z) : V E mX4_isMore G 0 [some (vi v0), some (vi v1)] [] σ (some (vi z.1), z.2) := by
  unfold sX4_isMore at h
  refine v_iconst dX4_isMore_0 ?_
  refine v_il0 dX4_isMore_1 ?_
  refine v_il1 dX4_isMore_2 ?_
  refine v_iand dX4_isMore_3 ?_
  obtain ⟨x1, s2, h1, h⟩ := cl_some h
  refine v_callS1 (As := [vi (v0 &&& v1)]) (tJ1_bitCount h1) (lw_S q722 q723 q168 q724) dsJ1_bitCount ⟨Nat.le_of_ble_eq_true rfl, Nat.le_of_ble_eq_true rfl⟩ (Nat.le_of_ble_eq_true rfl) dX4_isMore_4 rfl ?_
  refine v_imul dX4_isMore_7 ?_
  refine v_il1 dX4_isMore_8 ?_
  obtain ⟨x3, s4, h1, h⟩ := cl_some h
  refine v_callS1 (As := [vi v1]) (tJ1_bitCount h1) (lw_S q722 q723 q168 q724) dsJ1_bitCount ⟨Nat.le_of_ble_eq_true rfl, Nat.le_of_ble_eq_true rfl⟩ (Nat.le_of_ble_eq_true rfl) dX4_isMore_9 rfl ?_
  refine v_icmp_le (tgt := 19) dX4_isMore_12 (by decide) (fun c => ?_) (fun c => ?_)
  · rw [if_pos c] at h
    refine v_iconst dX4_isMore_19 ?_
    exact v_retZ h dX4_isMore_20 rfl
  · rw [if_neg c] at h
    refine v_iconst dX4_isMore_15 ?_
    refine v_goto (tgt := 20) dX4_isMore_16 (by decide) ?_
    exact v_retZ h dX4_isMore_20 rfl
theorem tX4_isMore {E : EE} {l : Launch} {v0 : Int32} {v1 : Int32} {σ : Mem} {z : Int32 × Mem} (h : sX4_isMore v0 v1 σ = some z) : Mt E l mX4_isMore [vi v0, vi v1] σ (some (vi z.1), z.2) :=
  Mt.ofVL (by decide) (Nat.le_of_ble_eq_true rfl) (fun G hG => lX4_isMore h)
abbrev mX4_isMajority : MM := (yX4_isMajority, cX4_isMajority, 2, (Option.some Jvm.ClassFile.FieldType.boolean), 3, 63)
theorem dsX4_isMajority : DsOk yX4_isMajority 1 := ⟨by decide, by decide, by decide +kernel⟩
theorem lX4_isMajority {E : EE} {G : GG} {v0 : Option Nat} {v1 : Int32} {σ : Mem} {z : Int32 × Mem} (h : sX4_isMajority v0 v1 σ = some z) : V E mX4_isMajority G 0 [some (vr v0), some (vi v1)] [] σ (some (vi z.1), z.2) := by
  unfold sX4_isMajority at h
  refine v_il1 dX4_isMajority_0 ?_
  refine v_al0 dX4_isMajority_1 ?_
  obtain ⟨b2, er, ka, h⟩ := cV_some h
  obtain ⟨x1, s2, h1, h⟩ := cl_some h
  refine v_callV1 cok3 (As := []) er ka (tX4_olds h1) (lw_V q665 q666 q667 q162 q668) rfl dsX4_olds ⟨Nat.le_of_ble_eq_true rfl, Nat.le_of_ble_eq_true rfl⟩ (Nat.le_of_ble_eq_true rfl) dX4_isMajority_2 rfl ?_
  obtain ⟨x3, s4, h1, h⟩ := cl_some h
  refine v_callS1 (As := [vi v1, vi x1]) (tX4_isMore h1) (lw_S q719 q720 q162 q721) dsX4_isMore ⟨Nat.le_of_ble_eq_true rfl, Nat.le_of_ble_eq_true rfl⟩ (Nat.le_of_ble_eq_true rfl) dX4_isMajority_5 rfl ?_
  refine v_if_eq (tgt := 33) dX4_isMajority_8 (by decide) (fun c => ?_) (fun c => ?_)
  · rw [if_pos c] at h
    refine v_iconst dX4_isMajority_33 ?_
    exact v_retZ h dX4_isMajority_34 rfl
  · rw [if_neg c] at h
    refine v_al0 dX4_isMajority_11 ?_
    obtain ⟨b12, er, ka, h⟩ := cV_some h
    obtain ⟨x5, s6, h1, h⟩ := cl_some h
    refine v_callV1 cok3 (As := []) er ka (tX4_news h1) (lw_V q669 q670 q671 q162 q672) rfl dsX4_news ⟨Nat.le_of_ble_eq_true rfl, Nat.le_of_ble_eq_true rfl⟩ (Nat.le_of_ble_eq_true rfl) dX4_isMajority_12 rfl ?_
    refine v_if_eq (tgt := 29) dX4_isMajority_15 (by decide) (fun c => ?_) (fun c => ?_)
    · rw [if_pos c] at h
      refine v_iconst dX4_isMajority_29 ?_
      refine v_goto (tgt := 34) dX4_isMajority_30 (by decide) ?_
      exact v_retZ h dX4_isMajority_34 rfl
    · rw [if_neg c] at h
      refine v_il1 dX4_isMajority_18 ?_
      refine v_al0 dX4_isMajority_19 ?_
      obtain ⟨b20, er, ka, h⟩ := cV_some h
      obtain ⟨x7, s8, h1, h⟩ := cl_some h
      refine v_callV1 cok3 (As := []) er ka (tX4_news h1) (lw_V q669 q670 q671 q162 q672) rfl dsX4_news ⟨Nat.le_of_ble_eq_true rfl, Nat.le_of_ble_eq_true rfl⟩ (Nat.le_of_ble_eq_true rfl) dX4_isMajority_20 rfl ?_
      obtain ⟨x9, s10, h1, h⟩ := cl_some h
      refine v_callS1 (As := [vi v1, vi x7]) (tX4_isMore h1) (lw_S q719 q720 q162 q721) dsX4_isMore ⟨Nat.le_of_ble_eq_true rfl, Nat.le_of_ble_eq_true rfl⟩ (Nat.le_of_ble_eq_true rfl) dX4_isMajority_23 rfl ?_
      refine v_if_eq (tgt := 33) dX4_isMajority_26 (by decide) (fun c => ?_) (fun c => ?_)
      · rw [if_pos c] at h
        refine v_iconst dX4_isMajority_33 ?_
        exact v_retZ h dX4_isMajority_34 rfl
      · rw [if_neg c] at h
        refine v_iconst dX4_isMajority_29 ?_
        refine v_goto (tgt := 34) dX4_isMajority_30 (by decide) ?_
        exact v_retZ h dX4_isMajority_34 rfl
theorem tX4_isMajority {E : EE} {l : Launch} {v0 : Option Nat} {v1 : Int32} {σ : Mem} {z : Int32 × Mem} (h : sX4_isMajority v0 v1 σ = some z) : Mt E l mX4_isMajority [vr v0, vi v1] σ (some (vi z.1), z.2) :=
  Mt.ofVL (by decide) (Nat.le_of_ble_eq_true rfl) (fun G hG => lX4_isMajority h)
abbrev mX4_isConfigHeld : MM := (yX4_isConfigHeld, cX4_isConfigHeld, 1, (Option.some Jvm.ClassFile.FieldType.boolean), 2, 43)
theorem dsX4_isConfigHeld : DsOk yX4_isConfigHeld 0 := ⟨by decide, by decide, by decide +kernel⟩
theorem lX4_isConfigHeld {E : EE} {G : GG} {v0 : Option Nat} {σ : Mem} {z : Int32 × Mem} (h : sX4_isConfigHeld v0 σ = some z) : V E mX4_isConfigHeld G 0 [some (vr v0)] [] σ (some (vi z.1), z.2) := by
  unfold sX4_isConfigHeld at h
  refine v_al0 dX4_isConfigHeld_0 ?_
  refine v_al0 dX4_isConfigHeld_1 ?_
  obtain ⟨b2, er, ka, h⟩ := cV_some h
  obtain ⟨x1, s2, h1, h⟩ := cl_some h
  refine v_callV1 cok3 (As := []) er ka (tX4_last h1) (lw_V q656 q644 q645 q162 q646) rfl dsX4_last ⟨Nat.le_of_ble_eq_true rfl, Nat.le_of_ble_eq_true rfl⟩ (Nat.le_of_ble_eq_true rfl) dX4_isConfigHeld_2 rfl ?_
  obtain ⟨b5, er, ka, h⟩ := cV_some h
  obtain ⟨x3, s4, h1, h⟩ := cl_some h
  refine v_callV1 cok3 (As := [vi x1]) er ka (tX4_configAt h1) (lw_V q607 q608 q609 q162 q610) rfl dsX4_configAt ⟨Nat.le_of_ble_eq_true rfl, Nat.le_of_ble_eq_true rfl⟩ (Nat.le_of_ble_eq_true rfl) dX4_isConfigHeld_5 rfl ?_
  refine v_al0 dX4_isConfigHeld_8 ?_
  refine v_gI cok3 h dX4_isConfigHeld_9 (by decide) q288 rfl (fun x5 h => ?_)
  refine v_icmp_gt (tgt := 19) dX4_isConfigHeld_12 (by decide) (fun c => ?_) (fun c => ?_)
  · rw [if_pos c] at h
    refine v_iconst dX4_isConfigHeld_19 ?_
    exact v_retZ h dX4_isConfigHeld_20 rfl
  · rw [if_neg c] at h
    refine v_iconst dX4_isConfigHeld_15 ?_
    refine v_goto (tgt := 20) dX4_isConfigHeld_16 (by decide) ?_
    exact v_retZ h dX4_isConfigHeld_20 rfl
theorem tX4_isConfigHeld {E : EE} {l : Launch} {v0 : Option Nat} {σ : Mem} {z : Int32 × Mem} (h : sX4_isConfigHeld v0 σ = some z) : Mt E l mX4_isConfigHeld [vr v0] σ (some (vi z.1), z.2) :=
  Mt.ofVL (by decide) (Nat.le_of_ble_eq_true rfl) (fun G hG => lX4_isConfigHeld h)
abbrev mX4_isNoLess : MM := (yX4_isNoLess, cX4_isNoLess, 3, (Option.some Jvm.ClassFile.FieldType.boolean), 1, 21)
theorem dsX4_isNoLess : DsOk yX4_isNoLess 2 := ⟨by decide, by decide, by decide +kernel⟩
theorem lX4_isNoLess {E : EE} {G : GG} {v0 : Option Nat} {v1 : Int32} {v2 : Int32} {σ : Mem} {z : Int32 × Mem} (h : sX4_isNoLess v0 v1 v2 σ = some z) : V E mX4_isNoLess G 0 [some (vr v0), some (vi v1), some (vi v2)] [] σ (some (vi z.1), z.2) := by
  unfold sX4_isNoLess at h
  refine v_il1 dX4_isNoLess_0 ?_
  refine v_al0 dX4_isNoLess_1 ?_
  refine v_al0 dX4_isNoLess_2 ?_
  obtain ⟨b3, er, ka, h⟩ := cV_some h
  obtain ⟨x1, s2, h1, h⟩ := cl_some h
  refine v_callV1 cok3 (As := []) er ka (tX4_last h1) (lw_V q656 q644 q645 q162 q646) rfl dsX4_last ⟨Nat.le_of_ble_eq_true rfl, Nat.le_of_ble_eq_true rfl⟩ (Nat.le_of_ble_eq_true rfl) dX4_isNoLess_3 rfl ?_
  obtain ⟨b6, er, ka, h⟩ := cV_some h
  obtain ⟨x3, s4, h1, h⟩ := cl_some h
  refine v_callV1 cok3 (As := [vi x1]) er ka (tX4_termAt h1) (lw_V q623 q624 q625 q162 q626) rfl dsX4_termAt ⟨Nat.le_of_ble_eq_true rfl, Nat.le_of_ble_eq_true rfl⟩ (Nat.le_of_ble_eq_true rfl) dX4_isNoLess_6 rfl ?_
  refine v_icmp_gt (tgt := 32) dX4_isNoLess_9 (by decide) (fun c => ?_) (fun c => ?_)
  · rw [if_pos c] at h
    refine v_iconst dX4_isNoLess_32 ?_
    refine v_goto (tgt := 37) dX4_isNoLess_33 (by decide) ?_
    exact v_retZ h dX4_isNoLess_37 rfl
  · rw [if_neg c] at h
    refine v_il1 dX4_isNoLess_12 ?_
    refine v_al0 dX4_isNoLess_13 ?_
    refine v_al0 dX4_isNoLess_14 ?_
    obtain ⟨b15, er, ka, h⟩ := cV_some h
    obtain ⟨x5, s6, h1, h⟩ := cl_some h
    refine v_callV1 cok3 (As := []) er ka (tX4_last h1) (lw_V q656 q644 q645 q162 q646) rfl dsX4_last ⟨Nat.le_of_ble_eq_true rfl, Nat.le_of_ble_eq_true rfl⟩ (Nat.le_of_ble_eq_true rfl) dX4_isNoLess_15 rfl ?_
    obtain ⟨b18, er, ka, h⟩ := cV_some h
    obtain ⟨x7, s8, h1, h⟩ := cl_some h
    refine v_callV1 cok3 (As := [vi x5]) er ka (tX4_termAt h1) (lw_V q623 q624 q625 q162 q626) rfl dsX4_termAt ⟨Nat.le_of_ble_eq_true rfl, Nat.le_of_ble_eq_true rfl⟩ (Nat.le_of_ble_eq_true rfl) dX4_isNoLess_18 rfl ?_
    refine v_icmp_ne (tgt := 36) dX4_isNoLess_21 (by decide) (fun c => ?_) (fun c => ?_)
    · rw [if_neg c] at h
      refine v_iconst dX4_isNoLess_36 ?_
      exact v_retZ h dX4_isNoLess_37 rfl
    · rw [if_pos c] at h
      refine v_il2 dX4_isNoLess_24 ?_
      refine v_al0 dX4_isNoLess_25 ?_
      obtain ⟨b26, er, ka, h⟩ := cV_some h
      obtain ⟨x9, s10, h1, h⟩ := cl_some h
      refine v_callV1 cok3 (As := []) er ka (tX4_last h1) (lw_V q656 q644 q645 q162 q646) rfl dsX4_last ⟨Nat.le_of_ble_eq_true rfl, Nat.le_of_ble_eq_true rfl⟩ (Nat.le_of_ble_eq_true rfl) dX4_isNoLess_26 rfl ?_
      refine v_icmp_lt (tgt := 36) dX4_isNoLess_29 (by decide) (fun c => ?_) (fun c => ?_)
      · rw [if_pos c] at h
        refine v_iconst dX4_isNoLess_36 ?_
        exact v_retZ h dX4_isNoLess_37 rfl
      · rw [if_neg c] at h
        refine v_iconst dX4_isNoLess_32 ?_
        refine v_goto (tgt := 37) dX4_isNoLess_33 (by decide) ?_
        exact v_retZ h dX4_isNoLess_37 rfl
theorem tX4_isNoLess {E : EE} {l : Launch} {v0 : Option Nat} {v1 : Int32} {v2 : Int32} {σ : Mem} {z : Int32 × Mem} (h : sX4_isNoLess v0 v1 v2 σ = some z) : Mt E l mX4_isNoLess [vr v0, vi v1, vi v2] σ (some (vi z.1), z.2) :=
  Mt.ofVL (by decide) (Nat.le_of_ble_eq_true rfl) (fun G hG => lX4_isNoLess h)
abbrev mX4_firstOfTerm : MM := (yX4_firstOfTerm, cX4_firstOfTerm, 3, (Option.some Jvm.ClassFile.FieldType.int), 1, 30)
theorem dsX4_firstOfTerm : DsOk yX4_firstOfTerm 1 := ⟨by decide, by decide, by decide +kernel⟩
theorem lX4_firstOfTerm_33 {E : EE} {G : GG} {v2 : Int32} {σ : Mem} {z : Int32 × Mem} (h : sX4_firstOfTerm_33 v2 σ = some z) : V E mX4_firstOfTerm G 33 [none, none, some (vi v2)] [] σ (some (vi z.1), z.2) := by
  unfold sX4_firstOfTerm_33 at h
  refine v_iconst dX4_firstOfTerm_33 ?_
  refine v_il2 dX4_firstOfTerm_34 ?_
  refine v_mmax dX4_firstOfTerm_35 q1179 q534 q166 q535 (by decide) (by decide) (Nat.le_of_ble_eq_true rfl) ?_
  exact v_retI h dX4_firstOfTerm_38 rfl
theorem lX4_firstOfTerm_2b {E : EE} {G : GG} {k2 : Option Nat → Int32 → Int32 → Mem → Option (Int32 × Mem)} (hk2 : ∀ (v0 : Option Nat) (v1 : Int32) (v2 : Int32) (s : Mem) (z : Int32 × Mem), k2 v0 v1 v2 s = some z → V E mX4_firstOfTerm G 2 [some (vr v0), some (vi v1), some (vi v2)] [] s (some (vi z.1), z.2)) {v0 : Option Nat} {v1 : Int32} {v2 : Int32} {σ : Mem} {z : Int32 × Mem} (h : sX4_firstOfTerm_2b k2 v0 v1 v2 σ = some z) : V E mX4_firstOfTerm G 2 [some (vr v0), some (vi v1), some (vi v2)] [] σ (some (vi z.1), z.2) := by
  unfold sX4_firstOfTerm_2b at h
  refine v_il2 dX4_firstOfTerm_2 ?_
  refine v_iconst dX4_firstOfTerm_3 ?_
  refine v_isub dX4_firstOfTerm_4 ?_
  refine v_al0 dX4_firstOfTerm_5 ?_
  refine v_gI cok3 h dX4_firstOfTerm_6 (by decide) q274 rfl (fun x1 h => ?_)
  refine v_icmp_le (tgt := 33) dX4_firstOfTerm_9 (by decide) (fun c => ?_) (fun c => ?_)
  · rw [if_pos c] at h
    exact v_weak (wsn (wsn (wss wse))) (lX4_firstOfTerm_33 h)
  · rw [if_neg c] at h
    refine v_al0 dX4_firstOfTerm_12 ?_
    refine v_il2 dX4_firstOfTerm_13 ?_
    refine v_iconst dX4_firstOfTerm_14 ?_
    refine v_isub dX4_firstOfTerm_15 ?_
    obtain ⟨b16, er, ka, h⟩ := cV_some h
    obtain ⟨x2, s3, h1, h⟩ := cl_some h
    refine v_callV1 cok3 (As := [vi (v2 - (iI 1))]) er ka (tX4_termAt h1) (lw_V q623 q624 q625 q162 q626) rfl dsX4_termAt ⟨Nat.le_of_ble_eq_true rfl, Nat.le_of_ble_eq_true rfl⟩ (Nat.le_of_ble_eq_true rfl) dX4_firstOfTerm_16 rfl ?_
    refine v_al0 dX4_firstOfTerm_19 ?_
    refine v_il1 dX4_firstOfTerm_20 ?_
    obtain ⟨b21, er, ka, h⟩ := cV_some h
    obtain ⟨x4, s5, h1, h⟩ := cl_some h
    refine v_callV1 cok3 (As := [vi v1]) er ka (tX4_termAt h1) (lw_V q623 q624 q625 q162 q626) rfl dsX4_termAt ⟨Nat.le_of_ble_eq_true rfl, Nat.le_of_ble_eq_true rfl⟩ (Nat.le_of_ble_eq_true rfl) dX4_firstOfTerm_21 rfl ?_
    refine v_icmp_ne (tgt := 33) dX4_firstOfTerm_24 (by decide) (fun c => ?_) (fun c => ?_)
    · rw [if_neg c] at h
      exact v_weak (wsn (wsn (wss wse))) (lX4_firstOfTerm_33 h)
    · rw [if_pos c] at h
      refine v_iinc (L' := [some (vr v0), some (vi v1), some (vi (v2 + iI (-1)))]) dX4_firstOfTerm_27 (Nat.le_of_ble_eq_true rfl) rfl rfl ?_
      refine v_goto (tgt := 2) dX4_firstOfTerm_30 (by decide) ?_
      exact v_weak (wss (wss (wss wse))) (hk2 _ _ _ _ _ h)
theorem lX4_firstOfTerm_2 {E : EE} {G : GG} : ∀ (f : Nat) {v0 : Option Nat} {v1 : Int32} {v2 : Int32} {σ : Mem} {z : Int32 × Mem}, sX4_firstOfTerm_2 f v0 v1 v2 σ = some z → V E mX4_firstOfTerm G 2 [some (vr v0), some (vi v1), some (vi v2)] [] σ (some (vi z.1), z.2)
  | 0, _, _, _, _, _, h => by cases h
  | f + 1, _, _, _, _, _, h => lX4_firstOfTerm_2b (fun _ _ _ _ _ h => lX4_firstOfTerm_2 f h) h
theorem lX4_firstOfTerm {E : EE} {G : GG} {v0 : Option Nat} {v1 : Int32} {σ : Mem} {z : Int32 × Mem} (h : sX4_firstOfTerm v0 v1 σ = some z) : V E mX4_firstOfTerm G 0 [some (vr v0), some (vi v1), none] [] σ (some (vi z.1), z.2) := by
  unfold sX4_firstOfTerm at h
  refine v_il1 dX4_firstOfTerm_0 ?_
  refine v_istore_n (L' := [some (vr v0), some (vi v1), some (vi v1)]) dX4_firstOfTerm_1 (Nat.le_of_ble_eq_true rfl) (Nat.le_of_ble_eq_true rfl) rfl ?_
  exact v_weak (wss (wss (wss wse))) (lX4_firstOfTerm_2 FU h)
theorem tX4_firstOfTerm {E : EE} {l : Launch} {v0 : Option Nat} {v1 : Int32} {σ : Mem} {z : Int32 × Mem} (h : sX4_firstOfTerm v0 v1 σ = some z) : Mt E l mX4_firstOfTerm [vr v0, vi v1] σ (some (vi z.1), z.2) :=
  Mt.ofVL (by decide) (Nat.le_of_ble_eq_true rfl) (fun G hG => lX4_firstOfTerm h)
abbrev mX4_hasEntry : MM := (yX4_hasEntry, cX4_hasEntry, 2, (Option.some Jvm.ClassFile.FieldType.boolean), 1, 20)
theorem dsX4_hasEntry : DsOk yX4_hasEntry 1 := ⟨by decide, by decide, by decide +kernel⟩
theorem lX4_hasEntry {E : EE} {G : GG} {v0 : Option Nat} {v1 : Int32} {σ : Mem} {z : Int32 × Mem} (h : sX4_hasEntry v0 v1 σ = some z) : V E mX4_hasEntry G 0 [some (vr v0), some (vi v1)] [] σ (some (vi z.1), z.2) := by
  unfold sX4_hasEntry at h
  refine v_il1 dX4_hasEntry_0 ?_
  refine v_al0 dX4_hasEntry_1 ?_
  refine v_gI cok3 h dX4_hasEntry_2 (by decide) q274 rfl (fun x1 h => ?_)
  refine v_icmp_le (tgt := 20) dX4_hasEntry_5 (by decide) (fun c => ?_) (fun c => ?_)
  · rw [if_pos c] at h
    refine v_iconst dX4_hasEntry_20 ?_
    exact v_retZ h dX4_hasEntry_21 rfl
  · rw [if_neg c] at h
    refine v_il1 dX4_hasEntry_8 ?_
    refine v_al0 dX4_hasEntry_9 ?_
    obtain ⟨b10, er, ka, h⟩ := cV_some h
    obtain ⟨x2, s3, h1, h⟩ := cl_some h
    refine v_callV1 cok3 (As := []) er ka (tX4_last h1) (lw_V q656 q644 q645 q162 q646) rfl dsX4_last ⟨Nat.le_of_ble_eq_true rfl, Nat.le_of_ble_eq_true rfl⟩ (Nat.le_of_ble_eq_true rfl) dX4_hasEntry_10 rfl ?_
    refine v_icmp_gt (tgt := 20) dX4_hasEntry_13 (by decide) (fun c => ?_) (fun c => ?_)
    · rw [if_pos c] at h
      refine v_iconst dX4_hasEntry_20 ?_
      exact v_retZ h dX4_hasEntry_21 rfl
    · rw [if_neg c] at h
      refine v_iconst dX4_hasEntry_16 ?_
      refine v_goto (tgt := 21) dX4_hasEntry_17 (by decide) ?_
      exact v_retZ h dX4_hasEntry_21 rfl
theorem tX4_hasEntry {E : EE} {l : Launch} {v0 : Option Nat} {v1 : Int32} {σ : Mem} {z : Int32 × Mem} (h : sX4_hasEntry v0 v1 σ = some z) : Mt E l mX4_hasEntry [vr v0, vi v1] σ (some (vi z.1), z.2) :=
  Mt.ofVL (by decide) (Nat.le_of_ble_eq_true rfl) (fun G hG => lX4_hasEntry h)
abbrev mX4_takes : MM := (yX4_takes, cX4_takes, 3, (Option.none : Option Jvm.ClassFile.FieldType), 0, 0)
theorem dsX4_takes : DsOk yX4_takes 1 := ⟨by decide, by decide, by decide +kernel⟩
theorem lX4_takes_224b {E : EE} {G : GG} {k224 : Option Nat → Option Nat → Int32 → Mem → Option (Unit × Mem)} (hk224 : ∀ (v0 : Option Nat) (v1 : Option Nat) (v2 : Int32) (s : Mem) (z : Unit × Mem), k224 v0 v1 v2 s = some z → V E mX4_takes G 224 [some (vr v0), some (vr v1), some (vi v2)] [] s (none, z.2)) {v0 : Option Nat} {v1 : Option Nat} {v2 : Int32} {σ : Mem} {z : Unit × Mem} (h : sX4_takes_224b k224 v0 v1 v2 σ = some z) : V E mX4_takes G 224 [some (vr v0), some (vr v1), some (vi v2)] [] σ (none, z.2) := by
  unfold sX4_takes_224b at h
  refine v_il2 dX4_takes_224 ?_
  refine v_bipush dX4_takes_225 rfl ?_
  refine v_icmp_ge (tgt := 272) dX4_takes_227 (by decide) (fun c => ?_) (fun c => ?_)
  · rw [if_pos c] at h
    exact v_retV h dX4_takes_272 rfl
  · rw [if_neg c] at h
    refine v_al0 dX4_takes_230 ?_
    refine v_gR cok3 h dX4_takes_231 (by decide) q259 rfl (fun x1 h => ?_)
    refine v_il2 dX4_takes_234 ?_
    refine v_al1 dX4_takes_235 ?_
    refine v_gR cok3 h dX4_takes_236 (by decide) q259 rfl (fun x2 h => ?_)
    refine v_il2 dX4_takes_239 ?_
    refine v_aI h dX4_takes_240 (fun x3 h => ?_)
    refine v_sI h dX4_takes_241 (fun s4 h => ?_)
    refine v_al0 dX4_takes_242 ?_
    refine v_gR cok3 h dX4_takes_243 (by decide) q262 rfl (fun x5 h => ?_)
    refine v_il2 dX4_takes_246 ?_
    refine v_al1 dX4_takes_247 ?_
    refine v_gR cok3 h dX4_takes_248 (by decide) q262 rfl (fun x6 h => ?_)
    refine v_il2 dX4_takes_251 ?_
    refine v_aI h dX4_takes_252 (fun x7 h => ?_)
    refine v_sI h dX4_takes_253 (fun s8 h => ?_)
    refine v_al0 dX4_takes_254 ?_
    refine v_gR cok3 h dX4_takes_255 (by decide) q265 rfl (fun x9 h => ?_)
    refine v_il2 dX4_takes_258 ?_
    refine v_al1 dX4_takes_259 ?_
    refine v_gR cok3 h dX4_takes_260 (by decide) q265 rfl (fun x10 h => ?_)
    refine v_il2 dX4_takes_263 ?_
    refine v_aI h dX4_takes_264 (fun x11 h => ?_)
    refine v_sI h dX4_takes_265 (fun s12 h => ?_)
    refine v_iinc (L' := [some (vr v0), some (vr v1), some (vi (v2 + iI 1))]) dX4_takes_266 (Nat.le_of_ble_eq_true rfl) rfl rfl ?_
    refine v_goto (tgt := 224) dX4_takes_269 (by decide) ?_
    exact v_weak (wss (wss (wss wse))) (hk224 _ _ _ _ _ h)
theorem lX4_takes_224 {E : EE} {G : GG} : ∀ (f : Nat) {v0 : Option Nat} {v1 : Option Nat} {v2 : Int32} {σ : Mem} {z : Unit × Mem}, sX4_takes_224 f v0 v1 v2 σ = some z → V E mX4_takes G 224 [some (vr v0), some (vr v1), some (vi v2)] [] σ (none, z.2)
  | 0, _, _, _, _, _, h => by cases h
  | f + 1, _, _, _, _, _, h => lX4_takes_224b (fun _ _ _ _ _ h => lX4_takes_224 f h) h
theorem lX4_takes_186b {E : EE} {G : GG} {k186 : Option Nat → Option Nat → Int32 → Mem → Option (Unit × Mem)} (hk186 : ∀ (v0 : Option Nat) (v1 : Option Nat) (v2 : Int32) (s : Mem) (z : Unit × Mem), k186 v0 v1 v2 s = some z → V E mX4_takes G 186 [some (vr v0), some (vr v1), some (vi v2)] [] s (none, z.2)) {v0 : Option Nat} {v1 : Option Nat} {v2 : Int32} {σ : Mem} {z : Unit × Mem} (h : sX4_takes_186b k186 v0 v1 v2 σ = some z) : V E mX4_takes G 186 [some (vr v0), some (vr v1), some (vi v2)] [] σ (none, z.2) := by
  unfold sX4_takes_186b at h
  refine v_il2 dX4_takes_186 ?_
  refine v_bipush dX4_takes_187 rfl ?_
  refine v_icmp_ge (tgt := 222) dX4_takes_189 (by decide) (fun c => ?_) (fun c => ?_)
  · rw [if_pos c] at h
    refine v_iconst dX4_takes_222 ?_
    refine v_istore_n (L' := [some (vr v0), some (vr v1), some (vi (iI 0))]) dX4_takes_223 (Nat.le_of_ble_eq_true rfl) (Nat.le_of_ble_eq_true rfl) rfl ?_
    exact v_weak (wss (wss (wss wse))) (lX4_takes_224 FU h)
  · rw [if_neg c] at h
    refine v_al0 dX4_takes_192 ?_
    refine v_gR cok3 h dX4_takes_193 (by decide) q253 rfl (fun x1 h => ?_)
    refine v_il2 dX4_takes_196 ?_
    refine v_al1 dX4_takes_197 ?_
    refine v_gR cok3 h dX4_takes_198 (by decide) q253 rfl (fun x2 h => ?_)
    refine v_il2 dX4_takes_201 ?_
    refine v_aI h dX4_takes_202 (fun x3 h => ?_)
    refine v_sI h dX4_takes_203 (fun s4 h => ?_)
    refine v_al0 dX4_takes_204 ?_
    refine v_gR cok3 h dX4_takes_205 (by decide) q256 rfl (fun x5 h => ?_)
    refine v_il2 dX4_takes_208 ?_
    refine v_al1 dX4_takes_209 ?_
    refine v_gR cok3 h dX4_takes_210 (by decide) q256 rfl (fun x6 h => ?_)
    refine v_il2 dX4_takes_213 ?_
    refine v_aI h dX4_takes_214 (fun x7 h => ?_)
    refine v_sI h dX4_takes_215 (fun s8 h => ?_)
    refine v_iinc (L' := [some (vr v0), some (vr v1), some (vi (v2 + iI 1))]) dX4_takes_216 (Nat.le_of_ble_eq_true rfl) rfl rfl ?_
    refine v_goto (tgt := 186) dX4_takes_219 (by decide) ?_
    exact v_weak (wss (wss (wss wse))) (hk186 _ _ _ _ _ h)
theorem lX4_takes_186 {E : EE} {G : GG} : ∀ (f : Nat) {v0 : Option Nat} {v1 : Option Nat} {v2 : Int32} {σ : Mem} {z : Unit × Mem}, sX4_takes_186 f v0 v1 v2 σ = some z → V E mX4_takes G 186 [some (vr v0), some (vr v1), some (vi v2)] [] σ (none, z.2)
  | 0, _, _, _, _, _, h => by cases h
  | f + 1, _, _, _, _, _, h => lX4_takes_186b (fun _ _ _ _ _ h => lX4_takes_186 f h) h
theorem lX4_takes_122b {E : EE} {G : GG} {k122 : Option Nat → Option Nat → Int32 → Mem → Option (Unit × Mem)} (hk122 : ∀ (v0 : Option Nat) (v1 : Option Nat) (v2 : Int32) (s : Mem) (z : Unit × Mem), k122 v0 v1 v2 s = some z → V E mX4_takes G 122 [some (vr v0), some (vr v1), some (vi v2)] [] s (none, z.2)) {v0 : Option Nat} {v1 : Option Nat} {v2 : Int32} {σ : Mem} {z : Unit × Mem} (h : sX4_takes_122b k122 v0 v1 v2 σ = some z) : V E mX4_takes G 122 [some (vr v0), some (vr v1), some (vi v2)] [] σ (none, z.2) := by
  unfold sX4_takes_122b at h
  refine v_il2 dX4_takes_122 ?_
  refine v_al0 dX4_takes_123 ?_
  refine v_gI cok3 h dX4_takes_124 (by decide) q283 rfl (fun x1 h => ?_)
  refine v_icmp_ge (tgt := 184) dX4_takes_127 (by decide) (fun c => ?_) (fun c => ?_)
  · rw [if_pos c] at h
    refine v_iconst dX4_takes_184 ?_
    refine v_istore_n (L' := [some (vr v0), some (vr v1), some (vi (iI 0))]) dX4_takes_185 (Nat.le_of_ble_eq_true rfl) (Nat.le_of_ble_eq_true rfl) rfl ?_
    exact v_weak (wss (wss (wss wse))) (lX4_takes_186 FU h)
  · rw [if_neg c] at h
    refine v_al0 dX4_takes_130 ?_
    refine v_gR cok3 h dX4_takes_131 (by decide) q241 rfl (fun x2 h => ?_)
    refine v_il2 dX4_takes_134 ?_
    refine v_al1 dX4_takes_135 ?_
    refine v_gR cok3 h dX4_takes_136 (by decide) q241 rfl (fun x3 h => ?_)
    refine v_il2 dX4_takes_139 ?_
    refine v_aI h dX4_takes_140 (fun x4 h => ?_)
    refine v_sI h dX4_takes_141 (fun s5 h => ?_)
    refine v_al0 dX4_takes_142 ?_
    refine v_gR cok3 h dX4_takes_143 (by decide) q244 rfl (fun x6 h => ?_)
    refine v_il2 dX4_takes_146 ?_
    refine v_al1 dX4_takes_147 ?_
    refine v_gR cok3 h dX4_takes_148 (by decide) q244 rfl (fun x7 h => ?_)
    refine v_il2 dX4_takes_151 ?_
    refine v_aI h dX4_takes_152 (fun x8 h => ?_)
    refine v_sI h dX4_takes_153 (fun s9 h => ?_)
    refine v_al0 dX4_takes_154 ?_
    refine v_gR cok3 h dX4_takes_155 (by decide) q247 rfl (fun x10 h => ?_)
    refine v_il2 dX4_takes_158 ?_
    refine v_al1 dX4_takes_159 ?_
    refine v_gR cok3 h dX4_takes_160 (by decide) q247 rfl (fun x11 h => ?_)
    refine v_il2 dX4_takes_163 ?_
    refine v_aI h dX4_takes_164 (fun x12 h => ?_)
    refine v_sI h dX4_takes_165 (fun s13 h => ?_)
    refine v_al0 dX4_takes_166 ?_
    refine v_gR cok3 h dX4_takes_167 (by decide) q250 rfl (fun x14 h => ?_)
    refine v_il2 dX4_takes_170 ?_
    refine v_al1 dX4_takes_171 ?_
    refine v_gR cok3 h dX4_takes_172 (by decide) q250 rfl (fun x15 h => ?_)
    refine v_il2 dX4_takes_175 ?_
    refine v_aI h dX4_takes_176 (fun x16 h => ?_)
    refine v_sI h dX4_takes_177 (fun s17 h => ?_)
    refine v_iinc (L' := [some (vr v0), some (vr v1), some (vi (v2 + iI 1))]) dX4_takes_178 (Nat.le_of_ble_eq_true rfl) rfl rfl ?_
    refine v_goto (tgt := 122) dX4_takes_181 (by decide) ?_
    exact v_weak (wss (wss (wss wse))) (hk122 _ _ _ _ _ h)
theorem lX4_takes_122 {E : EE} {G : GG} : ∀ (f : Nat) {v0 : Option Nat} {v1 : Option Nat} {v2 : Int32} {σ : Mem} {z : Unit × Mem}, sX4_takes_122 f v0 v1 v2 σ = some z → V E mX4_takes G 122 [some (vr v0), some (vr v1), some (vi v2)] [] σ (none, z.2)
  | 0, _, _, _, _, _, h => by cases h
  | f + 1, _, _, _, _, _, h => lX4_takes_122b (fun _ _ _ _ _ h => lX4_takes_122 f h) h
theorem lX4_takes {E : EE} {G : GG} {v0 : Option Nat} {v1 : Option Nat} {σ : Mem} {z : Unit × Mem} (h : sX4_takes v0 v1 σ = some z) : V E mX4_takes G 0 [some (vr v0), some (vr v1), none] [] σ (none, z.2) := by
  unfold sX4_takes at h
  refine v_al0 dX4_takes_0 ?_
  refine v_al1 dX4_takes_1 ?_
  refine v_gI cok3 h dX4_takes_2 (by decide) q268 rfl (fun x1 h => ?_)
  refine v_pI cok3 h dX4_takes_5 (by decide) q268 rfl rfl (fun s2 h => ?_)
  refine v_al0 dX4_takes_8 ?_
  refine v_al1 dX4_takes_9 ?_
  refine v_gI cok3 h dX4_takes_10 (by decide) q271 rfl (fun x3 h => ?_)
  refine v_pI cok3 h dX4_takes_13 (by decide) q271 rfl rfl (fun s4 h => ?_)
  refine v_al0 dX4_takes_16 ?_
  refine v_al1 dX4_takes_17 ?_
  refine v_gI cok3 h dX4_takes_18 (by decide) q274 rfl (fun x5 h => ?_)
  refine v_pI cok3 h dX4_takes_21 (by decide) q274 rfl rfl (fun s6 h => ?_)
  refine v_al0 dX4_takes_24 ?_
  refine v_al1 dX4_takes_25 ?_
  refine v_gI cok3 h dX4_takes_26 (by decide) q277 rfl (fun x7 h => ?_)
  refine v_pI cok3 h dX4_takes_29 (by decide) q277 rfl rfl (fun s8 h => ?_)
  refine v_al0 dX4_takes_32 ?_
  refine v_al1 dX4_takes_33 ?_
  refine v_gI cok3 h dX4_takes_34 (by decide) q279 rfl (fun x9 h => ?_)
  refine v_pI cok3 h dX4_takes_37 (by decide) q279 rfl rfl (fun s10 h => ?_)
  refine v_al0 dX4_takes_40 ?_
  refine v_al1 dX4_takes_41 ?_
  refine v_gI cok3 h dX4_takes_42 (by decide) q281 rfl (fun x11 h => ?_)
  refine v_pI cok3 h dX4_takes_45 (by decide) q281 rfl rfl (fun s12 h => ?_)
  refine v_al0 dX4_takes_48 ?_
  refine v_al1 dX4_takes_49 ?_
  refine v_gI cok3 h dX4_takes_50 (by decide) q283 rfl (fun x13 h => ?_)
  refine v_pI cok3 h dX4_takes_53 (by decide) q283 rfl rfl (fun s14 h => ?_)
  refine v_al0 dX4_takes_56 ?_
  refine v_al1 dX4_takes_57 ?_
  refine v_gI cok3 h dX4_takes_58 (by decide) q285 rfl (fun x15 h => ?_)
  refine v_pI cok3 h dX4_takes_61 (by decide) q285 rfl rfl (fun s16 h => ?_)
  refine v_al0 dX4_takes_64 ?_
  refine v_al1 dX4_takes_65 ?_
  refine v_gI cok3 h dX4_takes_66 (by decide) q288 rfl (fun x17 h => ?_)
  refine v_pI cok3 h dX4_takes_69 (by decide) q288 rfl rfl (fun s18 h => ?_)
  refine v_al0 dX4_takes_72 ?_
  refine v_al1 dX4_takes_73 ?_
  refine v_gI cok3 h dX4_takes_74 (by decide) q291 rfl (fun x19 h => ?_)
  refine v_pI cok3 h dX4_takes_77 (by decide) q291 rfl rfl (fun s20 h => ?_)
  refine v_al0 dX4_takes_80 ?_
  refine v_al1 dX4_takes_81 ?_
  refine v_gI cok3 h dX4_takes_82 (by decide) q294 rfl (fun x21 h => ?_)
  refine v_pI cok3 h dX4_takes_85 (by decide) q294 rfl rfl (fun s22 h => ?_)
  refine v_al0 dX4_takes_88 ?_
  refine v_al1 dX4_takes_89 ?_
  refine v_gI cok3 h dX4_takes_90 (by decide) q297 rfl (fun x23 h => ?_)
  refine v_pI cok3 h dX4_takes_93 (by decide) q297 rfl rfl (fun s24 h => ?_)
  refine v_al0 dX4_takes_96 ?_
  refine v_al1 dX4_takes_97 ?_
  refine v_gI cok3 h dX4_takes_98 (by decide) q300 rfl (fun x25 h => ?_)
  refine v_pI cok3 h dX4_takes_101 (by decide) q300 rfl rfl (fun s26 h => ?_)
  refine v_al0 dX4_takes_104 ?_
  refine v_al1 dX4_takes_105 ?_
  refine v_gI cok3 h dX4_takes_106 (by decide) q303 rfl (fun x27 h => ?_)
  refine v_pI cok3 h dX4_takes_109 (by decide) q303 rfl rfl (fun s28 h => ?_)
  refine v_al0 dX4_takes_112 ?_
  refine v_al1 dX4_takes_113 ?_
  refine v_gI cok3 h dX4_takes_114 (by decide) q306 rfl (fun x29 h => ?_)
  refine v_pZ cok3 h dX4_takes_117 (by decide) q306 rfl rfl (fun s30 h => ?_)
  refine v_iconst dX4_takes_120 ?_
  refine v_istore_n (L' := [some (vr v0), some (vr v1), some (vi (iI 0))]) dX4_takes_121 (Nat.le_of_ble_eq_true rfl) (Nat.le_of_ble_eq_true rfl) rfl ?_
  exact v_weak (wss (wss (wss wse))) (lX4_takes_122 FU h)
theorem tX4_takes {E : EE} {l : Launch} {v0 : Option Nat} {v1 : Option Nat} {σ : Mem} {z : Unit × Mem} (h : sX4_takes v0 v1 σ = some z) : Mt E l mX4_takes [vr v0, vr v1] σ (none, z.2) :=
  Mt.ofVL (by decide) (Nat.le_of_ble_eq_true rfl) (fun G hG => lX4_takes h)
abbrev mX4_isAlike : MM := (yX4_isAlike, cX4_isAlike, 3, (Option.some Jvm.ClassFile.FieldType.boolean), 1, 21)
theorem dsX4_isAlike : DsOk yX4_isAlike 2 := ⟨by decide, by decide, by decide +kernel⟩
theorem lX4_isAlike {E : EE} {G : GG} {v0 : Option Nat} {v1 : Option Nat} {v2 : Int32} {σ : Mem} {z : Int32 × Mem} (h : sX4_isAlike v0 v1 v2 σ = some z) : V E mX4_isAlike G 0 [some (vr v0), some (vr v1), some (vi v2)] [] σ (some (vi z.1), z.2) := by
  unfold sX4_isAlike at h
  refine v_al0 dX4_isAlike_0 ?_
  refine v_il2 dX4_isAlike_1 ?_
  obtain ⟨b2, er, ka, h⟩ := cV_some h
  obtain ⟨x1, s2, h1, h⟩ := cl_some h
  refine v_callV1 cok3 (As := [vi v2]) er ka (tX4_termAt h1) (lw_V q623 q624 q625 q162 q626) rfl dsX4_termAt ⟨Nat.le_of_ble_eq_true rfl, Nat.le_of_ble_eq_true rfl⟩ (Nat.le_of_ble_eq_true rfl) dX4_isAlike_2 rfl ?_
  refine v_al1 dX4_isAlike_5 ?_
  refine v_il2 dX4_isAlike_6 ?_
  obtain ⟨b7, er, ka, h⟩ := cV_some h
  obtain ⟨x3, s4, h1, h⟩ := cl_some h
  refine v_callV1 cok3 (As := [vi v2]) er ka (tX4_termAt h1) (lw_V q623 q624 q625 q162 q626) rfl dsX4_termAt ⟨Nat.le_of_ble_eq_true rfl, Nat.le_of_ble_eq_true rfl⟩ (Nat.le_of_ble_eq_true rfl) dX4_isAlike_7 rfl ?_
  refine v_icmp_ne (tgt := 88) dX4_isAlike_10 (by decide) (fun c => ?_) (fun c => ?_)
  · rw [if_neg c] at h
    refine v_iconst dX4_isAlike_88 ?_
    exact v_retZ h dX4_isAlike_89 rfl
  · rw [if_pos c] at h
    refine v_al0 dX4_isAlike_13 ?_
    refine v_il2 dX4_isAlike_14 ?_
    obtain ⟨b15, er, ka, h⟩ := cV_some h
    obtain ⟨x5, s6, h1, h⟩ := cl_some h
    refine v_callV1 cok3 (As := [vi v2]) er ka (tX4_kindAt h1) (lw_V q611 q612 q613 q162 q614) rfl dsX4_kindAt ⟨Nat.le_of_ble_eq_true rfl, Nat.le_of_ble_eq_true rfl⟩ (Nat.le_of_ble_eq_true rfl) dX4_isAlike_15 rfl ?_
    refine v_al1 dX4_isAlike_18 ?_
    refine v_il2 dX4_isAlike_19 ?_
    obtain ⟨b20, er, ka, h⟩ := cV_some h
    obtain ⟨x7, s8, h1, h⟩ := cl_some h
    refine v_callV1 cok3 (As := [vi v2]) er ka (tX4_kindAt h1) (lw_V q611 q612 q613 q162 q614) rfl dsX4_kindAt ⟨Nat.le_of_ble_eq_true rfl, Nat.le_of_ble_eq_true rfl⟩ (Nat.le_of_ble_eq_true rfl) dX4_isAlike_20 rfl ?_
    refine v_icmp_ne (tgt := 88) dX4_isAlike_23 (by decide) (fun c => ?_) (fun c => ?_)
    · rw [if_neg c] at h
      refine v_iconst dX4_isAlike_88 ?_
      exact v_retZ h dX4_isAlike_89 rfl
    · rw [if_pos c] at h
      refine v_al0 dX4_isAlike_26 ?_
      refine v_gR cok3 h dX4_isAlike_27 (by decide) q247 rfl (fun x9 h => ?_)
      refine v_il2 dX4_isAlike_30 ?_
      refine v_al0 dX4_isAlike_31 ?_
      refine v_gI cok3 h dX4_isAlike_32 (by decide) q274 rfl (fun x10 h => ?_)
      refine v_isub dX4_isAlike_35 ?_
      refine v_iconst dX4_isAlike_36 ?_
      refine v_isub dX4_isAlike_37 ?_
      refine v_aI h dX4_isAlike_38 (fun x11 h => ?_)
      refine v_al1 dX4_isAlike_39 ?_
      refine v_gR cok3 h dX4_isAlike_40 (by decide) q247 rfl (fun x12 h => ?_)
      refine v_il2 dX4_isAlike_43 ?_
      refine v_al1 dX4_isAlike_44 ?_
      refine v_gI cok3 h dX4_isAlike_45 (by decide) q274 rfl (fun x13 h => ?_)
      refine v_isub dX4_isAlike_48 ?_
      refine v_iconst dX4_isAlike_49 ?_
      refine v_isub dX4_isAlike_50 ?_
      refine v_aI h dX4_isAlike_51 (fun x14 h => ?_)
      refine v_icmp_ne (tgt := 88) dX4_isAlike_52 (by decide) (fun c => ?_) (fun c => ?_)
      · rw [if_neg c] at h
        refine v_iconst dX4_isAlike_88 ?_
        exact v_retZ h dX4_isAlike_89 rfl
      · rw [if_pos c] at h
        refine v_al0 dX4_isAlike_55 ?_
        refine v_gR cok3 h dX4_isAlike_56 (by decide) q250 rfl (fun x15 h => ?_)
        refine v_il2 dX4_isAlike_59 ?_
        refine v_al0 dX4_isAlike_60 ?_
        refine v_gI cok3 h dX4_isAlike_61 (by decide) q274 rfl (fun x16 h => ?_)
        refine v_isub dX4_isAlike_64 ?_
        refine v_iconst dX4_isAlike_65 ?_
        refine v_isub dX4_isAlike_66 ?_
        refine v_aI h dX4_isAlike_67 (fun x17 h => ?_)
        refine v_al1 dX4_isAlike_68 ?_
        refine v_gR cok3 h dX4_isAlike_69 (by decide) q250 rfl (fun x18 h => ?_)
        refine v_il2 dX4_isAlike_72 ?_
        refine v_al1 dX4_isAlike_73 ?_
        refine v_gI cok3 h dX4_isAlike_74 (by decide) q274 rfl (fun x19 h => ?_)
        refine v_isub dX4_isAlike_77 ?_
        refine v_iconst dX4_isAlike_78 ?_
        refine v_isub dX4_isAlike_79 ?_
        refine v_aI h dX4_isAlike_80 (fun x20 h => ?_)
        refine v_icmp_ne (tgt := 88) dX4_isAlike_81 (by decide) (fun c => ?_) (fun c => ?_)
        · rw [if_neg c] at h
          refine v_iconst dX4_isAlike_88 ?_
          exact v_retZ h dX4_isAlike_89 rfl
        · rw [if_pos c] at h
          refine v_iconst dX4_isAlike_84 ?_
          refine v_goto (tgt := 89) dX4_isAlike_85 (by decide) ?_
          exact v_retZ h dX4_isAlike_89 rfl
theorem tX4_isAlike {E : EE} {l : Launch} {v0 : Option Nat} {v1 : Option Nat} {v2 : Int32} {σ : Mem} {z : Int32 × Mem} (h : sX4_isAlike v0 v1 v2 σ = some z) : Mt E l mX4_isAlike [vr v0, vr v1, vi v2] σ (some (vi z.1), z.2) :=
  Mt.ofVL (by decide) (Nat.le_of_ble_eq_true rfl) (fun G hG => lX4_isAlike h)
