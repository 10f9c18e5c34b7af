set_option maxRecDepth 100000
abbrev mX1_init : MM := (yX1_init, cX1_init, 1, (Option.none : Option Jvm.ClassFile.FieldType), 1, 20)
theorem dsX1_init : DsOk yX1_init 0 := ⟨by decide, by decide, by decide +kernel⟩
theorem lX1_init {E : EE} {G : GG} {v0 : Option Nat} {σ : Mem} {z : Unit × Mem} (h : sX1_init v0 σ = some z) : V E mX1_init G 0 [some (vr v0)] [] σ (none, z.2) := by
  unfold sX1_init at h
  refine v_al0 dX1_init_0 ?_
  obtain ⟨b1, er, h⟩ := cI_some h
  refine v_oI er q198 q188 q189 ⟨by decide, by decide⟩ (Nat.le_of_ble_eq_true rfl) dX1_init_1 ?_
  exact v_retV h dX1_init_4 rfl
theorem tX1_init {E : EE} {l : Launch} {v0 : Option Nat} {σ : Mem} {z : Unit × Mem} (h : sX1_init v0 σ = some z) : Mt E l mX1_init [vr v0] σ (none, z.2) :=
  Mt.ofVL (by decide) (Nat.le_of_ble_eq_true rfl) (fun G hG => lX1_init h)
abbrev mX2_init : MM := (yX2_init, cX2_init, 1, (Option.none : Option Jvm.ClassFile.FieldType), 2, 40)
theorem dsX2_init : DsOk yX2_init 0 := ⟨by decide, by decide, by decide +kernel⟩
theorem lX2_init {E : EE} {G : GG} {v0 : Option Nat} {σ : Mem} {z : Unit × Mem} (h : sX2_init v0 σ = some z) : V E mX2_init G 0 [some (vr v0)] [] σ (none, z.2) := by
  unfold sX2_init at h
  refine v_al0 dX2_init_0 ?_
  obtain ⟨b1, er, h⟩ := cI_some h
  obtain ⟨_, s1, h1, h⟩ := cl_some h
  refine v_cIN er (As := []) (tX1_init h1) rfl q195 q197 q196 q159 rfl dsX1_init ⟨Nat.le_of_ble_eq_true rfl, Nat.le_of_ble_eq_true rfl⟩ (Nat.le_of_ble_eq_true rfl) dX2_init_1 rfl ?_
  exact v_retV h dX2_init_4 rfl
theorem tX2_init {E : EE} {l : Launch} {v0 : Option Nat} {σ : Mem} {z : Unit × Mem} (h : sX2_init v0 σ = some z) : Mt E l mX2_init [vr v0] σ (none, z.2) :=
  Mt.ofVL (by decide) (Nat.le_of_ble_eq_true rfl) (fun G hG => lX2_init h)
abbrev mX3_init : MM := (yX3_init, cX3_init, 3, (Option.none : Option Jvm.ClassFile.FieldType), 2, 40)
theorem dsX3_init : DsOk yX3_init 1 := ⟨by decide, by decide, by decide +kernel⟩
theorem lX3_init_90b {E : EE} {G : GG} {k90 : Option Nat → Int32 → Mem → Option (Unit × Mem)} (hk90 : ∀ (v0 : Option Nat) (v2 : Int32) (s : Mem) (z : Unit × Mem), k90 v0 v2 s = some z → V E mX3_init G 90 [some (vr v0), none, some (vi v2)] [] s (none, z.2)) {v0 : Option Nat} {v2 : Int32} {σ : Mem} {z : Unit × Mem} (h : sX3_init_90b k90 v0 v2 σ = some z) : V E mX3_init G 90 [some (vr v0), none, some (vi v2)] [] σ (none, z.2) := by
  unfold sX3_init_90b at h
  refine v_il2 dX3_init_90 ?_
  refine v_bipush dX3_init_91 rfl ?_
  refine v_icmp_ge (tgt := 115) dX3_init_93 (by decide) (fun c => ?_) (fun c => ?_)
  · rw [if_pos c] at h
    exact v_retV h dX3_init_115 rfl
  · rw [if_neg c] at h
    refine v_al0 dX3_init_96 ?_
    refine v_gR cok2 h dX3_init_97 (by decide) q359 rfl (fun x1 h => ?_)
    refine v_il2 dX3_init_100 ?_
    refine v_new cok3 h dX3_init_101 q232 (fun x2 s3 h => ?_)
    refine v_dup dX3_init_104 ?_
    obtain ⟨b105, er, h⟩ := cI_some h
    obtain ⟨_, s4, h1, h⟩ := cl_some h
    refine v_cIN er (As := []) (tX4_init h1) rfl q237 q239 q238 q162 rfl dsX4_init ⟨Nat.le_of_ble_eq_true rfl, Nat.le_of_ble_eq_true rfl⟩ (Nat.le_of_ble_eq_true rfl) dX3_init_105 rfl ?_
    refine v_sR23 h dX3_init_108 (fun s5 h => ?_)
    refine v_iinc (L' := [some (vr v0), none, some (vi (v2 + iI 1))]) dX3_init_109 (Nat.le_of_ble_eq_true rfl) rfl rfl ?_
    refine v_goto (tgt := 90) dX3_init_112 (by decide) ?_
    exact v_weak (wss (wsn (wss wse))) (hk90 _ _ _ _ h)
theorem lX3_init_90 {E : EE} {G : GG} : ∀ (f : Nat) {v0 : Option Nat} {v2 : Int32} {σ : Mem} {z : Unit × Mem}, sX3_init_90 f v0 v2 σ = some z → V E mX3_init G 90 [some (vr v0), none, some (vi v2)] [] σ (none, z.2)
  | 0, _, _, _, _, h => by cases h
  | f + 1, _, _, _, _, h => lX3_init_90b (fun _ _ _ _ h => lX3_init_90 f h) h
theorem lX3_init {E : EE} {G : GG} {v0 : Option Nat} {v1 : Option Nat} {σ : Mem} {z : Unit × Mem} (h : sX3_init v0 v1 σ = some z) : V E mX3_init G 0 [some (vr v0), some (vr v1), none] [] σ (none, z.2) := by
  unfold sX3_init at h
  refine v_al0 dX3_init_0 ?_
  refine v_al1 dX3_init_1 ?_
  refine v_pRF cok2 h dX3_init_2 (by decide) q388 rfl rfl rfl rfl (fun s1 h => ?_)
  refine v_al0 dX3_init_5 ?_
  obtain ⟨b6, er, h⟩ := cI_some h
  refine v_oI er q231 q188 q189 ⟨by decide, by decide⟩ (Nat.le_of_ble_eq_true rfl) dX3_init_6 ?_
  refine v_al0 dX3_init_9 ?_
  refine v_bipush dX3_init_10 rfl ?_
  refine v_anew23 h dX3_init_12 q232 (fun x2 s3 h => ?_)
  refine v_pRF cok2 h dX3_init_15 (by decide) q359 rfl rfl rfl rfl (fun s4 h => ?_)
  refine v_al0 dX3_init_18 ?_
  refine v_sipush dX3_init_19 rfl ?_
  refine v_bipush dX3_init_22 rfl ?_
  refine v_multi h dX3_init_24 q234 (fun x5 s6 h => ?_)
  refine v_pRF cok2 h dX3_init_28 (by decide) q361 rfl rfl rfl rfl (fun s7 h => ?_)
  refine v_al0 dX3_init_31 ?_
  refine v_sipush dX3_init_32 rfl ?_
  refine v_iconst dX3_init_35 ?_
  refine v_multi h dX3_init_36 q234 (fun x8 s9 h => ?_)
  refine v_pRF cok2 h dX3_init_40 (by decide) q363 rfl rfl rfl rfl (fun s10 h => ?_)
  refine v_al0 dX3_init_43 ?_
  refine v_bipush dX3_init_44 rfl ?_
  refine v_bipush dX3_init_46 rfl ?_
  refine v_multi h dX3_init_48 q234 (fun x11 s12 h => ?_)
  refine v_pRF cok2 h dX3_init_52 (by decide) q365 rfl rfl rfl rfl (fun s13 h => ?_)
  refine v_al0 dX3_init_55 ?_
  refine v_bipush dX3_init_56 rfl ?_
  refine v_newa20 h dX3_init_58 (fun x14 s15 h => ?_)
  refine v_pRF cok2 h dX3_init_60 (by decide) q367 rfl rfl rfl rfl (fun s16 h => ?_)
  refine v_al0 dX3_init_63 ?_
  refine v_sipush dX3_init_64 rfl ?_
  refine v_newa20 h dX3_init_67 (fun x17 s18 h => ?_)
  refine v_pRF cok2 h dX3_init_69 (by decide) q369 rfl rfl rfl rfl (fun s19 h => ?_)
  refine v_al0 dX3_init_72 ?_
  refine v_bipush dX3_init_73 rfl ?_
  refine v_newa20 h dX3_init_75 (fun x20 s21 h => ?_)
  refine v_pRF cok2 h dX3_init_77 (by decide) q370 rfl rfl rfl rfl (fun s22 h => ?_)
  refine v_al0 dX3_init_80 ?_
  refine v_bipush dX3_init_81 rfl ?_
  refine v_newa20 h dX3_init_83 (fun x23 s24 h => ?_)
  refine v_pRF cok2 h dX3_init_85 (by decide) q387 rfl rfl rfl rfl (fun s25 h => ?_)
  refine v_iconst dX3_init_88 ?_
  refine v_istore_n (L' := [some (vr v0), some (vr v1), some (vi (iI 0))]) dX3_init_89 (Nat.le_of_ble_eq_true rfl) (Nat.le_of_ble_eq_true rfl) rfl ?_
  exact v_weak (wss (wsn (wss wse))) (lX3_init_90 FU h)
theorem tX3_init {E : EE} {l : Launch} {v0 : Option Nat} {v1 : Option Nat} {σ : Mem} {z : Unit × Mem} (h : sX3_init v0 v1 σ = some z) : Mt E l mX3_init [vr v0, vr v1] σ (none, z.2) :=
  Mt.ofVL (by decide) (Nat.le_of_ble_eq_true rfl) (fun G hG => lX3_init h)
abbrev mX5_init : MM := (yX5_init, cX5_init, 1, (Option.none : Option Jvm.ClassFile.FieldType), 1, 20)
theorem dsX5_init : DsOk yX5_init 0 := ⟨by decide, by decide, by decide +kernel⟩
theorem lX5_init {E : EE} {G : GG} {v0 : Option Nat} {σ : Mem} {z : Unit × Mem} (h : sX5_init v0 σ = some z) : V E mX5_init G 0 [some (vr v0)] [] σ (none, z.2) := by
  unfold sX5_init at h
  refine v_al0 dX5_init_0 ?_
  obtain ⟨b1, er, h⟩ := cI_some h
  refine v_oI er q429 q188 q189 ⟨by decide, by decide⟩ (Nat.le_of_ble_eq_true rfl) dX5_init_1 ?_
  refine v_al0 dX5_init_4 ?_
  refine v_bipush dX5_init_5 rfl ?_
  refine v_newa20 h dX5_init_7 (fun x1 s2 h => ?_)
  refine v_pRF cok4 h dX5_init_9 (by decide) q434 rfl rfl rfl rfl (fun s3 h => ?_)
  refine v_al0 dX5_init_12 ?_
  refine v_bipush dX5_init_13 rfl ?_
  refine v_anew24 h dX5_init_15 q430 (fun x4 s5 h => ?_)
  refine v_pRF cok4 h dX5_init_18 (by decide) q436 rfl rfl rfl rfl (fun s6 h => ?_)
  refine v_al0 dX5_init_21 ?_
  refine v_bipush dX5_init_22 rfl ?_
  refine v_anew25 h dX5_init_24 q432 (fun x7 s8 h => ?_)
  refine v_pRF cok4 h dX5_init_27 (by decide) q438 rfl rfl rfl rfl (fun s9 h => ?_)
  exact v_retV h dX5_init_30 rfl
theorem tX5_init {E : EE} {l : Launch} {v0 : Option Nat} {σ : Mem} {z : Unit × Mem} (h : sX5_init v0 σ = some z) : Mt E l mX5_init [vr v0] σ (none, z.2) :=
  Mt.ofVL (by decide) (Nat.le_of_ble_eq_true rfl) (fun G hG => lX5_init h)
abbrev mX3_draw : MM := (yX3_draw, cX3_draw, 1, (Option.some Jvm.ClassFile.FieldType.int), 0, 0)
theorem dsX3_draw : DsOk yX3_draw 0 := ⟨by decide, by decide, by decide +kernel⟩
theorem lX3_draw {E : EE} {G : GG} {v0 : Option Nat} {σ : Mem} {z : Int32 × Mem} (h : sX3_draw v0 σ = some z) : V E mX3_draw G 0 [some (vr v0)] [] σ (some (vi z.1), z.2) := by
  unfold sX3_draw at h
  refine v_al0 dX3_draw_0 ?_
  refine v_sipush dX3_draw_1 rfl ?_
  refine v_al0 dX3_draw_4 ?_
  refine v_gI cok2 h dX3_draw_5 (by decide) q375 rfl (fun x1 h => ?_)
  refine v_imul dX3_draw_8 ?_
  refine v_sipush dX3_draw_9 rfl ?_
  refine v_iadd dX3_draw_12 ?_
  refine v_ldcI (n := 65536) dX3_draw_13 q473 rfl ?_
  obtain ⟨hne, h⟩ := rm_some h
  refine v_irem dX3_draw_15 hne ?_
  generalize (((iI 25173) * x1) + (iI 13849)) - (((iI 25173) * x1) + (iI 13849)) / (iI 65536) * (iI 65536) = x2 at h ⊢
  refine v_pI cok2 h dX3_draw_16 (by decide) q375 rfl rfl (fun s3 h => ?_)
  refine v_al0 dX3_draw_19 ?_
  refine v_gI cok2 h dX3_draw_20 (by decide) q375 rfl (fun x4 h => ?_)
  refine v_bipush dX3_draw_23 rfl ?_
  obtain ⟨hne, h⟩ := rm_some h
  refine v_irem dX3_draw_25 hne ?_
  generalize x4 - x4 / (iI 10) * (iI 10) = x5 at h ⊢
  exact v_retI h dX3_draw_26 rfl
theorem tX3_draw {E : EE} {l : Launch} {v0 : Option Nat} {σ : Mem} {z : Int32 × Mem} (h : sX3_draw v0 σ = some z) : Mt E l mX3_draw [vr v0] σ (some (vi z.1), z.2) :=
  Mt.ofVL (by decide) (Nat.le_of_ble_eq_true rfl) (fun G hG => lX3_draw h)
abbrev mX2_of : MM := (yX2_of, cX2_of, 5, (Option.some (Jvm.ClassFile.FieldType.object "TermLog$Moment")), 0, 0)
theorem dsX2_of : DsOk yX2_of 4 := ⟨by decide, by decide, by decide +kernel⟩
theorem lX2_of {E : EE} {G : GG} {v0 : Option Nat} {v1 : Int32} {v2 : Int32} {v3 : Int32} {v4 : Int32} {σ : Mem} {z : Option Nat × Mem} (h : sX2_of v0 v1 v2 v3 v4 σ = some z) : V E mX2_of G 0 [some (vr v0), some (vi v1), some (vi v2), some (vi v3), some (vi v4)] [] σ (some (vr z.1), z.2) := by
  unfold sX2_of at h
  refine v_al0 dX2_of_0 ?_
  refine v_il1 dX2_of_1 ?_
  refine v_pI cok1 h dX2_of_2 (by decide) q199 rfl rfl (fun s1 h => ?_)
  refine v_al0 dX2_of_5 ?_
  refine v_il2 dX2_of_6 ?_
  refine v_pI cok1 h dX2_of_7 (by decide) q200 rfl rfl (fun s2 h => ?_)
  refine v_al0 dX2_of_10 ?_
  refine v_il3 dX2_of_11 ?_
  refine v_pI cok1 h dX2_of_12 (by decide) q201 rfl rfl (fun s3 h => ?_)
  refine v_al0 dX2_of_15 ?_
  refine v_iload dX2_of_16 rfl ?_
  refine v_bipush dX2_of_18 rfl ?_
  obtain ⟨hne, h⟩ := rm_some h
  refine v_irem dX2_of_20 hne ?_
  generalize v4 - v4 / (iI 100) * (iI 100) = x4 at h ⊢
  refine v_pI cok1 h dX2_of_21 (by decide) q202 rfl rfl (fun s5 h => ?_)
  refine v_al0 dX2_of_24 ?_
  exact v_retR h dX2_of_25 rfl (Or.inl ⟨_, rfl⟩)
theorem tX2_of {E : EE} {l : Launch} {v0 : Option Nat} {v1 : Int32} {v2 : Int32} {v3 : Int32} {v4 : Int32} {σ : Mem} {z : Option Nat × Mem} (h : sX2_of v0 v1 v2 v3 v4 σ = some z) : Mt E l mX2_of [vr v0, vi v1, vi v2, vi v3, vi v4] σ (some (vr z.1), z.2) :=
  Mt.ofVL (by decide) (Nat.le_of_ble_eq_true rfl) (fun G hG => lX2_of h)
abbrev mX2_on : MM := (yX2_on, cX2_on, 4, (Option.some (Jvm.ClassFile.FieldType.object "TermLog$Moment")), 0, 0)
theorem dsX2_on : DsOk yX2_on 3 := ⟨by decide, by decide, by decide +kernel⟩
theorem lX2_on {E : EE} {G : GG} {v0 : Option Nat} {v1 : Int32} {v2 : Int32} {v3 : Int32} {σ : Mem} {z : Option Nat × Mem} (h : sX2_on v0 v1 v2 v3 σ = some z) : V E mX2_on G 0 [some (vr v0), some (vi v1), some (vi v2), some (vi v3)] [] σ (some (vr z.1), z.2) := by
  unfold sX2_on at h
  refine v_al0 dX2_on_0 ?_
  refine v_il1 dX2_on_1 ?_
  refine v_pI cok1 h dX2_on_2 (by decide) q203 rfl rfl (fun s1 h => ?_)
  refine v_al0 dX2_on_5 ?_
  refine v_il2 dX2_on_6 ?_
  refine v_bipush dX2_on_7 rfl ?_
  obtain ⟨hne, h⟩ := rm_some h
  refine v_irem dX2_on_9 hne ?_
  generalize v2 - v2 / (iI 100) * (iI 100) = x2 at h ⊢
  refine v_pI cok1 h dX2_on_10 (by decide) q204 rfl rfl (fun s3 h => ?_)
  refine v_al0 dX2_on_13 ?_
  refine v_il3 dX2_on_14 ?_
  refine v_pI cok1 h dX2_on_15 (by decide) q205 rfl rfl (fun s4 h => ?_)
  refine v_al0 dX2_on_18 ?_
  exact v_retR h dX2_on_19 rfl (Or.inl ⟨_, rfl⟩)
theorem tX2_on {E : EE} {l : Launch} {v0 : Option Nat} {v1 : Int32} {v2 : Int32} {v3 : Int32} {σ : Mem} {z : Option Nat × Mem} (h : sX2_on v0 v1 v2 v3 σ = some z) : Mt E l mX2_on [vr v0, vi v1, vi v2, vi v3] σ (some (vr z.1), z.2) :=
  Mt.ofVL (by decide) (Nat.le_of_ble_eq_true rfl) (fun G hG => lX2_on h)
abbrev mX10_worth : MM := (yX10_worth, cX10_worth, 2, (Option.some Jvm.ClassFile.FieldType.int), 0, 0)
theorem dsX10_worth : DsOk yX10_worth 1 := ⟨by decide, by decide, by decide +kernel⟩
theorem lX10_worth {E : EE} {G : GG} {v0 : Option Nat} {v1 : Option Nat} {σ : Mem} {z : Int32 × Mem} (h : sX10_worth v0 v1 σ = some z) : V E mX10_worth G 0 [some (vr v0), some (vr v1)] [] σ (some (vi z.1), z.2) := by
  unfold sX10_worth at h
  refine v_al0 dX10_worth_0 ?_
  refine v_gI cok8 h dX10_worth_1 (by decide) q952 rfl (fun x1 h => ?_)
  exact v_retI h dX10_worth_4 rfl
theorem tX10_worth {E : EE} {l : Launch} {v0 : Option Nat} {v1 : Option Nat} {σ : Mem} {z : Int32 × Mem} (h : sX10_worth v0 v1 σ = some z) : Mt E l mX10_worth [vr v0, vr v1] σ (some (vi z.1), z.2) :=
  Mt.ofVL (by decide) (Nat.le_of_ble_eq_true rfl) (fun G hG => lX10_worth h)
abbrev mX2_value : MM := (yX2_value, cX2_value, 2, (Option.some Jvm.ClassFile.FieldType.int), 0, 0)
theorem dsX2_value : DsOk yX2_value 1 := ⟨by decide, by decide, by decide +kernel⟩
theorem lX2_value {E : EE} {G : GG} {v0 : Option Nat} {v1 : Int32} {σ : Mem} {z : Int32 × Mem} (h : sX2_value v0 v1 σ = some z) : V E mX2_value G 0 [some (vr v0), some (vi v1)] [] σ (some (vi z.1), z.2) := by
  unfold sX2_value at h
  refine v_il1 dX2_value_0 ?_
  by_cases c0 : v1 = iI 102
  · rw [if_pos c0] at h
    refine v_tabIn (tgt := 76) dX2_value_1 (by rw [c0]; decide) (by rw [c0]; decide) (by rw [c0]; rfl) (by decide) ?_
    refine v_al0 dX2_value_76 ?_
    refine v_gI cok1 h dX2_value_77 (by decide) q199 rfl (fun x1 h => ?_)
    exact v_retI h dX2_value_80 rfl
  · rw [if_neg c0] at h
    by_cases c1 : v1 = iI 103
    · rw [if_pos c1] at h
      refine v_tabIn (tgt := 106) dX2_value_1 (by rw [c1]; decide) (by rw [c1]; decide) (by rw [c1]; rfl) (by decide) ?_
      refine v_al0 dX2_value_106 ?_
      refine v_gI cok1 h dX2_value_107 (by decide) q205 rfl (fun x2 h => ?_)
      exact v_retI h dX2_value_110 rfl
    · rw [if_neg c1] at h
      by_cases c2 : v1 = iI 104
      · rw [if_pos c2] at h
        refine v_tabIn (tgt := 106) dX2_value_1 (by rw [c2]; decide) (by rw [c2]; decide) (by rw [c2]; rfl) (by decide) ?_
        refine v_al0 dX2_value_106 ?_
        refine v_gI cok1 h dX2_value_107 (by decide) q205 rfl (fun x3 h => ?_)
        exact v_retI h dX2_value_110 rfl
      · rw [if_neg c2] at h
        by_cases c3 : v1 = iI 105
        · rw [if_pos c3] at h
          refine v_tabIn (tgt := 106) dX2_value_1 (by rw [c3]; decide) (by rw [c3]; decide) (by rw [c3]; rfl) (by decide) ?_
          refine v_al0 dX2_value_106 ?_
          refine v_gI cok1 h dX2_value_107 (by decide) q205 rfl (fun x4 h => ?_)
          exact v_retI h dX2_value_110 rfl
        · rw [if_neg c3] at h
          by_cases c4 : v1 = iI 106
          · rw [if_pos c4] at h
            refine v_tabIn (tgt := 106) dX2_value_1 (by rw [c4]; decide) (by rw [c4]; decide) (by rw [c4]; rfl) (by decide) ?_
            refine v_al0 dX2_value_106 ?_
            refine v_gI cok1 h dX2_value_107 (by decide) q205 rfl (fun x5 h => ?_)
            exact v_retI h dX2_value_110 rfl
          · rw [if_neg c4] at h
            by_cases c5 : v1 = iI 107
            · rw [if_pos c5] at h
              refine v_tabIn (tgt := 86) dX2_value_1 (by rw [c5]; decide) (by rw [c5]; decide) (by rw [c5]; rfl) (by decide) ?_
              refine v_al0 dX2_value_86 ?_
              refine v_gI cok1 h dX2_value_87 (by decide) q201 rfl (fun x6 h => ?_)
              exact v_retI h dX2_value_90 rfl
            · rw [if_neg c5] at h
              by_cases c6 : v1 = iI 108
              · rw [if_pos c6] at h
                refine v_tabIn (tgt := 106) dX2_value_1 (by rw [c6]; decide) (by rw [c6]; decide) (by rw [c6]; rfl) (by decide) ?_
                refine v_al0 dX2_value_106 ?_
                refine v_gI cok1 h dX2_value_107 (by decide) q205 rfl (fun x7 h => ?_)
                exact v_retI h dX2_value_110 rfl
              · rw [if_neg c6] at h
                by_cases c7 : v1 = iI 109
                · rw [if_pos c7] at h
                  refine v_tabIn (tgt := 106) dX2_value_1 (by rw [c7]; decide) (by rw [c7]; decide) (by rw [c7]; rfl) (by decide) ?_
                  refine v_al0 dX2_value_106 ?_
                  refine v_gI cok1 h dX2_value_107 (by decide) q205 rfl (fun x8 h => ?_)
                  exact v_retI h dX2_value_110 rfl
                · rw [if_neg c7] at h
                  by_cases c8 : v1 = iI 110
                  · rw [if_pos c8] at h
                    refine v_tabIn (tgt := 91) dX2_value_1 (by rw [c8]; decide) (by rw [c8]; decide) (by rw [c8]; rfl) (by decide) ?_
                    refine v_al0 dX2_value_91 ?_
                    refine v_gI cok1 h dX2_value_92 (by decide) q202 rfl (fun x9 h => ?_)
                    exact v_retI h dX2_value_95 rfl
                  · rw [if_neg c8] at h
                    by_cases c9 : v1 = iI 111
                    · rw [if_pos c9] at h
                      refine v_tabIn (tgt := 106) dX2_value_1 (by rw [c9]; decide) (by rw [c9]; decide) (by rw [c9]; rfl) (by decide) ?_
                      refine v_al0 dX2_value_106 ?_
                      refine v_gI cok1 h dX2_value_107 (by decide) q205 rfl (fun x10 h => ?_)
                      exact v_retI h dX2_value_110 rfl
                    · rw [if_neg c9] at h
                      by_cases c10 : v1 = iI 112
                      · rw [if_pos c10] at h
                        refine v_tabIn (tgt := 106) dX2_value_1 (by rw [c10]; decide) (by rw [c10]; decide) (by rw [c10]; rfl) (by decide) ?_
                        refine v_al0 dX2_value_106 ?_
                        refine v_gI cok1 h dX2_value_107 (by decide) q205 rfl (fun x11 h => ?_)
                        exact v_retI h dX2_value_110 rfl
                      · rw [if_neg c10] at h
                        by_cases c11 : v1 = iI 113
                        · rw [if_pos c11] at h
                          refine v_tabIn (tgt := 96) dX2_value_1 (by rw [c11]; decide) (by rw [c11]; decide) (by rw [c11]; rfl) (by decide) ?_
                          refine v_al0 dX2_value_96 ?_
                          refine v_gI cok1 h dX2_value_97 (by decide) q203 rfl (fun x12 h => ?_)
                          exact v_retI h dX2_value_100 rfl
                        · rw [if_neg c11] at h
                          by_cases c12 : v1 = iI 114
                          · rw [if_pos c12] at h
                            refine v_tabIn (tgt := 106) dX2_value_1 (by rw [c12]; decide) (by rw [c12]; decide) (by rw [c12]; rfl) (by decide) ?_
                            refine v_al0 dX2_value_106 ?_
                            refine v_gI cok1 h dX2_value_107 (by decide) q205 rfl (fun x13 h => ?_)
                            exact v_retI h dX2_value_110 rfl
                          · rw [if_neg c12] at h
                            by_cases c13 : v1 = iI 115
                            · rw [if_pos c13] at h
                              refine v_tabIn (tgt := 101) dX2_value_1 (by rw [c13]; decide) (by rw [c13]; decide) (by rw [c13]; rfl) (by decide) ?_
                              refine v_al0 dX2_value_101 ?_
                              refine v_gI cok1 h dX2_value_102 (by decide) q204 rfl (fun x14 h => ?_)
                              exact v_retI h dX2_value_105 rfl
                            · rw [if_neg c13] at h
                              by_cases c14 : v1 = iI 116
                              · rw [if_pos c14] at h
                                refine v_tabIn (tgt := 81) dX2_value_1 (by rw [c14]; decide) (by rw [c14]; decide) (by rw [c14]; rfl) (by decide) ?_
                                refine v_al0 dX2_value_81 ?_
                                refine v_gI cok1 h dX2_value_82 (by decide) q200 rfl (fun x15 h => ?_)
                                exact v_retI h dX2_value_85 rfl
                              · rw [if_neg c14] at h
                                refine v_tabOut (tgt := 106) dX2_value_1 (tab_out (fun j h1 h2 => ?_) (by decide) (by decide)) (by decide) ?_
                                · rcases (show j = 102 ∨ j = 103 ∨ j = 104 ∨ j = 105 ∨ j = 106 ∨ j = 107 ∨ j = 108 ∨ j = 109 ∨ j = 110 ∨ j = 111 ∨ j = 112 ∨ j = 113 ∨ j = 114 ∨ j = 115 ∨ j = 116 by omega) with rfl | rfl | rfl | rfl | rfl | rfl | rfl | rfl | rfl | rfl | rfl | rfl | rfl | rfl | rfl
                                  · exact c0
                                  · exact c1
                                  · exact c2
                                  · exact c3
                                  · exact c4
                                  · exact c5
                                  · exact c6
                                  · exact c7
                                  · exact c8
                                  · exact c9
                                  · exact c10
                                  · exact c11
                                  · exact c12
                                  · exact c13
                                  · exact c14
                                refine v_al0 dX2_value_106 ?_
                                refine v_gI cok1 h dX2_value_107 (by decide) q205 rfl (fun x16 h => ?_)
                                exact v_retI h dX2_value_110 rfl
theorem tX2_value {E : EE} {l : Launch} {v0 : Option Nat} {v1 : Int32} {σ : Mem} {z : Int32 × Mem} (h : sX2_value v0 v1 σ = some z) : Mt E l mX2_value [vr v0, vi v1] σ (some (vi z.1), z.2) :=
  Mt.ofVL (by decide) (Nat.le_of_ble_eq_true rfl) (fun G hG => lX2_value h)
abbrev mX11_worth : MM := (yX11_worth, cX11_worth, 2, (Option.some Jvm.ClassFile.FieldType.int), 1, 21)
theorem dsX11_worth : DsOk yX11_worth 1 := ⟨by decide, by decide, by decide +kernel⟩
theorem lX11_worth {E : EE} {G : GG} {v0 : Option Nat} {v1 : Option Nat} {σ : Mem} {z : Int32 × Mem} (h : sX11_worth v0 v1 σ = some z) : V E mX11_worth G 0 [some (vr v0), some (vr v1)] [] σ (some (vi z.1), z.2) := by
  unfold sX11_worth at h
  refine v_al1 dX11_worth_0 ?_
  refine v_al0 dX11_worth_1 ?_
  refine v_gI cok9 h dX11_worth_2 (by decide) q963 rfl (fun x1 h => ?_)
  obtain ⟨x2, s3, h1, h⟩ := cl_some h
  have kk : V E mX11_worth G 8 [some (vr v0), some (vr v1)] [vi x2] s3 (some (vi z.1), z.2) := ?_
  · clear h
    by_cases c1 : kdO σ v1 = 1
    · rw [if_pos c1] at h1
      obtain ⟨b1, er, ka⟩ := kdO_some (by decide) c1
      exact v_callA cok1 (x := ⟨"TermLog$Asked", "value", "(I)I"⟩) (As := [vi x1]) er ka (tX2_value h1) q498 q500 q501 q502 q160 q503 q499 (show DsOk ⟨"TermLog$Asked", "value", "(I)I"⟩ 1 from ⟨by decide, by decide, by decide +kernel⟩) ⟨Nat.le_of_ble_eq_true rfl, Nat.le_of_ble_eq_true rfl⟩ (Nat.le_of_ble_eq_true rfl) dX11_worth_5 rfl kk
    rw [if_neg c1] at h1
    cases h1
  exact v_retI h dX11_worth_8 rfl
theorem tX11_worth {E : EE} {l : Launch} {v0 : Option Nat} {v1 : Option Nat} {σ : Mem} {z : Int32 × Mem} (h : sX11_worth v0 v1 σ = some z) : Mt E l mX11_worth [vr v0, vr v1] σ (some (vi z.1), z.2) :=
  Mt.ofVL (by decide) (Nat.le_of_ble_eq_true rfl) (fun G hG => lX11_worth h)
abbrev mX7_worked : MM := (yX7_worked, cX7_worked, 4, (Option.some Jvm.ClassFile.FieldType.int), 0, 0)
theorem dsX7_worked : DsOk yX7_worked 4 := ⟨by decide, by decide, by decide +kernel⟩
theorem lX7_worked_53 {E : EE} {G : GG} {v0 : Int32} {v1 : Int32} {v2 : Int32} {σ : Mem} {z : Int32 × Mem} (h : sX7_worked_53 v0 v1 v2 σ = some z) : V E mX7_worked G 53 [some (vi v0), some (vi v1), some (vi v2), none] [] σ (some (vi z.1), z.2) := by
  unfold sX7_worked_53 at h
  refine v_il2 dX7_worked_53 ?_
  refine v_if_ne (tgt := 61) dX7_worked_54 (by decide) (fun c => ?_) (fun c => ?_)
  · rw [if_neg c] at h
    refine v_il0 dX7_worked_61 ?_
    refine v_bipush dX7_worked_62 rfl ?_
    refine v_icmp_ne (tgt := 73) dX7_worked_64 (by decide) (fun c => ?_) (fun c => ?_)
    · rw [if_neg c] at h
      refine v_il1 dX7_worked_73 ?_
      refine v_il2 dX7_worked_74 ?_
      obtain ⟨hne, h⟩ := rm_some h
      refine v_irem dX7_worked_75 hne ?_
      generalize v1 - v1 / v2 * v2 = x1 at h ⊢
      exact v_retI h dX7_worked_76 rfl
    · rw [if_pos c] at h
      refine v_il1 dX7_worked_67 ?_
      refine v_il2 dX7_worked_68 ?_
      obtain ⟨hne, h⟩ := dv_some h
      refine v_idiv dX7_worked_69 hne ?_
      generalize v1 / v2 = x2 at h ⊢
      refine v_goto (tgt := 76) dX7_worked_70 (by decide) ?_
      exact v_retI h dX7_worked_76 rfl
  · rw [if_pos c] at h
    refine v_iconst dX7_worked_57 ?_
    refine v_goto (tgt := 76) dX7_worked_58 (by decide) ?_
    exact v_retI h dX7_worked_76 rfl
theorem lX7_worked_44 {E : EE} {G : GG} {v0 : Int32} {v1 : Int32} {v2 : Int32} {v3 : Option Nat} {σ : Mem} {z : Int32 × Mem} (h : sX7_worked_44 v0 v1 v2 v3 σ = some z) : V E mX7_worked G 44 [some (vi v0), some (vi v1), some (vi v2), some (vr v3)] [] σ (some (vi z.1), z.2) := by
  unfold sX7_worked_44 at h
  refine v_il2 dX7_worked_44 ?_
  refine v_if_ne (tgt := 53) dX7_worked_45 (by decide) (fun c => ?_) (fun c => ?_)
  · rw [if_neg c] at h
    exact v_weak (wss (wss (wss (wsn wse)))) (lX7_worked_53 h)
  · rw [if_pos c] at h
    refine v_al3 dX7_worked_48 ?_
    refine v_iconst dX7_worked_49 ?_
    refine v_pZN cok1 h dX7_worked_50 (by decide) q207 rfl rfl (fun s1 h => ?_)
    exact v_weak (wss (wss (wss (wsn wse)))) (lX7_worked_53 h)
theorem lX7_worked {E : EE} {G : GG} {v0 : Int32} {v1 : Int32} {v2 : Int32} {v3 : Option Nat} {σ : Mem} {z : Int32 × Mem} (h : sX7_worked v0 v1 v2 v3 σ = some z) : V E mX7_worked G 0 [some (vi v0), some (vi v1), some (vi v2), some (vr v3)] [] σ (some (vi z.1), z.2) := by
  unfold sX7_worked at h
  refine v_il0 dX7_worked_0 ?_
  by_cases c0 : v0 = iI 42
  · rw [if_pos c0] at h
    refine v_tabIn (tgt := 40) dX7_worked_1 (by rw [c0]; decide) (by rw [c0]; decide) (by rw [c0]; rfl) (by decide) ?_
    refine v_il1 dX7_worked_40 ?_
    refine v_il2 dX7_worked_41 ?_
    refine v_imul dX7_worked_42 ?_
    exact v_retI h dX7_worked_43 rfl
  · rw [if_neg c0] at h
    by_cases c1 : v0 = iI 43
    · rw [if_pos c1] at h
      refine v_tabIn (tgt := 32) dX7_worked_1 (by rw [c1]; decide) (by rw [c1]; decide) (by rw [c1]; rfl) (by decide) ?_
      refine v_il1 dX7_worked_32 ?_
      refine v_il2 dX7_worked_33 ?_
      refine v_iadd dX7_worked_34 ?_
      exact v_retI h dX7_worked_35 rfl
    · rw [if_neg c1] at h
      by_cases c2 : v0 = iI 44
      · rw [if_pos c2] at h
        refine v_tabIn (tgt := 44) dX7_worked_1 (by rw [c2]; decide) (by rw [c2]; decide) (by rw [c2]; rfl) (by decide) ?_
        exact v_weak (wss (wss (wss (wss wse)))) (lX7_worked_44 h)
      · rw [if_neg c2] at h
        by_cases c3 : v0 = iI 45
        · rw [if_pos c3] at h
          refine v_tabIn (tgt := 36) dX7_worked_1 (by rw [c3]; decide) (by rw [c3]; decide) (by rw [c3]; rfl) (by decide) ?_
          refine v_il1 dX7_worked_36 ?_
          refine v_il2 dX7_worked_37 ?_
          refine v_isub dX7_worked_38 ?_
          exact v_retI h dX7_worked_39 rfl
        · rw [if_neg c3] at h
          refine v_tabOut (tgt := 44) dX7_worked_1 (tab_out (fun j h1 h2 => ?_) (by decide) (by decide)) (by decide) ?_
          · rcases (show j = 42 ∨ j = 43 ∨ j = 44 ∨ j = 45 by omega) with rfl | rfl | rfl | rfl
            · exact c0
            · exact c1
            · exact c2
            · exact c3
          exact v_weak (wss (wss (wss (wss wse)))) (lX7_worked_44 h)
theorem tX7_worked {E : EE} {l : Launch} {v0 : Int32} {v1 : Int32} {v2 : Int32} {v3 : Option Nat} {σ : Mem} {z : Int32 × Mem} (h : sX7_worked v0 v1 v2 v3 σ = some z) : Mt E l mX7_worked [vi v0, vi v1, vi v2, vr v3] σ (some (vi z.1), z.2) :=
  Mt.ofVL (by decide) (Nat.le_of_ble_eq_true rfl) (fun G hG => lX7_worked h)
abbrev mX7_worth (d : Nat) : MM := (yX7_worth, cX7_worth, 4, (Option.some Jvm.ClassFile.FieldType.int), 2 + d, 42 + 100 * d)
theorem dsX7_worth : DsOk yX7_worth 1 := ⟨by decide, by decide, by decide +kernel⟩
theorem lX7_worth_14b {E : EE} {G : GG} {d : Nat} {rX7_worth : Option Nat → Option Nat → Mem → Option (Int32 × Mem)} (hrX7_worth : ∀ (l : Launch) {a0 : Option Nat} {a1 : Option Nat} {s : Mem} {z : Int32 × Mem}, rX7_worth a0 a1 s = some z → Mt E l (mX7_worth d) [vr a0, vr a1] s (some (vi z.1), z.2)) {k14 : Option Nat → Int32 → Option Nat → Mem → Option (Int32 × Mem)} (hk14 : ∀ (v1 : Option Nat) (v2 : Int32) (v3 : Option Nat) (s : Mem) (z : Int32 × Mem), k14 v1 v2 v3 s = some z → V E (mX7_worth (d + 1)) G 14 [none, some (vr v1), some (vi v2), some (vr v3)] [] s (some (vi z.1), z.2)) {v1 : Option Nat} {v2 : Int32} {v3 : Option Nat} {σ : Mem} {z : Int32 × Mem} (h : sX7_worth_14b rX7_worth k14 v1 v2 v3 σ = some z) : V E (mX7_worth (d + 1)) G 14 [none, some (vr v1), some (vi v2), some (vr v3)] [] σ (some (vi z.1), z.2) := by
  unfold sX7_worth_14b at h
  refine v_al3 dX7_worth_14 ?_
  refine v_ifnull (tgt := 44) dX7_worth_15 (by decide) (fun c => ?_) (fun c => ?_)
  · rw [if_pos c] at h
    refine v_il2 dX7_worth_44 ?_
    exact v_retI h dX7_worth_45 rfl
  · rw [if_neg c] at h
    refine v_al3 dX7_worth_18 ?_
    refine v_gI cok5 h dX7_worth_19 (by decide) q971 rfl (fun x1 h => ?_)
    refine v_il2 dX7_worth_22 ?_
    refine v_al3 dX7_worth_23 ?_
    refine v_gR cok5 h dX7_worth_24 (by decide) q972 rfl (fun x2 h => ?_)
    refine v_al1 dX7_worth_27 ?_
    obtain ⟨x3, s4, h1, h⟩ := cl_some h
    have kk : V E (mX7_worth (d + 1)) G 31 [none, some (vr v1), some (vi v2), some (vr v3)] [vi x3, vi v2, vi x1] s4 (some (vi z.1), z.2) := ?_
    · clear h
      by_cases c5 : kdO σ x2 = 5
      · rw [if_pos c5] at h1
        obtain ⟨b5, er, ka⟩ := kdO_some (by decide) c5
        exact v_callA cok5 (x := ⟨"TermLog$Sum", "worth", "(LTermLog$Asked;)I"⟩) (As := [vr v1]) er ka (hrX7_worth _ h1) q510 q494 q507 q508 q165 q509 q493 (show DsOk ⟨"TermLog$Sum", "worth", "(LTermLog$Asked;)I"⟩ 1 from ⟨by decide, by decide, by decide +kernel⟩) ⟨by simp only [mX7_worth, mX7_worth] <;> omega, by simp only [mX7_worth, mX7_worth] <;> omega⟩ (Nat.le_of_ble_eq_true rfl) dX7_worth_28 rfl kk
      rw [if_neg c5] at h1
      by_cases c8 : kdO σ x2 = 8
      · rw [if_pos c8] at h1
        obtain ⟨b8, er, ka⟩ := kdO_some (by decide) c8
        exact v_callA cok8 (x := ⟨"TermLog$Sum", "worth", "(LTermLog$Asked;)I"⟩) (As := [vr v1]) er ka (tX10_worth h1) q510 q494 q504 q505 q175 q506 q493 (show DsOk ⟨"TermLog$Sum", "worth", "(LTermLog$Asked;)I"⟩ 1 from ⟨by decide, by decide, by decide +kernel⟩) ⟨by simp only [mX7_worth, mX10_worth] <;> omega, by simp only [mX7_worth, mX10_worth] <;> omega⟩ (Nat.le_of_ble_eq_true rfl) dX7_worth_28 rfl kk
      rw [if_neg c8] at h1
      by_cases c9 : kdO σ x2 = 9
      · rw [if_pos c9] at h1
        obtain ⟨b9, er, ka⟩ := kdO_some (by decide) c9
        exact v_callA cok9 (x := ⟨"TermLog$Sum", "worth", "(LTermLog$Asked;)I"⟩) (As := [vr v1]) er ka (tX11_worth h1) q510 q494 q495 q496 q176 q497 q493 (show DsOk ⟨"TermLog$Sum", "worth", "(LTermLog$Asked;)I"⟩ 1 from ⟨by decide, by decide, by decide +kernel⟩) ⟨by simp only [mX7_worth, mX11_worth] <;> omega, by simp only [mX7_worth, mX11_worth] <;> omega⟩ (Nat.le_of_ble_eq_true rfl) dX7_worth_28 rfl kk
      rw [if_neg c9] at h1
      cases h1
    refine v_al1 dX7_worth_31 ?_
    obtain ⟨x5, s6, h1, h⟩ := cl_some h
    refine v_callS1 (As := [vi x1, vi v2, vi x3, vr v1]) (tX7_worked h1) (lw_S q511 q512 q165 q513) dsX7_worked ⟨by simp only [mX7_worth, mX7_worked] <;> omega, by simp only [mX7_worth, mX7_worked] <;> omega⟩ (Nat.le_of_ble_eq_true rfl) dX7_worth_32 rfl ?_
    refine v_istore_n (L' := [none, some (vr v1), some (vi x5), some (vr v3)]) dX7_worth_35 (Nat.le_of_ble_eq_true rfl) (Nat.le_of_ble_eq_true rfl) rfl ?_
    refine v_al3 dX7_worth_36 ?_
    refine v_gR cok5 h dX7_worth_37 (by decide) q973 rfl (fun x7 h => ?_)
    refine v_astore_n (L' := [none, some (vr v1), some (vi x5), some (vr x7)]) dX7_worth_40 (Nat.le_of_ble_eq_true rfl) (Nat.le_of_ble_eq_true rfl) rfl ?_
    refine v_goto (tgt := 14) dX7_worth_41 (by decide) ?_
    exact v_weak (wsn (wss (wss (wss wse)))) (hk14 _ _ _ _ _ h)
theorem lX7_worth_14 {E : EE} {G : GG} {d : Nat} {rX7_worth : Option Nat → Option Nat → Mem → Option (Int32 × Mem)} (hrX7_worth : ∀ (l : Launch) {a0 : Option Nat} {a1 : Option Nat} {s : Mem} {z : Int32 × Mem}, rX7_worth a0 a1 s = some z → Mt E l (mX7_worth d) [vr a0, vr a1] s (some (vi z.1), z.2)) : ∀ (f : Nat) {v1 : Option Nat} {v2 : Int32} {v3 : Option Nat} {σ : Mem} {z : Int32 × Mem}, sX7_worth_14 rX7_worth f v1 v2 v3 σ = some z → V E (mX7_worth (d + 1)) G 14 [none, some (vr v1), some (vi v2), some (vr v3)] [] σ (some (vi z.1), z.2)
  | 0, _, _, _, _, _, h => by cases h
  | f + 1, _, _, _, _, _, h => lX7_worth_14b hrX7_worth (fun _ _ _ _ _ h => lX7_worth_14 hrX7_worth f h) h
theorem lX7_worth_0 {E : EE} {G : GG} {d : Nat} {rX7_worth : Option Nat → Option Nat → Mem → Option (Int32 × Mem)} (hrX7_worth : ∀ (l : Launch) {a0 : Option Nat} {a1 : Option Nat} {s : Mem} {z : Int32 × Mem}, rX7_worth a0 a1 s = some z → Mt E l (mX7_worth d) [vr a0, vr a1] s (some (vi z.1), z.2)) {v0 : Option Nat} {v1 : Option Nat} {σ : Mem} {z : Int32 × Mem} (h : sX7_worth_0 rX7_worth v0 v1 σ = some z) : V E (mX7_worth (d + 1)) G 0 [some (vr v0), some (vr v1), none, none] [] σ (some (vi z.1), z.2) := by
  unfold sX7_worth_0 at h
  refine v_al0 dX7_worth_0 ?_
  refine v_gR cok5 h dX7_worth_1 (by decide) q972 rfl (fun x1 h => ?_)
  refine v_al1 dX7_worth_4 ?_
  obtain ⟨x2, s3, h1, h⟩ := cl_some h
  have kk : V E (mX7_worth (d + 1)) G 8 [some (vr v0), some (vr v1), none, none] [vi x2] s3 (some (vi z.1), z.2) := ?_
  · clear h
    by_cases c5 : kdO σ x1 = 5
    · rw [if_pos c5] at h1
      obtain ⟨b5, er, ka⟩ := kdO_some (by decide) c5
      exact v_callA cok5 (x := ⟨"TermLog$Sum", "worth", "(LTermLog$Asked;)I"⟩) (As := [vr v1]) er ka (hrX7_worth _ h1) q510 q494 q507 q508 q165 q509 q493 (show DsOk ⟨"TermLog$Sum", "worth", "(LTermLog$Asked;)I"⟩ 1 from ⟨by decide, by decide, by decide +kernel⟩) ⟨by simp only [mX7_worth, mX7_worth] <;> omega, by simp only [mX7_worth, mX7_worth] <;> omega⟩ (Nat.le_of_ble_eq_true rfl) dX7_worth_5 rfl kk
    rw [if_neg c5] at h1
    by_cases c8 : kdO σ x1 = 8
    · rw [if_pos c8] at h1
      obtain ⟨b8, er, ka⟩ := kdO_some (by decide) c8
      exact v_callA cok8 (x := ⟨"TermLog$Sum", "worth", "(LTermLog$Asked;)I"⟩) (As := [vr v1]) er ka (tX10_worth h1) q510 q494 q504 q505 q175 q506 q493 (show DsOk ⟨"TermLog$Sum", "worth", "(LTermLog$Asked;)I"⟩ 1 from ⟨by decide, by decide, by decide +kernel⟩) ⟨by simp only [mX7_worth, mX10_worth] <;> omega, by simp only [mX7_worth, mX10_worth] <;> omega⟩ (Nat.le_of_ble_eq_true rfl) dX7_worth_5 rfl kk
    rw [if_neg c8] at h1
    by_cases c9 : kdO σ x1 = 9
    · rw [if_pos c9] at h1
      obtain ⟨b9, er, ka⟩ := kdO_some (by decide) c9
      exact v_callA cok9 (x := ⟨"TermLog$Sum", "worth", "(LTermLog$Asked;)I"⟩) (As := [vr v1]) er ka (tX11_worth h1) q510 q494 q495 q496 q176 q497 q493 (show DsOk ⟨"TermLog$Sum", "worth", "(LTermLog$Asked;)I"⟩ 1 from ⟨by decide, by decide, by decide +kernel⟩) ⟨by simp only [mX7_worth, mX11_worth] <;> omega, by simp only [mX7_worth, mX11_worth] <;> omega⟩ (Nat.le_of_ble_eq_true rfl) dX7_worth_5 rfl kk
    rw [if_neg c9] at h1
    cases h1
  refine v_istore_n (L' := [some (vr v0), some (vr v1), some (vi x2), none]) dX7_worth_8 (Nat.le_of_ble_eq_true rfl) (Nat.le_of_ble_eq_true rfl) rfl ?_
  refine v_al0 dX7_worth_9 ?_
  refine v_gR cok5 h dX7_worth_10 (by decide) q973 rfl (fun x4 h => ?_)
  refine v_astore_n (L' := [some (vr v0), some (vr v1), some (vi x2), some (vr x4)]) dX7_worth_13 (Nat.le_of_ble_eq_true rfl) (Nat.le_of_ble_eq_true rfl) rfl ?_
  exact v_weak (wsn (wss (wss (wss wse)))) (lX7_worth_14 hrX7_worth FU h)
theorem tgX7_worth {E : EE} : ∀ d : Nat, (∀ (l : Launch) {a0 : Option Nat} {a1 : Option Nat} {s : Mem} {z : Int32 × Mem}, (gX7_worth d) a0 a1 s = some z → Mt E l (mX7_worth d) [vr a0, vr a1] s (some (vi z.1), z.2))
  | 0 => (by intro l a0 a1 s z h; cases h)
  | d + 1 => by
    have ih := tgX7_worth (E := E) d
    have i0 := ih
    exact fun l _ _ s z h => Mt.ofVL (show plainName yX7_worth.cls = true from by decide) (Nat.le_of_ble_eq_true rfl) (fun G hG => lX7_worth_0 i0 h)
theorem tX7_worth {E : EE} {l : Launch} (d : Nat) {a0 : Option Nat} {a1 : Option Nat} {σ : Mem} {z : Int32 × Mem} (h : sX7_worth d a0 a1 σ = some z) : Mt E l (mX7_worth d) [vr a0, vr a1] σ (some (vi z.1), z.2) := (tgX7_worth (E := E) d) l h
abbrev mX15_holds : MM := (yX15_holds, cX15_holds, 5, (Option.some Jvm.ClassFile.FieldType.int), 43, 4065)
theorem dsX15_holds : DsOk yX15_holds 1 := ⟨by decide, by decide, by decide +kernel⟩
theorem lX15_holds_77 {E : EE} {G : GG} {v1 : Option Nat} {t0 : Int32} {σ : Mem} {z : Int32 × Mem} (h : sX15_holds_77 v1 t0 σ = some z) : V E mX15_holds G 77 [none, some (vr v1), none, none, none] [vi t0] σ (some (vi z.1), z.2) := by
  unfold sX15_holds_77 at h
  refine v_istore (L' := [none, some (vr v1), none, none, some (vi t0)]) dX15_holds_77 (Nat.le_of_ble_eq_true rfl) (Nat.le_of_ble_eq_true rfl) rfl ?_
  refine v_al1 dX15_holds_79 ?_
  refine v_gIN cok1 h dX15_holds_80 (by decide) q206 rfl (fun x1 h => ?_)
  refine v_if_eq (tgt := 90) dX15_holds_83 (by decide) (fun c => ?_) (fun c => ?_)
  · rw [if_pos c] at h
    refine v_iload dX15_holds_90 rfl ?_
    refine v_if_eq (tgt := 99) dX15_holds_92 (by decide) (fun c => ?_) (fun c => ?_)
    · rw [if_pos c] at h
      refine v_iconst dX15_holds_99 ?_
      exact v_retI h dX15_holds_100 rfl
    · rw [if_neg c] at h
      refine v_iconst dX15_holds_95 ?_
      refine v_goto (tgt := 100) dX15_holds_96 (by decide) ?_
      exact v_retI h dX15_holds_100 rfl
  · rw [if_neg c] at h
    refine v_iconst dX15_holds_86 ?_
    refine v_goto (tgt := 100) dX15_holds_87 (by decide) ?_
    exact v_retI h dX15_holds_100 rfl
theorem lX15_holds {E : EE} {G : GG} {v0 : Option Nat} {v1 : Option Nat} {σ : Mem} {z : Int32 × Mem} (h : sX15_holds v0 v1 σ = some z) : V E mX15_holds G 0 [some (vr v0), some (vr v1), none, none, none] [] σ (some (vi z.1), z.2) := by
  unfold sX15_holds at h
  refine v_al1 dX15_holds_0 ?_
  refine v_iconst dX15_holds_1 ?_
  refine v_pZN cok1 h dX15_holds_2 (by decide) q206 rfl rfl (fun s1 h => ?_)
  refine v_al0 dX15_holds_5 ?_
  refine v_gR cok12 h dX15_holds_6 (by decide) q1015 rfl (fun x2 h => ?_)
  refine v_al1 dX15_holds_9 ?_
  obtain ⟨x3, s4, h1, h⟩ := cl_some h
  have kk : V E mX15_holds G 13 [some (vr v0), some (vr v1), none, none, none] [vi x3] s4 (some (vi z.1), z.2) := ?_
  · clear h
    by_cases c5 : kdO s1 x2 = 5
    · rw [if_pos c5] at h1
      obtain ⟨b5, er, ka⟩ := kdO_some (by decide) c5
      exact v_callA cok5 (x := ⟨"TermLog$Sum", "worth", "(LTermLog$Asked;)I"⟩) (As := [vr v1]) er ka (tX7_worth 40 h1) q492 q494 q507 q508 q165 q509 q493 (show DsOk ⟨"TermLog$Sum", "worth", "(LTermLog$Asked;)I"⟩ 1 from ⟨by decide, by decide, by decide +kernel⟩) ⟨Nat.le_of_ble_eq_true rfl, Nat.le_of_ble_eq_true rfl⟩ (Nat.le_of_ble_eq_true rfl) dX15_holds_10 rfl kk
    rw [if_neg c5] at h1
    by_cases c8 : kdO s1 x2 = 8
    · rw [if_pos c8] at h1
      obtain ⟨b8, er, ka⟩ := kdO_some (by decide) c8
      exact v_callA cok8 (x := ⟨"TermLog$Sum", "worth", "(LTermLog$Asked;)I"⟩) (As := [vr v1]) er ka (tX10_worth h1) q492 q494 q504 q505 q175 q506 q493 (show DsOk ⟨"TermLog$Sum", "worth", "(LTermLog$Asked;)I"⟩ 1 from ⟨by decide, by decide, by decide +kernel⟩) ⟨Nat.le_of_ble_eq_true rfl, Nat.le_of_ble_eq_true rfl⟩ (Nat.le_of_ble_eq_true rfl) dX15_holds_10 rfl kk
    rw [if_neg c8] at h1
    by_cases c9 : kdO s1 x2 = 9
    · rw [if_pos c9] at h1
      obtain ⟨b9, er, ka⟩ := kdO_some (by decide) c9
      exact v_callA cok9 (x := ⟨"TermLog$Sum", "worth", "(LTermLog$Asked;)I"⟩) (As := [vr v1]) er ka (tX11_worth h1) q492 q494 q495 q496 q176 q497 q493 (show DsOk ⟨"TermLog$Sum", "worth", "(LTermLog$Asked;)I"⟩ 1 from ⟨by decide, by decide, by decide +kernel⟩) ⟨Nat.le_of_ble_eq_true rfl, Nat.le_of_ble_eq_true rfl⟩ (Nat.le_of_ble_eq_true rfl) dX15_holds_10 rfl kk
    rw [if_neg c9] at h1
    cases h1
  refine v_istore_n (L' := [some (vr v0), some (vr v1), some (vi x3), none, none]) dX15_holds_13 (Nat.le_of_ble_eq_true rfl) (Nat.le_of_ble_eq_true rfl) rfl ?_
  refine v_al0 dX15_holds_14 ?_
  refine v_gR cok12 h dX15_holds_15 (by decide) q1016 rfl (fun x5 h => ?_)
  refine v_al1 dX15_holds_18 ?_
  obtain ⟨x6, s7, h1, h⟩ := cl_some h
  have kk : V E mX15_holds G 22 [some (vr v0), some (vr v1), some (vi x3), none, none] [vi x6] s7 (some (vi z.1), z.2) := ?_
  · clear h
    by_cases c5 : kdO s4 x5 = 5
    · rw [if_pos c5] at h1
      obtain ⟨b5, er, ka⟩ := kdO_some (by decide) c5
      exact v_callA cok5 (x := ⟨"TermLog$Sum", "worth", "(LTermLog$Asked;)I"⟩) (As := [vr v1]) er ka (tX7_worth 40 h1) q492 q494 q507 q508 q165 q509 q493 (show DsOk ⟨"TermLog$Sum", "worth", "(LTermLog$Asked;)I"⟩ 1 from ⟨by decide, by decide, by decide +kernel⟩) ⟨Nat.le_of_ble_eq_true rfl, Nat.le_of_ble_eq_true rfl⟩ (Nat.le_of_ble_eq_true rfl) dX15_holds_19 rfl kk
    rw [if_neg c5] at h1
    by_cases c8 : kdO s4 x5 = 8
    · rw [if_pos c8] at h1
      obtain ⟨b8, er, ka⟩ := kdO_some (by decide) c8
      exact v_callA cok8 (x := ⟨"TermLog$Sum", "worth", "(LTermLog$Asked;)I"⟩) (As := [vr v1]) er ka (tX10_worth h1) q492 q494 q504 q505 q175 q506 q493 (show DsOk ⟨"TermLog$Sum", "worth", "(LTermLog$Asked;)I"⟩ 1 from ⟨by decide, by decide, by decide +kernel⟩) ⟨Nat.le_of_ble_eq_true rfl, Nat.le_of_ble_eq_true rfl⟩ (Nat.le_of_ble_eq_true rfl) dX15_holds_19 rfl kk
    rw [if_neg c8] at h1
    by_cases c9 : kdO s4 x5 = 9
    · rw [if_pos c9] at h1
      obtain ⟨b9, er, ka⟩ := kdO_some (by decide) c9
      exact v_callA cok9 (x := ⟨"TermLog$Sum", "worth", "(LTermLog$Asked;)I"⟩) (As := [vr v1]) er ka (tX11_worth h1) q492 q494 q495 q496 q176 q497 q493 (show DsOk ⟨"TermLog$Sum", "worth", "(LTermLog$Asked;)I"⟩ 1 from ⟨by decide, by decide, by decide +kernel⟩) ⟨Nat.le_of_ble_eq_true rfl, Nat.le_of_ble_eq_true rfl⟩ (Nat.le_of_ble_eq_true rfl) dX15_holds_19 rfl kk
    rw [if_neg c9] at h1
    cases h1
  refine v_istore_n (L' := [some (vr v0), some (vr v1), some (vi x3), some (vi x6), none]) dX15_holds_22 (Nat.le_of_ble_eq_true rfl) (Nat.le_of_ble_eq_true rfl) rfl ?_
  refine v_al0 dX15_holds_23 ?_
  refine v_gI cok12 h dX15_holds_24 (by decide) q1017 rfl (fun x8 h => ?_)
  refine v_bipush dX15_holds_27 rfl ?_
  refine v_icmp_ne (tgt := 45) dX15_holds_29 (by decide) (fun c => ?_) (fun c => ?_)
  · rw [if_neg c] at h
    refine v_al0 dX15_holds_45 ?_
    refine v_gI cok12 h dX15_holds_46 (by decide) q1017 rfl (fun x9 h => ?_)
    refine v_bipush dX15_holds_49 rfl ?_
    refine v_icmp_ne (tgt := 67) dX15_holds_51 (by decide) (fun c => ?_) (fun c => ?_)
    · rw [if_neg c] at h
      refine v_il2 dX15_holds_67 ?_
      refine v_il3 dX15_holds_68 ?_
      refine v_icmp_ne (tgt := 76) dX15_holds_69 (by decide) (fun c => ?_) (fun c => ?_)
      · rw [if_neg c] at h
        refine v_iconst dX15_holds_76 ?_
        exact v_weak (wsn (wss (wsn (wsn (wsn wse))))) (lX15_holds_77 h)
      · rw [if_pos c] at h
        refine v_iconst dX15_holds_72 ?_
        refine v_goto (tgt := 77) dX15_holds_73 (by decide) ?_
        exact v_weak (wsn (wss (wsn (wsn (wsn wse))))) (lX15_holds_77 h)
    · rw [if_pos c] at h
      refine v_il2 dX15_holds_54 ?_
      refine v_il3 dX15_holds_55 ?_
      refine v_icmp_le (tgt := 63) dX15_holds_56 (by decide) (fun c => ?_) (fun c => ?_)
      · rw [if_pos c] at h
        refine v_iconst dX15_holds_63 ?_
        refine v_goto (tgt := 77) dX15_holds_64 (by decide) ?_
        exact v_weak (wsn (wss (wsn (wsn (wsn wse))))) (lX15_holds_77 h)
      · rw [if_neg c] at h
        refine v_iconst dX15_holds_59 ?_
        refine v_goto (tgt := 77) dX15_holds_60 (by decide) ?_
        exact v_weak (wsn (wss (wsn (wsn (wsn wse))))) (lX15_holds_77 h)
  · rw [if_pos c] at h
    refine v_il2 dX15_holds_32 ?_
    refine v_il3 dX15_holds_33 ?_
    refine v_icmp_ge (tgt := 41) dX15_holds_34 (by decide) (fun c => ?_) (fun c => ?_)
    · rw [if_pos c] at h
      refine v_iconst dX15_holds_41 ?_
      refine v_goto (tgt := 77) dX15_holds_42 (by decide) ?_
      exact v_weak (wsn (wss (wsn (wsn (wsn wse))))) (lX15_holds_77 h)
    · rw [if_neg c] at h
      refine v_iconst dX15_holds_37 ?_
      refine v_goto (tgt := 77) dX15_holds_38 (by decide) ?_
      exact v_weak (wsn (wss (wsn (wsn (wsn wse))))) (lX15_holds_77 h)
theorem tX15_holds {E : EE} {l : Launch} {v0 : Option Nat} {v1 : Option Nat} {σ : Mem} {z : Int32 × Mem} (h : sX15_holds v0 v1 σ = some z) : Mt E l mX15_holds [vr v0, vr v1] σ (some (vi z.1), z.2) :=
  Mt.ofVL (by decide) (Nat.le_of_ble_eq_true rfl) (fun G hG => lX15_holds h)
abbrev mX13_holds (d : Nat) : MM := (yX13_holds, cX13_holds, 4, (Option.some Jvm.ClassFile.FieldType.int), 44 + d, 4089 + 100 * d)
theorem dsX13_holds : DsOk yX13_holds 1 := ⟨by decide, by decide, by decide +kernel⟩
abbrev mX14_holds (d : Nat) : MM := (yX14_holds, cX14_holds, 3, (Option.some Jvm.ClassFile.FieldType.int), 44 + d, 4089 + 100 * d)
theorem dsX14_holds : DsOk yX14_holds 1 := ⟨by decide, by decide, by decide +kernel⟩
theorem lX13_holds_2b {E : EE} {G : GG} {d : Nat} {rX13_holds : Option Nat → Option Nat → Mem → Option (Int32 × Mem)} {rX14_holds : Option Nat → Option Nat → Mem → Option (Int32 × Mem)} (hrX13_holds : ∀ (l : Launch) {a0 : Option Nat} {a1 : Option Nat} {s : Mem} {z : Int32 × Mem}, rX13_holds a0 a1 s = some z → Mt E l (mX13_holds d) [vr a0, vr a1] s (some (vi z.1), z.2)) (hrX14_holds : ∀ (l : Launch) {a0 : Option Nat} {a1 : Option Nat} {s : Mem} {z : Int32 × Mem}, rX14_holds a0 a1 s = some z → Mt E l (mX14_holds d) [vr a0, vr a1] s (some (vi z.1), z.2)) {k2 : Option Nat → Option Nat → Option Nat → Mem → Option (Int32 × Mem)} (hk2 : ∀ (v0 : Option Nat) (v1 : Option Nat) (v2 : Option Nat) (s : Mem) (z : Int32 × Mem), k2 v0 v1 v2 s = some z → V E (mX13_holds (d + 1)) G 2 [some (vr v0), some (vr v1), some (vr v2), none] [] s (some (vi z.1), z.2)) {v0 : Option Nat} {v1 : Option Nat} {v2 : Option Nat} {σ : Mem} {z : Int32 × Mem} (h : sX13_holds_2b rX13_holds rX14_holds k2 v0 v1 v2 σ = some z) : V E (mX13_holds (d + 1)) G 2 [some (vr v0), some (vr v1), some (vr v2), none] [] σ (some (vi z.1), z.2) := by
  unfold sX13_holds_2b at h
  refine v_al2 dX13_holds_2 ?_
  refine v_ifnull (tgt := 38) dX13_holds_3 (by decide) (fun c => ?_) (fun c => ?_)
  · rw [if_pos c] at h
    refine v_iconst dX13_holds_38 ?_
    refine v_al0 dX13_holds_39 ?_
    refine v_gI cok10 h dX13_holds_40 (by decide) q1030 rfl (fun x1 h => ?_)
    refine v_isub dX13_holds_43 ?_
    exact v_retI h dX13_holds_44 rfl
  · rw [if_neg c] at h
    refine v_al2 dX13_holds_6 ?_
    refine v_gR cok10 h dX13_holds_7 (by decide) q1029 rfl (fun x2 h => ?_)
    refine v_al1 dX13_holds_10 ?_
    obtain ⟨x3, s4, h1, h⟩ := cl_some h
    have kk : V E (mX13_holds (d + 1)) G 14 [some (vr v0), some (vr v1), some (vr v2), none] [vi x3] s4 (some (vi z.1), z.2) := ?_
    · clear h
      by_cases c10 : kdO σ x2 = 10
      · rw [if_pos c10] at h1
        obtain ⟨b10, er, ka⟩ := kdO_some (by decide) c10
        exact v_callA cok10 (x := ⟨"TermLog$Condition", "holds", "(LTermLog$Asked;)I"⟩) (As := [vr v1]) er ka (hrX13_holds _ h1) q520 q488 q521 q518 q178 q519 q487 (show DsOk ⟨"TermLog$Condition", "holds", "(LTermLog$Asked;)I"⟩ 1 from ⟨by decide, by decide, by decide +kernel⟩) ⟨by simp only [mX13_holds, mX13_holds] <;> omega, by simp only [mX13_holds, mX13_holds] <;> omega⟩ (Nat.le_of_ble_eq_true rfl) dX13_holds_11 rfl kk
      rw [if_neg c10] at h1
      by_cases c11 : kdO σ x2 = 11
      · rw [if_pos c11] at h1
        obtain ⟨b11, er, ka⟩ := kdO_some (by decide) c11
        exact v_callA cok11 (x := ⟨"TermLog$Condition", "holds", "(LTermLog$Asked;)I"⟩) (As := [vr v1]) er ka (hrX14_holds _ h1) q520 q488 q514 q515 q179 q516 q487 (show DsOk ⟨"TermLog$Condition", "holds", "(LTermLog$Asked;)I"⟩ 1 from ⟨by decide, by decide, by decide +kernel⟩) ⟨by simp only [mX13_holds, mX14_holds] <;> omega, by simp only [mX13_holds, mX14_holds] <;> omega⟩ (Nat.le_of_ble_eq_true rfl) dX13_holds_11 rfl kk
      rw [if_neg c11] at h1
      by_cases c12 : kdO σ x2 = 12
      · rw [if_pos c12] at h1
        obtain ⟨b12, er, ka⟩ := kdO_some (by decide) c12
        exact v_callA cok12 (x := ⟨"TermLog$Condition", "holds", "(LTermLog$Asked;)I"⟩) (As := [vr v1]) er ka (tX15_holds h1) q520 q488 q489 q490 q180 q491 q487 (show DsOk ⟨"TermLog$Condition", "holds", "(LTermLog$Asked;)I"⟩ 1 from ⟨by decide, by decide, by decide +kernel⟩) ⟨by simp only [mX13_holds, mX15_holds] <;> omega, by simp only [mX13_holds, mX15_holds] <;> omega⟩ (Nat.le_of_ble_eq_true rfl) dX13_holds_11 rfl kk
      rw [if_neg c12] at h1
      cases h1
    refine v_istore_n (L' := [some (vr v0), some (vr v1), some (vr v2), some (vi x3)]) dX13_holds_14 (Nat.le_of_ble_eq_true rfl) (Nat.le_of_ble_eq_true rfl) rfl ?_
    refine v_il3 dX13_holds_15 ?_
    refine v_iconst dX13_holds_16 ?_
    refine v_icmp_eq (tgt := 28) dX13_holds_17 (by decide) (fun c => ?_) (fun c => ?_)
    · rw [if_pos c] at h
      refine v_il3 dX13_holds_28 ?_
      exact v_retI h dX13_holds_29 rfl
    · rw [if_neg c] at h
      refine v_il3 dX13_holds_20 ?_
      refine v_al0 dX13_holds_21 ?_
      refine v_gI cok10 h dX13_holds_22 (by decide) q1030 rfl (fun x5 h => ?_)
      refine v_icmp_ne (tgt := 30) dX13_holds_25 (by decide) (fun c => ?_) (fun c => ?_)
      · rw [if_neg c] at h
        refine v_al2 dX13_holds_30 ?_
        refine v_gR cok10 h dX13_holds_31 (by decide) q1031 rfl (fun x6 h => ?_)
        refine v_astore_n (L' := [some (vr v0), some (vr v1), some (vr x6), some (vi x3)]) dX13_holds_34 (Nat.le_of_ble_eq_true rfl) (Nat.le_of_ble_eq_true rfl) rfl ?_
        refine v_goto (tgt := 2) dX13_holds_35 (by decide) ?_
        exact v_weak (wss (wss (wss (wsn wse)))) (hk2 _ _ _ _ _ h)
      · rw [if_pos c] at h
        refine v_il3 dX13_holds_28 ?_
        exact v_retI h dX13_holds_29 rfl
theorem lX13_holds_2 {E : EE} {G : GG} {d : Nat} {rX13_holds : Option Nat → Option Nat → Mem → Option (Int32 × Mem)} {rX14_holds : Option Nat → Option Nat → Mem → Option (Int32 × Mem)} (hrX13_holds : ∀ (l : Launch) {a0 : Option Nat} {a1 : Option Nat} {s : Mem} {z : Int32 × Mem}, rX13_holds a0 a1 s = some z → Mt E l (mX13_holds d) [vr a0, vr a1] s (some (vi z.1), z.2)) (hrX14_holds : ∀ (l : Launch) {a0 : Option Nat} {a1 : Option Nat} {s : Mem} {z : Int32 × Mem}, rX14_holds a0 a1 s = some z → Mt E l (mX14_holds d) [vr a0, vr a1] s (some (vi z.1), z.2)) : ∀ (f : Nat) {v0 : Option Nat} {v1 : Option Nat} {v2 : Option Nat} {σ : Mem} {z : Int32 × Mem}, sX13_holds_2 rX13_holds rX14_holds f v0 v1 v2 σ = some z → V E (mX13_holds (d + 1)) G 2 [some (vr v0), some (vr v1), some (vr v2), none] [] σ (some (vi z.1), z.2)
  | 0, _, _, _, _, _, h => by cases h
  | f + 1, _, _, _, _, _, h => lX13_holds_2b hrX13_holds hrX14_holds (fun _ _ _ _ _ h => lX13_holds_2 hrX13_holds hrX14_holds f h) h
theorem lX13_holds_0 {E : EE} {G : GG} {d : Nat} {rX13_holds : Option Nat → Option Nat → Mem → Option (Int32 × Mem)} {rX14_holds : Option Nat → Option Nat → Mem → Option (Int32 × Mem)} (hrX13_holds : ∀ (l : Launch) {a0 : Option Nat} {a1 : Option Nat} {s : Mem} {z : Int32 × Mem}, rX13_holds a0 a1 s = some z → Mt E l (mX13_holds d) [vr a0, vr a1] s (some (vi z.1), z.2)) (hrX14_holds : ∀ (l : Launch) {a0 : Option Nat} {a1 : Option Nat} {s : Mem} {z : Int32 × Mem}, rX14_holds a0 a1 s = some z → Mt E l (mX14_holds d) [vr a0, vr a1] s (some (vi z.1), z.2)) {v0 : Option Nat} {v1 : Option Nat} {σ : Mem} {z : Int32 × Mem} (h : sX13_holds_0 rX13_holds rX14_holds v0 v1 σ = some z) : V E (mX13_holds (d + 1)) G 0 [some (vr v0), some (vr v1), none, none] [] σ (some (vi z.1), z.2) := by
  unfold sX13_holds_0 at h
  refine v_al0 dX13_holds_0 ?_
  refine v_astore_n (L' := [some (vr v0), some (vr v1), some (vr v0), none]) dX13_holds_1 (Nat.le_of_ble_eq_true rfl) (Nat.le_of_ble_eq_true rfl) rfl ?_
  exact v_weak (wss (wss (wss (wsn wse)))) (lX13_holds_2 hrX13_holds hrX14_holds FU h)
theorem lX14_holds_0 {E : EE} {G : GG} {d : Nat} {rX13_holds : Option Nat → Option Nat → Mem → Option (Int32 × Mem)} {rX14_holds : Option Nat → Option Nat → Mem → Option (Int32 × Mem)} (hrX13_holds : ∀ (l : Launch) {a0 : Option Nat} {a1 : Option Nat} {s : Mem} {z : Int32 × Mem}, rX13_holds a0 a1 s = some z → Mt E l (mX13_holds d) [vr a0, vr a1] s (some (vi z.1), z.2)) (hrX14_holds : ∀ (l : Launch) {a0 : Option Nat} {a1 : Option Nat} {s : Mem} {z : Int32 × Mem}, rX14_holds a0 a1 s = some z → Mt E l (mX14_holds d) [vr a0, vr a1] s (some (vi z.1), z.2)) {v0 : Option Nat} {v1 : Option Nat} {σ : Mem} {z : Int32 × Mem} (h : sX14_holds_0 rX13_holds rX14_holds v0 v1 σ = some z) : V E (mX14_holds (d + 1)) G 0 [some (vr v0), some (vr v1), none] [] σ (some (vi z.1), z.2) := by
  unfold sX14_holds_0 at h
  refine v_al0 dX14_holds_0 ?_
  refine v_gR cok11 h dX14_holds_1 (by decide) q1005 rfl (fun x1 h => ?_)
  refine v_al1 dX14_holds_4 ?_
  obtain ⟨x2, s3, h1, h⟩ := cl_some h
  have kk : V E (mX14_holds (d + 1)) G 8 [some (vr v0), some (vr v1), none] [vi x2] s3 (some (vi z.1), z.2) := ?_
  · clear h
    by_cases c10 : kdO σ x1 = 10
    · rw [if_pos c10] at h1
      obtain ⟨b10, er, ka⟩ := kdO_some (by decide) c10
      exact v_callA cok10 (x := ⟨"TermLog$Condition", "holds", "(LTermLog$Asked;)I"⟩) (As := [vr v1]) er ka (hrX13_holds _ h1) q517 q488 q521 q518 q178 q519 q487 (show DsOk ⟨"TermLog$Condition", "holds", "(LTermLog$Asked;)I"⟩ 1 from ⟨by decide, by decide, by decide +kernel⟩) ⟨by simp only [mX14_holds, mX13_holds] <;> omega, by simp only [mX14_holds, mX13_holds] <;> omega⟩ (Nat.le_of_ble_eq_true rfl) dX14_holds_5 rfl kk
    rw [if_neg c10] at h1
    by_cases c11 : kdO σ x1 = 11
    · rw [if_pos c11] at h1
      obtain ⟨b11, er, ka⟩ := kdO_some (by decide) c11
      exact v_callA cok11 (x := ⟨"TermLog$Condition", "holds", "(LTermLog$Asked;)I"⟩) (As := [vr v1]) er ka (hrX14_holds _ h1) q517 q488 q514 q515 q179 q516 q487 (show DsOk ⟨"TermLog$Condition", "holds", "(LTermLog$Asked;)I"⟩ 1 from ⟨by decide, by decide, by decide +kernel⟩) ⟨by simp only [mX14_holds, mX14_holds] <;> omega, by simp only [mX14_holds, mX14_holds] <;> omega⟩ (Nat.le_of_ble_eq_true rfl) dX14_holds_5 rfl kk
    rw [if_neg c11] at h1
    by_cases c12 : kdO σ x1 = 12
    · rw [if_pos c12] at h1
      obtain ⟨b12, er, ka⟩ := kdO_some (by decide) c12
      exact v_callA cok12 (x := ⟨"TermLog$Condition", "holds", "(LTermLog$Asked;)I"⟩) (As := [vr v1]) er ka (tX15_holds h1) q517 q488 q489 q490 q180 q491 q487 (show DsOk ⟨"TermLog$Condition", "holds", "(LTermLog$Asked;)I"⟩ 1 from ⟨by decide, by decide, by decide +kernel⟩) ⟨by simp only [mX14_holds, mX15_holds] <;> omega, by simp only [mX14_holds, mX15_holds] <;> omega⟩ (Nat.le_of_ble_eq_true rfl) dX14_holds_5 rfl kk
    rw [if_neg c12] at h1
    cases h1
  refine v_istore_n (L' := [some (vr v0), some (vr v1), some (vi x2)]) dX14_holds_8 (Nat.le_of_ble_eq_true rfl) (Nat.le_of_ble_eq_true rfl) rfl ?_
  refine v_il2 dX14_holds_9 ?_
  refine v_iconst dX14_holds_10 ?_
  refine v_icmp_ne (tgt := 18) dX14_holds_11 (by decide) (fun c => ?_) (fun c => ?_)
  · rw [if_neg c] at h
    refine v_iconst dX14_holds_18 ?_
    refine v_il2 dX14_holds_19 ?_
    refine v_isub dX14_holds_20 ?_
    exact v_retI h dX14_holds_21 rfl
  · rw [if_pos c] at h
    refine v_iconst dX14_holds_14 ?_
    refine v_goto (tgt := 21) dX14_holds_15 (by decide) ?_
    exact v_retI h dX14_holds_21 rfl
theorem tgX13_holds {E : EE} : ∀ d : Nat, (∀ (l : Launch) {a0 : Option Nat} {a1 : Option Nat} {s : Mem} {z : Int32 × Mem}, (gX13_holds d).1 a0 a1 s = some z → Mt E l (mX13_holds d) [vr a0, vr a1] s (some (vi z.1), z.2)) ∧ (∀ (l : Launch) {a0 : Option Nat} {a1 : Option Nat} {s : Mem} {z : Int32 × Mem}, (gX13_holds d).2 a0 a1 s = some z → Mt E l (mX14_holds d) [vr a0, vr a1] s (some (vi z.1), z.2))
  | 0 => ⟨(by intro l a0 a1 s z h; cases h), (by intro l a0 a1 s z h; cases h)⟩
  | d + 1 => by
    have ih := tgX13_holds (E := E) d
    obtain ⟨i0, i1⟩ := ih
    exact ⟨fun l _ _ s z h => Mt.ofVL (show plainName yX13_holds.cls = true from by decide) (Nat.le_of_ble_eq_true rfl) (fun G hG => lX13_holds_0 i0 i1 h), fun l _ _ s z h => Mt.ofVL (show plainName yX14_holds.cls = true from by decide) (Nat.le_of_ble_eq_true rfl) (fun G hG => lX14_holds_0 i0 i1 h)⟩
theorem tX13_holds {E : EE} {l : Launch} (d : Nat) {a0 : Option Nat} {a1 : Option Nat} {σ : Mem} {z : Int32 × Mem} (h : sX13_holds d a0 a1 σ = some z) : Mt E l (mX13_holds d) [vr a0, vr a1] σ (some (vi z.1), z.2) := (tgX13_holds (E := E) d).1 l h
theorem tX14_holds {E : EE} {l : Launch} (d : Nat) {a0 : Option Nat} {a1 : Option Nat} {σ : Mem} {z : Int32 × Mem} (h : sX14_holds d a0 a1 σ = some z) : Mt E l (mX14_holds d) [vr a0, vr a1] σ (some (vi z.1), z.2) := (tgX13_holds (E := E) d).2 l h
abbrev mX6_told : MM := (yX6_told, cX6_told, 3, (Option.some Jvm.ClassFile.FieldType.int), 43, 4065)
theorem dsX6_told : DsOk yX6_told 1 := ⟨by decide, by decide, by decide +kernel⟩
theorem lX6_told {E : EE} {G : GG} {v0 : Option Nat} {v1 : Option Nat} {σ : Mem} {z : Int32 × Mem} (h : sX6_told v0 v1 σ = some z) : V E mX6_told G 0 [some (vr v0), some (vr v1), none] [] σ (some (vi z.1), z.2) := by
  unfold sX6_told at h
  refine v_al1 dX6_told_0 ?_
  refine v_iconst dX6_told_1 ?_
  refine v_pZN cok1 h dX6_told_2 (by decide) q208 rfl rfl (fun s1 h => ?_)
  refine v_al0 dX6_told_5 ?_
  refine v_al1 dX6_told_6 ?_
  obtain ⟨x2, s3, h1, h⟩ := cl_some h
  have kk : V E mX6_told G 10 [some (vr v0), some (vr v1), none] [vi x2] s3 (some (vi z.1), z.2) := ?_
  · clear h
    by_cases c5 : kdO s1 v0 = 5
    · rw [if_pos c5] at h1
      obtain ⟨b5, er, ka⟩ := kdO_some (by decide) c5
      exact v_callA cok5 (x := ⟨"TermLog$Sum", "worth", "(LTermLog$Asked;)I"⟩) (As := [vr v1]) er ka (tX7_worth 40 h1) q529 q494 q507 q508 q165 q509 q493 (show DsOk ⟨"TermLog$Sum", "worth", "(LTermLog$Asked;)I"⟩ 1 from ⟨by decide, by decide, by decide +kernel⟩) ⟨Nat.le_of_ble_eq_true rfl, Nat.le_of_ble_eq_true rfl⟩ (Nat.le_of_ble_eq_true rfl) dX6_told_7 rfl kk
    rw [if_neg c5] at h1
    by_cases c8 : kdO s1 v0 = 8
    · rw [if_pos c8] at h1
      obtain ⟨b8, er, ka⟩ := kdO_some (by decide) c8
      exact v_callA cok8 (x := ⟨"TermLog$Sum", "worth", "(LTermLog$Asked;)I"⟩) (As := [vr v1]) er ka (tX10_worth h1) q529 q494 q504 q505 q175 q506 q493 (show DsOk ⟨"TermLog$Sum", "worth", "(LTermLog$Asked;)I"⟩ 1 from ⟨by decide, by decide, by decide +kernel⟩) ⟨Nat.le_of_ble_eq_true rfl, Nat.le_of_ble_eq_true rfl⟩ (Nat.le_of_ble_eq_true rfl) dX6_told_7 rfl kk
    rw [if_neg c8] at h1
    by_cases c9 : kdO s1 v0 = 9
    · rw [if_pos c9] at h1
      obtain ⟨b9, er, ka⟩ := kdO_some (by decide) c9
      exact v_callA cok9 (x := ⟨"TermLog$Sum", "worth", "(LTermLog$Asked;)I"⟩) (As := [vr v1]) er ka (tX11_worth h1) q529 q494 q495 q496 q176 q497 q493 (show DsOk ⟨"TermLog$Sum", "worth", "(LTermLog$Asked;)I"⟩ 1 from ⟨by decide, by decide, by decide +kernel⟩) ⟨Nat.le_of_ble_eq_true rfl, Nat.le_of_ble_eq_true rfl⟩ (Nat.le_of_ble_eq_true rfl) dX6_told_7 rfl kk
    rw [if_neg c9] at h1
    cases h1
  refine v_istore_n (L' := [some (vr v0), some (vr v1), some (vi x2)]) dX6_told_10 (Nat.le_of_ble_eq_true rfl) (Nat.le_of_ble_eq_true rfl) rfl ?_
  refine v_al1 dX6_told_11 ?_
  refine v_gIN cok1 h dX6_told_12 (by decide) q208 rfl (fun x4 h => ?_)
  refine v_if_eq (tgt := 22) dX6_told_15 (by decide) (fun c => ?_) (fun c => ?_)
  · rw [if_pos c] at h
    refine v_il2 dX6_told_22 ?_
    exact v_retI h dX6_told_23 rfl
  · rw [if_neg c] at h
    refine v_iconst dX6_told_18 ?_
    refine v_goto (tgt := 23) dX6_told_19 (by decide) ?_
    exact v_retI h dX6_told_23 rfl
theorem tX6_told {E : EE} {l : Launch} {v0 : Option Nat} {v1 : Option Nat} {σ : Mem} {z : Int32 × Mem} (h : sX6_told v0 v1 σ = some z) : Mt E l mX6_told [vr v0, vr v1] σ (some (vi z.1), z.2) :=
  Mt.ofVL (by decide) (Nat.le_of_ble_eq_true rfl) (fun G hG => lX6_told h)
abbrev mX5_tells : MM := (yX5_tells, cX5_tells, 5, (Option.some Jvm.ClassFile.FieldType.int), 85, 8112)
theorem dsX5_tells : DsOk yX5_tells 3 := ⟨by decide, by decide, by decide +kernel⟩
theorem lX5_tells_50 {E : EE} {G : GG} {k3 : Option Nat → Int32 → Int32 → Option Nat → Int32 → Mem → Option (Int32 × Mem)} (hk3 : ∀ (v0 : Option Nat) (v1 : Int32) (v2 : Int32) (v3 : Option Nat) (v4 : Int32) (s : Mem) (z : Int32 × Mem), k3 v0 v1 v2 v3 v4 s = some z → V E mX5_tells G 3 [some (vr v0), some (vi v1), some (vi v2), some (vr v3), some (vi v4)] [] s (some (vi z.1), z.2)) {v0 : Option Nat} {v1 : Int32} {v2 : Int32} {v3 : Option Nat} {v4 : Int32} {σ : Mem} {z : Int32 × Mem} (h : sX5_tells_50 k3 v0 v1 v2 v3 v4 σ = some z) : V E mX5_tells G 50 [some (vr v0), some (vi v1), some (vi v2), some (vr v3), some (vi v4)] [] σ (some (vi z.1), z.2) := by
  unfold sX5_tells_50 at h
  refine v_iinc (L' := [some (vr v0), some (vi v1), some (vi v2), some (vr v3), some (vi (v4 + iI 1))]) dX5_tells_50 (Nat.le_of_ble_eq_true rfl) rfl rfl ?_
  refine v_goto (tgt := 3) dX5_tells_53 (by decide) ?_
  exact v_weak (wss (wss (wss (wss (wss wse))))) (hk3 _ _ _ _ _ _ _ h)
theorem lX5_tells_3b {E : EE} {G : GG} {k3 : Option Nat → Int32 → Int32 → Option Nat → Int32 → Mem → Option (Int32 × Mem)} (hk3 : ∀ (v0 : Option Nat) (v1 : Int32) (v2 : Int32) (v3 : Option Nat) (v4 : Int32) (s : Mem) (z : Int32 × Mem), k3 v0 v1 v2 v3 v4 s = some z → V E mX5_tells G 3 [some (vr v0), some (vi v1), some (vi v2), some (vr v3), some (vi v4)] [] s (some (vi z.1), z.2)) {v0 : Option Nat} {v1 : Int32} {v2 : Int32} {v3 : Option Nat} {v4 : Int32} {σ : Mem} {z : Int32 × Mem} (h : sX5_tells_3b k3 v0 v1 v2 v3 v4 σ = some z) : V E mX5_tells G 3 [some (vr v0), some (vi v1), some (vi v2), some (vr v3), some (vi v4)] [] σ (some (vi z.1), z.2) := by
  unfold sX5_tells_3b at h
  refine v_iload dX5_tells_3 rfl ?_
  refine v_al0 dX5_tells_5 ?_
  refine v_gI cok4 h dX5_tells_6 (by decide) q440 rfl (fun x1 h => ?_)
  refine v_icmp_ge (tgt := 56) dX5_tells_9 (by decide) (fun c => ?_) (fun c => ?_)
  · rw [if_pos c] at h
    refine v_il2 dX5_tells_56 ?_
    exact v_retI h dX5_tells_57 rfl
  · rw [if_neg c] at h
    refine v_al0 dX5_tells_12 ?_
    refine v_gR cok4 h dX5_tells_13 (by decide) q434 rfl (fun x2 h => ?_)
    refine v_iload dX5_tells_16 rfl ?_
    refine v_aI h dX5_tells_18 (fun x3 h => ?_)
    refine v_il1 dX5_tells_19 ?_
    refine v_icmp_ne (tgt := 50) dX5_tells_20 (by decide) (fun c => ?_) (fun c => ?_)
    · rw [if_neg c] at h
      exact v_weak (wss (wss (wss (wss (wss wse))))) (lX5_tells_50 hk3 h)
    · rw [if_pos c] at h
      refine v_al0 dX5_tells_23 ?_
      refine v_gR cok4 h dX5_tells_24 (by decide) q438 rfl (fun x4 h => ?_)
      refine v_iload dX5_tells_27 rfl ?_
      refine v_aR h (by decide) dX5_tells_29 (fun x5 h => ?_)
      refine v_al3 dX5_tells_30 ?_
      obtain ⟨x6, s7, h1, h⟩ := cl_some h
      have kk : V E mX5_tells G 34 [some (vr v0), some (vi v1), some (vi v2), some (vr v3), some (vi v4)] [vi x6] s7 (some (vi z.1), z.2) := ?_
      · clear h
        by_cases c10 : kdO σ x5 = 10
        · rw [if_pos c10] at h1
          obtain ⟨b10, er, ka⟩ := kdO_some (by decide) c10
          exact v_callA cok10 (x := ⟨"TermLog$Condition", "holds", "(LTermLog$Asked;)I"⟩) (As := [vr v3]) er ka (tX13_holds 40 h1) q486 q488 q521 q518 q178 q519 q487 (show DsOk ⟨"TermLog$Condition", "holds", "(LTermLog$Asked;)I"⟩ 1 from ⟨by decide, by decide, by decide +kernel⟩) ⟨Nat.le_of_ble_eq_true rfl, Nat.le_of_ble_eq_true rfl⟩ (Nat.le_of_ble_eq_true rfl) dX5_tells_31 rfl kk
        rw [if_neg c10] at h1
        by_cases c11 : kdO σ x5 = 11
        · rw [if_pos c11] at h1
          obtain ⟨b11, er, ka⟩ := kdO_some (by decide) c11
          exact v_callA cok11 (x := ⟨"TermLog$Condition", "holds", "(LTermLog$Asked;)I"⟩) (As := [vr v3]) er ka (tX14_holds 40 h1) q486 q488 q514 q515 q179 q516 q487 (show DsOk ⟨"TermLog$Condition", "holds", "(LTermLog$Asked;)I"⟩ 1 from ⟨by decide, by decide, by decide +kernel⟩) ⟨Nat.le_of_ble_eq_true rfl, Nat.le_of_ble_eq_true rfl⟩ (Nat.le_of_ble_eq_true rfl) dX5_tells_31 rfl kk
        rw [if_neg c11] at h1
        by_cases c12 : kdO σ x5 = 12
        · rw [if_pos c12] at h1
          obtain ⟨b12, er, ka⟩ := kdO_some (by decide) c12
          exact v_callA cok12 (x := ⟨"TermLog$Condition", "holds", "(LTermLog$Asked;)I"⟩) (As := [vr v3]) er ka (tX15_holds h1) q486 q488 q489 q490 q180 q491 q487 (show DsOk ⟨"TermLog$Condition", "holds", "(LTermLog$Asked;)I"⟩ 1 from ⟨by decide, by decide, by decide +kernel⟩) ⟨Nat.le_of_ble_eq_true rfl, Nat.le_of_ble_eq_true rfl⟩ (Nat.le_of_ble_eq_true rfl) dX5_tells_31 rfl kk
        rw [if_neg c12] at h1
        cases h1
      refine v_iconst dX5_tells_34 ?_
      refine v_icmp_ne (tgt := 50) dX5_tells_35 (by decide) (fun c => ?_) (fun c => ?_)
      · rw [if_neg c] at h
        exact v_weak (wss (wss (wss (wss (wss wse))))) (lX5_tells_50 hk3 h)
      · rw [if_pos c] at h
        refine v_al0 dX5_tells_38 ?_
        refine v_gR cok4 h dX5_tells_39 (by decide) q436 rfl (fun x8 h => ?_)
        refine v_iload dX5_tells_42 rfl ?_
        refine v_aR h (by decide) dX5_tells_44 (fun x9 h => ?_)
        refine v_al3 dX5_tells_45 ?_
        obtain ⟨x10, s11, h1, h⟩ := cl_some h
        have kk : V E mX5_tells G 49 [some (vr v0), some (vi v1), some (vi v2), some (vr v3), some (vi v4)] [vi x10] s11 (some (vi z.1), z.2) := ?_
        · clear h
          by_cases c5 : kdO s7 x9 = 5
          · rw [if_pos c5] at h1
            obtain ⟨b5, er, ka⟩ := kdO_some (by decide) c5
            exact v_callU cok5 (x := ⟨"TermLog$Sum", "told", "(LTermLog$Asked;)I"⟩) (As := [vr v3]) er ka (tX6_told h1) q522 q524 q527 q523 q164 q528 (show DsOk ⟨"TermLog$Sum", "told", "(LTermLog$Asked;)I"⟩ 1 from ⟨by decide, by decide, by decide +kernel⟩) ⟨Nat.le_of_ble_eq_true rfl, Nat.le_of_ble_eq_true rfl⟩ (Nat.le_of_ble_eq_true rfl) dX5_tells_46 rfl kk
          rw [if_neg c5] at h1
          by_cases c8 : kdO s7 x9 = 8
          · rw [if_pos c8] at h1
            obtain ⟨b8, er, ka⟩ := kdO_some (by decide) c8
            exact v_callU cok8 (x := ⟨"TermLog$Sum", "told", "(LTermLog$Asked;)I"⟩) (As := [vr v3]) er ka (tX6_told h1) q522 q524 q526 q523 q164 q528 (show DsOk ⟨"TermLog$Sum", "told", "(LTermLog$Asked;)I"⟩ 1 from ⟨by decide, by decide, by decide +kernel⟩) ⟨Nat.le_of_ble_eq_true rfl, Nat.le_of_ble_eq_true rfl⟩ (Nat.le_of_ble_eq_true rfl) dX5_tells_46 rfl kk
          rw [if_neg c8] at h1
          by_cases c9 : kdO s7 x9 = 9
          · rw [if_pos c9] at h1
            obtain ⟨b9, er, ka⟩ := kdO_some (by decide) c9
            exact v_callU cok9 (x := ⟨"TermLog$Sum", "told", "(LTermLog$Asked;)I"⟩) (As := [vr v3]) er ka (tX6_told h1) q522 q524 q525 q523 q164 q528 (show DsOk ⟨"TermLog$Sum", "told", "(LTermLog$Asked;)I"⟩ 1 from ⟨by decide, by decide, by decide +kernel⟩) ⟨Nat.le_of_ble_eq_true rfl, Nat.le_of_ble_eq_true rfl⟩ (Nat.le_of_ble_eq_true rfl) dX5_tells_46 rfl kk
          rw [if_neg c9] at h1
          cases h1
        exact v_retI h dX5_tells_49 rfl
theorem lX5_tells_3 {E : EE} {G : GG} : ∀ (f : Nat) {v0 : Option Nat} {v1 : Int32} {v2 : Int32} {v3 : Option Nat} {v4 : Int32} {σ : Mem} {z : Int32 × Mem}, sX5_tells_3 f v0 v1 v2 v3 v4 σ = some z → V E mX5_tells G 3 [some (vr v0), some (vi v1), some (vi v2), some (vr v3), some (vi v4)] [] σ (some (vi z.1), z.2)
  | 0, _, _, _, _, _, _, _, h => by cases h
  | f + 1, _, _, _, _, _, _, _, h => lX5_tells_3b (fun _ _ _ _ _ _ _ h => lX5_tells_3 f h) h
theorem lX5_tells {E : EE} {G : GG} {v0 : Option Nat} {v1 : Int32} {v2 : Int32} {v3 : Option Nat} {σ : Mem} {z : Int32 × Mem} (h : sX5_tells v0 v1 v2 v3 σ = some z) : V E mX5_tells G 0 [some (vr v0), some (vi v1), some (vi v2), some (vr v3), none] [] σ (some (vi z.1), z.2) := by
  unfold sX5_tells at h
  refine v_iconst dX5_tells_0 ?_
  refine v_istore (L' := [some (vr v0), some (vi v1), some (vi v2), some (vr v3), some (vi (iI 0))]) dX5_tells_1 (Nat.le_of_ble_eq_true rfl) (Nat.le_of_ble_eq_true rfl) rfl ?_
  exact v_weak (wss (wss (wss (wss (wss wse))))) (lX5_tells_3 FU h)
theorem tX5_tells {E : EE} {l : Launch} {v0 : Option Nat} {v1 : Int32} {v2 : Int32} {v3 : Option Nat} {σ : Mem} {z : Int32 × Mem} (h : sX5_tells v0 v1 v2 v3 σ = some z) : Mt E l mX5_tells [vr v0, vi v1, vi v2, vr v3] σ (some (vi z.1), z.2) :=
  Mt.ofVL (by decide) (Nat.le_of_ble_eq_true rfl) (fun G hG => lX5_tells h)
abbrev mX3_setsTimer : MM := (yX3_setsTimer, cX3_setsTimer, 4, (Option.none : Option Jvm.ClassFile.FieldType), 86, 8136)
theorem dsX3_setsTimer : DsOk yX3_setsTimer 1 := ⟨by decide, by decide, by decide +kernel⟩
theorem lX3_setsTimer {E : EE} {G : GG} {v0 : Option Nat} {v1 : Int32} {σ : Mem} {z : Unit × Mem} (h : sX3_setsTimer v0 v1 σ = some z) : V E mX3_setsTimer G 0 [some (vr v0), some (vi v1), none, none] [] σ (none, z.2) := by
  unfold sX3_setsTimer at h
  refine v_al0 dX3_setsTimer_0 ?_
  obtain ⟨b1, er, ka, h⟩ := cV_some h
  obtain ⟨x1, s2, h1, h⟩ := cl_some h
  refine v_callV1 cok2 (As := []) er ka (tX3_draw h1) (lw_V q469 q471 qs0 q161 q472) rfl dsX3_draw ⟨Nat.le_of_ble_eq_true rfl, Nat.le_of_ble_eq_true rfl⟩ (Nat.le_of_ble_eq_true rfl) dX3_setsTimer_1 rfl ?_
  refine v_istore_n (L' := [some (vr v0), some (vi v1), some (vi x1), none]) dX3_setsTimer_4 (Nat.le_of_ble_eq_true rfl) (Nat.le_of_ble_eq_true rfl) rfl ?_
  refine v_al0 dX3_setsTimer_5 ?_
  refine v_gR cok2 h dX3_setsTimer_6 (by decide) q388 rfl (fun x3 h => ?_)
  refine v_gRN cok0 h dX3_setsTimer_9 (by decide) q536 rfl (fun x4 h => ?_)
  refine v_il1 dX3_setsTimer_12 ?_
  refine v_il1 dX3_setsTimer_13 ?_
  refine v_bipush dX3_setsTimer_14 rfl ?_
  refine v_al0 dX3_setsTimer_16 ?_
  refine v_gR cok2 h dX3_setsTimer_17 (by decide) q359 rfl (fun x5 h => ?_)
  refine v_il1 dX3_setsTimer_20 ?_
  refine v_aR h (by decide) dX3_setsTimer_21 (fun x6 h => ?_)
  refine v_gIN cok3 h dX3_setsTimer_22 (by decide) q269 rfl (fun x7 h => ?_)
  obtain ⟨b25, er, ka, h⟩ := cV_some h
  obtain ⟨x8, s9, h1, h⟩ := cl_some h
  refine v_callV1 cok1 (As := [vi v1, vi v1, vi (iI 6), vi x7]) er ka (tX2_of h1) (lw_V q474 q475 q476 q160 q477) rfl dsX2_of ⟨Nat.le_of_ble_eq_true rfl, Nat.le_of_ble_eq_true rfl⟩ (Nat.le_of_ble_eq_true rfl) dX3_setsTimer_25 rfl ?_
  refine v_al0 dX3_setsTimer_28 ?_
  refine v_gI cok2 h dX3_setsTimer_29 (by decide) q371 rfl (fun x10 h => ?_)
  refine v_al0 dX3_setsTimer_32 ?_
  refine v_gI cok2 h dX3_setsTimer_33 (by decide) q373 rfl (fun x11 h => ?_)
  refine v_il2 dX3_setsTimer_36 ?_
  obtain ⟨b37, er, ka, h⟩ := cV_some h
  obtain ⟨x12, s13, h1, h⟩ := cl_some h
  refine v_callV1 cok1 (As := [vi x10, vi x11, vi x1]) er ka (tX2_on h1) (lw_V q478 q479 q480 q160 q481) rfl dsX2_on ⟨Nat.le_of_ble_eq_true rfl, Nat.le_of_ble_eq_true rfl⟩ (Nat.le_of_ble_eq_true rfl) dX3_setsTimer_37 rfl ?_
  refine v_astore_n (L' := [some (vr v0), some (vi v1), some (vi x1), some (vr x12)]) dX3_setsTimer_40 (Nat.le_of_ble_eq_true rfl) (Nat.le_of_ble_eq_true rfl) rfl ?_
  refine v_al0 dX3_setsTimer_41 ?_
  refine v_gR cok2 h dX3_setsTimer_42 (by decide) q359 rfl (fun x14 h => ?_)
  refine v_il1 dX3_setsTimer_45 ?_
  refine v_aR h (by decide) dX3_setsTimer_46 (fun x15 h => ?_)
  refine v_iconst dX3_setsTimer_47 ?_
  refine v_bipush dX3_setsTimer_48 rfl ?_
  refine v_al0 dX3_setsTimer_50 ?_
  refine v_gR cok2 h dX3_setsTimer_51 (by decide) q388 rfl (fun x16 h => ?_)
  refine v_gRN cok0 h dX3_setsTimer_54 (by decide) q544 rfl (fun x17 h => ?_)
  refine v_bipush dX3_setsTimer_57 rfl ?_
  refine v_bipush dX3_setsTimer_59 rfl ?_
  refine v_al3 dX3_setsTimer_61 ?_
  obtain ⟨b62, er, ka, h⟩ := cV_some h
  obtain ⟨x18, s19, h1, h⟩ := cl_some h
  refine v_callV1 cok4 (As := [vi (iI 101), vi (iI 8), vr x12]) er ka (tX5_tells h1) (lw_V q482 q483 q484 q163 q485) rfl dsX5_tells ⟨Nat.le_of_ble_eq_true rfl, Nat.le_of_ble_eq_true rfl⟩ (Nat.le_of_ble_eq_true rfl) dX3_setsTimer_62 rfl ?_
  refine v_mmin dX3_setsTimer_65 q530 q531 q166 q532 (by decide) (by decide) (Nat.le_of_ble_eq_true rfl) ?_
  refine v_mmax dX3_setsTimer_68 q533 q534 q166 q535 (by decide) (by decide) (Nat.le_of_ble_eq_true rfl) ?_
  refine v_il2 dX3_setsTimer_71 ?_
  refine v_iadd dX3_setsTimer_72 ?_
  refine v_pIN cok3 h dX3_setsTimer_73 (by decide) q292 rfl rfl (fun s20 h => ?_)
  exact v_retV h dX3_setsTimer_76 rfl
theorem tX3_setsTimer {E : EE} {l : Launch} {v0 : Option Nat} {v1 : Int32} {σ : Mem} {z : Unit × Mem} (h : sX3_setsTimer v0 v1 σ = some z) : Mt E l mX3_setsTimer [vr v0, vi v1] σ (none, z.2) :=
  Mt.ofVL (by decide) (Nat.le_of_ble_eq_true rfl) (fun G hG => lX3_setsTimer h)
abbrev mX3_founded : MM := (yX3_founded, cX3_founded, 3, (Option.none : Option Jvm.ClassFile.FieldType), 87, 8159)
theorem dsX3_founded : DsOk yX3_founded 1 := ⟨by decide, by decide, by decide +kernel⟩
theorem lX3_founded_85b {E : EE} {G : GG} {k85 : Option Nat → Int32 → Mem → Option (Unit × Mem)} (hk85 : ∀ (v0 : Option Nat) (v2 : Int32) (s : Mem) (z : Unit × Mem), k85 v0 v2 s = some z → V E mX3_founded G 85 [some (vr v0), none, some (vi v2)] [] s (none, z.2)) {v0 : Option Nat} {v2 : Int32} {σ : Mem} {z : Unit × Mem} (h : sX3_founded_85b k85 v0 v2 σ = some z) : V E mX3_founded G 85 [some (vr v0), none, some (vi v2)] [] σ (none, z.2) := by
  unfold sX3_founded_85b at h
  refine v_il2 dX3_founded_85 ?_
  refine v_bipush dX3_founded_86 rfl ?_
  refine v_icmp_ge (tgt := 102) dX3_founded_88 (by decide) (fun c => ?_) (fun c => ?_)
  · rw [if_pos c] at h
    exact v_retV h dX3_founded_102 rfl
  · rw [if_neg c] at h
    refine v_al0 dX3_founded_91 ?_
    refine v_il2 dX3_founded_92 ?_
    obtain ⟨b93, er, ka, h⟩ := cV_some h
    obtain ⟨_, s1, h1, h⟩ := cl_some h
    refine v_callV0 cok2 (As := [vi v2]) er ka (tX3_setsTimer h1) (lw_V q465 q466 q467 q161 q468) rfl dsX3_setsTimer ⟨Nat.le_of_ble_eq_true rfl, Nat.le_of_ble_eq_true rfl⟩ (Nat.le_of_ble_eq_true rfl) dX3_founded_93 rfl ?_
    refine v_iinc (L' := [some (vr v0), none, some (vi (v2 + iI 1))]) dX3_founded_96 (Nat.le_of_ble_eq_true rfl) rfl rfl ?_
    refine v_goto (tgt := 85) dX3_founded_99 (by decide) ?_
    exact v_weak (wss (wsn (wss wse))) (hk85 _ _ _ _ h)
theorem lX3_founded_85 {E : EE} {G : GG} : ∀ (f : Nat) {v0 : Option Nat} {v2 : Int32} {σ : Mem} {z : Unit × Mem}, sX3_founded_85 f v0 v2 σ = some z → V E mX3_founded G 85 [some (vr v0), none, some (vi v2)] [] σ (none, z.2)
  | 0, _, _, _, _, h => by cases h
  | f + 1, _, _, _, _, h => lX3_founded_85b (fun _ _ _ _ h => lX3_founded_85 f h) h
theorem lX3_founded_54b {E : EE} {G : GG} {k54 : Option Nat → Int32 → Int32 → Mem → Option (Unit × Mem)} (hk54 : ∀ (v0 : Option Nat) (v1 : Int32) (v2 : Int32) (s : Mem) (z : Unit × Mem), k54 v0 v1 v2 s = some z → V E mX3_founded G 54 [some (vr v0), some (vi v1), some (vi v2)] [] s (none, z.2)) {v0 : Option Nat} {v1 : Int32} {v2 : Int32} {σ : Mem} {z : Unit × Mem} (h : sX3_founded_54b k54 v0 v1 v2 σ = some z) : V E mX3_founded G 54 [some (vr v0), some (vi v1), some (vi v2)] [] σ (none, z.2) := by
  unfold sX3_founded_54b at h
  refine v_il2 dX3_founded_54 ?_
  refine v_bipush dX3_founded_55 rfl ?_
  refine v_icmp_ge (tgt := 83) dX3_founded_57 (by decide) (fun c => ?_) (fun c => ?_)
  · rw [if_pos c] at h
    refine v_iconst dX3_founded_83 ?_
    refine v_istore_n (L' := [some (vr v0), some (vi v1), some (vi (iI 0))]) dX3_founded_84 (Nat.le_of_ble_eq_true rfl) (Nat.le_of_ble_eq_true rfl) rfl ?_
    exact v_weak (wss (wsn (wss wse))) (lX3_founded_85 FU h)
  · rw [if_neg c] at h
    refine v_al0 dX3_founded_60 ?_
    refine v_gR cok2 h dX3_founded_61 (by decide) q367 rfl (fun x1 h => ?_)
    refine v_il2 dX3_founded_64 ?_
    refine v_iconst dX3_founded_65 ?_
    refine v_sI h dX3_founded_66 (fun s2 h => ?_)
    refine v_al0 dX3_founded_67 ?_
    refine v_gR cok2 h dX3_founded_68 (by decide) q359 rfl (fun x3 h => ?_)
    refine v_il2 dX3_founded_71 ?_
    refine v_aR h (by decide) dX3_founded_72 (fun x4 h => ?_)
    refine v_il1 dX3_founded_73 ?_
    obtain ⟨b74, er, ka, h⟩ := cV_some h
    obtain ⟨_, s5, h1, h⟩ := cl_some h
    refine v_callV0 cok3 (As := [vi v1]) er ka (tX4_begins h1) (lw_V q457 q458 q459 q162 q460) rfl dsX4_begins ⟨Nat.le_of_ble_eq_true rfl, Nat.le_of_ble_eq_true rfl⟩ (Nat.le_of_ble_eq_true rfl) dX3_founded_74 rfl ?_
    refine v_iinc (L' := [some (vr v0), some (vi v1), some (vi (v2 + iI 1))]) dX3_founded_77 (Nat.le_of_ble_eq_true rfl) rfl rfl ?_
    refine v_goto (tgt := 54) dX3_founded_80 (by decide) ?_
    exact v_weak (wss (wss (wss wse))) (hk54 _ _ _ _ _ h)
theorem lX3_founded_54 {E : EE} {G : GG} : ∀ (f : Nat) {v0 : Option Nat} {v1 : Int32} {v2 : Int32} {σ : Mem} {z : Unit × Mem}, sX3_founded_54 f v0 v1 v2 σ = some z → V E mX3_founded G 54 [some (vr v0), some (vi v1), some (vi v2)] [] σ (none, z.2)
  | 0, _, _, _, _, _, h => by cases h
  | f + 1, _, _, _, _, _, h => lX3_founded_54b (fun _ _ _ _ _ h => lX3_founded_54 f h) h
theorem lX3_founded_32b {E : EE} {G : GG} {k32 : Option Nat → Int32 → Int32 → Mem → Option (Unit × Mem)} (hk32 : ∀ (v0 : Option Nat) (v1 : Int32) (v2 : Int32) (s : Mem) (z : Unit × Mem), k32 v0 v1 v2 s = some z → V E mX3_founded G 32 [some (vr v0), some (vi v1), some (vi v2)] [] s (none, z.2)) {v0 : Option Nat} {v1 : Int32} {v2 : Int32} {σ : Mem} {z : Unit × Mem} (h : sX3_founded_32b k32 v0 v1 v2 σ = some z) : V E mX3_founded G 32 [some (vr v0), some (vi v1), some (vi v2)] [] σ (none, z.2) := by
  unfold sX3_founded_32b at h
  refine v_il2 dX3_founded_32 ?_
  refine v_sipush dX3_founded_33 rfl ?_
  refine v_icmp_ge (tgt := 52) dX3_founded_36 (by decide) (fun c => ?_) (fun c => ?_)
  · rw [if_pos c] at h
    refine v_iconst dX3_founded_52 ?_
    refine v_istore_n (L' := [some (vr v0), some (vi v1), some (vi (iI 0))]) dX3_founded_53 (Nat.le_of_ble_eq_true rfl) (Nat.le_of_ble_eq_true rfl) rfl ?_
    exact v_weak (wss (wss (wss wse))) (lX3_founded_54 FU h)
  · rw [if_neg c] at h
    refine v_al0 dX3_founded_39 ?_
    refine v_gR cok2 h dX3_founded_40 (by decide) q369 rfl (fun x1 h => ?_)
    refine v_il2 dX3_founded_43 ?_
    refine v_iconst dX3_founded_44 ?_
    refine v_sI h dX3_founded_45 (fun s2 h => ?_)
    refine v_iinc (L' := [some (vr v0), some (vi v1), some (vi (v2 + iI 1))]) dX3_founded_46 (Nat.le_of_ble_eq_true rfl) rfl rfl ?_
    refine v_goto (tgt := 32) dX3_founded_49 (by decide) ?_
    exact v_weak (wss (wss (wss wse))) (hk32 _ _ _ _ _ h)
theorem lX3_founded_32 {E : EE} {G : GG} : ∀ (f : Nat) {v0 : Option Nat} {v1 : Int32} {v2 : Int32} {σ : Mem} {z : Unit × Mem}, sX3_founded_32 f v0 v1 v2 σ = some z → V E mX3_founded G 32 [some (vr v0), some (vi v1), some (vi v2)] [] σ (none, z.2)
  | 0, _, _, _, _, _, h => by cases h
  | f + 1, _, _, _, _, _, h => lX3_founded_32b (fun _ _ _ _ _ h => lX3_founded_32 f h) h
theorem lX3_founded {E : EE} {G : GG} {v0 : Option Nat} {v1 : Int32} {σ : Mem} {z : Unit × Mem} (h : sX3_founded v0 v1 σ = some z) : V E mX3_founded G 0 [some (vr v0), some (vi v1), none] [] σ (none, z.2) := by
  unfold sX3_founded at h
  refine v_al0 dX3_founded_0 ?_
  refine v_iconst dX3_founded_1 ?_
  refine v_pI cok2 h dX3_founded_2 (by decide) q371 rfl rfl (fun s1 h => ?_)
  refine v_al0 dX3_founded_5 ?_
  refine v_iconst dX3_founded_6 ?_
  refine v_pI cok2 h dX3_founded_7 (by decide) q373 rfl rfl (fun s2 h => ?_)
  refine v_al0 dX3_founded_10 ?_
  refine v_iconst dX3_founded_11 ?_
  refine v_pI cok2 h dX3_founded_12 (by decide) q377 rfl rfl (fun s3 h => ?_)
  refine v_al0 dX3_founded_15 ?_
  refine v_iconst dX3_founded_16 ?_
  refine v_pI cok2 h dX3_founded_17 (by decide) q379 rfl rfl (fun s4 h => ?_)
  refine v_al0 dX3_founded_20 ?_
  refine v_iconst dX3_founded_21 ?_
  refine v_pI cok2 h dX3_founded_22 (by decide) q381 rfl rfl (fun s5 h => ?_)
  refine v_al0 dX3_founded_25 ?_
  refine v_iconst dX3_founded_26 ?_
  refine v_pI cok2 h dX3_founded_27 (by decide) q385 rfl rfl (fun s6 h => ?_)
  refine v_iconst dX3_founded_30 ?_
  refine v_istore_n (L' := [some (vr v0), some (vi v1), some (vi (iI 0))]) dX3_founded_31 (Nat.le_of_ble_eq_true rfl) (Nat.le_of_ble_eq_true rfl) rfl ?_
  exact v_weak (wss (wss (wss wse))) (lX3_founded_32 FU h)
theorem tX3_founded {E : EE} {l : Launch} {v0 : Option Nat} {v1 : Int32} {σ : Mem} {z : Unit × Mem} (h : sX3_founded v0 v1 σ = some z) : Mt E l mX3_founded [vr v0, vi v1] σ (none, z.2) :=
  Mt.ofVL (by decide) (Nat.le_of_ble_eq_true rfl) (fun G hG => lX3_founded h)
abbrev mX0_init : MM := (yX0_init, cX0_init, 1, (Option.none : Option Jvm.ClassFile.FieldType), 88, 8181)
theorem dsX0_init : DsOk yX0_init 0 := ⟨by decide, by decide, by decide +kernel⟩
theorem lX0_init {E : EE} {G : GG} {v0 : Option Nat} {σ : Mem} {z : Unit × Mem} (h : sX0_init v0 σ = some z) : V E mX0_init G 0 [some (vr v0)] [] σ (none, z.2) := by
  unfold sX0_init at h
  refine v_al0 dX0_init_0 ?_
  obtain ⟨b1, er, h⟩ := cI_some h
  refine v_oI er q187 q188 q189 ⟨by decide, by decide⟩ (Nat.le_of_ble_eq_true rfl) dX0_init_1 ?_
  refine v_al0 dX0_init_4 ?_
  refine v_new cok1 h dX0_init_5 q190 (fun x1 s2 h => ?_)
  refine v_dup dX0_init_8 ?_
  obtain ⟨b9, er, h⟩ := cI_some h
  obtain ⟨_, s3, h1, h⟩ := cl_some h
  refine v_cIN er (As := []) (tX2_init h1) rfl q192 q194 q193 q160 rfl dsX2_init ⟨Nat.le_of_ble_eq_true rfl, Nat.le_of_ble_eq_true rfl⟩ (Nat.le_of_ble_eq_true rfl) dX0_init_9 rfl ?_
  refine v_pRF cok0 h dX0_init_12 (by decide) q537 rfl rfl rfl rfl (fun s4 h => ?_)
  refine v_al0 dX0_init_15 ?_
  refine v_new cok2 h dX0_init_16 q226 (fun x5 s6 h => ?_)
  refine v_dup dX0_init_19 ?_
  refine v_al0 dX0_init_20 ?_
  obtain ⟨b21, er, h⟩ := cI_some h
  obtain ⟨_, s7, h1, h⟩ := cl_some h
  refine v_cI er (As := [vr v0]) (tX3_init h1) rfl q228 q230 q229 q161 rfl dsX3_init ⟨Nat.le_of_ble_eq_true rfl, Nat.le_of_ble_eq_true rfl⟩ (Nat.le_of_ble_eq_true rfl) dX0_init_21 rfl ?_
  refine v_pRF cok0 h dX0_init_24 (by decide) q538 rfl rfl rfl rfl (fun s8 h => ?_)
  refine v_al0 dX0_init_27 ?_
  refine v_new cok2 h dX0_init_28 q226 (fun x9 s10 h => ?_)
  refine v_dup dX0_init_31 ?_
  refine v_al0 dX0_init_32 ?_
  obtain ⟨b33, er, h⟩ := cI_some h
  obtain ⟨_, s11, h1, h⟩ := cl_some h
  refine v_cI er (As := [vr v0]) (tX3_init h1) rfl q228 q230 q229 q161 rfl dsX3_init ⟨Nat.le_of_ble_eq_true rfl, Nat.le_of_ble_eq_true rfl⟩ (Nat.le_of_ble_eq_true rfl) dX0_init_33 rfl ?_
  refine v_pRF cok0 h dX0_init_36 (by decide) q539 rfl rfl rfl rfl (fun s12 h => ?_)
  refine v_al0 dX0_init_39 ?_
  refine v_new cok2 h dX0_init_40 q226 (fun x13 s14 h => ?_)
  refine v_dup dX0_init_43 ?_
  refine v_al0 dX0_init_44 ?_
  obtain ⟨b45, er, h⟩ := cI_some h
  obtain ⟨_, s15, h1, h⟩ := cl_some h
  refine v_cI er (As := [vr v0]) (tX3_init h1) rfl q228 q230 q229 q161 rfl dsX3_init ⟨Nat.le_of_ble_eq_true rfl, Nat.le_of_ble_eq_true rfl⟩ (Nat.le_of_ble_eq_true rfl) dX0_init_45 rfl ?_
  refine v_pRF cok0 h dX0_init_48 (by decide) q540 rfl rfl rfl rfl (fun s16 h => ?_)
  refine v_al0 dX0_init_51 ?_
  refine v_sipush dX0_init_52 rfl ?_
  refine v_newa21 h dX0_init_55 (fun x17 s18 h => ?_)
  refine v_pRF cok0 h dX0_init_57 (by decide) q543 rfl rfl rfl rfl (fun s19 h => ?_)
  refine v_al0 dX0_init_60 ?_
  refine v_new cok4 h dX0_init_61 q424 (fun x20 s21 h => ?_)
  refine v_dup dX0_init_64 ?_
  obtain ⟨b65, er, h⟩ := cI_some h
  obtain ⟨_, s22, h1, h⟩ := cl_some h
  refine v_cIN er (As := []) (tX5_init h1) rfl q426 q428 q427 q163 rfl dsX5_init ⟨Nat.le_of_ble_eq_true rfl, Nat.le_of_ble_eq_true rfl⟩ (Nat.le_of_ble_eq_true rfl) dX0_init_65 rfl ?_
  refine v_pR cok0 h dX0_init_68 (by decide) q545 rfl rfl (fun s23 h => ?_)
  refine v_al0 dX0_init_71 ?_
  refine v_gR cok0 h dX0_init_72 (by decide) q538 rfl (fun x24 h => ?_)
  refine v_iconst dX0_init_75 ?_
  refine v_pIN cok2 h dX0_init_76 (by decide) q376 rfl rfl (fun s25 h => ?_)
  refine v_al0 dX0_init_79 ?_
  refine v_gR cok0 h dX0_init_80 (by decide) q538 rfl (fun x26 h => ?_)
  refine v_bipush dX0_init_83 rfl ?_
  obtain ⟨b85, er, ka, h⟩ := cV_some h
  obtain ⟨_, s27, h1, h⟩ := cl_some h
  refine v_callV0 cok2 (As := [vi (iI 7)]) er ka (tX3_founded h1) (lw_V q453 q454 q455 q161 q456) rfl dsX3_founded ⟨Nat.le_of_ble_eq_true rfl, Nat.le_of_ble_eq_true rfl⟩ (Nat.le_of_ble_eq_true rfl) dX0_init_85 rfl ?_
  exact v_retV h dX0_init_88 rfl
theorem tX0_init {E : EE} {l : Launch} {v0 : Option Nat} {σ : Mem} {z : Unit × Mem} (h : sX0_init v0 σ = some z) : Mt E l mX0_init [vr v0] σ (none, z.2) :=
  Mt.ofVL (by decide) (Nat.le_of_ble_eq_true rfl) (fun G hG => lX0_init h)
abbrev mX0_within : MM := (yX0_within, cX0_within, 3, (Option.some Jvm.ClassFile.FieldType.boolean), 0, 0)
theorem dsX0_within : DsOk yX0_within 3 := ⟨by decide, by decide, by decide +kernel⟩
theorem lX0_within {E : EE} {G : GG} {v0 : Int32} {v1 : Int32} {v2 : Int32} {σ : Mem} {z : Int32 × Mem} (h : sX0_within v0 v1 v2 σ = some z) : V E mX0_within G 0 [some (vi v0), some (vi v1), some (vi v2)] [] σ (some (vi z.1), z.2) := by
  unfold sX0_within at h
  refine v_il0 dX0_within_0 ?_
  refine v_il1 dX0_within_1 ?_
  refine v_icmp_lt (tgt := 14) dX0_within_2 (by decide) (fun c => ?_) (fun c => ?_)
  · rw [if_pos c] at h
    refine v_iconst dX0_within_14 ?_
    exact v_retZ h dX0_within_15 rfl
  · rw [if_neg c] at h
    refine v_il0 dX0_within_5 ?_
    refine v_il2 dX0_within_6 ?_
    refine v_icmp_gt (tgt := 14) dX0_within_7 (by decide) (fun c => ?_) (fun c => ?_)
    · rw [if_pos c] at h
      refine v_iconst dX0_within_14 ?_
      exact v_retZ h dX0_within_15 rfl
    · rw [if_neg c] at h
      refine v_iconst dX0_within_10 ?_
      refine v_goto (tgt := 15) dX0_within_11 (by decide) ?_
      exact v_retZ h dX0_within_15 rfl
theorem tX0_within {E : EE} {l : Launch} {v0 : Int32} {v1 : Int32} {v2 : Int32} {σ : Mem} {z : Int32 × Mem} (h : sX0_within v0 v1 v2 σ = some z) : Mt E l mX0_within [vi v0, vi v1, vi v2] σ (some (vi z.1), z.2) :=
  Mt.ofVL (by decide) (Nat.le_of_ble_eq_true rfl) (fun G hG => lX0_within h)
abbrev mX0_found : MM := (yX0_found, cX0_found, 2, (Option.some Jvm.ClassFile.FieldType.boolean), 88, 8181)
theorem dsX0_found : DsOk yX0_found 1 := ⟨by decide, by decide, by decide +kernel⟩
theorem lX0_found {E : EE} {G : GG} {v0 : Option Nat} {v1 : Int32} {σ : Mem} {z : Int32 × Mem} (h : sX0_found v0 v1 σ = some z) : V E mX0_found G 0 [some (vr v0), some (vi v1)] [] σ (some (vi z.1), z.2) := by
  unfold sX0_found at h
  refine v_il1 dX0_found_0 ?_
  refine v_iconst dX0_found_1 ?_
  refine v_bipush dX0_found_2 rfl ?_
  obtain ⟨x1, s2, h1, h⟩ := cl_some h
  refine v_callS1 (As := [vi v1, vi (iI 1), vi (iI 127)]) (tX0_within h1) (lw_S q572 q573 q158 q574) dsX0_within ⟨Nat.le_of_ble_eq_true rfl, Nat.le_of_ble_eq_true rfl⟩ (Nat.le_of_ble_eq_true rfl) dX0_found_4 rfl ?_
  refine v_if_ne (tgt := 12) dX0_found_7 (by decide) (fun c => ?_) (fun c => ?_)
  · rw [if_neg c] at h
    refine v_al0 dX0_found_12 ?_
    refine v_gR cok0 h dX0_found_13 (by decide) q538 rfl (fun x3 h => ?_)
    refine v_il1 dX0_found_16 ?_
    obtain ⟨b17, er, ka, h⟩ := cV_some h
    obtain ⟨_, s4, h1, h⟩ := cl_some h
    refine v_callV0 cok2 (As := [vi v1]) er ka (tX3_founded h1) (lw_V q453 q454 q455 q161 q456) rfl dsX3_founded ⟨Nat.le_of_ble_eq_true rfl, Nat.le_of_ble_eq_true rfl⟩ (Nat.le_of_ble_eq_true rfl) dX0_found_17 rfl ?_
    refine v_iconst dX0_found_20 ?_
    exact v_retZ h dX0_found_21 rfl
  · rw [if_pos c] at h
    refine v_iconst dX0_found_10 ?_
    exact v_retZ h dX0_found_11 rfl
theorem tX0_found {E : EE} {l : Launch} {v0 : Option Nat} {v1 : Int32} {σ : Mem} {z : Int32 × Mem} (h : sX0_found v0 v1 σ = some z) : Mt E l mX0_found [vr v0, vi v1] σ (some (vi z.1), z.2) :=
  Mt.ofVL (by decide) (Nat.le_of_ble_eq_true rfl) (fun G hG => lX0_found h)
abbrev mX0_in : MM := (yX0_in, cX0_in, 2, (Option.some Jvm.ClassFile.FieldType.boolean), 0, 0)
theorem dsX0_in : DsOk yX0_in 2 := ⟨by decide, by decide, by decide +kernel⟩
theorem lX0_in {E : EE} {G : GG} {v0 : Int32} {v1 : Int32} {σ : Mem} {z : Int32 × Mem} (h : sX0_in v0 v1 σ = some z) : V E mX0_in G 0 [some (vi v0), some (vi v1)] [] σ (some (vi z.1), z.2) := by
  unfold sX0_in at h
  refine v_il0 dX0_in_0 ?_
  refine v_if_lt (tgt := 13) dX0_in_1 (by decide) (fun c => ?_) (fun c => ?_)
  · rw [if_pos c] at h
    refine v_iconst dX0_in_13 ?_
    exact v_retZ h dX0_in_14 rfl
  · rw [if_neg c] at h
    refine v_il0 dX0_in_4 ?_
    refine v_il1 dX0_in_5 ?_
    refine v_icmp_ge (tgt := 13) dX0_in_6 (by decide) (fun c => ?_) (fun c => ?_)
    · rw [if_pos c] at h
      refine v_iconst dX0_in_13 ?_
      exact v_retZ h dX0_in_14 rfl
    · rw [if_neg c] at h
      refine v_iconst dX0_in_9 ?_
      refine v_goto (tgt := 14) dX0_in_10 (by decide) ?_
      exact v_retZ h dX0_in_14 rfl
theorem tX0_in {E : EE} {l : Launch} {v0 : Int32} {v1 : Int32} {σ : Mem} {z : Int32 × Mem} (h : sX0_in v0 v1 σ = some z) : Mt E l mX0_in [vi v0, vi v1] σ (some (vi z.1), z.2) :=
  Mt.ofVL (by decide) (Nat.le_of_ble_eq_true rfl) (fun G hG => lX0_in h)
abbrev mX0_isNode : MM := (yX0_isNode, cX0_isNode, 1, (Option.some Jvm.ClassFile.FieldType.boolean), 1, 21)
theorem dsX0_isNode : DsOk yX0_isNode 1 := ⟨by decide, by decide, by decide +kernel⟩
theorem lX0_isNode {E : EE} {G : GG} {v0 : Int32} {σ : Mem} {z : Int32 × Mem} (h : sX0_isNode v0 σ = some z) : V E mX0_isNode G 0 [some (vi v0)] [] σ (some (vi z.1), z.2) := by
  unfold sX0_isNode at h
  refine v_il0 dX0_isNode_0 ?_
  refine v_bipush dX0_isNode_1 rfl ?_
  obtain ⟨x1, s2, h1, h⟩ := cl_some h
  refine v_callS1 (As := [vi v0, vi (iI 7)]) (tX0_in h1) (lw_S q582 q583 q158 q584) dsX0_in ⟨Nat.le_of_ble_eq_true rfl, Nat.le_of_ble_eq_true rfl⟩ (Nat.le_of_ble_eq_true rfl) dX0_isNode_3 rfl ?_
  exact v_retZ h dX0_isNode_6 rfl
theorem tX0_isNode {E : EE} {l : Launch} {v0 : Int32} {σ : Mem} {z : Int32 × Mem} (h : sX0_isNode v0 σ = some z) : Mt E l mX0_isNode [vi v0] σ (some (vi z.1), z.2) :=
  Mt.ofVL (by decide) (Nat.le_of_ble_eq_true rfl) (fun G hG => lX0_isNode h)
abbrev mX3_losesReads : MM := (yX3_losesReads, cX3_losesReads, 3, (Option.none : Option Jvm.ClassFile.FieldType), 0, 0)
theorem dsX3_losesReads : DsOk yX3_losesReads 1 := ⟨by decide, by decide, by decide +kernel⟩
theorem lX3_losesReads_42 {E : EE} {G : GG} {k2 : Option Nat → Int32 → Int32 → Mem → Option (Unit × Mem)} (hk2 : ∀ (v0 : Option Nat) (v1 : Int32) (v2 : Int32) (s : Mem) (z : Unit × Mem), k2 v0 v1 v2 s = some z → V E mX3_losesReads G 2 [some (vr v0), some (vi v1), some (vi v2)] [] s (none, z.2)) {v0 : Option Nat} {v1 : Int32} {v2 : Int32} {σ : Mem} {z : Unit × Mem} (h : sX3_losesReads_42 k2 v0 v1 v2 σ = some z) : V E mX3_losesReads G 42 [some (vr v0), some (vi v1), some (vi v2)] [] σ (none, z.2) := by
  unfold sX3_losesReads_42 at h
  refine v_iinc (L' := [some (vr v0), some (vi v1), some (vi (v2 + iI 1))]) dX3_losesReads_42 (Nat.le_of_ble_eq_true rfl) rfl rfl ?_
  refine v_goto (tgt := 2) dX3_losesReads_45 (by decide) ?_
  exact v_weak (wss (wss (wss wse))) (hk2 _ _ _ _ _ h)
theorem lX3_losesReads_2b {E : EE} {G : GG} {k2 : Option Nat → Int32 → Int32 → Mem → Option (Unit × Mem)} (hk2 : ∀ (v0 : Option Nat) (v1 : Int32) (v2 : Int32) (s : Mem) (z : Unit × Mem), k2 v0 v1 v2 s = some z → V E mX3_losesReads G 2 [some (vr v0), some (vi v1), some (vi v2)] [] s (none, z.2)) {v0 : Option Nat} {v1 : Int32} {v2 : Int32} {σ : Mem} {z : Unit × Mem} (h : sX3_losesReads_2b k2 v0 v1 v2 σ = some z) : V E mX3_losesReads G 2 [some (vr v0), some (vi v1), some (vi v2)] [] σ (none, z.2) := by
  unfold sX3_losesReads_2b at h
  refine v_il2 dX3_losesReads_2 ?_
  refine v_al0 dX3_losesReads_3 ?_
  refine v_gI cok2 h dX3_losesReads_4 (by decide) q385 rfl (fun x1 h => ?_)
  refine v_icmp_ge (tgt := 48) dX3_losesReads_7 (by decide) (fun c => ?_) (fun c => ?_)
  · rw [if_pos c] at h
    exact v_retV h dX3_losesReads_48 rfl
  · rw [if_neg c] at h
    refine v_al0 dX3_losesReads_10 ?_
    refine v_gR cok2 h dX3_losesReads_11 (by decide) q365 rfl (fun x2 h => ?_)
    refine v_il2 dX3_losesReads_14 ?_
    refine v_aR h (by decide) dX3_losesReads_15 (fun x3 h => ?_)
    refine v_iconst dX3_losesReads_16 ?_
    refine v_aI h dX3_losesReads_17 (fun x4 h => ?_)
    refine v_il1 dX3_losesReads_18 ?_
    refine v_icmp_ne (tgt := 42) dX3_losesReads_19 (by decide) (fun c => ?_) (fun c => ?_)
    · rw [if_neg c] at h
      exact v_weak (wss (wss (wss wse))) (lX3_losesReads_42 hk2 h)
    · rw [if_pos c] at h
      refine v_al0 dX3_losesReads_22 ?_
      refine v_gR cok2 h dX3_losesReads_23 (by decide) q365 rfl (fun x5 h => ?_)
      refine v_il2 dX3_losesReads_26 ?_
      refine v_aR h (by decide) dX3_losesReads_27 (fun x6 h => ?_)
      refine v_iconst dX3_losesReads_28 ?_
      refine v_aI h dX3_losesReads_29 (fun x7 h => ?_)
      refine v_if_ne (tgt := 42) dX3_losesReads_30 (by decide) (fun c => ?_) (fun c => ?_)
      · rw [if_neg c] at h
        exact v_weak (wss (wss (wss wse))) (lX3_losesReads_42 hk2 h)
      · rw [if_pos c] at h
        refine v_al0 dX3_losesReads_33 ?_
        refine v_gR cok2 h dX3_losesReads_34 (by decide) q365 rfl (fun x8 h => ?_)
        refine v_il2 dX3_losesReads_37 ?_
        refine v_aR h (by decide) dX3_losesReads_38 (fun x9 h => ?_)
        refine v_iconst dX3_losesReads_39 ?_
        refine v_iconst dX3_losesReads_40 ?_
        refine v_sI h dX3_losesReads_41 (fun s10 h => ?_)
        exact v_weak (wss (wss (wss wse))) (lX3_losesReads_42 hk2 h)
theorem lX3_losesReads_2 {E : EE} {G : GG} : ∀ (f : Nat) {v0 : Option Nat} {v1 : Int32} {v2 : Int32} {σ : Mem} {z : Unit × Mem}, sX3_losesReads_2 f v0 v1 v2 σ = some z → V E mX3_losesReads G 2 [some (vr v0), some (vi v1), some (vi v2)] [] σ (none, z.2)
  | 0, _, _, _, _, _, h => by cases h
  | f + 1, _, _, _, _, _, h => lX3_losesReads_2b (fun _ _ _ _ _ h => lX3_losesReads_2 f h) h
theorem lX3_losesReads {E : EE} {G : GG} {v0 : Option Nat} {v1 : Int32} {σ : Mem} {z : Unit × Mem} (h : sX3_losesReads v0 v1 σ = some z) : V E mX3_losesReads G 0 [some (vr v0), some (vi v1), none] [] σ (none, z.2) := by
  unfold sX3_losesReads at h
  refine v_iconst dX3_losesReads_0 ?_
  refine v_istore_n (L' := [some (vr v0), some (vi v1), some (vi (iI 0))]) dX3_losesReads_1 (Nat.le_of_ble_eq_true rfl) (Nat.le_of_ble_eq_true rfl) rfl ?_
  exact v_weak (wss (wss (wss wse))) (lX3_losesReads_2 FU h)
theorem tX3_losesReads {E : EE} {l : Launch} {v0 : Option Nat} {v1 : Int32} {σ : Mem} {z : Unit × Mem} (h : sX3_losesReads v0 v1 σ = some z) : Mt E l mX3_losesReads [vr v0, vi v1] σ (none, z.2) :=
  Mt.ofVL (by decide) (Nat.le_of_ble_eq_true rfl) (fun G hG => lX3_losesReads h)
abbrev mX0_crash : MM := (yX0_crash, cX0_crash, 2, (Option.some Jvm.ClassFile.FieldType.boolean), 2, 41)
theorem dsX0_crash : DsOk yX0_crash 1 := ⟨by decide, by decide, by decide +kernel⟩
theorem lX0_crash {E : EE} {G : GG} {v0 : Option Nat} {v1 : Int32} {σ : Mem} {z : Int32 × Mem} (h : sX0_crash v0 v1 σ = some z) : V E mX0_crash G 0 [some (vr v0), some (vi v1)] [] σ (some (vi z.1), z.2) := by
  unfold sX0_crash at h
  refine v_il1 dX0_crash_0 ?_
  obtain ⟨x1, s2, h1, h⟩ := cl_some h
  refine v_callS1 (As := [vi v1]) (tX0_isNode h1) (lw_S q579 q580 q158 q581) dsX0_isNode ⟨Nat.le_of_ble_eq_true rfl, Nat.le_of_ble_eq_true rfl⟩ (Nat.le_of_ble_eq_true rfl) dX0_crash_1 rfl ?_
  refine v_if_eq (tgt := 22) dX0_crash_4 (by decide) (fun c => ?_) (fun c => ?_)
  · rw [if_pos c] at h
    refine v_iconst dX0_crash_22 ?_
    exact v_retZ h dX0_crash_23 rfl
  · rw [if_neg c] at h
    refine v_al0 dX0_crash_7 ?_
    refine v_gR cok0 h dX0_crash_8 (by decide) q538 rfl (fun x3 h => ?_)
    refine v_gRN cok2 h dX0_crash_11 (by decide) q360 rfl (fun x4 h => ?_)
    refine v_il1 dX0_crash_14 ?_
    refine v_aR h (by decide) dX0_crash_15 (fun x5 h => ?_)
    refine v_gIN cok3 h dX0_crash_16 (by decide) q307 rfl (fun x6 h => ?_)
    refine v_if_ne (tgt := 24) dX0_crash_19 (by decide) (fun c => ?_) (fun c => ?_)
    · rw [if_neg c] at h
      refine v_al0 dX0_crash_24 ?_
      refine v_gR cok0 h dX0_crash_25 (by decide) q538 rfl (fun x7 h => ?_)
      refine v_il1 dX0_crash_28 ?_
      obtain ⟨b29, er, ka, h⟩ := cV_some h
      obtain ⟨_, s8, h1, h⟩ := cl_some h
      refine v_callV0 cok2 (As := [vi v1]) er ka (tX3_losesReads h1) (lw_V q585 q586 q587 q161 q588) rfl dsX3_losesReads ⟨Nat.le_of_ble_eq_true rfl, Nat.le_of_ble_eq_true rfl⟩ (Nat.le_of_ble_eq_true rfl) dX0_crash_29 rfl ?_
      refine v_al0 dX0_crash_32 ?_
      refine v_gR cok0 h dX0_crash_33 (by decide) q538 rfl (fun x9 h => ?_)
      refine v_gRN cok2 h dX0_crash_36 (by decide) q360 rfl (fun x10 h => ?_)
      refine v_il1 dX0_crash_39 ?_
      refine v_aR h (by decide) dX0_crash_40 (fun x11 h => ?_)
      refine v_iconst dX0_crash_41 ?_
      refine v_pZN cok3 h dX0_crash_42 (by decide) q307 rfl rfl (fun s12 h => ?_)
      refine v_al0 dX0_crash_45 ?_
      refine v_gR cok0 h dX0_crash_46 (by decide) q538 rfl (fun x13 h => ?_)
      refine v_gRN cok2 h dX0_crash_49 (by decide) q360 rfl (fun x14 h => ?_)
      refine v_il1 dX0_crash_52 ?_
      refine v_aR h (by decide) dX0_crash_53 (fun x15 h => ?_)
      refine v_iconst dX0_crash_54 ?_
      refine v_pIN cok3 h dX0_crash_55 (by decide) q286 rfl rfl (fun s16 h => ?_)
      refine v_iconst dX0_crash_58 ?_
      exact v_retZ h dX0_crash_59 rfl
    · rw [if_pos c] at h
      refine v_iconst dX0_crash_22 ?_
      exact v_retZ h dX0_crash_23 rfl
theorem tX0_crash {E : EE} {l : Launch} {v0 : Option Nat} {v1 : Int32} {σ : Mem} {z : Int32 × Mem} (h : sX0_crash v0 v1 σ = some z) : Mt E l mX0_crash [vr v0, vi v1] σ (some (vi z.1), z.2) :=
  Mt.ofVL (by decide) (Nat.le_of_ble_eq_true rfl) (fun G hG => lX0_crash h)
abbrev mX0_comeUp : MM := (yX0_comeUp, cX0_comeUp, 2, (Option.some Jvm.ClassFile.FieldType.boolean), 87, 8159)
theorem dsX0_comeUp : DsOk yX0_comeUp 1 := ⟨by decide, by decide, by decide +kernel⟩
theorem lX0_comeUp {E : EE} {G : GG} {v0 : Option Nat} {v1 : Int32} {σ : Mem} {z : Int32 × Mem} (h : sX0_comeUp v0 v1 σ = some z) : V E mX0_comeUp G 0 [some (vr v0), some (vi v1)] [] σ (some (vi z.1), z.2) := by
  unfold sX0_comeUp at h
  refine v_il1 dX0_comeUp_0 ?_
  obtain ⟨x1, s2, h1, h⟩ := cl_some h
  refine v_callS1 (As := [vi v1]) (tX0_isNode h1) (lw_S q579 q580 q158 q581) dsX0_isNode ⟨Nat.le_of_ble_eq_true rfl, Nat.le_of_ble_eq_true rfl⟩ (Nat.le_of_ble_eq_true rfl) dX0_comeUp_1 rfl ?_
  refine v_if_eq (tgt := 22) dX0_comeUp_4 (by decide) (fun c => ?_) (fun c => ?_)
  · rw [if_pos c] at h
    refine v_iconst dX0_comeUp_22 ?_
    exact v_retZ h dX0_comeUp_23 rfl
  · rw [if_neg c] at h
    refine v_al0 dX0_comeUp_7 ?_
    refine v_gR cok0 h dX0_comeUp_8 (by decide) q538 rfl (fun x3 h => ?_)
    refine v_gRN cok2 h dX0_comeUp_11 (by decide) q360 rfl (fun x4 h => ?_)
    refine v_il1 dX0_comeUp_14 ?_
    refine v_aR h (by decide) dX0_comeUp_15 (fun x5 h => ?_)
    refine v_gIN cok3 h dX0_comeUp_16 (by decide) q307 rfl (fun x6 h => ?_)
    refine v_if_eq (tgt := 24) dX0_comeUp_19 (by decide) (fun c => ?_) (fun c => ?_)
    · rw [if_pos c] at h
      refine v_al0 dX0_comeUp_24 ?_
      refine v_gR cok0 h dX0_comeUp_25 (by decide) q538 rfl (fun x7 h => ?_)
      refine v_gRN cok2 h dX0_comeUp_28 (by decide) q360 rfl (fun x8 h => ?_)
      refine v_il1 dX0_comeUp_31 ?_
      refine v_aR h (by decide) dX0_comeUp_32 (fun x9 h => ?_)
      obtain ⟨b33, er, ka, h⟩ := cV_some h
      obtain ⟨_, s10, h1, h⟩ := cl_some h
      refine v_callV0 cok3 (As := []) er ka (tX4_comesUp h1) (lw_V q593 q462 q463 q162 q464) rfl dsX4_comesUp ⟨Nat.le_of_ble_eq_true rfl, Nat.le_of_ble_eq_true rfl⟩ (Nat.le_of_ble_eq_true rfl) dX0_comeUp_33 rfl ?_
      refine v_al0 dX0_comeUp_36 ?_
      refine v_gR cok0 h dX0_comeUp_37 (by decide) q538 rfl (fun x11 h => ?_)
      refine v_il1 dX0_comeUp_40 ?_
      obtain ⟨b41, er, ka, h⟩ := cV_some h
      obtain ⟨_, s12, h1, h⟩ := cl_some h
      refine v_callV0 cok2 (As := [vi v1]) er ka (tX3_setsTimer h1) (lw_V q594 q466 q467 q161 q468) rfl dsX3_setsTimer ⟨Nat.le_of_ble_eq_true rfl, Nat.le_of_ble_eq_true rfl⟩ (Nat.le_of_ble_eq_true rfl) dX0_comeUp_41 rfl ?_
      refine v_iconst dX0_comeUp_44 ?_
      exact v_retZ h dX0_comeUp_45 rfl
    · rw [if_neg c] at h
      refine v_iconst dX0_comeUp_22 ?_
      exact v_retZ h dX0_comeUp_23 rfl
theorem tX0_comeUp {E : EE} {l : Launch} {v0 : Option Nat} {v1 : Int32} {σ : Mem} {z : Int32 × Mem} (h : sX0_comeUp v0 v1 σ = some z) : Mt E l mX0_comeUp [vr v0, vi v1] σ (some (vi z.1), z.2) :=
  Mt.ofVL (by decide) (Nat.le_of_ble_eq_true rfl) (fun G hG => lX0_comeUp h)
abbrev mX0_cut : MM := (yX0_cut, cX0_cut, 4, (Option.some Jvm.ClassFile.FieldType.boolean), 2, 41)
theorem dsX0_cut : DsOk yX0_cut 3 := ⟨by decide, by decide, by decide +kernel⟩
theorem lX0_cut_64 {E : EE} {G : GG} {v0 : Option Nat} {v1 : Int32} {v2 : Int32} {v3 : Int32} {t0 : Option Nat} {t1 : Int32} {t2 : Int32} {σ : Mem} {z : Int32 × Mem} (h : sX0_cut_64 v0 v1 v2 v3 t0 t1 t2 σ = some z) : V E mX0_cut G 64 [some (vr v0), some (vi v1), some (vi v2), some (vi v3)] [vi t2, vi t1, vr t0] σ (some (vi z.1), z.2) := by
  unfold sX0_cut_64 at h
  refine v_sI h dX0_cut_64 (fun s1 h => ?_)
  refine v_al0 dX0_cut_65 ?_
  refine v_gR cok0 h dX0_cut_66 (by decide) q538 rfl (fun x2 h => ?_)
  refine v_gRN cok2 h dX0_cut_69 (by decide) q368 rfl (fun x3 h => ?_)
  refine v_il2 dX0_cut_72 ?_
  refine v_il3 dX0_cut_73 ?_
  refine v_if_eq (tgt := 93) dX0_cut_74 (by decide) (fun c => ?_) (fun c => ?_)
  · rw [if_pos c] at h
    refine v_al0 dX0_cut_93 ?_
    refine v_gR cok0 h dX0_cut_94 (by decide) q538 rfl (fun x4 h => ?_)
    refine v_gRN cok2 h dX0_cut_97 (by decide) q368 rfl (fun x5 h => ?_)
    refine v_il2 dX0_cut_100 ?_
    refine v_aI h dX0_cut_101 (fun x6 h => ?_)
    refine v_iconst dX0_cut_102 ?_
    refine v_il1 dX0_cut_103 ?_
    refine v_ishl dX0_cut_104 ?_
    refine v_iconst dX0_cut_105 ?_
    refine v_ixor dX0_cut_106 ?_
    refine v_iand dX0_cut_107 ?_
    refine v_sI h dX0_cut_108 (fun s7 h => ?_)
    refine v_iconst dX0_cut_109 ?_
    exact v_retZ h dX0_cut_110 rfl
  · rw [if_neg c] at h
    refine v_al0 dX0_cut_77 ?_
    refine v_gR cok0 h dX0_cut_78 (by decide) q538 rfl (fun x8 h => ?_)
    refine v_gRN cok2 h dX0_cut_81 (by decide) q368 rfl (fun x9 h => ?_)
    refine v_il2 dX0_cut_84 ?_
    refine v_aI h dX0_cut_85 (fun x10 h => ?_)
    refine v_iconst dX0_cut_86 ?_
    refine v_il1 dX0_cut_87 ?_
    refine v_ishl dX0_cut_88 ?_
    refine v_ior dX0_cut_89 ?_
    refine v_goto (tgt := 108) dX0_cut_90 (by decide) ?_
    refine v_sI h dX0_cut_108 (fun s11 h => ?_)
    refine v_iconst dX0_cut_109 ?_
    exact v_retZ h dX0_cut_110 rfl
theorem lX0_cut {E : EE} {G : GG} {v0 : Option Nat} {v1 : Int32} {v2 : Int32} {v3 : Int32} {σ : Mem} {z : Int32 × Mem} (h : sX0_cut v0 v1 v2 v3 σ = some z) : V E mX0_cut G 0 [some (vr v0), some (vi v1), some (vi v2), some (vi v3)] [] σ (some (vi z.1), z.2) := by
  unfold sX0_cut at h
  refine v_il1 dX0_cut_0 ?_
  obtain ⟨x1, s2, h1, h⟩ := cl_some h
  refine v_callS1 (As := [vi v1]) (tX0_isNode h1) (lw_S q579 q580 q158 q581) dsX0_isNode ⟨Nat.le_of_ble_eq_true rfl, Nat.le_of_ble_eq_true rfl⟩ (Nat.le_of_ble_eq_true rfl) dX0_cut_1 rfl ?_
  refine v_if_eq (tgt := 19) dX0_cut_4 (by decide) (fun c => ?_) (fun c => ?_)
  · rw [if_pos c] at h
    refine v_iconst dX0_cut_19 ?_
    exact v_retZ h dX0_cut_20 rfl
  · rw [if_neg c] at h
    refine v_il2 dX0_cut_7 ?_
    obtain ⟨x3, s4, h1, h⟩ := cl_some h
    refine v_callS1 (As := [vi v2]) (tX0_isNode h1) (lw_S q579 q580 q158 q581) dsX0_isNode ⟨Nat.le_of_ble_eq_true rfl, Nat.le_of_ble_eq_true rfl⟩ (Nat.le_of_ble_eq_true rfl) dX0_cut_8 rfl ?_
    refine v_if_eq (tgt := 19) dX0_cut_11 (by decide) (fun c => ?_) (fun c => ?_)
    · rw [if_pos c] at h
      refine v_iconst dX0_cut_19 ?_
      exact v_retZ h dX0_cut_20 rfl
    · rw [if_neg c] at h
      refine v_il1 dX0_cut_14 ?_
      refine v_il2 dX0_cut_15 ?_
      refine v_icmp_ne (tgt := 21) dX0_cut_16 (by decide) (fun c => ?_) (fun c => ?_)
      · rw [if_neg c] at h
        refine v_al0 dX0_cut_21 ?_
        refine v_gR cok0 h dX0_cut_22 (by decide) q538 rfl (fun x5 h => ?_)
        refine v_gRN cok2 h dX0_cut_25 (by decide) q368 rfl (fun x6 h => ?_)
        refine v_il1 dX0_cut_28 ?_
        refine v_il3 dX0_cut_29 ?_
        refine v_if_eq (tgt := 49) dX0_cut_30 (by decide) (fun c => ?_) (fun c => ?_)
        · rw [if_pos c] at h
          refine v_al0 dX0_cut_49 ?_
          refine v_gR cok0 h dX0_cut_50 (by decide) q538 rfl (fun x7 h => ?_)
          refine v_gRN cok2 h dX0_cut_53 (by decide) q368 rfl (fun x8 h => ?_)
          refine v_il1 dX0_cut_56 ?_
          refine v_aI h dX0_cut_57 (fun x9 h => ?_)
          refine v_iconst dX0_cut_58 ?_
          refine v_il2 dX0_cut_59 ?_
          refine v_ishl dX0_cut_60 ?_
          refine v_iconst dX0_cut_61 ?_
          refine v_ixor dX0_cut_62 ?_
          refine v_iand dX0_cut_63 ?_
          exact v_weak (wss (wss (wss (wss wse)))) (lX0_cut_64 h)
        · rw [if_neg c] at h
          refine v_al0 dX0_cut_33 ?_
          refine v_gR cok0 h dX0_cut_34 (by decide) q538 rfl (fun x10 h => ?_)
          refine v_gRN cok2 h dX0_cut_37 (by decide) q368 rfl (fun x11 h => ?_)
          refine v_il1 dX0_cut_40 ?_
          refine v_aI h dX0_cut_41 (fun x12 h => ?_)
          refine v_iconst dX0_cut_42 ?_
          refine v_il2 dX0_cut_43 ?_
          refine v_ishl dX0_cut_44 ?_
          refine v_ior dX0_cut_45 ?_
          refine v_goto (tgt := 64) dX0_cut_46 (by decide) ?_
          exact v_weak (wss (wss (wss (wss wse)))) (lX0_cut_64 h)
      · rw [if_pos c] at h
        refine v_iconst dX0_cut_19 ?_
        exact v_retZ h dX0_cut_20 rfl
theorem tX0_cut {E : EE} {l : Launch} {v0 : Option Nat} {v1 : Int32} {v2 : Int32} {v3 : Int32} {σ : Mem} {z : Int32 × Mem} (h : sX0_cut v0 v1 v2 v3 σ = some z) : Mt E l mX0_cut [vr v0, vi v1, vi v2, vi v3] σ (some (vi z.1), z.2) :=
  Mt.ofVL (by decide) (Nat.le_of_ble_eq_true rfl) (fun G hG => lX0_cut h)
abbrev mX0_compact : MM := (yX0_compact, cX0_compact, 2, (Option.some Jvm.ClassFile.FieldType.boolean), 3, 67)
theorem dsX0_compact : DsOk yX0_compact 1 := ⟨by decide, by decide, by decide +kernel⟩
theorem lX0_compact {E : EE} {G : GG} {v0 : Option Nat} {v1 : Int32} {σ : Mem} {z : Int32 × Mem} (h : sX0_compact v0 v1 σ = some z) : V E mX0_compact G 0 [some (vr v0), some (vi v1)] [] σ (some (vi z.1), z.2) := by
  unfold sX0_compact at h
  refine v_il1 dX0_compact_0 ?_
  obtain ⟨x1, s2, h1, h⟩ := cl_some h
  refine v_callS1 (As := [vi v1]) (tX0_isNode h1) (lw_S q579 q580 q158 q581) dsX0_isNode ⟨Nat.le_of_ble_eq_true rfl, Nat.le_of_ble_eq_true rfl⟩ (Nat.le_of_ble_eq_true rfl) dX0_compact_1 rfl ?_
  refine v_if_eq (tgt := 49) dX0_compact_4 (by decide) (fun c => ?_) (fun c => ?_)
  · rw [if_pos c] at h
    refine v_iconst dX0_compact_49 ?_
    exact v_retZ h dX0_compact_50 rfl
  · rw [if_neg c] at h
    refine v_al0 dX0_compact_7 ?_
    refine v_gR cok0 h dX0_compact_8 (by decide) q538 rfl (fun x3 h => ?_)
    refine v_gRN cok2 h dX0_compact_11 (by decide) q360 rfl (fun x4 h => ?_)
    refine v_il1 dX0_compact_14 ?_
    refine v_aR h (by decide) dX0_compact_15 (fun x5 h => ?_)
    refine v_gIN cok3 h dX0_compact_16 (by decide) q307 rfl (fun x6 h => ?_)
    refine v_if_eq (tgt := 49) dX0_compact_19 (by decide) (fun c => ?_) (fun c => ?_)
    · rw [if_pos c] at h
      refine v_iconst dX0_compact_49 ?_
      exact v_retZ h dX0_compact_50 rfl
    · rw [if_neg c] at h
      refine v_al0 dX0_compact_22 ?_
      refine v_gR cok0 h dX0_compact_23 (by decide) q538 rfl (fun x7 h => ?_)
      refine v_gRN cok2 h dX0_compact_26 (by decide) q360 rfl (fun x8 h => ?_)
      refine v_il1 dX0_compact_29 ?_
      refine v_aR h (by decide) dX0_compact_30 (fun x9 h => ?_)
      refine v_gIN cok3 h dX0_compact_31 (by decide) q290 rfl (fun x10 h => ?_)
      refine v_al0 dX0_compact_34 ?_
      refine v_gR cok0 h dX0_compact_35 (by decide) q538 rfl (fun x11 h => ?_)
      refine v_gRN cok2 h dX0_compact_38 (by decide) q360 rfl (fun x12 h => ?_)
      refine v_il1 dX0_compact_41 ?_
      refine v_aR h (by decide) dX0_compact_42 (fun x13 h => ?_)
      refine v_gIN cok3 h dX0_compact_43 (by decide) q276 rfl (fun x14 h => ?_)
      refine v_icmp_ne (tgt := 51) dX0_compact_46 (by decide) (fun c => ?_) (fun c => ?_)
      · rw [if_neg c] at h
        refine v_al0 dX0_compact_51 ?_
        refine v_gR cok0 h dX0_compact_52 (by decide) q538 rfl (fun x15 h => ?_)
        refine v_gRN cok2 h dX0_compact_55 (by decide) q360 rfl (fun x16 h => ?_)
        refine v_il1 dX0_compact_58 ?_
        refine v_aR h (by decide) dX0_compact_59 (fun x17 h => ?_)
        obtain ⟨b60, er, ka, h⟩ := cV_some h
        obtain ⟨_, s18, h1, h⟩ := cl_some h
        refine v_callV0 cok3 (As := []) er ka (tX4_compacts h1) (lw_V q603 q604 q605 q162 q606) rfl dsX4_compacts ⟨Nat.le_of_ble_eq_true rfl, Nat.le_of_ble_eq_true rfl⟩ (Nat.le_of_ble_eq_true rfl) dX0_compact_60 rfl ?_
        refine v_iconst dX0_compact_63 ?_
        exact v_retZ h dX0_compact_64 rfl
      · rw [if_pos c] at h
        refine v_iconst dX0_compact_49 ?_
        exact v_retZ h dX0_compact_50 rfl
theorem tX0_compact {E : EE} {l : Launch} {v0 : Option Nat} {v1 : Int32} {σ : Mem} {z : Int32 × Mem} (h : sX0_compact v0 v1 σ = some z) : Mt E l mX0_compact [vr v0, vi v1] σ (some (vi z.1), z.2) :=
  Mt.ofVL (by decide) (Nat.le_of_ble_eq_true rfl) (fun G hG => lX0_compact h)
abbrev mX3_isLeader : MM := (yX3_isLeader, cX3_isLeader, 2, (Option.some Jvm.ClassFile.FieldType.boolean), 0, 0)
theorem dsX3_isLeader : DsOk yX3_isLeader 1 := ⟨by decide, by decide, by decide +kernel⟩
theorem lX3_isLeader {E : EE} {G : GG} {v0 : Option Nat} {v1 : Int32} {σ : Mem} {z : Int32 × Mem} (h : sX3_isLeader v0 v1 σ = some z) : V E mX3_isLeader G 0 [some (vr v0), some (vi v1)] [] σ (some (vi z.1), z.2) := by
  unfold sX3_isLeader at h
  refine v_al0 dX3_isLeader_0 ?_
  refine v_gR cok2 h dX3_isLeader_1 (by decide) q359 rfl (fun x1 h => ?_)
  refine v_il1 dX3_isLeader_4 ?_
  refine v_aR h (by decide) dX3_isLeader_5 (fun x2 h => ?_)
  refine v_gIN cok3 h dX3_isLeader_6 (by decide) q308 rfl (fun x3 h => ?_)
  refine v_if_eq (tgt := 29) dX3_isLeader_9 (by decide) (fun c => ?_) (fun c => ?_)
  · rw [if_pos c] at h
    refine v_iconst dX3_isLeader_29 ?_
    exact v_retZ h dX3_isLeader_30 rfl
  · rw [if_neg c] at h
    refine v_al0 dX3_isLeader_12 ?_
    refine v_gR cok2 h dX3_isLeader_13 (by decide) q359 rfl (fun x4 h => ?_)
    refine v_il1 dX3_isLeader_16 ?_
    refine v_aR h (by decide) dX3_isLeader_17 (fun x5 h => ?_)
    refine v_gIN cok3 h dX3_isLeader_18 (by decide) q287 rfl (fun x6 h => ?_)
    refine v_iconst dX3_isLeader_21 ?_
    refine v_icmp_ne (tgt := 29) dX3_isLeader_22 (by decide) (fun c => ?_) (fun c => ?_)
    · rw [if_neg c] at h
      refine v_iconst dX3_isLeader_29 ?_
      exact v_retZ h dX3_isLeader_30 rfl
    · rw [if_pos c] at h
      refine v_iconst dX3_isLeader_25 ?_
      refine v_goto (tgt := 30) dX3_isLeader_26 (by decide) ?_
      exact v_retZ h dX3_isLeader_30 rfl
theorem tX3_isLeader {E : EE} {l : Launch} {v0 : Option Nat} {v1 : Int32} {σ : Mem} {z : Int32 × Mem} (h : sX3_isLeader v0 v1 σ = some z) : Mt E l mX3_isLeader [vr v0, vi v1] σ (some (vi z.1), z.2) :=
  Mt.ofVL (by decide) (Nat.le_of_ble_eq_true rfl) (fun G hG => lX3_isLeader h)
abbrev mX3_isFull : MM := (yX3_isFull, cX3_isFull, 2, (Option.some Jvm.ClassFile.FieldType.boolean), 1, 20)
theorem dsX3_isFull : DsOk yX3_isFull 1 := ⟨by decide, by decide, by decide +kernel⟩
theorem lX3_isFull {E : EE} {G : GG} {v0 : Option Nat} {v1 : Int32} {σ : Mem} {z : Int32 × Mem} (h : sX3_isFull v0 v1 σ = some z) : V E mX3_isFull G 0 [some (vr v0), some (vi v1)] [] σ (some (vi z.1), z.2) := by
  unfold sX3_isFull at h
  refine v_al0 dX3_isFull_0 ?_
  refine v_gR cok2 h dX3_isFull_1 (by decide) q359 rfl (fun x1 h => ?_)
  refine v_il1 dX3_isFull_4 ?_
  refine v_aR h (by decide) dX3_isFull_5 (fun x2 h => ?_)
  refine v_gIN cok3 h dX3_isFull_6 (by decide) q284 rfl (fun x3 h => ?_)
  refine v_bipush dX3_isFull_9 rfl ?_
  refine v_icmp_ge (tgt := 29) dX3_isFull_11 (by decide) (fun c => ?_) (fun c => ?_)
  · rw [if_pos c] at h
    refine v_iconst dX3_isFull_29 ?_
    refine v_goto (tgt := 34) dX3_isFull_30 (by decide) ?_
    exact v_retZ h dX3_isFull_34 rfl
  · rw [if_neg c] at h
    refine v_al0 dX3_isFull_14 ?_
    refine v_gR cok2 h dX3_isFull_15 (by decide) q359 rfl (fun x4 h => ?_)
    refine v_il1 dX3_isFull_18 ?_
    refine v_aR h (by decide) dX3_isFull_19 (fun x5 h => ?_)
    obtain ⟨b20, er, ka, h⟩ := cV_some h
    obtain ⟨x6, s7, h1, h⟩ := cl_some h
    refine v_callV1 cok3 (As := []) er ka (tX4_last h1) (lw_V q643 q644 q645 q162 q646) rfl dsX4_last ⟨Nat.le_of_ble_eq_true rfl, Nat.le_of_ble_eq_true rfl⟩ (Nat.le_of_ble_eq_true rfl) dX3_isFull_20 rfl ?_
    refine v_sipush dX3_isFull_23 rfl ?_
    refine v_icmp_ne (tgt := 33) dX3_isFull_26 (by decide) (fun c => ?_) (fun c => ?_)
    · rw [if_neg c] at h
      refine v_iconst dX3_isFull_33 ?_
      exact v_retZ h dX3_isFull_34 rfl
    · rw [if_pos c] at h
      refine v_iconst dX3_isFull_29 ?_
      refine v_goto (tgt := 34) dX3_isFull_30 (by decide) ?_
      exact v_retZ h dX3_isFull_34 rfl
theorem tX3_isFull {E : EE} {l : Launch} {v0 : Option Nat} {v1 : Int32} {σ : Mem} {z : Int32 × Mem} (h : sX3_isFull v0 v1 σ = some z) : Mt E l mX3_isFull [vr v0, vi v1] σ (some (vi z.1), z.2) :=
  Mt.ofVL (by decide) (Nat.le_of_ble_eq_true rfl) (fun G hG => lX3_isFull h)
abbrev mX0_has : MM := (yX0_has, cX0_has, 2, (Option.some Jvm.ClassFile.FieldType.boolean), 0, 0)
theorem dsX0_has : DsOk yX0_has 2 := ⟨by decide, by decide, by decide +kernel⟩
theorem lX0_has {E : EE} {G : GG} {v0 : Int32} {v1 : Int32} {σ : Mem} {z : Int32 × Mem} (h : sX0_has v0 v1 σ = some z) : V E mX0_has G 0 [some (vi v0), some (vi v1)] [] σ (some (vi z.1), z.2) := by
  unfold sX0_has at h
  refine v_il0 dX0_has_0 ?_
  refine v_il1 dX0_has_1 ?_
  refine v_ishr dX0_has_2 ?_
  refine v_iconst dX0_has_3 ?_
  refine v_iand dX0_has_4 ?_
  refine v_iconst dX0_has_5 ?_
  refine v_icmp_ne (tgt := 13) dX0_has_6 (by decide) (fun c => ?_) (fun c => ?_)
  · rw [if_neg c] at h
    refine v_iconst dX0_has_13 ?_
    exact v_retZ h dX0_has_14 rfl
  · rw [if_pos c] at h
    refine v_iconst dX0_has_9 ?_
    refine v_goto (tgt := 14) dX0_has_10 (by decide) ?_
    exact v_retZ h dX0_has_14 rfl
theorem tX0_has {E : EE} {l : Launch} {v0 : Int32} {v1 : Int32} {σ : Mem} {z : Int32 × Mem} (h : sX0_has v0 v1 σ = some z) : Mt E l mX0_has [vi v0, vi v1] σ (some (vi z.1), z.2) :=
  Mt.ofVL (by decide) (Nat.le_of_ble_eq_true rfl) (fun G hG => lX0_has h)
abbrev mX3_writes : MM := (yX3_writes, cX3_writes, 8, (Option.some (Jvm.ClassFile.FieldType.array Jvm.ClassFile.FieldType.int)), 0, 0)
theorem dsX3_writes : DsOk yX3_writes 7 := ⟨by decide, by decide, by decide +kernel⟩
theorem lX3_writes {E : EE} {G : GG} {v0 : Option Nat} {v1 : Int32} {v2 : Int32} {v3 : Int32} {v4 : Int32} {v5 : Int32} {v6 : Int32} {v7 : Int32} {σ : Mem} {z : Option Nat × Mem} (h : sX3_writes v0 v1 v2 v3 v4 v5 v6 v7 σ = some z) : V E mX3_writes G 0 [some (vr v0), some (vi v1), some (vi v2), some (vi v3), some (vi v4), some (vi v5), some (vi v6), some (vi v7)] [] σ (some (vr z.1), z.2) := by
  unfold sX3_writes at h
  refine v_al0 dX3_writes_0 ?_
  refine v_gR cok2 h dX3_writes_1 (by decide) q370 rfl (fun x1 h => ?_)
  refine v_iconst dX3_writes_4 ?_
  refine v_il1 dX3_writes_5 ?_
  refine v_sI h dX3_writes_6 (fun s2 h => ?_)
  refine v_al0 dX3_writes_7 ?_
  refine v_gR cok2 h dX3_writes_8 (by decide) q370 rfl (fun x3 h => ?_)
  refine v_iconst dX3_writes_11 ?_
  refine v_il2 dX3_writes_12 ?_
  refine v_sI h dX3_writes_13 (fun s4 h => ?_)
  refine v_al0 dX3_writes_14 ?_
  refine v_gR cok2 h dX3_writes_15 (by decide) q370 rfl (fun x5 h => ?_)
  refine v_iconst dX3_writes_18 ?_
  refine v_il3 dX3_writes_19 ?_
  refine v_sI h dX3_writes_20 (fun s6 h => ?_)
  refine v_al0 dX3_writes_21 ?_
  refine v_gR cok2 h dX3_writes_22 (by decide) q370 rfl (fun x7 h => ?_)
  refine v_iconst dX3_writes_25 ?_
  refine v_al0 dX3_writes_26 ?_
  refine v_gR cok2 h dX3_writes_27 (by decide) q359 rfl (fun x8 h => ?_)
  refine v_il1 dX3_writes_30 ?_
  refine v_aR h (by decide) dX3_writes_31 (fun x9 h => ?_)
  refine v_gIN cok3 h dX3_writes_32 (by decide) q269 rfl (fun x10 h => ?_)
  refine v_sI h dX3_writes_35 (fun s11 h => ?_)
  refine v_al0 dX3_writes_36 ?_
  refine v_gR cok2 h dX3_writes_37 (by decide) q370 rfl (fun x12 h => ?_)
  refine v_iconst dX3_writes_40 ?_
  refine v_iload dX3_writes_41 rfl ?_
  refine v_sI h dX3_writes_43 (fun s13 h => ?_)
  refine v_al0 dX3_writes_44 ?_
  refine v_gR cok2 h dX3_writes_45 (by decide) q370 rfl (fun x14 h => ?_)
  refine v_bipush dX3_writes_48 rfl ?_
  refine v_iload dX3_writes_50 rfl ?_
  refine v_sI h dX3_writes_52 (fun s15 h => ?_)
  refine v_al0 dX3_writes_53 ?_
  refine v_gR cok2 h dX3_writes_54 (by decide) q370 rfl (fun x16 h => ?_)
  refine v_bipush dX3_writes_57 rfl ?_
  refine v_iload dX3_writes_59 rfl ?_
  refine v_sI h dX3_writes_61 (fun s17 h => ?_)
  refine v_al0 dX3_writes_62 ?_
  refine v_gR cok2 h dX3_writes_63 (by decide) q370 rfl (fun x18 h => ?_)
  refine v_bipush dX3_writes_66 rfl ?_
  refine v_iload dX3_writes_68 rfl ?_
  refine v_sI h dX3_writes_70 (fun s19 h => ?_)
  refine v_al0 dX3_writes_71 ?_
  refine v_gR cok2 h dX3_writes_72 (by decide) q370 rfl (fun x20 h => ?_)
  refine v_bipush dX3_writes_75 rfl ?_
  refine v_iconst dX3_writes_77 ?_
  refine v_sI h dX3_writes_78 (fun s21 h => ?_)
  refine v_al0 dX3_writes_79 ?_
  refine v_gR cok2 h dX3_writes_80 (by decide) q370 rfl (fun x22 h => ?_)
  exact v_retR h dX3_writes_83 rfl (Or.inr ⟨_, rfl⟩)
theorem tX3_writes {E : EE} {l : Launch} {v0 : Option Nat} {v1 : Int32} {v2 : Int32} {v3 : Int32} {v4 : Int32} {v5 : Int32} {v6 : Int32} {v7 : Int32} {σ : Mem} {z : Option Nat × Mem} (h : sX3_writes v0 v1 v2 v3 v4 v5 v6 v7 σ = some z) : Mt E l mX3_writes [vr v0, vi v1, vi v2, vi v3, vi v4, vi v5, vi v6, vi v7] σ (some (vr z.1), z.2) :=
  Mt.ofVL (by decide) (Nat.le_of_ble_eq_true rfl) (fun G hG => lX3_writes h)
abbrev mX5_says : MM := (yX5_says, cX5_says, 4, (Option.some Jvm.ClassFile.FieldType.boolean), 85, 8112)
theorem dsX5_says : DsOk yX5_says 2 := ⟨by decide, by decide, by decide +kernel⟩
theorem lX5_says_36 {E : EE} {G : GG} {k2 : Option Nat → Int32 → Option Nat → Int32 → Mem → Option (Int32 × Mem)} (hk2 : ∀ (v0 : Option Nat) (v1 : Int32) (v2 : Option Nat) (v3 : Int32) (s : Mem) (z : Int32 × Mem), k2 v0 v1 v2 v3 s = some z → V E mX5_says G 2 [some (vr v0), some (vi v1), some (vr v2), some (vi v3)] [] s (some (vi z.1), z.2)) {v0 : Option Nat} {v1 : Int32} {v2 : Option Nat} {v3 : Int32} {σ : Mem} {z : Int32 × Mem} (h : sX5_says_36 k2 v0 v1 v2 v3 σ = some z) : V E mX5_says G 36 [some (vr v0), some (vi v1), some (vr v2), some (vi v3)] [] σ (some (vi z.1), z.2) := by
  unfold sX5_says_36 at h
  refine v_iinc (L' := [some (vr v0), some (vi v1), some (vr v2), some (vi (v3 + iI 1))]) dX5_says_36 (Nat.le_of_ble_eq_true rfl) rfl rfl ?_
  refine v_goto (tgt := 2) dX5_says_39 (by decide) ?_
  exact v_weak (wss (wss (wss (wss wse)))) (hk2 _ _ _ _ _ _ h)
theorem lX5_says_2b {E : EE} {G : GG} {k2 : Option Nat → Int32 → Option Nat → Int32 → Mem → Option (Int32 × Mem)} (hk2 : ∀ (v0 : Option Nat) (v1 : Int32) (v2 : Option Nat) (v3 : Int32) (s : Mem) (z : Int32 × Mem), k2 v0 v1 v2 v3 s = some z → V E mX5_says G 2 [some (vr v0), some (vi v1), some (vr v2), some (vi v3)] [] s (some (vi z.1), z.2)) {v0 : Option Nat} {v1 : Int32} {v2 : Option Nat} {v3 : Int32} {σ : Mem} {z : Int32 × Mem} (h : sX5_says_2b k2 v0 v1 v2 v3 σ = some z) : V E mX5_says G 2 [some (vr v0), some (vi v1), some (vr v2), some (vi v3)] [] σ (some (vi z.1), z.2) := by
  unfold sX5_says_2b at h
  refine v_il3 dX5_says_2 ?_
  refine v_al0 dX5_says_3 ?_
  refine v_gI cok4 h dX5_says_4 (by decide) q440 rfl (fun x1 h => ?_)
  refine v_icmp_ge (tgt := 42) dX5_says_7 (by decide) (fun c => ?_) (fun c => ?_)
  · rw [if_pos c] at h
    refine v_iconst dX5_says_42 ?_
    exact v_retZ h dX5_says_43 rfl
  · rw [if_neg c] at h
    refine v_al0 dX5_says_10 ?_
    refine v_gR cok4 h dX5_says_11 (by decide) q434 rfl (fun x2 h => ?_)
    refine v_il3 dX5_says_14 ?_
    refine v_aI h dX5_says_15 (fun x3 h => ?_)
    refine v_il1 dX5_says_16 ?_
    refine v_icmp_ne (tgt := 36) dX5_says_17 (by decide) (fun c => ?_) (fun c => ?_)
    · rw [if_neg c] at h
      exact v_weak (wss (wss (wss (wss wse)))) (lX5_says_36 hk2 h)
    · rw [if_pos c] at h
      refine v_al0 dX5_says_20 ?_
      refine v_gR cok4 h dX5_says_21 (by decide) q438 rfl (fun x4 h => ?_)
      refine v_il3 dX5_says_24 ?_
      refine v_aR h (by decide) dX5_says_25 (fun x5 h => ?_)
      refine v_al2 dX5_says_26 ?_
      obtain ⟨x6, s7, h1, h⟩ := cl_some h
      have kk : V E mX5_says G 30 [some (vr v0), some (vi v1), some (vr v2), some (vi v3)] [vi x6] s7 (some (vi z.1), z.2) := ?_
      · clear h
        by_cases c10 : kdO σ x5 = 10
        · rw [if_pos c10] at h1
          obtain ⟨b10, er, ka⟩ := kdO_some (by decide) c10
          exact v_callA cok10 (x := ⟨"TermLog$Condition", "holds", "(LTermLog$Asked;)I"⟩) (As := [vr v2]) er ka (tX13_holds 40 h1) q486 q488 q521 q518 q178 q519 q487 (show DsOk ⟨"TermLog$Condition", "holds", "(LTermLog$Asked;)I"⟩ 1 from ⟨by decide, by decide, by decide +kernel⟩) ⟨Nat.le_of_ble_eq_true rfl, Nat.le_of_ble_eq_true rfl⟩ (Nat.le_of_ble_eq_true rfl) dX5_says_27 rfl kk
        rw [if_neg c10] at h1
        by_cases c11 : kdO σ x5 = 11
        · rw [if_pos c11] at h1
          obtain ⟨b11, er, ka⟩ := kdO_some (by decide) c11
          exact v_callA cok11 (x := ⟨"TermLog$Condition", "holds", "(LTermLog$Asked;)I"⟩) (As := [vr v2]) er ka (tX14_holds 40 h1) q486 q488 q514 q515 q179 q516 q487 (show DsOk ⟨"TermLog$Condition", "holds", "(LTermLog$Asked;)I"⟩ 1 from ⟨by decide, by decide, by decide +kernel⟩) ⟨Nat.le_of_ble_eq_true rfl, Nat.le_of_ble_eq_true rfl⟩ (Nat.le_of_ble_eq_true rfl) dX5_says_27 rfl kk
        rw [if_neg c11] at h1
        by_cases c12 : kdO σ x5 = 12
        · rw [if_pos c12] at h1
          obtain ⟨b12, er, ka⟩ := kdO_some (by decide) c12
          exact v_callA cok12 (x := ⟨"TermLog$Condition", "holds", "(LTermLog$Asked;)I"⟩) (As := [vr v2]) er ka (tX15_holds h1) q486 q488 q489 q490 q180 q491 q487 (show DsOk ⟨"TermLog$Condition", "holds", "(LTermLog$Asked;)I"⟩ 1 from ⟨by decide, by decide, by decide +kernel⟩) ⟨Nat.le_of_ble_eq_true rfl, Nat.le_of_ble_eq_true rfl⟩ (Nat.le_of_ble_eq_true rfl) dX5_says_27 rfl kk
        rw [if_neg c12] at h1
        cases h1
      refine v_iconst dX5_says_30 ?_
      refine v_icmp_ne (tgt := 36) dX5_says_31 (by decide) (fun c => ?_) (fun c => ?_)
      · rw [if_neg c] at h
        exact v_weak (wss (wss (wss (wss wse)))) (lX5_says_36 hk2 h)
      · rw [if_pos c] at h
        refine v_iconst dX5_says_34 ?_
        exact v_retZ h dX5_says_35 rfl
theorem lX5_says_2 {E : EE} {G : GG} : ∀ (f : Nat) {v0 : Option Nat} {v1 : Int32} {v2 : Option Nat} {v3 : Int32} {σ : Mem} {z : Int32 × Mem}, sX5_says_2 f v0 v1 v2 v3 σ = some z → V E mX5_says G 2 [some (vr v0), some (vi v1), some (vr v2), some (vi v3)] [] σ (some (vi z.1), z.2)
  | 0, _, _, _, _, _, _, h => by cases h
  | f + 1, _, _, _, _, _, _, h => lX5_says_2b (fun _ _ _ _ _ _ h => lX5_says_2 f h) h
theorem lX5_says {E : EE} {G : GG} {v0 : Option Nat} {v1 : Int32} {v2 : Option Nat} {σ : Mem} {z : Int32 × Mem} (h : sX5_says v0 v1 v2 σ = some z) : V E mX5_says G 0 [some (vr v0), some (vi v1), some (vr v2), none] [] σ (some (vi z.1), z.2) := by
  unfold sX5_says at h
  refine v_iconst dX5_says_0 ?_
  refine v_istore_n (L' := [some (vr v0), some (vi v1), some (vr v2), some (vi (iI 0))]) dX5_says_1 (Nat.le_of_ble_eq_true rfl) (Nat.le_of_ble_eq_true rfl) rfl ?_
  exact v_weak (wss (wss (wss (wss wse)))) (lX5_says_2 FU h)
theorem tX5_says {E : EE} {l : Launch} {v0 : Option Nat} {v1 : Int32} {v2 : Option Nat} {σ : Mem} {z : Int32 × Mem} (h : sX5_says v0 v1 v2 σ = some z) : Mt E l mX5_says [vr v0, vi v1, vr v2] σ (some (vi z.1), z.2) :=
  Mt.ofVL (by decide) (Nat.le_of_ble_eq_true rfl) (fun G hG => lX5_says h)
abbrev mX0_held : MM := (yX0_held, cX0_held, 2, (Option.some Jvm.ClassFile.FieldType.int), 1, 30)
theorem dsX0_held : DsOk yX0_held 2 := ⟨by decide, by decide, by decide +kernel⟩
theorem lX0_held {E : EE} {G : GG} {v0 : Int32} {v1 : Int32} {σ : Mem} {z : Int32 × Mem} (h : sX0_held v0 v1 σ = some z) : V E mX0_held G 0 [some (vi v0), some (vi v1)] [] σ (some (vi z.1), z.2) := by
  unfold sX0_held at h
  refine v_iconst dX0_held_0 ?_
  refine v_il1 dX0_held_1 ?_
  refine v_il0 dX0_held_2 ?_
  refine v_mmin dX0_held_3 q696 q531 q166 q532 (by decide) (by decide) (Nat.le_of_ble_eq_true rfl) ?_
  refine v_mmax dX0_held_6 q697 q534 q166 q535 (by decide) (by decide) (Nat.le_of_ble_eq_true rfl) ?_
  exact v_retI h dX0_held_9 rfl
theorem tX0_held {E : EE} {l : Launch} {v0 : Int32} {v1 : Int32} {σ : Mem} {z : Int32 × Mem} (h : sX0_held v0 v1 σ = some z) : Mt E l mX0_held [vi v0, vi v1] σ (some (vi z.1), z.2) :=
  Mt.ofVL (by decide) (Nat.le_of_ble_eq_true rfl) (fun G hG => lX0_held h)
abbrev mX3_isLost : MM := (yX3_isLost, cX3_isLost, 1, (Option.none : Option Jvm.ClassFile.FieldType), 1, 30)
theorem dsX3_isLost : DsOk yX3_isLost 0 := ⟨by decide, by decide, by decide +kernel⟩
theorem lX3_isLost {E : EE} {G : GG} {v0 : Option Nat} {σ : Mem} {z : Unit × Mem} (h : sX3_isLost v0 σ = some z) : V E mX3_isLost G 0 [some (vr v0)] [] σ (none, z.2) := by
  unfold sX3_isLost at h
  refine v_al0 dX3_isLost_0 ?_
  refine v_ldcI (n := 99999) dX3_isLost_1 q702 rfl ?_
  refine v_al0 dX3_isLost_3 ?_
  refine v_gI cok2 h dX3_isLost_4 (by decide) q379 rfl (fun x1 h => ?_)
  refine v_iconst dX3_isLost_7 ?_
  refine v_iadd dX3_isLost_8 ?_
  refine v_mmin dX3_isLost_9 q530 q531 q166 q532 (by decide) (by decide) (Nat.le_of_ble_eq_true rfl) ?_
  refine v_pI cok2 h dX3_isLost_12 (by decide) q379 rfl rfl (fun s2 h => ?_)
  exact v_retV h dX3_isLost_15 rfl
theorem tX3_isLost {E : EE} {l : Launch} {v0 : Option Nat} {σ : Mem} {z : Unit × Mem} (h : sX3_isLost v0 σ = some z) : Mt E l mX3_isLost [vr v0] σ (none, z.2) :=
  Mt.ofVL (by decide) (Nat.le_of_ble_eq_true rfl) (fun G hG => lX3_isLost h)
abbrev mX3_copies : MM := (yX3_copies, cX3_copies, 4, (Option.none : Option Jvm.ClassFile.FieldType), 0, 0)
theorem dsX3_copies : DsOk yX3_copies 2 := ⟨by decide, by decide, by decide +kernel⟩
theorem lX3_copies_2b {E : EE} {G : GG} {k2 : Option Nat → Option Nat → Int32 → Mem → Option (Unit × Mem)} (hk2 : ∀ (v1 : Option Nat) (v2 : Option Nat) (v3 : Int32) (s : Mem) (z : Unit × Mem), k2 v1 v2 v3 s = some z → V E mX3_copies G 2 [none, some (vr v1), some (vr v2), some (vi v3)] [] s (none, z.2)) {v1 : Option Nat} {v2 : Option Nat} {v3 : Int32} {σ : Mem} {z : Unit × Mem} (h : sX3_copies_2b k2 v1 v2 v3 σ = some z) : V E mX3_copies G 2 [none, some (vr v1), some (vr v2), some (vi v3)] [] σ (none, z.2) := by
  unfold sX3_copies_2b at h
  refine v_il3 dX3_copies_2 ?_
  refine v_al1 dX3_copies_3 ?_
  refine v_aLi h (by decide) dX3_copies_4 (fun x1 h => ?_)
  refine v_icmp_ge (tgt := 20) dX3_copies_5 (by decide) (fun c => ?_) (fun c => ?_)
  · rw [if_pos c] at h
    exact v_retV h dX3_copies_20 rfl
  · rw [if_neg c] at h
    refine v_al2 dX3_copies_8 ?_
    refine v_il3 dX3_copies_9 ?_
    refine v_al1 dX3_copies_10 ?_
    refine v_il3 dX3_copies_11 ?_
    refine v_aI h dX3_copies_12 (fun x2 h => ?_)
    refine v_sI h dX3_copies_13 (fun s3 h => ?_)
    refine v_iinc (L' := [none, some (vr v1), some (vr v2), some (vi (v3 + iI 1))]) dX3_copies_14 (Nat.le_of_ble_eq_true rfl) rfl rfl ?_
    refine v_goto (tgt := 2) dX3_copies_17 (by decide) ?_
    exact v_weak (wsn (wss (wss (wss wse)))) (hk2 _ _ _ _ _ h)
theorem lX3_copies_2 {E : EE} {G : GG} : ∀ (f : Nat) {v1 : Option Nat} {v2 : Option Nat} {v3 : Int32} {σ : Mem} {z : Unit × Mem}, sX3_copies_2 f v1 v2 v3 σ = some z → V E mX3_copies G 2 [none, some (vr v1), some (vr v2), some (vi v3)] [] σ (none, z.2)
  | 0, _, _, _, _, _, h => by cases h
  | f + 1, _, _, _, _, _, h => lX3_copies_2b (fun _ _ _ _ _ h => lX3_copies_2 f h) h
theorem lX3_copies {E : EE} {G : GG} {v0 : Option Nat} {v1 : Option Nat} {v2 : Option Nat} {σ : Mem} {z : Unit × Mem} (h : sX3_copies v0 v1 v2 σ = some z) : V E mX3_copies G 0 [some (vr v0), some (vr v1), some (vr v2), none] [] σ (none, z.2) := by
  unfold sX3_copies at h
  refine v_iconst dX3_copies_0 ?_
  refine v_istore_n (L' := [some (vr v0), some (vr v1), some (vr v2), some (vi (iI 0))]) dX3_copies_1 (Nat.le_of_ble_eq_true rfl) (Nat.le_of_ble_eq_true rfl) rfl ?_
  exact v_weak (wsn (wss (wss (wss wse)))) (lX3_copies_2 FU h)
theorem tX3_copies {E : EE} {l : Launch} {v0 : Option Nat} {v1 : Option Nat} {v2 : Option Nat} {σ : Mem} {z : Unit × Mem} (h : sX3_copies v0 v1 v2 σ = some z) : Mt E l mX3_copies [vr v0, vr v1, vr v2] σ (none, z.2) :=
  Mt.ofVL (by decide) (Nat.le_of_ble_eq_true rfl) (fun G hG => lX3_copies h)
abbrev mX3_sends : MM := (yX3_sends, cX3_sends, 4, (Option.none : Option Jvm.ClassFile.FieldType), 86, 8136)
theorem dsX3_sends : DsOk yX3_sends 0 := ⟨by decide, by decide, by decide +kernel⟩
theorem lX3_sends_106 {E : EE} {G : GG} {v0 : Option Nat} {v2 : Option Nat} {t0 : Int32} {σ : Mem} {z : Unit × Mem} (h : sX3_sends_106 v0 v2 t0 σ = some z) : V E mX3_sends G 106 [some (vr v0), none, some (vr v2), none] [vi t0] σ (none, z.2) := by
  unfold sX3_sends_106 at h
  refine v_istore_n (L' := [some (vr v0), none, some (vr v2), some (vi t0)]) dX3_sends_106 (Nat.le_of_ble_eq_true rfl) (Nat.le_of_ble_eq_true rfl) rfl ?_
  refine v_il3 dX3_sends_107 ?_
  refine v_if_eq (tgt := 116) dX3_sends_108 (by decide) (fun c => ?_) (fun c => ?_)
  · rw [if_pos c] at h
    refine v_al0 dX3_sends_116 ?_
    refine v_gR cok2 h dX3_sends_117 (by decide) q370 rfl (fun x1 h => ?_)
    refine v_iconst dX3_sends_120 ?_
    refine v_al0 dX3_sends_121 ?_
    refine v_gI cok2 h dX3_sends_122 (by decide) q373 rfl (fun x2 h => ?_)
    refine v_iconst dX3_sends_125 ?_
    refine v_iadd dX3_sends_126 ?_
    refine v_al0 dX3_sends_127 ?_
    refine v_gR cok2 h dX3_sends_128 (by decide) q388 rfl (fun x3 h => ?_)
    refine v_gRN cok0 h dX3_sends_131 (by decide) q544 rfl (fun x4 h => ?_)
    refine v_bipush dX3_sends_134 rfl ?_
    refine v_iconst dX3_sends_136 ?_
    refine v_al2 dX3_sends_137 ?_
    obtain ⟨b138, er, ka, h⟩ := cV_some h
    obtain ⟨x5, s6, h1, h⟩ := cl_some h
    refine v_callV1 cok4 (As := [vi (iI 100), vi (iI 0), vr v2]) er ka (tX5_tells h1) (lw_V q482 q483 q484 q163 q485) rfl dsX5_tells ⟨Nat.le_of_ble_eq_true rfl, Nat.le_of_ble_eq_true rfl⟩ (Nat.le_of_ble_eq_true rfl) dX3_sends_138 rfl ?_
    refine v_bipush dX3_sends_141 rfl ?_
    obtain ⟨x7, s8, h1, h⟩ := cl_some h
    refine v_callSN1 (As := [vi x5, vi (iI 9)]) (tX0_held h1) q693 q695 q694 q158 dsX0_held ⟨Nat.le_of_ble_eq_true rfl, Nat.le_of_ble_eq_true rfl⟩ (Nat.le_of_ble_eq_true rfl) dX3_sends_143 rfl ?_
    refine v_iadd dX3_sends_146 ?_
    refine v_sI h dX3_sends_147 (fun s9 h => ?_)
    refine v_al0 dX3_sends_148 ?_
    refine v_al0 dX3_sends_149 ?_
    refine v_gR cok2 h dX3_sends_150 (by decide) q370 rfl (fun x10 h => ?_)
    refine v_al0 dX3_sends_153 ?_
    refine v_gR cok2 h dX3_sends_154 (by decide) q361 rfl (fun x11 h => ?_)
    refine v_al0 dX3_sends_157 ?_
    refine v_gI cok2 h dX3_sends_158 (by decide) q371 rfl (fun x12 h => ?_)
    refine v_aR h (by decide) dX3_sends_161 (fun x13 h => ?_)
    obtain ⟨b162, er, ka, h⟩ := cV_some h
    obtain ⟨_, s14, h1, h⟩ := cl_some h
    refine v_callV0 cok2 (As := [vr x10, vr x13]) er ka (tX3_copies h1) (lw_V q703 q705 qs6 q161 q706) rfl dsX3_copies ⟨Nat.le_of_ble_eq_true rfl, Nat.le_of_ble_eq_true rfl⟩ (Nat.le_of_ble_eq_true rfl) dX3_sends_162 rfl ?_
    refine v_al0 dX3_sends_165 ?_
    refine v_dup dX3_sends_166 ?_
    refine v_gI cok2 h dX3_sends_167 (by decide) q371 rfl (fun x15 h => ?_)
    refine v_iconst dX3_sends_170 ?_
    refine v_iadd dX3_sends_171 ?_
    refine v_pI cok2 h dX3_sends_172 (by decide) q371 rfl rfl (fun s16 h => ?_)
    exact v_retV h dX3_sends_175 rfl
  · rw [if_neg c] at h
    refine v_al0 dX3_sends_111 ?_
    obtain ⟨b112, er, ka, h⟩ := cV_some h
    obtain ⟨_, s17, h1, h⟩ := cl_some h
    refine v_callV0 cok2 (As := []) er ka (tX3_isLost h1) (lw_V q698 q700 qs5 q161 q701) rfl dsX3_isLost ⟨Nat.le_of_ble_eq_true rfl, Nat.le_of_ble_eq_true rfl⟩ (Nat.le_of_ble_eq_true rfl) dX3_sends_112 rfl ?_
    exact v_retV h dX3_sends_115 rfl
theorem lX3_sends_101 {E : EE} {G : GG} {v0 : Option Nat} {v2 : Option Nat} {σ : Mem} {z : Unit × Mem} (h : sX3_sends_101 v0 v2 σ = some z) : V E mX3_sends G 101 [some (vr v0), none, some (vr v2), none] [] σ (none, z.2) := by
  unfold sX3_sends_101 at h
  refine v_iconst dX3_sends_101 ?_
  refine v_goto (tgt := 106) dX3_sends_102 (by decide) ?_
  exact v_weak (wss (wsn (wss (wsn wse)))) (lX3_sends_106 h)
theorem lX3_sends {E : EE} {G : GG} {v0 : Option Nat} {σ : Mem} {z : Unit × Mem} (h : sX3_sends v0 σ = some z) : V E mX3_sends G 0 [some (vr v0), none, none, none] [] σ (none, z.2) := by
  unfold sX3_sends at h
  refine v_al0 dX3_sends_0 ?_
  obtain ⟨b1, er, ka, h⟩ := cV_some h
  obtain ⟨x1, s2, h1, h⟩ := cl_some h
  refine v_callV1 cok2 (As := []) er ka (tX3_draw h1) (lw_V q469 q471 qs0 q161 q472) rfl dsX3_draw ⟨Nat.le_of_ble_eq_true rfl, Nat.le_of_ble_eq_true rfl⟩ (Nat.le_of_ble_eq_true rfl) dX3_sends_1 rfl ?_
  refine v_istore_n (L' := [some (vr v0), some (vi x1), none, none]) dX3_sends_4 (Nat.le_of_ble_eq_true rfl) (Nat.le_of_ble_eq_true rfl) rfl ?_
  refine v_al0 dX3_sends_5 ?_
  refine v_gR cok2 h dX3_sends_6 (by decide) q388 rfl (fun x3 h => ?_)
  refine v_gRN cok0 h dX3_sends_9 (by decide) q536 rfl (fun x4 h => ?_)
  refine v_al0 dX3_sends_12 ?_
  refine v_gR cok2 h dX3_sends_13 (by decide) q370 rfl (fun x5 h => ?_)
  refine v_iconst dX3_sends_16 ?_
  refine v_aI h dX3_sends_17 (fun x6 h => ?_)
  refine v_al0 dX3_sends_18 ?_
  refine v_gR cok2 h dX3_sends_19 (by decide) q370 rfl (fun x7 h => ?_)
  refine v_iconst dX3_sends_22 ?_
  refine v_aI h dX3_sends_23 (fun x8 h => ?_)
  refine v_al0 dX3_sends_24 ?_
  refine v_gR cok2 h dX3_sends_25 (by decide) q370 rfl (fun x9 h => ?_)
  refine v_iconst dX3_sends_28 ?_
  refine v_aI h dX3_sends_29 (fun x10 h => ?_)
  refine v_al0 dX3_sends_30 ?_
  refine v_gR cok2 h dX3_sends_31 (by decide) q370 rfl (fun x11 h => ?_)
  refine v_iconst dX3_sends_34 ?_
  refine v_aI h dX3_sends_35 (fun x12 h => ?_)
  obtain ⟨b36, er, ka, h⟩ := cV_some h
  obtain ⟨x13, s14, h1, h⟩ := cl_some h
  refine v_callV1 cok1 (As := [vi x6, vi x8, vi x10, vi x12]) er ka (tX2_of h1) (lw_V q474 q475 q476 q160 q477) rfl dsX2_of ⟨Nat.le_of_ble_eq_true rfl, Nat.le_of_ble_eq_true rfl⟩ (Nat.le_of_ble_eq_true rfl) dX3_sends_36 rfl ?_
  refine v_al0 dX3_sends_39 ?_
  refine v_gI cok2 h dX3_sends_40 (by decide) q371 rfl (fun x15 h => ?_)
  refine v_al0 dX3_sends_43 ?_
  refine v_gI cok2 h dX3_sends_44 (by decide) q373 rfl (fun x16 h => ?_)
  refine v_il1 dX3_sends_47 ?_
  obtain ⟨b48, er, ka, h⟩ := cV_some h
  obtain ⟨x17, s18, h1, h⟩ := cl_some h
  refine v_callV1 cok1 (As := [vi x15, vi x16, vi x1]) er ka (tX2_on h1) (lw_V q478 q479 q480 q160 q481) rfl dsX2_on ⟨Nat.le_of_ble_eq_true rfl, Nat.le_of_ble_eq_true rfl⟩ (Nat.le_of_ble_eq_true rfl) dX3_sends_48 rfl ?_
  refine v_astore_n (L' := [some (vr v0), some (vi x1), some (vr x17), none]) dX3_sends_51 (Nat.le_of_ble_eq_true rfl) (Nat.le_of_ble_eq_true rfl) rfl ?_
  refine v_al0 dX3_sends_52 ?_
  refine v_gR cok2 h dX3_sends_53 (by decide) q388 rfl (fun x19 h => ?_)
  refine v_gRN cok0 h dX3_sends_56 (by decide) q544 rfl (fun x20 h => ?_)
  refine v_bipush dX3_sends_59 rfl ?_
  refine v_al2 dX3_sends_61 ?_
  obtain ⟨b62, er, ka, h⟩ := cV_some h
  obtain ⟨x21, s22, h1, h⟩ := cl_some h
  refine v_callV1 cok4 (As := [vi (iI 120), vr x17]) er ka (tX5_says h1) (lw_V q689 q690 q691 q163 q692) rfl dsX5_says ⟨Nat.le_of_ble_eq_true rfl, Nat.le_of_ble_eq_true rfl⟩ (Nat.le_of_ble_eq_true rfl) dX3_sends_62 rfl ?_
  refine v_if_ne (tgt := 101) dX3_sends_65 (by decide) (fun c => ?_) (fun c => ?_)
  · rw [if_neg c] at h
    exact v_weak (wss (wsn (wss (wsn wse)))) (lX3_sends_101 h)
  · rw [if_pos c] at h
    refine v_il1 dX3_sends_68 ?_
    refine v_al0 dX3_sends_69 ?_
    refine v_gR cok2 h dX3_sends_70 (by decide) q388 rfl (fun x23 h => ?_)
    refine v_gRN cok0 h dX3_sends_73 (by decide) q544 rfl (fun x24 h => ?_)
    refine v_bipush dX3_sends_76 rfl ?_
    refine v_iconst dX3_sends_78 ?_
    refine v_al2 dX3_sends_79 ?_
    obtain ⟨b80, er, ka, h⟩ := cV_some h
    obtain ⟨x25, s26, h1, h⟩ := cl_some h
    refine v_callV1 cok4 (As := [vi (iI 108), vi (iI 0), vr x17]) er ka (tX5_tells h1) (lw_V q482 q483 q484 q163 q485) rfl dsX5_tells ⟨Nat.le_of_ble_eq_true rfl, Nat.le_of_ble_eq_true rfl⟩ (Nat.le_of_ble_eq_true rfl) dX3_sends_80 rfl ?_
    refine v_bipush dX3_sends_83 rfl ?_
    obtain ⟨x27, s28, h1, h⟩ := cl_some h
    refine v_callSN1 (As := [vi x25, vi (iI 10)]) (tX0_held h1) q693 q695 q694 q158 dsX0_held ⟨Nat.le_of_ble_eq_true rfl, Nat.le_of_ble_eq_true rfl⟩ (Nat.le_of_ble_eq_true rfl) dX3_sends_85 rfl ?_
    refine v_icmp_lt (tgt := 101) dX3_sends_88 (by decide) (fun c => ?_) (fun c => ?_)
    · rw [if_pos c] at h
      exact v_weak (wss (wsn (wss (wsn wse)))) (lX3_sends_101 h)
    · rw [if_neg c] at h
      refine v_al0 dX3_sends_91 ?_
      refine v_gI cok2 h dX3_sends_92 (by decide) q371 rfl (fun x29 h => ?_)
      refine v_sipush dX3_sends_95 rfl ?_
      refine v_icmp_ne (tgt := 105) dX3_sends_98 (by decide) (fun c => ?_) (fun c => ?_)
      · rw [if_neg c] at h
        refine v_iconst dX3_sends_105 ?_
        exact v_weak (wss (wsn (wss (wsn wse)))) (lX3_sends_106 h)
      · rw [if_pos c] at h
        exact v_weak (wss (wsn (wss (wsn wse)))) (lX3_sends_101 h)
theorem tX3_sends {E : EE} {l : Launch} {v0 : Option Nat} {σ : Mem} {z : Unit × Mem} (h : sX3_sends v0 σ = some z) : Mt E l mX3_sends [vr v0] σ (none, z.2) :=
  Mt.ofVL (by decide) (Nat.le_of_ble_eq_true rfl) (fun G hG => lX3_sends h)
abbrev mX3_sendsOn : MM := (yX3_sendsOn, cX3_sendsOn, 7, (Option.none : Option Jvm.ClassFile.FieldType), 87, 8159)
theorem dsX3_sendsOn : DsOk yX3_sendsOn 2 := ⟨by decide, by decide, by decide +kernel⟩
theorem lX3_sendsOn_266 {E : EE} {G : GG} {v0 : Option Nat} {σ : Mem} {z : Unit × Mem} (h : sX3_sendsOn_266 v0 σ = some z) : V E mX3_sendsOn G 266 [some (vr v0), none, none, none, none, none, none] [] σ (none, z.2) := by
  unfold sX3_sendsOn_266 at h
  refine v_al0 dX3_sendsOn_266 ?_
  obtain ⟨b267, er, ka, h⟩ := cV_some h
  obtain ⟨_, s1, h1, h⟩ := cl_some h
  refine v_callV0 cok2 (As := []) er ka (tX3_sends h1) (lw_V q685 q687 qs4 q161 q688) rfl dsX3_sends ⟨Nat.le_of_ble_eq_true rfl, Nat.le_of_ble_eq_true rfl⟩ (Nat.le_of_ble_eq_true rfl) dX3_sendsOn_267 rfl ?_
  exact v_retV h dX3_sendsOn_270 rfl
theorem lX3_sendsOn_154b {E : EE} {G : GG} {k154 : Option Nat → Option Nat → Int32 → Int32 → Mem → Option (Unit × Mem)} (hk154 : ∀ (v0 : Option Nat) (v3 : Option Nat) (v4 : Int32) (v5 : Int32) (s : Mem) (z : Unit × Mem), k154 v0 v3 v4 v5 s = some z → V E mX3_sendsOn G 154 [some (vr v0), none, none, some (vr v3), some (vi v4), some (vi v5), none] [] s (none, z.2)) {v0 : Option Nat} {v3 : Option Nat} {v4 : Int32} {v5 : Int32} {σ : Mem} {z : Unit × Mem} (h : sX3_sendsOn_154b k154 v0 v3 v4 v5 σ = some z) : V E mX3_sendsOn G 154 [some (vr v0), none, none, some (vr v3), some (vi v4), some (vi v5), none] [] σ (none, z.2) := by
  unfold sX3_sendsOn_154b at h
  refine v_iload dX3_sendsOn_154 rfl ?_
  refine v_al0 dX3_sendsOn_156 ?_
  refine v_gR cok2 h dX3_sendsOn_157 (by decide) q370 rfl (fun x1 h => ?_)
  refine v_bipush dX3_sendsOn_160 rfl ?_
  refine v_aI h dX3_sendsOn_162 (fun x2 h => ?_)
  refine v_icmp_ge (tgt := 266) dX3_sendsOn_163 (by decide) (fun c => ?_) (fun c => ?_)
  · rw [if_pos c] at h
    exact v_weak (wss (wsn (wsn (wsn (wsn (wsn (wsn wse))))))) (lX3_sendsOn_266 h)
  · rw [if_neg c] at h
    refine v_iload dX3_sendsOn_166 rfl ?_
    refine v_al3 dX3_sendsOn_168 ?_
    refine v_gIN cok3 h dX3_sendsOn_169 (by decide) q275 rfl (fun x3 h => ?_)
    refine v_isub dX3_sendsOn_172 ?_
    refine v_iload dX3_sendsOn_173 rfl ?_
    refine v_iadd dX3_sendsOn_175 ?_
    refine v_istore (L' := [some (vr v0), none, none, some (vr v3), some (vi v4), some (vi v5), some (vi ((v4 - x3) + v5))]) dX3_sendsOn_176 (Nat.le_of_ble_eq_true rfl) (Nat.le_of_ble_eq_true rfl) rfl ?_
    refine v_al0 dX3_sendsOn_178 ?_
    refine v_gR cok2 h dX3_sendsOn_179 (by decide) q370 rfl (fun x4 h => ?_)
    refine v_bipush dX3_sendsOn_182 rfl ?_
    refine v_iconst dX3_sendsOn_184 ?_
    refine v_iload dX3_sendsOn_185 rfl ?_
    refine v_imul dX3_sendsOn_187 ?_
    refine v_iadd dX3_sendsOn_188 ?_
    refine v_al3 dX3_sendsOn_189 ?_
    refine v_gRN cok3 h dX3_sendsOn_190 (by decide) q242 rfl (fun x5 h => ?_)
    refine v_iload dX3_sendsOn_193 rfl ?_
    refine v_aI h dX3_sendsOn_195 (fun x6 h => ?_)
    refine v_sI h dX3_sendsOn_196 (fun s7 h => ?_)
    refine v_al0 dX3_sendsOn_197 ?_
    refine v_gR cok2 h dX3_sendsOn_198 (by decide) q370 rfl (fun x8 h => ?_)
    refine v_bipush dX3_sendsOn_201 rfl ?_
    refine v_iconst dX3_sendsOn_203 ?_
    refine v_iload dX3_sendsOn_204 rfl ?_
    refine v_imul dX3_sendsOn_206 ?_
    refine v_iadd dX3_sendsOn_207 ?_
    refine v_iconst dX3_sendsOn_208 ?_
    refine v_iadd dX3_sendsOn_209 ?_
    refine v_al3 dX3_sendsOn_210 ?_
    refine v_gRN cok3 h dX3_sendsOn_211 (by decide) q245 rfl (fun x9 h => ?_)
    refine v_iload dX3_sendsOn_214 rfl ?_
    refine v_aI h dX3_sendsOn_216 (fun x10 h => ?_)
    refine v_sI h dX3_sendsOn_217 (fun s11 h => ?_)
    refine v_al0 dX3_sendsOn_218 ?_
    refine v_gR cok2 h dX3_sendsOn_219 (by decide) q370 rfl (fun x12 h => ?_)
    refine v_bipush dX3_sendsOn_222 rfl ?_
    refine v_iconst dX3_sendsOn_224 ?_
    refine v_iload dX3_sendsOn_225 rfl ?_
    refine v_imul dX3_sendsOn_227 ?_
    refine v_iadd dX3_sendsOn_228 ?_
    refine v_iconst dX3_sendsOn_229 ?_
    refine v_iadd dX3_sendsOn_230 ?_
    refine v_al3 dX3_sendsOn_231 ?_
    refine v_gRN cok3 h dX3_sendsOn_232 (by decide) q248 rfl (fun x13 h => ?_)
    refine v_iload dX3_sendsOn_235 rfl ?_
    refine v_aI h dX3_sendsOn_237 (fun x14 h => ?_)
    refine v_sI h dX3_sendsOn_238 (fun s15 h => ?_)
    refine v_al0 dX3_sendsOn_239 ?_
    refine v_gR cok2 h dX3_sendsOn_240 (by decide) q370 rfl (fun x16 h => ?_)
    refine v_bipush dX3_sendsOn_243 rfl ?_
    refine v_iconst dX3_sendsOn_245 ?_
    refine v_iload dX3_sendsOn_246 rfl ?_
    refine v_imul dX3_sendsOn_248 ?_
    refine v_iadd dX3_sendsOn_249 ?_
    refine v_iconst dX3_sendsOn_250 ?_
    refine v_iadd dX3_sendsOn_251 ?_
    refine v_al3 dX3_sendsOn_252 ?_
    refine v_gRN cok3 h dX3_sendsOn_253 (by decide) q251 rfl (fun x17 h => ?_)
    refine v_iload dX3_sendsOn_256 rfl ?_
    refine v_aI h dX3_sendsOn_258 (fun x18 h => ?_)
    refine v_sI h dX3_sendsOn_259 (fun s19 h => ?_)
    refine v_iinc (L' := [some (vr v0), none, none, some (vr v3), some (vi v4), some (vi (v5 + iI 1)), some (vi ((v4 - x3) + v5))]) dX3_sendsOn_260 (Nat.le_of_ble_eq_true rfl) rfl rfl ?_
    refine v_goto (tgt := 154) dX3_sendsOn_263 (by decide) ?_
    exact v_weak (wss (wsn (wsn (wss (wss (wss (wsn wse))))))) (hk154 _ _ _ _ _ _ h)
theorem lX3_sendsOn_154 {E : EE} {G : GG} : ∀ (f : Nat) {v0 : Option Nat} {v3 : Option Nat} {v4 : Int32} {v5 : Int32} {σ : Mem} {z : Unit × Mem}, sX3_sendsOn_154 f v0 v3 v4 v5 σ = some z → V E mX3_sendsOn G 154 [some (vr v0), none, none, some (vr v3), some (vi v4), some (vi v5), none] [] σ (none, z.2)
  | 0, _, _, _, _, _, _, h => by cases h
  | f + 1, _, _, _, _, _, _, h => lX3_sendsOn_154b (fun _ _ _ _ _ _ h => lX3_sendsOn_154 f h) h
theorem lX3_sendsOn_66b {E : EE} {G : GG} {k66 : Option Nat → Option Nat → Int32 → Mem → Option (Unit × Mem)} (hk66 : ∀ (v0 : Option Nat) (v3 : Option Nat) (v4 : Int32) (s : Mem) (z : Unit × Mem), k66 v0 v3 v4 s = some z → V E mX3_sendsOn G 66 [some (vr v0), none, none, some (vr v3), some (vi v4), none, none] [] s (none, z.2)) {v0 : Option Nat} {v3 : Option Nat} {v4 : Int32} {σ : Mem} {z : Unit × Mem} (h : sX3_sendsOn_66b k66 v0 v3 v4 σ = some z) : V E mX3_sendsOn G 66 [some (vr v0), none, none, some (vr v3), some (vi v4), none, none] [] σ (none, z.2) := by
  unfold sX3_sendsOn_66b at h
  refine v_iload dX3_sendsOn_66 rfl ?_
  refine v_bipush dX3_sendsOn_68 rfl ?_
  refine v_icmp_ge (tgt := 96) dX3_sendsOn_70 (by decide) (fun c => ?_) (fun c => ?_)
  · rw [if_pos c] at h
    refine v_goto (tgt := 266) dX3_sendsOn_96 (by decide) ?_
    exact v_weak (wss (wsn (wsn (wsn (wsn (wsn (wsn wse))))))) (lX3_sendsOn_266 h)
  · rw [if_neg c] at h
    refine v_al0 dX3_sendsOn_73 ?_
    refine v_gR cok2 h dX3_sendsOn_74 (by decide) q370 rfl (fun x1 h => ?_)
    refine v_bipush dX3_sendsOn_77 rfl ?_
    refine v_iload dX3_sendsOn_79 rfl ?_
    refine v_iadd dX3_sendsOn_81 ?_
    refine v_al3 dX3_sendsOn_82 ?_
    refine v_gRN cok3 h dX3_sendsOn_83 (by decide) q257 rfl (fun x2 h => ?_)
    refine v_iload dX3_sendsOn_86 rfl ?_
    refine v_aI h dX3_sendsOn_88 (fun x3 h => ?_)
    refine v_sI h dX3_sendsOn_89 (fun s4 h => ?_)
    refine v_iinc (L' := [some (vr v0), none, none, some (vr v3), some (vi (v4 + iI 1)), none, none]) dX3_sendsOn_90 (Nat.le_of_ble_eq_true rfl) rfl rfl ?_
    refine v_goto (tgt := 66) dX3_sendsOn_93 (by decide) ?_
    exact v_weak (wss (wsn (wsn (wss (wss (wsn (wsn wse))))))) (hk66 _ _ _ _ _ h)
theorem lX3_sendsOn_66 {E : EE} {G : GG} : ∀ (f : Nat) {v0 : Option Nat} {v3 : Option Nat} {v4 : Int32} {σ : Mem} {z : Unit × Mem}, sX3_sendsOn_66 f v0 v3 v4 σ = some z → V E mX3_sendsOn G 66 [some (vr v0), none, none, some (vr v3), some (vi v4), none, none] [] σ (none, z.2)
  | 0, _, _, _, _, _, h => by cases h
  | f + 1, _, _, _, _, _, h => lX3_sendsOn_66b (fun _ _ _ _ _ h => lX3_sendsOn_66 f h) h
theorem lX3_sendsOn {E : EE} {G : GG} {v0 : Option Nat} {v1 : Int32} {v2 : Int32} {σ : Mem} {z : Unit × Mem} (h : sX3_sendsOn v0 v1 v2 σ = some z) : V E mX3_sendsOn G 0 [some (vr v0), some (vi v1), some (vi v2), none, none, none, none] [] σ (none, z.2) := by
  unfold sX3_sendsOn at h
  refine v_al0 dX3_sendsOn_0 ?_
  refine v_gR cok2 h dX3_sendsOn_1 (by decide) q359 rfl (fun x1 h => ?_)
  refine v_il1 dX3_sendsOn_4 ?_
  refine v_aR h (by decide) dX3_sendsOn_5 (fun x2 h => ?_)
  refine v_astore_n (L' := [some (vr v0), some (vi v1), some (vi v2), some (vr x2), none, none, none]) dX3_sendsOn_6 (Nat.le_of_ble_eq_true rfl) (Nat.le_of_ble_eq_true rfl) rfl ?_
  refine v_al3 dX3_sendsOn_7 ?_
  refine v_gRN cok3 h dX3_sendsOn_8 (by decide) q260 rfl (fun x3 h => ?_)
  refine v_il2 dX3_sendsOn_11 ?_
  refine v_aI h dX3_sendsOn_12 (fun x4 h => ?_)
  refine v_al3 dX3_sendsOn_13 ?_
  refine v_gIN cok3 h dX3_sendsOn_14 (by decide) q275 rfl (fun x5 h => ?_)
  refine v_icmp_gt (tgt := 99) dX3_sendsOn_17 (by decide) (fun c => ?_) (fun c => ?_)
  · rw [if_pos c] at h
    refine v_al3 dX3_sendsOn_99 ?_
    refine v_gRN cok3 h dX3_sendsOn_100 (by decide) q260 rfl (fun x6 h => ?_)
    refine v_il2 dX3_sendsOn_103 ?_
    refine v_aI h dX3_sendsOn_104 (fun x7 h => ?_)
    refine v_iconst dX3_sendsOn_105 ?_
    refine v_isub dX3_sendsOn_106 ?_
    refine v_istore (L' := [some (vr v0), some (vi v1), some (vi v2), some (vr x2), some (vi (x7 - (iI 1))), none, none]) dX3_sendsOn_107 (Nat.le_of_ble_eq_true rfl) (Nat.le_of_ble_eq_true rfl) rfl ?_
    refine v_al0 dX3_sendsOn_109 ?_
    refine v_il1 dX3_sendsOn_110 ?_
    refine v_il2 dX3_sendsOn_111 ?_
    refine v_iconst dX3_sendsOn_112 ?_
    refine v_iload dX3_sendsOn_113 rfl ?_
    refine v_al3 dX3_sendsOn_115 ?_
    refine v_iload dX3_sendsOn_116 rfl ?_
    obtain ⟨b118, er, ka, h⟩ := cV_some h
    obtain ⟨x8, s9, h1, h⟩ := cl_some h
    refine v_callV1 cok3 (As := [vi (x7 - (iI 1))]) er ka (tX4_termAt h1) (lw_V q684 q624 q625 q162 q626) rfl dsX4_termAt ⟨Nat.le_of_ble_eq_true rfl, Nat.le_of_ble_eq_true rfl⟩ (Nat.le_of_ble_eq_true rfl) dX3_sendsOn_118 rfl ?_
    refine v_al3 dX3_sendsOn_121 ?_
    refine v_gIN cok3 h dX3_sendsOn_122 (by decide) q289 rfl (fun x10 h => ?_)
    refine v_al3 dX3_sendsOn_125 ?_
    refine v_gIN cok3 h dX3_sendsOn_126 (by decide) q301 rfl (fun x11 h => ?_)
    obtain ⟨b129, er, ka, h⟩ := cV_some h
    obtain ⟨x12, s13, h1, h⟩ := cl_some h
    refine v_callV1 cok2 (As := [vi v1, vi v2, vi (iI 2), vi (x7 - (iI 1)), vi x8, vi x10, vi x11]) er ka (tX3_writes h1) (lw_V q680 q682 qs3 q161 q683) rfl dsX3_writes ⟨Nat.le_of_ble_eq_true rfl, Nat.le_of_ble_eq_true rfl⟩ (Nat.le_of_ble_eq_true rfl) dX3_sendsOn_129 rfl ?_
    refine v_pop dX3_sendsOn_132 ?_
    refine v_al0 dX3_sendsOn_133 ?_
    refine v_gR cok2 h dX3_sendsOn_134 (by decide) q370 rfl (fun x14 h => ?_)
    refine v_bipush dX3_sendsOn_137 rfl ?_
    refine v_iconst dX3_sendsOn_139 ?_
    refine v_al3 dX3_sendsOn_140 ?_
    obtain ⟨b141, er, ka, h⟩ := cV_some h
    obtain ⟨x15, s16, h1, h⟩ := cl_some h
    refine v_callV1 cok3 (As := []) er ka (tX4_last h1) (lw_V q643 q644 q645 q162 q646) rfl dsX4_last ⟨Nat.le_of_ble_eq_true rfl, Nat.le_of_ble_eq_true rfl⟩ (Nat.le_of_ble_eq_true rfl) dX3_sendsOn_141 rfl ?_
    refine v_iload dX3_sendsOn_144 rfl ?_
    refine v_isub dX3_sendsOn_146 ?_
    refine v_mmin dX3_sendsOn_147 q530 q531 q166 q532 (by decide) (by decide) (Nat.le_of_ble_eq_true rfl) ?_
    refine v_sI h dX3_sendsOn_150 (fun s17 h => ?_)
    refine v_iconst dX3_sendsOn_151 ?_
    refine v_istore (L' := [some (vr v0), some (vi v1), some (vi v2), some (vr x2), some (vi (x7 - (iI 1))), some (vi (iI 0)), none]) dX3_sendsOn_152 (Nat.le_of_ble_eq_true rfl) (Nat.le_of_ble_eq_true rfl) rfl ?_
    exact v_weak (wss (wsn (wsn (wss (wss (wss (wsn wse))))))) (lX3_sendsOn_154 FU h)
  · rw [if_neg c] at h
    refine v_al0 dX3_sendsOn_20 ?_
    refine v_il1 dX3_sendsOn_21 ?_
    refine v_il2 dX3_sendsOn_22 ?_
    refine v_iconst dX3_sendsOn_23 ?_
    refine v_al3 dX3_sendsOn_24 ?_
    refine v_gIN cok3 h dX3_sendsOn_25 (by decide) q275 rfl (fun x18 h => ?_)
    refine v_al3 dX3_sendsOn_28 ?_
    refine v_gIN cok3 h dX3_sendsOn_29 (by decide) q278 rfl (fun x19 h => ?_)
    refine v_al3 dX3_sendsOn_32 ?_
    refine v_gIN cok3 h dX3_sendsOn_33 (by decide) q301 rfl (fun x20 h => ?_)
    refine v_iconst dX3_sendsOn_36 ?_
    obtain ⟨b37, er, ka, h⟩ := cV_some h
    obtain ⟨x21, s22, h1, h⟩ := cl_some h
    refine v_callV1 cok2 (As := [vi v1, vi v2, vi (iI 4), vi x18, vi x19, vi x20, vi (iI 0)]) er ka (tX3_writes h1) (lw_V q680 q682 qs3 q161 q683) rfl dsX3_writes ⟨Nat.le_of_ble_eq_true rfl, Nat.le_of_ble_eq_true rfl⟩ (Nat.le_of_ble_eq_true rfl) dX3_sendsOn_37 rfl ?_
    refine v_pop dX3_sendsOn_40 ?_
    refine v_al0 dX3_sendsOn_41 ?_
    refine v_gR cok2 h dX3_sendsOn_42 (by decide) q370 rfl (fun x23 h => ?_)
    refine v_bipush dX3_sendsOn_45 rfl ?_
    refine v_al3 dX3_sendsOn_47 ?_
    refine v_gIN cok3 h dX3_sendsOn_48 (by decide) q280 rfl (fun x24 h => ?_)
    refine v_sI h dX3_sendsOn_51 (fun s25 h => ?_)
    refine v_al0 dX3_sendsOn_52 ?_
    refine v_gR cok2 h dX3_sendsOn_53 (by decide) q370 rfl (fun x26 h => ?_)
    refine v_bipush dX3_sendsOn_56 rfl ?_
    refine v_al3 dX3_sendsOn_58 ?_
    refine v_gIN cok3 h dX3_sendsOn_59 (by decide) q282 rfl (fun x27 h => ?_)
    refine v_sI h dX3_sendsOn_62 (fun s28 h => ?_)
    refine v_iconst dX3_sendsOn_63 ?_
    refine v_istore (L' := [some (vr v0), some (vi v1), some (vi v2), some (vr x2), some (vi (iI 0)), none, none]) dX3_sendsOn_64 (Nat.le_of_ble_eq_true rfl) (Nat.le_of_ble_eq_true rfl) rfl ?_
    exact v_weak (wss (wsn (wsn (wss (wss (wsn (wsn wse))))))) (lX3_sendsOn_66 FU h)
theorem tX3_sendsOn {E : EE} {l : Launch} {v0 : Option Nat} {v1 : Int32} {v2 : Int32} {σ : Mem} {z : Unit × Mem} (h : sX3_sendsOn v0 v1 v2 σ = some z) : Mt E l mX3_sendsOn [vr v0, vi v1, vi v2] σ (none, z.2) :=
  Mt.ofVL (by decide) (Nat.le_of_ble_eq_true rfl) (fun G hG => lX3_sendsOn h)
abbrev mX3_sendsToAll : MM := (yX3_sendsToAll, cX3_sendsToAll, 4, (Option.none : Option Jvm.ClassFile.FieldType), 88, 8185)
theorem dsX3_sendsToAll : DsOk yX3_sendsToAll 1 := ⟨by decide, by decide, by decide +kernel⟩
theorem lX3_sendsToAll_37 {E : EE} {G : GG} {k12 : Option Nat → Int32 → Int32 → Int32 → Mem → Option (Unit × Mem)} (hk12 : ∀ (v0 : Option Nat) (v1 : Int32) (v2 : Int32) (v3 : Int32) (s : Mem) (z : Unit × Mem), k12 v0 v1 v2 v3 s = some z → V E mX3_sendsToAll G 12 [some (vr v0), some (vi v1), some (vi v2), some (vi v3)] [] s (none, z.2)) {v0 : Option Nat} {v1 : Int32} {v2 : Int32} {v3 : Int32} {σ : Mem} {z : Unit × Mem} (h : sX3_sendsToAll_37 k12 v0 v1 v2 v3 σ = some z) : V E mX3_sendsToAll G 37 [some (vr v0), some (vi v1), some (vi v2), some (vi v3)] [] σ (none, z.2) := by
  unfold sX3_sendsToAll_37 at h
  refine v_iinc (L' := [some (vr v0), some (vi v1), some (vi v2), some (vi (v3 + iI 1))]) dX3_sendsToAll_37 (Nat.le_of_ble_eq_true rfl) rfl rfl ?_
  refine v_goto (tgt := 12) dX3_sendsToAll_40 (by decide) ?_
  exact v_weak (wss (wss (wss (wss wse)))) (hk12 _ _ _ _ _ _ h)
theorem lX3_sendsToAll_12b {E : EE} {G : GG} {k12 : Option Nat → Int32 → Int32 → Int32 → Mem → Option (Unit × Mem)} (hk12 : ∀ (v0 : Option Nat) (v1 : Int32) (v2 : Int32) (v3 : Int32) (s : Mem) (z : Unit × Mem), k12 v0 v1 v2 v3 s = some z → V E mX3_sendsToAll G 12 [some (vr v0), some (vi v1), some (vi v2), some (vi v3)] [] s (none, z.2)) {v0 : Option Nat} {v1 : Int32} {v2 : Int32} {v3 : Int32} {σ : Mem} {z : Unit × Mem} (h : sX3_sendsToAll_12b k12 v0 v1 v2 v3 σ = some z) : V E mX3_sendsToAll G 12 [some (vr v0), some (vi v1), some (vi v2), some (vi v3)] [] σ (none, z.2) := by
  unfold sX3_sendsToAll_12b at h
  refine v_il3 dX3_sendsToAll_12 ?_
  refine v_bipush dX3_sendsToAll_13 rfl ?_
  refine v_icmp_ge (tgt := 43) dX3_sendsToAll_15 (by decide) (fun c => ?_) (fun c => ?_)
  · rw [if_pos c] at h
    exact v_retV h dX3_sendsToAll_43 rfl
  · rw [if_neg c] at h
    refine v_il3 dX3_sendsToAll_18 ?_
    refine v_il1 dX3_sendsToAll_19 ?_
    refine v_icmp_eq (tgt := 37) dX3_sendsToAll_20 (by decide) (fun c => ?_) (fun c => ?_)
    · rw [if_pos c] at h
      exact v_weak (wss (wss (wss (wss wse)))) (lX3_sendsToAll_37 hk12 h)
    · rw [if_neg c] at h
      refine v_il2 dX3_sendsToAll_23 ?_
      refine v_il3 dX3_sendsToAll_24 ?_
      obtain ⟨x1, s2, h1, h⟩ := cl_some h
      refine v_callSN1 (As := [vi v2, vi v3]) (tX0_has h1) q673 q675 q674 q158 dsX0_has ⟨Nat.le_of_ble_eq_true rfl, Nat.le_of_ble_eq_true rfl⟩ (Nat.le_of_ble_eq_true rfl) dX3_sendsToAll_25 rfl ?_
      refine v_if_eq (tgt := 37) dX3_sendsToAll_28 (by decide) (fun c => ?_) (fun c => ?_)
      · rw [if_pos c] at h
        exact v_weak (wss (wss (wss (wss wse)))) (lX3_sendsToAll_37 hk12 h)
      · rw [if_neg c] at h
        refine v_al0 dX3_sendsToAll_31 ?_
        refine v_il1 dX3_sendsToAll_32 ?_
        refine v_il3 dX3_sendsToAll_33 ?_
        obtain ⟨b34, er, ka, h⟩ := cV_some h
        obtain ⟨_, s3, h1, h⟩ := cl_some h
        refine v_callV0 cok2 (As := [vi v1, vi v3]) er ka (tX3_sendsOn h1) (lw_V q676 q678 qs2 q161 q679) rfl dsX3_sendsOn ⟨Nat.le_of_ble_eq_true rfl, Nat.le_of_ble_eq_true rfl⟩ (Nat.le_of_ble_eq_true rfl) dX3_sendsToAll_34 rfl ?_
        exact v_weak (wss (wss (wss (wss wse)))) (lX3_sendsToAll_37 hk12 h)
theorem lX3_sendsToAll_12 {E : EE} {G : GG} : ∀ (f : Nat) {v0 : Option Nat} {v1 : Int32} {v2 : Int32} {v3 : Int32} {σ : Mem} {z : Unit × Mem}, sX3_sendsToAll_12 f v0 v1 v2 v3 σ = some z → V E mX3_sendsToAll G 12 [some (vr v0), some (vi v1), some (vi v2), some (vi v3)] [] σ (none, z.2)
  | 0, _, _, _, _, _, _, h => by cases h
  | f + 1, _, _, _, _, _, _, h => lX3_sendsToAll_12b (fun _ _ _ _ _ _ h => lX3_sendsToAll_12 f h) h
theorem lX3_sendsToAll {E : EE} {G : GG} {v0 : Option Nat} {v1 : Int32} {σ : Mem} {z : Unit × Mem} (h : sX3_sendsToAll v0 v1 σ = some z) : V E mX3_sendsToAll G 0 [some (vr v0), some (vi v1), none, none] [] σ (none, z.2) := by
  unfold sX3_sendsToAll at h
  refine v_al0 dX3_sendsToAll_0 ?_
  refine v_gR cok2 h dX3_sendsToAll_1 (by decide) q359 rfl (fun x1 h => ?_)
  refine v_il1 dX3_sendsToAll_4 ?_
  refine v_aR h (by decide) dX3_sendsToAll_5 (fun x2 h => ?_)
  obtain ⟨b6, er, ka, h⟩ := cV_some h
  obtain ⟨x3, s4, h1, h⟩ := cl_some h
  refine v_callV1 cok3 (As := []) er ka (tX4_members h1) (lw_V q661 q662 q663 q162 q664) rfl dsX4_members ⟨Nat.le_of_ble_eq_true rfl, Nat.le_of_ble_eq_true rfl⟩ (Nat.le_of_ble_eq_true rfl) dX3_sendsToAll_6 rfl ?_
  refine v_istore_n (L' := [some (vr v0), some (vi v1), some (vi x3), none]) dX3_sendsToAll_9 (Nat.le_of_ble_eq_true rfl) (Nat.le_of_ble_eq_true rfl) rfl ?_
  refine v_iconst dX3_sendsToAll_10 ?_
  refine v_istore_n (L' := [some (vr v0), some (vi v1), some (vi x3), some (vi (iI 0))]) dX3_sendsToAll_11 (Nat.le_of_ble_eq_true rfl) (Nat.le_of_ble_eq_true rfl) rfl ?_
  exact v_weak (wss (wss (wss (wss wse)))) (lX3_sendsToAll_12 FU h)
theorem tX3_sendsToAll {E : EE} {l : Launch} {v0 : Option Nat} {v1 : Int32} {σ : Mem} {z : Unit × Mem} (h : sX3_sendsToAll v0 v1 σ = some z) : Mt E l mX3_sendsToAll [vr v0, vi v1] σ (none, z.2) :=
  Mt.ofVL (by decide) (Nat.le_of_ble_eq_true rfl) (fun G hG => lX3_sendsToAll h)
abbrev mX3_withMatch : MM := (yX3_withMatch, cX3_withMatch, 5, (Option.some Jvm.ClassFile.FieldType.int), 1, 20)
theorem dsX3_withMatch : DsOk yX3_withMatch 2 := ⟨by decide, by decide, by decide +kernel⟩
theorem lX3_withMatch_55 {E : EE} {G : GG} {k5 : Option Nat → Int32 → Int32 → Int32 → Int32 → Mem → Option (Int32 × Mem)} (hk5 : ∀ (v0 : Option Nat) (v1 : Int32) (v2 : Int32) (v3 : Int32) (v4 : Int32) (s : Mem) (z : Int32 × Mem), k5 v0 v1 v2 v3 v4 s = some z → V E mX3_withMatch G 5 [some (vr v0), some (vi v1), some (vi v2), some (vi v3), some (vi v4)] [] s (some (vi z.1), z.2)) {v0 : Option Nat} {v1 : Int32} {v2 : Int32} {v4 : Int32} {t0 : Int32} {t1 : Int32} {σ : Mem} {z : Int32 × Mem} (h : sX3_withMatch_55 k5 v0 v1 v2 v4 t0 t1 σ = some z) : V E mX3_withMatch G 55 [some (vr v0), some (vi v1), some (vi v2), none, some (vi v4)] [vi t1, vi t0] σ (some (vi z.1), z.2) := by
  unfold sX3_withMatch_55 at h
  refine v_ior dX3_withMatch_55 ?_
  refine v_istore_n (L' := [some (vr v0), some (vi v1), some (vi v2), some (vi (t0 ||| t1)), some (vi v4)]) dX3_withMatch_56 (Nat.le_of_ble_eq_true rfl) (Nat.le_of_ble_eq_true rfl) rfl ?_
  refine v_iinc (L' := [some (vr v0), some (vi v1), some (vi v2), some (vi (t0 ||| t1)), some (vi (v4 + iI 1))]) dX3_withMatch_57 (Nat.le_of_ble_eq_true rfl) rfl rfl ?_
  refine v_goto (tgt := 5) dX3_withMatch_60 (by decide) ?_
  exact v_weak (wss (wss (wss (wss (wss wse))))) (hk5 _ _ _ _ _ _ _ h)
theorem lX3_withMatch_43 {E : EE} {G : GG} {k5 : Option Nat → Int32 → Int32 → Int32 → Int32 → Mem → Option (Int32 × Mem)} (hk5 : ∀ (v0 : Option Nat) (v1 : Int32) (v2 : Int32) (v3 : Int32) (v4 : Int32) (s : Mem) (z : Int32 × Mem), k5 v0 v1 v2 v3 v4 s = some z → V E mX3_withMatch G 5 [some (vr v0), some (vi v1), some (vi v2), some (vi v3), some (vi v4)] [] s (some (vi z.1), z.2)) {v0 : Option Nat} {v1 : Int32} {v2 : Int32} {v4 : Int32} {t0 : Int32} {t1 : Int32} {σ : Mem} {z : Int32 × Mem} (h : sX3_withMatch_43 k5 v0 v1 v2 v4 t0 t1 σ = some z) : V E mX3_withMatch G 43 [some (vr v0), some (vi v1), some (vi v2), none, some (vi v4)] [vi t1, vi t0] σ (some (vi z.1), z.2) := by
  unfold sX3_withMatch_43 at h
  refine v_il2 dX3_withMatch_43 ?_
  refine v_icmp_lt (tgt := 54) dX3_withMatch_44 (by decide) (fun c => ?_) (fun c => ?_)
  · rw [if_pos c] at h
    refine v_iconst dX3_withMatch_54 ?_
    exact v_weak (wss (wss (wss (wsn (wss wse))))) (lX3_withMatch_55 hk5 h)
  · rw [if_neg c] at h
    refine v_iconst dX3_withMatch_47 ?_
    refine v_iload dX3_withMatch_48 rfl ?_
    refine v_ishl dX3_withMatch_50 ?_
    refine v_goto (tgt := 55) dX3_withMatch_51 (by decide) ?_
    exact v_weak (wss (wss (wss (wsn (wss wse))))) (lX3_withMatch_55 hk5 h)
theorem lX3_withMatch_5b {E : EE} {G : GG} {k5 : Option Nat → Int32 → Int32 → Int32 → Int32 → Mem → Option (Int32 × Mem)} (hk5 : ∀ (v0 : Option Nat) (v1 : Int32) (v2 : Int32) (v3 : Int32) (v4 : Int32) (s : Mem) (z : Int32 × Mem), k5 v0 v1 v2 v3 v4 s = some z → V E mX3_withMatch G 5 [some (vr v0), some (vi v1), some (vi v2), some (vi v3), some (vi v4)] [] s (some (vi z.1), z.2)) {v0 : Option Nat} {v1 : Int32} {v2 : Int32} {v3 : Int32} {v4 : Int32} {σ : Mem} {z : Int32 × Mem} (h : sX3_withMatch_5b k5 v0 v1 v2 v3 v4 σ = some z) : V E mX3_withMatch G 5 [some (vr v0), some (vi v1), some (vi v2), some (vi v3), some (vi v4)] [] σ (some (vi z.1), z.2) := by
  unfold sX3_withMatch_5b at h
  refine v_iload dX3_withMatch_5 rfl ?_
  refine v_bipush dX3_withMatch_7 rfl ?_
  refine v_icmp_ge (tgt := 63) dX3_withMatch_9 (by decide) (fun c => ?_) (fun c => ?_)
  · rw [if_pos c] at h
    refine v_il3 dX3_withMatch_63 ?_
    exact v_retI h dX3_withMatch_64 rfl
  · rw [if_neg c] at h
    refine v_il3 dX3_withMatch_12 ?_
    refine v_iload dX3_withMatch_13 rfl ?_
    refine v_il1 dX3_withMatch_15 ?_
    refine v_icmp_ne (tgt := 31) dX3_withMatch_16 (by decide) (fun c => ?_) (fun c => ?_)
    · rw [if_neg c] at h
      refine v_al0 dX3_withMatch_31 ?_
      refine v_gR cok2 h dX3_withMatch_32 (by decide) q359 rfl (fun x1 h => ?_)
      refine v_il1 dX3_withMatch_35 ?_
      refine v_aR h (by decide) dX3_withMatch_36 (fun x2 h => ?_)
      refine v_gRN cok3 h dX3_withMatch_37 (by decide) q263 rfl (fun x3 h => ?_)
      refine v_iload dX3_withMatch_40 rfl ?_
      refine v_aI h dX3_withMatch_42 (fun x4 h => ?_)
      exact v_weak (wss (wss (wss (wsn (wss wse))))) (lX3_withMatch_43 hk5 h)
    · rw [if_pos c] at h
      refine v_al0 dX3_withMatch_19 ?_
      refine v_gR cok2 h dX3_withMatch_20 (by decide) q359 rfl (fun x5 h => ?_)
      refine v_il1 dX3_withMatch_23 ?_
      refine v_aR h (by decide) dX3_withMatch_24 (fun x6 h => ?_)
      obtain ⟨b25, er, ka, h⟩ := cV_some h
      obtain ⟨x7, s8, h1, h⟩ := cl_some h
      refine v_callV1 cok3 (As := []) er ka (tX4_last h1) (lw_V q643 q644 q645 q162 q646) rfl dsX4_last ⟨Nat.le_of_ble_eq_true rfl, Nat.le_of_ble_eq_true rfl⟩ (Nat.le_of_ble_eq_true rfl) dX3_withMatch_25 rfl ?_
      refine v_goto (tgt := 43) dX3_withMatch_28 (by decide) ?_
      exact v_weak (wss (wss (wss (wsn (wss wse))))) (lX3_withMatch_43 hk5 h)
theorem lX3_withMatch_5 {E : EE} {G : GG} : ∀ (f : Nat) {v0 : Option Nat} {v1 : Int32} {v2 : Int32} {v3 : Int32} {v4 : Int32} {σ : Mem} {z : Int32 × Mem}, sX3_withMatch_5 f v0 v1 v2 v3 v4 σ = some z → V E mX3_withMatch G 5 [some (vr v0), some (vi v1), some (vi v2), some (vi v3), some (vi v4)] [] σ (some (vi z.1), z.2)
  | 0, _, _, _, _, _, _, _, h => by cases h
  | f + 1, _, _, _, _, _, _, _, h => lX3_withMatch_5b (fun _ _ _ _ _ _ _ h => lX3_withMatch_5 f h) h
theorem lX3_withMatch {E : EE} {G : GG} {v0 : Option Nat} {v1 : Int32} {v2 : Int32} {σ : Mem} {z : Int32 × Mem} (h : sX3_withMatch v0 v1 v2 σ = some z) : V E mX3_withMatch G 0 [some (vr v0), some (vi v1), some (vi v2), none, none] [] σ (some (vi z.1), z.2) := by
  unfold sX3_withMatch at h
  refine v_iconst dX3_withMatch_0 ?_
  refine v_istore_n (L' := [some (vr v0), some (vi v1), some (vi v2), some (vi (iI 0)), none]) dX3_withMatch_1 (Nat.le_of_ble_eq_true rfl) (Nat.le_of_ble_eq_true rfl) rfl ?_
  refine v_iconst dX3_withMatch_2 ?_
  refine v_istore (L' := [some (vr v0), some (vi v1), some (vi v2), some (vi (iI 0)), some (vi (iI 0))]) dX3_withMatch_3 (Nat.le_of_ble_eq_true rfl) (Nat.le_of_ble_eq_true rfl) rfl ?_
  exact v_weak (wss (wss (wss (wss (wss wse))))) (lX3_withMatch_5 FU h)
theorem tX3_withMatch {E : EE} {l : Launch} {v0 : Option Nat} {v1 : Int32} {v2 : Int32} {σ : Mem} {z : Int32 × Mem} (h : sX3_withMatch v0 v1 v2 σ = some z) : Mt E l mX3_withMatch [vr v0, vi v1, vi v2] σ (some (vi z.1), z.2) :=
  Mt.ofVL (by decide) (Nat.le_of_ble_eq_true rfl) (fun G hG => lX3_withMatch h)
abbrev mX3_isSeenHeld : MM := (yX3_isSeenHeld, cX3_isSeenHeld, 5, (Option.none : Option Jvm.ClassFile.FieldType), 0, 0)
theorem dsX3_isSeenHeld : DsOk yX3_isSeenHeld 2 := ⟨by decide, by decide, by decide +kernel⟩
theorem lX3_isSeenHeld_35 {E : EE} {G : GG} {v0 : Option Nat} {v1 : Option Nat} {v2 : Int32} {v3 : Int32} {σ : Mem} {z : Unit × Mem} (h : sX3_isSeenHeld_35 v0 v1 v2 v3 σ = some z) : V E mX3_isSeenHeld G 35 [some (vr v0), some (vr v1), some (vi v2), some (vi v3), none] [] σ (none, z.2) := by
  unfold sX3_isSeenHeld_35 at h
  refine v_al0 dX3_isSeenHeld_35 ?_
  refine v_gR cok2 h dX3_isSeenHeld_36 (by decide) q363 rfl (fun x1 h => ?_)
  refine v_il2 dX3_isSeenHeld_39 ?_
  refine v_aR h (by decide) dX3_isSeenHeld_40 (fun x2 h => ?_)
  refine v_astore (L' := [some (vr v0), some (vr v1), some (vi v2), some (vi v3), some (vr x2)]) dX3_isSeenHeld_41 (Nat.le_of_ble_eq_true rfl) (Nat.le_of_ble_eq_true rfl) rfl ?_
  refine v_il2 dX3_isSeenHeld_43 ?_
  refine v_al0 dX3_isSeenHeld_44 ?_
  refine v_gI cok2 h dX3_isSeenHeld_45 (by decide) q381 rfl (fun x3 h => ?_)
  refine v_icmp_gt (tgt := 118) dX3_isSeenHeld_48 (by decide) (fun c => ?_) (fun c => ?_)
  · rw [if_pos c] at h
    refine v_al0 dX3_isSeenHeld_118 ?_
    refine v_il2 dX3_isSeenHeld_119 ?_
    refine v_pI cok2 h dX3_isSeenHeld_120 (by decide) q381 rfl rfl (fun s4 h => ?_)
    refine v_al0 dX3_isSeenHeld_123 ?_
    refine v_dup dX3_isSeenHeld_124 ?_
    refine v_gI cok2 h dX3_isSeenHeld_125 (by decide) q384 rfl (fun x5 h => ?_)
    refine v_iconst dX3_isSeenHeld_128 ?_
    refine v_iadd dX3_isSeenHeld_129 ?_
    refine v_pI cok2 h dX3_isSeenHeld_130 (by decide) q384 rfl rfl (fun s6 h => ?_)
    refine v_aload dX3_isSeenHeld_133 rfl ?_
    refine v_iconst dX3_isSeenHeld_135 ?_
    refine v_al1 dX3_isSeenHeld_136 ?_
    refine v_gRN cok3 h dX3_isSeenHeld_137 (by decide) q242 rfl (fun x7 h => ?_)
    refine v_il3 dX3_isSeenHeld_140 ?_
    refine v_aI h dX3_isSeenHeld_141 (fun x8 h => ?_)
    refine v_sI h dX3_isSeenHeld_142 (fun s9 h => ?_)
    refine v_aload dX3_isSeenHeld_143 rfl ?_
    refine v_iconst dX3_isSeenHeld_145 ?_
    refine v_al1 dX3_isSeenHeld_146 ?_
    refine v_gRN cok3 h dX3_isSeenHeld_147 (by decide) q245 rfl (fun x10 h => ?_)
    refine v_il3 dX3_isSeenHeld_150 ?_
    refine v_aI h dX3_isSeenHeld_151 (fun x11 h => ?_)
    refine v_sI h dX3_isSeenHeld_152 (fun s12 h => ?_)
    refine v_aload dX3_isSeenHeld_153 rfl ?_
    refine v_iconst dX3_isSeenHeld_155 ?_
    refine v_al1 dX3_isSeenHeld_156 ?_
    refine v_gRN cok3 h dX3_isSeenHeld_157 (by decide) q248 rfl (fun x13 h => ?_)
    refine v_il3 dX3_isSeenHeld_160 ?_
    refine v_aI h dX3_isSeenHeld_161 (fun x14 h => ?_)
    refine v_sI h dX3_isSeenHeld_162 (fun s15 h => ?_)
    refine v_aload dX3_isSeenHeld_163 rfl ?_
    refine v_iconst dX3_isSeenHeld_165 ?_
    refine v_al1 dX3_isSeenHeld_166 ?_
    refine v_gRN cok3 h dX3_isSeenHeld_167 (by decide) q251 rfl (fun x16 h => ?_)
    refine v_il3 dX3_isSeenHeld_170 ?_
    refine v_aI h dX3_isSeenHeld_171 (fun x17 h => ?_)
    refine v_sI h dX3_isSeenHeld_172 (fun s18 h => ?_)
    exact v_retV h dX3_isSeenHeld_173 rfl
  · rw [if_neg c] at h
    refine v_al0 dX3_isSeenHeld_51 ?_
    refine v_dup dX3_isSeenHeld_52 ?_
    refine v_gI cok2 h dX3_isSeenHeld_53 (by decide) q377 rfl (fun x19 h => ?_)
    refine v_aload dX3_isSeenHeld_56 rfl ?_
    refine v_iconst dX3_isSeenHeld_58 ?_
    refine v_aI h dX3_isSeenHeld_59 (fun x20 h => ?_)
    refine v_al1 dX3_isSeenHeld_60 ?_
    refine v_gRN cok3 h dX3_isSeenHeld_61 (by decide) q242 rfl (fun x21 h => ?_)
    refine v_il3 dX3_isSeenHeld_64 ?_
    refine v_aI h dX3_isSeenHeld_65 (fun x22 h => ?_)
    refine v_icmp_ne (tgt := 112) dX3_isSeenHeld_66 (by decide) (fun c => ?_) (fun c => ?_)
    · rw [if_neg c] at h
      refine v_iconst dX3_isSeenHeld_112 ?_
      refine v_iadd dX3_isSeenHeld_113 ?_
      refine v_pI cok2 h dX3_isSeenHeld_114 (by decide) q377 rfl rfl (fun s23 h => ?_)
      exact v_retV h dX3_isSeenHeld_117 rfl
    · rw [if_pos c] at h
      refine v_aload dX3_isSeenHeld_69 rfl ?_
      refine v_iconst dX3_isSeenHeld_71 ?_
      refine v_aI h dX3_isSeenHeld_72 (fun x24 h => ?_)
      refine v_al1 dX3_isSeenHeld_73 ?_
      refine v_gRN cok3 h dX3_isSeenHeld_74 (by decide) q245 rfl (fun x25 h => ?_)
      refine v_il3 dX3_isSeenHeld_77 ?_
      refine v_aI h dX3_isSeenHeld_78 (fun x26 h => ?_)
      refine v_icmp_ne (tgt := 112) dX3_isSeenHeld_79 (by decide) (fun c => ?_) (fun c => ?_)
      · rw [if_neg c] at h
        refine v_iconst dX3_isSeenHeld_112 ?_
        refine v_iadd dX3_isSeenHeld_113 ?_
        refine v_pI cok2 h dX3_isSeenHeld_114 (by decide) q377 rfl rfl (fun s27 h => ?_)
        exact v_retV h dX3_isSeenHeld_117 rfl
      · rw [if_pos c] at h
        refine v_aload dX3_isSeenHeld_82 rfl ?_
        refine v_iconst dX3_isSeenHeld_84 ?_
        refine v_aI h dX3_isSeenHeld_85 (fun x28 h => ?_)
        refine v_al1 dX3_isSeenHeld_86 ?_
        refine v_gRN cok3 h dX3_isSeenHeld_87 (by decide) q248 rfl (fun x29 h => ?_)
        refine v_il3 dX3_isSeenHeld_90 ?_
        refine v_aI h dX3_isSeenHeld_91 (fun x30 h => ?_)
        refine v_icmp_ne (tgt := 112) dX3_isSeenHeld_92 (by decide) (fun c => ?_) (fun c => ?_)
        · rw [if_neg c] at h
          refine v_iconst dX3_isSeenHeld_112 ?_
          refine v_iadd dX3_isSeenHeld_113 ?_
          refine v_pI cok2 h dX3_isSeenHeld_114 (by decide) q377 rfl rfl (fun s31 h => ?_)
          exact v_retV h dX3_isSeenHeld_117 rfl
        · rw [if_pos c] at h
          refine v_aload dX3_isSeenHeld_95 rfl ?_
          refine v_iconst dX3_isSeenHeld_97 ?_
          refine v_aI h dX3_isSeenHeld_98 (fun x32 h => ?_)
          refine v_al1 dX3_isSeenHeld_99 ?_
          refine v_gRN cok3 h dX3_isSeenHeld_100 (by decide) q251 rfl (fun x33 h => ?_)
          refine v_il3 dX3_isSeenHeld_103 ?_
          refine v_aI h dX3_isSeenHeld_104 (fun x34 h => ?_)
          refine v_icmp_ne (tgt := 112) dX3_isSeenHeld_105 (by decide) (fun c => ?_) (fun c => ?_)
          · rw [if_neg c] at h
            refine v_iconst dX3_isSeenHeld_112 ?_
            refine v_iadd dX3_isSeenHeld_113 ?_
            refine v_pI cok2 h dX3_isSeenHeld_114 (by decide) q377 rfl rfl (fun s35 h => ?_)
            exact v_retV h dX3_isSeenHeld_117 rfl
          · rw [if_pos c] at h
            refine v_iconst dX3_isSeenHeld_108 ?_
            refine v_goto (tgt := 113) dX3_isSeenHeld_109 (by decide) ?_
            refine v_iadd dX3_isSeenHeld_113 ?_
            refine v_pI cok2 h dX3_isSeenHeld_114 (by decide) q377 rfl rfl (fun s36 h => ?_)
            exact v_retV h dX3_isSeenHeld_117 rfl
theorem lX3_isSeenHeld {E : EE} {G : GG} {v0 : Option Nat} {v1 : Option Nat} {v2 : Int32} {σ : Mem} {z : Unit × Mem} (h : sX3_isSeenHeld v0 v1 v2 σ = some z) : V E mX3_isSeenHeld G 0 [some (vr v0), some (vr v1), some (vi v2), none, none] [] σ (none, z.2) := by
  unfold sX3_isSeenHeld at h
  refine v_il2 dX3_isSeenHeld_0 ?_
  refine v_al1 dX3_isSeenHeld_1 ?_
  refine v_gIN cok3 h dX3_isSeenHeld_2 (by decide) q275 rfl (fun x1 h => ?_)
  refine v_isub dX3_isSeenHeld_5 ?_
  refine v_iconst dX3_isSeenHeld_6 ?_
  refine v_isub dX3_isSeenHeld_7 ?_
  refine v_istore_n (L' := [some (vr v0), some (vr v1), some (vi v2), some (vi ((v2 - x1) - (iI 1))), none]) dX3_isSeenHeld_8 (Nat.le_of_ble_eq_true rfl) (Nat.le_of_ble_eq_true rfl) rfl ?_
  refine v_al1 dX3_isSeenHeld_9 ?_
  refine v_gRN cok3 h dX3_isSeenHeld_10 (by decide) q245 rfl (fun x2 h => ?_)
  refine v_il3 dX3_isSeenHeld_13 ?_
  refine v_aI h dX3_isSeenHeld_14 (fun x3 h => ?_)
  refine v_if_ne (tgt := 35) dX3_isSeenHeld_15 (by decide) (fun c => ?_) (fun c => ?_)
  · rw [if_neg c] at h
    exact v_weak (wss (wss (wss (wss (wsn wse))))) (lX3_isSeenHeld_35 h)
  · rw [if_pos c] at h
    refine v_al1 dX3_isSeenHeld_18 ?_
    refine v_gRN cok3 h dX3_isSeenHeld_19 (by decide) q254 rfl (fun x4 h => ?_)
    refine v_al1 dX3_isSeenHeld_22 ?_
    refine v_gRN cok3 h dX3_isSeenHeld_23 (by decide) q248 rfl (fun x5 h => ?_)
    refine v_il3 dX3_isSeenHeld_26 ?_
    refine v_aI h dX3_isSeenHeld_27 (fun x6 h => ?_)
    refine v_al1 dX3_isSeenHeld_28 ?_
    refine v_gRN cok3 h dX3_isSeenHeld_29 (by decide) q251 rfl (fun x7 h => ?_)
    refine v_il3 dX3_isSeenHeld_32 ?_
    refine v_aI h dX3_isSeenHeld_33 (fun x8 h => ?_)
    refine v_sI h dX3_isSeenHeld_34 (fun s9 h => ?_)
    exact v_weak (wss (wss (wss (wss (wsn wse))))) (lX3_isSeenHeld_35 h)
theorem tX3_isSeenHeld {E : EE} {l : Launch} {v0 : Option Nat} {v1 : Option Nat} {v2 : Int32} {σ : Mem} {z : Unit × Mem} (h : sX3_isSeenHeld v0 v1 v2 σ = some z) : Mt E l mX3_isSeenHeld [vr v0, vr v1, vi v2] σ (none, z.2) :=
  Mt.ofVL (by decide) (Nat.le_of_ble_eq_true rfl) (fun G hG => lX3_isSeenHeld h)
abbrev mX3_commits : MM := (yX3_commits, cX3_commits, 4, (Option.none : Option Jvm.ClassFile.FieldType), 1, 24)
theorem dsX3_commits : DsOk yX3_commits 2 := ⟨by decide, by decide, by decide +kernel⟩
theorem lX3_commits_7b {E : EE} {G : GG} {k7 : Option Nat → Int32 → Option Nat → Mem → Option (Unit × Mem)} (hk7 : ∀ (v0 : Option Nat) (v2 : Int32) (v3 : Option Nat) (s : Mem) (z : Unit × Mem), k7 v0 v2 v3 s = some z → V E mX3_commits G 7 [some (vr v0), none, some (vi v2), some (vr v3)] [] s (none, z.2)) {v0 : Option Nat} {v2 : Int32} {v3 : Option Nat} {σ : Mem} {z : Unit × Mem} (h : sX3_commits_7b k7 v0 v2 v3 σ = some z) : V E mX3_commits G 7 [some (vr v0), none, some (vi v2), some (vr v3)] [] σ (none, z.2) := by
  unfold sX3_commits_7b at h
  refine v_al3 dX3_commits_7 ?_
  refine v_gIN cok3 h dX3_commits_8 (by decide) q289 rfl (fun x1 h => ?_)
  refine v_il2 dX3_commits_11 ?_
  refine v_icmp_ge (tgt := 37) dX3_commits_12 (by decide) (fun c => ?_) (fun c => ?_)
  · rw [if_pos c] at h
    exact v_retV h dX3_commits_37 rfl
  · rw [if_neg c] at h
    refine v_al3 dX3_commits_15 ?_
    refine v_dup dX3_commits_16 ?_
    refine v_gIN cok3 h dX3_commits_17 (by decide) q289 rfl (fun x2 h => ?_)
    refine v_iconst dX3_commits_20 ?_
    refine v_iadd dX3_commits_21 ?_
    refine v_pIN cok3 h dX3_commits_22 (by decide) q289 rfl rfl (fun s3 h => ?_)
    refine v_al0 dX3_commits_25 ?_
    refine v_al3 dX3_commits_26 ?_
    refine v_al3 dX3_commits_27 ?_
    refine v_gIN cok3 h dX3_commits_28 (by decide) q289 rfl (fun x4 h => ?_)
    obtain ⟨b31, er, ka, h⟩ := cV_some h
    obtain ⟨_, s5, h1, h⟩ := cl_some h
    refine v_callV0 cok2 (As := [vr v3, vi x4]) er ka (tX3_isSeenHeld h1) (lw_V q732 q734 qs9 q161 q735) rfl dsX3_isSeenHeld ⟨Nat.le_of_ble_eq_true rfl, Nat.le_of_ble_eq_true rfl⟩ (Nat.le_of_ble_eq_true rfl) dX3_commits_31 rfl ?_
    refine v_goto (tgt := 7) dX3_commits_34 (by decide) ?_
    exact v_weak (wss (wsn (wss (wss wse)))) (hk7 _ _ _ _ _ h)
theorem lX3_commits_7 {E : EE} {G : GG} : ∀ (f : Nat) {v0 : Option Nat} {v2 : Int32} {v3 : Option Nat} {σ : Mem} {z : Unit × Mem}, sX3_commits_7 f v0 v2 v3 σ = some z → V E mX3_commits G 7 [some (vr v0), none, some (vi v2), some (vr v3)] [] σ (none, z.2)
  | 0, _, _, _, _, _, h => by cases h
  | f + 1, _, _, _, _, _, h => lX3_commits_7b (fun _ _ _ _ _ h => lX3_commits_7 f h) h
theorem lX3_commits {E : EE} {G : GG} {v0 : Option Nat} {v1 : Int32} {v2 : Int32} {σ : Mem} {z : Unit × Mem} (h : sX3_commits v0 v1 v2 σ = some z) : V E mX3_commits G 0 [some (vr v0), some (vi v1), some (vi v2), none] [] σ (none, z.2) := by
  unfold sX3_commits at h
  refine v_al0 dX3_commits_0 ?_
  refine v_gR cok2 h dX3_commits_1 (by decide) q359 rfl (fun x1 h => ?_)
  refine v_il1 dX3_commits_4 ?_
  refine v_aR h (by decide) dX3_commits_5 (fun x2 h => ?_)
  refine v_astore_n (L' := [some (vr v0), some (vi v1), some (vi v2), some (vr x2)]) dX3_commits_6 (Nat.le_of_ble_eq_true rfl) (Nat.le_of_ble_eq_true rfl) rfl ?_
  exact v_weak (wss (wsn (wss (wss wse)))) (lX3_commits_7 FU h)
theorem tX3_commits {E : EE} {l : Launch} {v0 : Option Nat} {v1 : Int32} {v2 : Int32} {σ : Mem} {z : Unit × Mem} (h : sX3_commits v0 v1 v2 σ = some z) : Mt E l mX3_commits [vr v0, vi v1, vi v2] σ (none, z.2) :=
  Mt.ofVL (by decide) (Nat.le_of_ble_eq_true rfl) (fun G hG => lX3_commits h)
abbrev mX3_follows : MM := (yX3_follows, cX3_follows, 4, (Option.none : Option Jvm.ClassFile.FieldType), 1, 22)
theorem dsX3_follows : DsOk yX3_follows 2 := ⟨by decide, by decide, by decide +kernel⟩
theorem lX3_follows_20 {E : EE} {G : GG} {v2 : Int32} {v3 : Option Nat} {σ : Mem} {z : Unit × Mem} (h : sX3_follows_20 v2 v3 σ = some z) : V E mX3_follows G 20 [none, none, some (vi v2), some (vr v3)] [] σ (none, z.2) := by
  unfold sX3_follows_20 at h
  refine v_al3 dX3_follows_20 ?_
  refine v_iconst dX3_follows_21 ?_
  refine v_pIN cok3 h dX3_follows_22 (by decide) q287 rfl rfl (fun s1 h => ?_)
  refine v_al3 dX3_follows_25 ?_
  refine v_il2 dX3_follows_26 ?_
  refine v_pIN cok3 h dX3_follows_27 (by decide) q295 rfl rfl (fun s2 h => ?_)
  exact v_retV h dX3_follows_30 rfl
theorem lX3_follows {E : EE} {G : GG} {v0 : Option Nat} {v1 : Int32} {v2 : Int32} {σ : Mem} {z : Unit × Mem} (h : sX3_follows v0 v1 v2 σ = some z) : V E mX3_follows G 0 [some (vr v0), some (vi v1), some (vi v2), none] [] σ (none, z.2) := by
  unfold sX3_follows at h
  refine v_al0 dX3_follows_0 ?_
  refine v_gR cok2 h dX3_follows_1 (by decide) q359 rfl (fun x1 h => ?_)
  refine v_il1 dX3_follows_4 ?_
  refine v_aR h (by decide) dX3_follows_5 (fun x2 h => ?_)
  refine v_astore_n (L' := [some (vr v0), some (vi v1), some (vi v2), some (vr x2)]) dX3_follows_6 (Nat.le_of_ble_eq_true rfl) (Nat.le_of_ble_eq_true rfl) rfl ?_
  refine v_al3 dX3_follows_7 ?_
  refine v_gIN cok3 h dX3_follows_8 (by decide) q287 rfl (fun x3 h => ?_)
  refine v_iconst dX3_follows_11 ?_
  refine v_icmp_ne (tgt := 20) dX3_follows_12 (by decide) (fun c => ?_) (fun c => ?_)
  · rw [if_neg c] at h
    exact v_weak (wsn (wsn (wss (wss wse)))) (lX3_follows_20 h)
  · rw [if_pos c] at h
    refine v_al0 dX3_follows_15 ?_
    refine v_il1 dX3_follows_16 ?_
    obtain ⟨b17, er, ka, h⟩ := cV_some h
    obtain ⟨_, s4, h1, h⟩ := cl_some h
    refine v_callV0 cok2 (As := [vi v1]) er ka (tX3_losesReads h1) (lw_V q745 q586 q587 q161 q588) rfl dsX3_losesReads ⟨Nat.le_of_ble_eq_true rfl, Nat.le_of_ble_eq_true rfl⟩ (Nat.le_of_ble_eq_true rfl) dX3_follows_17 rfl ?_
    exact v_weak (wsn (wsn (wss (wss wse)))) (lX3_follows_20 h)
theorem tX3_follows {E : EE} {l : Launch} {v0 : Option Nat} {v1 : Int32} {v2 : Int32} {σ : Mem} {z : Unit × Mem} (h : sX3_follows v0 v1 v2 σ = some z) : Mt E l mX3_follows [vr v0, vi v1, vi v2] σ (none, z.2) :=
  Mt.ofVL (by decide) (Nat.le_of_ble_eq_true rfl) (fun G hG => lX3_follows h)
abbrev mX3_holds (d : Nat) : MM := (yX3_holds, cX3_holds, 4, (Option.none : Option Jvm.ClassFile.FieldType), 89 + d, 8208 + 100 * d)
theorem dsX3_holds : DsOk yX3_holds 1 := ⟨by decide, by decide, by decide +kernel⟩
theorem lX3_holds_51 {E : EE} {G : GG} {d : Nat} {rX3_holds : Option Nat → Int32 → Mem → Option (Unit × Mem)} (hrX3_holds : ∀ (l : Launch) {a0 : Option Nat} {a1 : Int32} {s : Mem} {z : Unit × Mem}, rX3_holds a0 a1 s = some z → Mt E l (mX3_holds d) [vr a0, vi a1] s (none, z.2)) {v0 : Option Nat} {v1 : Int32} {v2 : Option Nat} {v3 : Int32} {σ : Mem} {z : Unit × Mem} (h : sX3_holds_51 rX3_holds v0 v1 v2 v3 σ = some z) : V E (mX3_holds (d + 1)) G 51 [some (vr v0), some (vi v1), some (vr v2), some (vi v3)] [] σ (none, z.2) := by
  unfold sX3_holds_51 at h
  refine v_al0 dX3_holds_51 ?_
  refine v_il1 dX3_holds_52 ?_
  refine v_il3 dX3_holds_53 ?_
  obtain ⟨b54, er, ka, h⟩ := cV_some h
  obtain ⟨_, s1, h1, h⟩ := cl_some h
  refine v_callV0 cok2 (As := [vi v1, vi v3]) er ka (tX3_commits h1) (lw_V q728 q730 qs8 q161 q731) rfl dsX3_commits ⟨by simp only [mX3_holds, mX3_commits] <;> omega, by simp only [mX3_holds, mX3_commits] <;> omega⟩ (Nat.le_of_ble_eq_true rfl) dX3_holds_54 rfl ?_
  refine v_al2 dX3_holds_57 ?_
  obtain ⟨b58, er, ka, h⟩ := cV_some h
  obtain ⟨x2, s3, h1, h⟩ := cl_some h
  refine v_callV1 cok3 (As := []) er ka (tX4_isConfigHeld h1) (lw_V q736 q737 q738 q162 q739) rfl dsX4_isConfigHeld ⟨by simp only [mX3_holds, mX4_isConfigHeld] <;> omega, by simp only [mX3_holds, mX4_isConfigHeld] <;> omega⟩ (Nat.le_of_ble_eq_true rfl) dX3_holds_58 rfl ?_
  refine v_if_ne (tgt := 65) dX3_holds_61 (by decide) (fun c => ?_) (fun c => ?_)
  · rw [if_neg c] at h
    refine v_al2 dX3_holds_65 ?_
    obtain ⟨b66, er, ka, h⟩ := cV_some h
    obtain ⟨x4, s5, h1, h⟩ := cl_some h
    refine v_callV1 cok3 (As := []) er ka (tX4_news h1) (lw_V q740 q670 q671 q162 q672) rfl dsX4_news ⟨by simp only [mX3_holds, mX4_news] <;> omega, by simp only [mX3_holds, mX4_news] <;> omega⟩ (Nat.le_of_ble_eq_true rfl) dX3_holds_66 rfl ?_
    refine v_if_eq (tgt := 111) dX3_holds_69 (by decide) (fun c => ?_) (fun c => ?_)
    · rw [if_pos c] at h
      refine v_al2 dX3_holds_111 ?_
      obtain ⟨b112, er, ka, h⟩ := cV_some h
      obtain ⟨x6, s7, h1, h⟩ := cl_some h
      refine v_callV1 cok3 (As := []) er ka (tX4_members h1) (lw_V q661 q662 q663 q162 q664) rfl dsX4_members ⟨by simp only [mX3_holds, mX4_members] <;> omega, by simp only [mX3_holds, mX4_members] <;> omega⟩ (Nat.le_of_ble_eq_true rfl) dX3_holds_112 rfl ?_
      refine v_il1 dX3_holds_115 ?_
      obtain ⟨x8, s9, h1, h⟩ := cl_some h
      refine v_callSN1 (As := [vi x6, vi v1]) (tX0_has h1) q673 q675 q674 q158 dsX0_has ⟨by simp only [mX3_holds, mX0_has] <;> omega, by simp only [mX3_holds, mX0_has] <;> omega⟩ (Nat.le_of_ble_eq_true rfl) dX3_holds_116 rfl ?_
      refine v_if_eq (tgt := 123) dX3_holds_119 (by decide) (fun c => ?_) (fun c => ?_)
      · rw [if_pos c] at h
        refine v_al0 dX3_holds_123 ?_
        refine v_il1 dX3_holds_124 ?_
        refine v_iconst dX3_holds_125 ?_
        obtain ⟨b126, er, ka, h⟩ := cV_some h
        obtain ⟨_, s10, h1, h⟩ := cl_some h
        refine v_callV0 cok2 (As := [vi v1, vi (iI (-1))]) er ka (tX3_follows h1) (lw_V q741 q743 qs10 q161 q744) rfl dsX3_follows ⟨by simp only [mX3_holds, mX3_follows] <;> omega, by simp only [mX3_holds, mX3_follows] <;> omega⟩ (Nat.le_of_ble_eq_true rfl) dX3_holds_126 rfl ?_
        refine v_al0 dX3_holds_129 ?_
        refine v_il1 dX3_holds_130 ?_
        obtain ⟨b131, er, ka, h⟩ := cV_some h
        obtain ⟨_, s11, h1, h⟩ := cl_some h
        refine v_callV0 cok2 (As := [vi v1]) er ka (tX3_setsTimer h1) (lw_V q465 q466 q467 q161 q468) rfl dsX3_setsTimer ⟨by simp only [mX3_holds, mX3_setsTimer] <;> omega, by simp only [mX3_holds, mX3_setsTimer] <;> omega⟩ (Nat.le_of_ble_eq_true rfl) dX3_holds_131 rfl ?_
        exact v_retV h dX3_holds_134 rfl
      · rw [if_neg c] at h
        exact v_retV h dX3_holds_122 rfl
    · rw [if_neg c] at h
      refine v_al2 dX3_holds_72 ?_
      refine v_al2 dX3_holds_73 ?_
      refine v_gIN cok3 h dX3_holds_74 (by decide) q269 rfl (fun x12 h => ?_)
      refine v_iconst dX3_holds_77 ?_
      refine v_al2 dX3_holds_78 ?_
      obtain ⟨b79, er, ka, h⟩ := cV_some h
      obtain ⟨x13, s14, h1, h⟩ := cl_some h
      refine v_callV1 cok3 (As := []) er ka (tX4_news h1) (lw_V q740 q670 q671 q162 q672) rfl dsX4_news ⟨by simp only [mX3_holds, mX4_news] <;> omega, by simp only [mX3_holds, mX4_news] <;> omega⟩ (Nat.le_of_ble_eq_true rfl) dX3_holds_79 rfl ?_
      refine v_iconst dX3_holds_82 ?_
      obtain ⟨b83, er, ka, h⟩ := cV_some h
      obtain ⟨x15, s16, h1, h⟩ := cl_some h
      refine v_callV1 cok3 (As := [vi x12, vi (iI 1), vi x13, vi (iI 0)]) er ka (tX4_lays h1) (lw_V q651 q652 q653 q162 q654) rfl dsX4_lays ⟨by simp only [mX3_holds, mX4_lays] <;> omega, by simp only [mX3_holds, mX4_lays] <;> omega⟩ (Nat.le_of_ble_eq_true rfl) dX3_holds_83 rfl ?_
      refine v_if_ne (tgt := 90) dX3_holds_86 (by decide) (fun c => ?_) (fun c => ?_)
      · rw [if_neg c] at h
        refine v_al2 dX3_holds_90 ?_
        refine v_gRN cok3 h dX3_holds_91 (by decide) q263 rfl (fun x17 h => ?_)
        refine v_il1 dX3_holds_94 ?_
        refine v_al2 dX3_holds_95 ?_
        obtain ⟨b96, er, ka, h⟩ := cV_some h
        obtain ⟨x18, s19, h1, h⟩ := cl_some h
        refine v_callV1 cok3 (As := []) er ka (tX4_last h1) (lw_V q643 q644 q645 q162 q646) rfl dsX4_last ⟨by simp only [mX3_holds, mX4_last] <;> omega, by simp only [mX3_holds, mX4_last] <;> omega⟩ (Nat.le_of_ble_eq_true rfl) dX3_holds_96 rfl ?_
        refine v_sI h dX3_holds_99 (fun s20 h => ?_)
        refine v_al0 dX3_holds_100 ?_
        refine v_il1 dX3_holds_101 ?_
        obtain ⟨b102, er, ka, h⟩ := cV_some h
        obtain ⟨_, s21, h1, h⟩ := cl_some h
        refine v_callV0 cok2 (As := [vi v1]) er ka (tX3_sendsToAll h1) (lw_V q657 q658 q659 q161 q660) rfl dsX3_sendsToAll ⟨by simp only [mX3_holds, mX3_sendsToAll] <;> omega, by simp only [mX3_holds, mX3_sendsToAll] <;> omega⟩ (Nat.le_of_ble_eq_true rfl) dX3_holds_102 rfl ?_
        refine v_al0 dX3_holds_105 ?_
        refine v_il1 dX3_holds_106 ?_
        obtain ⟨b107, er, ka, h⟩ := cV_some h
        obtain ⟨_, s22, h1, h⟩ := cl_some h
        refine v_callV0 cok2 (As := [vi v1]) er ka (hrX3_holds _ h1) (lw_V q707 q708 q709 q161 q710) rfl dsX3_holds ⟨by simp only [mX3_holds, mX3_holds] <;> omega, by simp only [mX3_holds, mX3_holds] <;> omega⟩ (Nat.le_of_ble_eq_true rfl) dX3_holds_107 rfl ?_
        exact v_retV h dX3_holds_110 rfl
      · rw [if_pos c] at h
        exact v_retV h dX3_holds_89 rfl
  · rw [if_pos c] at h
    exact v_retV h dX3_holds_64 rfl
theorem lX3_holds_45 {E : EE} {G : GG} {d : Nat} {rX3_holds : Option Nat → Int32 → Mem → Option (Unit × Mem)} (hrX3_holds : ∀ (l : Launch) {a0 : Option Nat} {a1 : Int32} {s : Mem} {z : Unit × Mem}, rX3_holds a0 a1 s = some z → Mt E l (mX3_holds d) [vr a0, vi a1] s (none, z.2)) {k12 : Option Nat → Int32 → Option Nat → Int32 → Mem → Option (Unit × Mem)} (hk12 : ∀ (v0 : Option Nat) (v1 : Int32) (v2 : Option Nat) (v3 : Int32) (s : Mem) (z : Unit × Mem), k12 v0 v1 v2 v3 s = some z → V E (mX3_holds (d + 1)) G 12 [some (vr v0), some (vi v1), some (vr v2), some (vi v3)] [] s (none, z.2)) {v0 : Option Nat} {v1 : Int32} {v2 : Option Nat} {v3 : Int32} {σ : Mem} {z : Unit × Mem} (h : sX3_holds_45 rX3_holds k12 v0 v1 v2 v3 σ = some z) : V E (mX3_holds (d + 1)) G 45 [some (vr v0), some (vi v1), some (vr v2), some (vi v3)] [] σ (none, z.2) := by
  unfold sX3_holds_45 at h
  refine v_iinc (L' := [some (vr v0), some (vi v1), some (vr v2), some (vi (v3 + iI (-1)))]) dX3_holds_45 (Nat.le_of_ble_eq_true rfl) rfl rfl ?_
  refine v_goto (tgt := 12) dX3_holds_48 (by decide) ?_
  exact v_weak (wss (wss (wss (wss wse)))) (hk12 _ _ _ _ _ _ h)
theorem lX3_holds_12b {E : EE} {G : GG} {d : Nat} {rX3_holds : Option Nat → Int32 → Mem → Option (Unit × Mem)} (hrX3_holds : ∀ (l : Launch) {a0 : Option Nat} {a1 : Int32} {s : Mem} {z : Unit × Mem}, rX3_holds a0 a1 s = some z → Mt E l (mX3_holds d) [vr a0, vi a1] s (none, z.2)) {k12 : Option Nat → Int32 → Option Nat → Int32 → Mem → Option (Unit × Mem)} (hk12 : ∀ (v0 : Option Nat) (v1 : Int32) (v2 : Option Nat) (v3 : Int32) (s : Mem) (z : Unit × Mem), k12 v0 v1 v2 v3 s = some z → V E (mX3_holds (d + 1)) G 12 [some (vr v0), some (vi v1), some (vr v2), some (vi v3)] [] s (none, z.2)) {v0 : Option Nat} {v1 : Int32} {v2 : Option Nat} {v3 : Int32} {σ : Mem} {z : Unit × Mem} (h : sX3_holds_12b rX3_holds k12 v0 v1 v2 v3 σ = some z) : V E (mX3_holds (d + 1)) G 12 [some (vr v0), some (vi v1), some (vr v2), some (vi v3)] [] σ (none, z.2) := by
  unfold sX3_holds_12b at h
  refine v_il3 dX3_holds_12 ?_
  refine v_al2 dX3_holds_13 ?_
  refine v_gIN cok3 h dX3_holds_14 (by decide) q289 rfl (fun x1 h => ?_)
  refine v_icmp_le (tgt := 51) dX3_holds_17 (by decide) (fun c => ?_) (fun c => ?_)
  · rw [if_pos c] at h
    exact v_weak (wss (wss (wss (wss wse)))) (lX3_holds_51 hrX3_holds h)
  · rw [if_neg c] at h
    refine v_al2 dX3_holds_20 ?_
    refine v_il3 dX3_holds_21 ?_
    obtain ⟨b22, er, ka, h⟩ := cV_some h
    obtain ⟨x2, s3, h1, h⟩ := cl_some h
    refine v_callV1 cok3 (As := [vi v3]) er ka (tX4_termAt h1) (lw_V q684 q624 q625 q162 q626) rfl dsX4_termAt ⟨by simp only [mX3_holds, mX4_termAt] <;> omega, by simp only [mX3_holds, mX4_termAt] <;> omega⟩ (Nat.le_of_ble_eq_true rfl) dX3_holds_22 rfl ?_
    refine v_al2 dX3_holds_25 ?_
    refine v_gIN cok3 h dX3_holds_26 (by decide) q269 rfl (fun x4 h => ?_)
    refine v_icmp_ne (tgt := 45) dX3_holds_29 (by decide) (fun c => ?_) (fun c => ?_)
    · rw [if_neg c] at h
      exact v_weak (wss (wss (wss (wss wse)))) (lX3_holds_45 hrX3_holds hk12 h)
    · rw [if_pos c] at h
      refine v_al2 dX3_holds_32 ?_
      refine v_al0 dX3_holds_33 ?_
      refine v_il1 dX3_holds_34 ?_
      refine v_il3 dX3_holds_35 ?_
      obtain ⟨b36, er, ka, h⟩ := cV_some h
      obtain ⟨x5, s6, h1, h⟩ := cl_some h
      refine v_callV1 cok2 (As := [vi v1, vi v3]) er ka (tX3_withMatch h1) (lw_V q711 q713 qs7 q161 q714) rfl dsX3_withMatch ⟨by simp only [mX3_holds, mX3_withMatch] <;> omega, by simp only [mX3_holds, mX3_withMatch] <;> omega⟩ (Nat.le_of_ble_eq_true rfl) dX3_holds_36 rfl ?_
      obtain ⟨b39, er, ka, h⟩ := cV_some h
      obtain ⟨x7, s8, h1, h⟩ := cl_some h
      refine v_callV1 cok3 (As := [vi x5]) er ka (tX4_isMajority h1) (lw_V q715 q716 q717 q162 q718) rfl dsX4_isMajority ⟨by simp only [mX3_holds, mX4_isMajority] <;> omega, by simp only [mX3_holds, mX4_isMajority] <;> omega⟩ (Nat.le_of_ble_eq_true rfl) dX3_holds_39 rfl ?_
      refine v_if_ne (tgt := 51) dX3_holds_42 (by decide) (fun c => ?_) (fun c => ?_)
      · rw [if_neg c] at h
        exact v_weak (wss (wss (wss (wss wse)))) (lX3_holds_51 hrX3_holds h)
      · rw [if_pos c] at h
        exact v_weak (wss (wss (wss (wss wse)))) (lX3_holds_45 hrX3_holds hk12 h)
theorem lX3_holds_12 {E : EE} {G : GG} {d : Nat} {rX3_holds : Option Nat → Int32 → Mem → Option (Unit × Mem)} (hrX3_holds : ∀ (l : Launch) {a0 : Option Nat} {a1 : Int32} {s : Mem} {z : Unit × Mem}, rX3_holds a0 a1 s = some z → Mt E l (mX3_holds d) [vr a0, vi a1] s (none, z.2)) : ∀ (f : Nat) {v0 : Option Nat} {v1 : Int32} {v2 : Option Nat} {v3 : Int32} {σ : Mem} {z : Unit × Mem}, sX3_holds_12 rX3_holds f v0 v1 v2 v3 σ = some z → V E (mX3_holds (d + 1)) G 12 [some (vr v0), some (vi v1), some (vr v2), some (vi v3)] [] σ (none, z.2)
  | 0, _, _, _, _, _, _, h => by cases h
  | f + 1, _, _, _, _, _, _, h => lX3_holds_12b hrX3_holds (fun _ _ _ _ _ _ h => lX3_holds_12 hrX3_holds f h) h
theorem lX3_holds_0 {E : EE} {G : GG} {d : Nat} {rX3_holds : Option Nat → Int32 → Mem → Option (Unit × Mem)} (hrX3_holds : ∀ (l : Launch) {a0 : Option Nat} {a1 : Int32} {s : Mem} {z : Unit × Mem}, rX3_holds a0 a1 s = some z → Mt E l (mX3_holds d) [vr a0, vi a1] s (none, z.2)) {v0 : Option Nat} {v1 : Int32} {σ : Mem} {z : Unit × Mem} (h : sX3_holds_0 rX3_holds v0 v1 σ = some z) : V E (mX3_holds (d + 1)) G 0 [some (vr v0), some (vi v1), none, none] [] σ (none, z.2) := by
  unfold sX3_holds_0 at h
  refine v_al0 dX3_holds_0 ?_
  refine v_gR cok2 h dX3_holds_1 (by decide) q359 rfl (fun x1 h => ?_)
  refine v_il1 dX3_holds_4 ?_
  refine v_aR h (by decide) dX3_holds_5 (fun x2 h => ?_)
  refine v_astore_n (L' := [some (vr v0), some (vi v1), some (vr x2), none]) dX3_holds_6 (Nat.le_of_ble_eq_true rfl) (Nat.le_of_ble_eq_true rfl) rfl ?_
  refine v_al2 dX3_holds_7 ?_
  obtain ⟨b8, er, ka, h⟩ := cV_some h
  obtain ⟨x3, s4, h1, h⟩ := cl_some h
  refine v_callV1 cok3 (As := []) er ka (tX4_last h1) (lw_V q643 q644 q645 q162 q646) rfl dsX4_last ⟨by simp only [mX3_holds, mX4_last] <;> omega, by simp only [mX3_holds, mX4_last] <;> omega⟩ (Nat.le_of_ble_eq_true rfl) dX3_holds_8 rfl ?_
  refine v_istore_n (L' := [some (vr v0), some (vi v1), some (vr x2), some (vi x3)]) dX3_holds_11 (Nat.le_of_ble_eq_true rfl) (Nat.le_of_ble_eq_true rfl) rfl ?_
  exact v_weak (wss (wss (wss (wss wse)))) (lX3_holds_12 hrX3_holds FU h)
theorem tgX3_holds {E : EE} : ∀ d : Nat, (∀ (l : Launch) {a0 : Option Nat} {a1 : Int32} {s : Mem} {z : Unit × Mem}, (gX3_holds d) a0 a1 s = some z → Mt E l (mX3_holds d) [vr a0, vi a1] s (none, z.2))
  | 0 => (by intro l a0 a1 s z h; cases h)
  | d + 1 => by
    have ih := tgX3_holds (E := E) d
    have i0 := ih
    exact fun l _ _ s z h => Mt.ofVL (show plainName yX3_holds.cls = true from by decide) (Nat.le_of_ble_eq_true rfl) (fun G hG => lX3_holds_0 i0 h)
theorem tX3_holds {E : EE} {l : Launch} (d : Nat) {a0 : Option Nat} {a1 : Int32} {σ : Mem} {z : Unit × Mem} (h : sX3_holds d a0 a1 σ = some z) : Mt E l (mX3_holds d) [vr a0, vi a1] σ (none, z.2) := (tgX3_holds (E := E) d) l h
abbrev mX3_laysFor : MM := (yX3_laysFor, cX3_laysFor, 7, (Option.some Jvm.ClassFile.FieldType.int), 94, 8631)
theorem dsX3_laysFor : DsOk yX3_laysFor 4 := ⟨by decide, by decide, by decide +kernel⟩
theorem lX3_laysFor {E : EE} {G : GG} {v0 : Option Nat} {v1 : Int32} {v2 : Int32} {v3 : Int32} {v4 : Int32} {σ : Mem} {z : Int32 × Mem} (h : sX3_laysFor v0 v1 v2 v3 v4 σ = some z) : V E mX3_laysFor G 0 [some (vr v0), some (vi v1), some (vi v2), some (vi v3), some (vi v4), none, none] [] σ (some (vi z.1), z.2) := by
  unfold sX3_laysFor at h
  refine v_al0 dX3_laysFor_0 ?_
  refine v_gR cok2 h dX3_laysFor_1 (by decide) q359 rfl (fun x1 h => ?_)
  refine v_il1 dX3_laysFor_4 ?_
  refine v_aR h (by decide) dX3_laysFor_5 (fun x2 h => ?_)
  refine v_astore (L' := [some (vr v0), some (vi v1), some (vi v2), some (vi v3), some (vi v4), some (vr x2), none]) dX3_laysFor_6 (Nat.le_of_ble_eq_true rfl) (Nat.le_of_ble_eq_true rfl) rfl ?_
  refine v_aload dX3_laysFor_8 rfl ?_
  refine v_aload dX3_laysFor_10 rfl ?_
  refine v_gIN cok3 h dX3_laysFor_12 (by decide) q269 rfl (fun x3 h => ?_)
  refine v_il2 dX3_laysFor_15 ?_
  refine v_il3 dX3_laysFor_16 ?_
  refine v_iload dX3_laysFor_17 rfl ?_
  obtain ⟨b19, er, ka, h⟩ := cV_some h
  obtain ⟨x4, s5, h1, h⟩ := cl_some h
  refine v_callV1 cok3 (As := [vi x3, vi v2, vi v3, vi v4]) er ka (tX4_lays h1) (lw_V q651 q652 q653 q162 q654) rfl dsX4_lays ⟨Nat.le_of_ble_eq_true rfl, Nat.le_of_ble_eq_true rfl⟩ (Nat.le_of_ble_eq_true rfl) dX3_laysFor_19 rfl ?_
  refine v_pop dX3_laysFor_22 ?_
  refine v_aload dX3_laysFor_23 rfl ?_
  obtain ⟨b25, er, ka, h⟩ := cV_some h
  obtain ⟨x6, s7, h1, h⟩ := cl_some h
  refine v_callV1 cok3 (As := []) er ka (tX4_last h1) (lw_V q643 q644 q645 q162 q646) rfl dsX4_last ⟨Nat.le_of_ble_eq_true rfl, Nat.le_of_ble_eq_true rfl⟩ (Nat.le_of_ble_eq_true rfl) dX3_laysFor_25 rfl ?_
  refine v_istore (L' := [some (vr v0), some (vi v1), some (vi v2), some (vi v3), some (vi v4), some (vr x2), some (vi x6)]) dX3_laysFor_28 (Nat.le_of_ble_eq_true rfl) (Nat.le_of_ble_eq_true rfl) rfl ?_
  refine v_aload dX3_laysFor_30 rfl ?_
  refine v_gRN cok3 h dX3_laysFor_32 (by decide) q263 rfl (fun x8 h => ?_)
  refine v_il1 dX3_laysFor_35 ?_
  refine v_iload dX3_laysFor_36 rfl ?_
  refine v_sI h dX3_laysFor_38 (fun s9 h => ?_)
  refine v_al0 dX3_laysFor_39 ?_
  refine v_il1 dX3_laysFor_40 ?_
  obtain ⟨b41, er, ka, h⟩ := cV_some h
  obtain ⟨_, s10, h1, h⟩ := cl_some h
  refine v_callV0 cok2 (As := [vi v1]) er ka (tX3_sendsToAll h1) (lw_V q657 q658 q659 q161 q660) rfl dsX3_sendsToAll ⟨Nat.le_of_ble_eq_true rfl, Nat.le_of_ble_eq_true rfl⟩ (Nat.le_of_ble_eq_true rfl) dX3_laysFor_41 rfl ?_
  refine v_al0 dX3_laysFor_44 ?_
  refine v_il1 dX3_laysFor_45 ?_
  obtain ⟨b46, er, ka, h⟩ := cV_some h
  obtain ⟨_, s11, h1, h⟩ := cl_some h
  refine v_callV0 cok2 (As := [vi v1]) er ka (tX3_holds 4 h1) (lw_V q707 q708 q709 q161 q710) rfl dsX3_holds ⟨Nat.le_of_ble_eq_true rfl, Nat.le_of_ble_eq_true rfl⟩ (Nat.le_of_ble_eq_true rfl) dX3_laysFor_46 rfl ?_
  refine v_iload dX3_laysFor_49 rfl ?_
  exact v_retI h dX3_laysFor_51 rfl
theorem tX3_laysFor {E : EE} {l : Launch} {v0 : Option Nat} {v1 : Int32} {v2 : Int32} {v3 : Int32} {v4 : Int32} {σ : Mem} {z : Int32 × Mem} (h : sX3_laysFor v0 v1 v2 v3 v4 σ = some z) : Mt E l mX3_laysFor [vr v0, vi v1, vi v2, vi v3, vi v4] σ (some (vi z.1), z.2) :=
  Mt.ofVL (by decide) (Nat.le_of_ble_eq_true rfl) (fun G hG => lX3_laysFor h)
abbrev mX0_write : MM := (yX0_write, cX0_write, 4, (Option.some Jvm.ClassFile.FieldType.int), 95, 8657)
theorem dsX0_write : DsOk yX0_write 3 := ⟨by decide, by decide, by decide +kernel⟩
theorem lX0_write {E : EE} {G : GG} {v0 : Option Nat} {v1 : Int32} {v2 : Int32} {v3 : Int32} {σ : Mem} {z : Int32 × Mem} (h : sX0_write v0 v1 v2 v3 σ = some z) : V E mX0_write G 0 [some (vr v0), some (vi v1), some (vi v2), some (vi v3)] [] σ (some (vi z.1), z.2) := by
  unfold sX0_write at h
  refine v_il1 dX0_write_0 ?_
  obtain ⟨x1, s2, h1, h⟩ := cl_some h
  refine v_callS1 (As := [vi v1]) (tX0_isNode h1) (lw_S q579 q580 q158 q581) dsX0_isNode ⟨Nat.le_of_ble_eq_true rfl, Nat.le_of_ble_eq_true rfl⟩ (Nat.le_of_ble_eq_true rfl) dX0_write_1 rfl ?_
  refine v_if_eq (tgt := 26) dX0_write_4 (by decide) (fun c => ?_) (fun c => ?_)
  · rw [if_pos c] at h
    refine v_iconst dX0_write_26 ?_
    exact v_retI h dX0_write_27 rfl
  · rw [if_neg c] at h
    refine v_il2 dX0_write_7 ?_
    refine v_bipush dX0_write_8 rfl ?_
    obtain ⟨x3, s4, h1, h⟩ := cl_some h
    refine v_callS1 (As := [vi v2, vi (iI 8)]) (tX0_in h1) (lw_S q582 q583 q158 q584) dsX0_in ⟨Nat.le_of_ble_eq_true rfl, Nat.le_of_ble_eq_true rfl⟩ (Nat.le_of_ble_eq_true rfl) dX0_write_10 rfl ?_
    refine v_if_eq (tgt := 26) dX0_write_13 (by decide) (fun c => ?_) (fun c => ?_)
    · rw [if_pos c] at h
      refine v_iconst dX0_write_26 ?_
      exact v_retI h dX0_write_27 rfl
    · rw [if_neg c] at h
      refine v_il3 dX0_write_16 ?_
      refine v_iconst dX0_write_17 ?_
      refine v_bipush dX0_write_18 rfl ?_
      obtain ⟨x5, s6, h1, h⟩ := cl_some h
      refine v_callS1 (As := [vi v3, vi (iI 0), vi (iI 99)]) (tX0_within h1) (lw_S q572 q573 q158 q574) dsX0_within ⟨Nat.le_of_ble_eq_true rfl, Nat.le_of_ble_eq_true rfl⟩ (Nat.le_of_ble_eq_true rfl) dX0_write_20 rfl ?_
      refine v_if_ne (tgt := 28) dX0_write_23 (by decide) (fun c => ?_) (fun c => ?_)
      · rw [if_neg c] at h
        refine v_al0 dX0_write_28 ?_
        refine v_gR cok0 h dX0_write_29 (by decide) q538 rfl (fun x7 h => ?_)
        refine v_il1 dX0_write_32 ?_
        obtain ⟨b33, er, ka, h⟩ := cV_some h
        obtain ⟨x8, s9, h1, h⟩ := cl_some h
        refine v_callV1 cok2 (As := [vi v1]) er ka (tX3_isLeader h1) (lw_V q635 q636 q637 q161 q638) rfl dsX3_isLeader ⟨Nat.le_of_ble_eq_true rfl, Nat.le_of_ble_eq_true rfl⟩ (Nat.le_of_ble_eq_true rfl) dX0_write_33 rfl ?_
        refine v_if_ne (tgt := 42) dX0_write_36 (by decide) (fun c => ?_) (fun c => ?_)
        · rw [if_neg c] at h
          refine v_al0 dX0_write_42 ?_
          refine v_gR cok0 h dX0_write_43 (by decide) q538 rfl (fun x10 h => ?_)
          refine v_il1 dX0_write_46 ?_
          obtain ⟨b47, er, ka, h⟩ := cV_some h
          obtain ⟨x11, s12, h1, h⟩ := cl_some h
          refine v_callV1 cok2 (As := [vi v1]) er ka (tX3_isFull h1) (lw_V q639 q640 q641 q161 q642) rfl dsX3_isFull ⟨Nat.le_of_ble_eq_true rfl, Nat.le_of_ble_eq_true rfl⟩ (Nat.le_of_ble_eq_true rfl) dX0_write_47 rfl ?_
          refine v_if_eq (tgt := 58) dX0_write_50 (by decide) (fun c => ?_) (fun c => ?_)
          · rw [if_pos c] at h
            refine v_al0 dX0_write_58 ?_
            refine v_gR cok0 h dX0_write_59 (by decide) q538 rfl (fun x13 h => ?_)
            refine v_il1 dX0_write_62 ?_
            refine v_iconst dX0_write_63 ?_
            refine v_il2 dX0_write_64 ?_
            refine v_il3 dX0_write_65 ?_
            obtain ⟨b66, er, ka, h⟩ := cV_some h
            obtain ⟨x14, s15, h1, h⟩ := cl_some h
            refine v_callV1 cok2 (As := [vi v1, vi (iI 0), vi v2, vi v3]) er ka (tX3_laysFor h1) (lw_V q647 q648 q649 q161 q650) rfl dsX3_laysFor ⟨Nat.le_of_ble_eq_true rfl, Nat.le_of_ble_eq_true rfl⟩ (Nat.le_of_ble_eq_true rfl) dX0_write_66 rfl ?_
            exact v_retI h dX0_write_69 rfl
          · rw [if_neg c] at h
            refine v_bipush dX0_write_53 rfl ?_
            refine v_goto (tgt := 69) dX0_write_55 (by decide) ?_
            exact v_retI h dX0_write_69 rfl
        · rw [if_pos c] at h
          refine v_bipush dX0_write_39 rfl ?_
          exact v_retI h dX0_write_41 rfl
      · rw [if_pos c] at h
        refine v_iconst dX0_write_26 ?_
        exact v_retI h dX0_write_27 rfl
theorem tX0_write {E : EE} {l : Launch} {v0 : Option Nat} {v1 : Int32} {v2 : Int32} {v3 : Int32} {σ : Mem} {z : Int32 × Mem} (h : sX0_write v0 v1 v2 v3 σ = some z) : Mt E l mX0_write [vr v0, vi v1, vi v2, vi v3] σ (some (vi z.1), z.2) :=
  Mt.ofVL (by decide) (Nat.le_of_ble_eq_true rfl) (fun G hG => lX0_write h)
abbrev mX0_change : MM := (yX0_change, cX0_change, 4, (Option.some Jvm.ClassFile.FieldType.int), 95, 8657)
theorem dsX0_change : DsOk yX0_change 2 := ⟨by decide, by decide, by decide +kernel⟩
theorem lX0_change {E : EE} {G : GG} {v0 : Option Nat} {v1 : Int32} {v2 : Int32} {σ : Mem} {z : Int32 × Mem} (h : sX0_change v0 v1 v2 σ = some z) : V E mX0_change G 0 [some (vr v0), some (vi v1), some (vi v2), none] [] σ (some (vi z.1), z.2) := by
  unfold sX0_change at h
  refine v_il1 dX0_change_0 ?_
  obtain ⟨x1, s2, h1, h⟩ := cl_some h
  refine v_callS1 (As := [vi v1]) (tX0_isNode h1) (lw_S q579 q580 q158 q581) dsX0_isNode ⟨Nat.le_of_ble_eq_true rfl, Nat.le_of_ble_eq_true rfl⟩ (Nat.le_of_ble_eq_true rfl) dX0_change_1 rfl ?_
  refine v_if_eq (tgt := 17) dX0_change_4 (by decide) (fun c => ?_) (fun c => ?_)
  · rw [if_pos c] at h
    refine v_iconst dX0_change_17 ?_
    exact v_retI h dX0_change_18 rfl
  · rw [if_neg c] at h
    refine v_il2 dX0_change_7 ?_
    refine v_iconst dX0_change_8 ?_
    refine v_bipush dX0_change_9 rfl ?_
    obtain ⟨x3, s4, h1, h⟩ := cl_some h
    refine v_callS1 (As := [vi v2, vi (iI 1), vi (iI 127)]) (tX0_within h1) (lw_S q572 q573 q158 q574) dsX0_within ⟨Nat.le_of_ble_eq_true rfl, Nat.le_of_ble_eq_true rfl⟩ (Nat.le_of_ble_eq_true rfl) dX0_change_11 rfl ?_
    refine v_if_ne (tgt := 19) dX0_change_14 (by decide) (fun c => ?_) (fun c => ?_)
    · rw [if_neg c] at h
      refine v_al0 dX0_change_19 ?_
      refine v_gR cok0 h dX0_change_20 (by decide) q538 rfl (fun x5 h => ?_)
      refine v_il1 dX0_change_23 ?_
      obtain ⟨b24, er, ka, h⟩ := cV_some h
      obtain ⟨x6, s7, h1, h⟩ := cl_some h
      refine v_callV1 cok2 (As := [vi v1]) er ka (tX3_isLeader h1) (lw_V q635 q636 q637 q161 q638) rfl dsX3_isLeader ⟨Nat.le_of_ble_eq_true rfl, Nat.le_of_ble_eq_true rfl⟩ (Nat.le_of_ble_eq_true rfl) dX0_change_24 rfl ?_
      refine v_if_ne (tgt := 33) dX0_change_27 (by decide) (fun c => ?_) (fun c => ?_)
      · rw [if_neg c] at h
        refine v_al0 dX0_change_33 ?_
        refine v_gR cok0 h dX0_change_34 (by decide) q538 rfl (fun x8 h => ?_)
        refine v_il1 dX0_change_37 ?_
        obtain ⟨b38, er, ka, h⟩ := cV_some h
        obtain ⟨x9, s10, h1, h⟩ := cl_some h
        refine v_callV1 cok2 (As := [vi v1]) er ka (tX3_isFull h1) (lw_V q639 q640 q641 q161 q642) rfl dsX3_isFull ⟨Nat.le_of_ble_eq_true rfl, Nat.le_of_ble_eq_true rfl⟩ (Nat.le_of_ble_eq_true rfl) dX0_change_38 rfl ?_
        refine v_if_eq (tgt := 47) dX0_change_41 (by decide) (fun c => ?_) (fun c => ?_)
        · rw [if_pos c] at h
          refine v_al0 dX0_change_47 ?_
          refine v_gR cok0 h dX0_change_48 (by decide) q538 rfl (fun x11 h => ?_)
          refine v_gRN cok2 h dX0_change_51 (by decide) q360 rfl (fun x12 h => ?_)
          refine v_il1 dX0_change_54 ?_
          refine v_aR h (by decide) dX0_change_55 (fun x13 h => ?_)
          refine v_astore_n (L' := [some (vr v0), some (vi v1), some (vi v2), some (vr x13)]) dX0_change_56 (Nat.le_of_ble_eq_true rfl) (Nat.le_of_ble_eq_true rfl) rfl ?_
          refine v_al3 dX0_change_57 ?_
          obtain ⟨b58, er, ka, h⟩ := cV_some h
          obtain ⟨x14, s15, h1, h⟩ := cl_some h
          refine v_callV1 cok3 (As := []) er ka (tX4_news h1) (lw_V q750 q670 q671 q162 q672) rfl dsX4_news ⟨Nat.le_of_ble_eq_true rfl, Nat.le_of_ble_eq_true rfl⟩ (Nat.le_of_ble_eq_true rfl) dX0_change_58 rfl ?_
          refine v_if_ne (tgt := 79) dX0_change_61 (by decide) (fun c => ?_) (fun c => ?_)
          · rw [if_neg c] at h
            refine v_bipush dX0_change_79 rfl ?_
            exact v_retI h dX0_change_81 rfl
          · rw [if_pos c] at h
            refine v_al3 dX0_change_64 ?_
            obtain ⟨b65, er, ka, h⟩ := cV_some h
            obtain ⟨x16, s17, h1, h⟩ := cl_some h
            refine v_callV1 cok3 (As := []) er ka (tX4_isConfigHeld h1) (lw_V q751 q737 q738 q162 q739) rfl dsX4_isConfigHeld ⟨Nat.le_of_ble_eq_true rfl, Nat.le_of_ble_eq_true rfl⟩ (Nat.le_of_ble_eq_true rfl) dX0_change_65 rfl ?_
            refine v_if_eq (tgt := 79) dX0_change_68 (by decide) (fun c => ?_) (fun c => ?_)
            · rw [if_pos c] at h
              refine v_bipush dX0_change_79 rfl ?_
              exact v_retI h dX0_change_81 rfl
            · rw [if_neg c] at h
              refine v_al3 dX0_change_71 ?_
              obtain ⟨b72, er, ka, h⟩ := cV_some h
              obtain ⟨x18, s19, h1, h⟩ := cl_some h
              refine v_callV1 cok3 (As := []) er ka (tX4_olds h1) (lw_V q752 q666 q667 q162 q668) rfl dsX4_olds ⟨Nat.le_of_ble_eq_true rfl, Nat.le_of_ble_eq_true rfl⟩ (Nat.le_of_ble_eq_true rfl) dX0_change_72 rfl ?_
              refine v_il2 dX0_change_75 ?_
              refine v_icmp_ne (tgt := 82) dX0_change_76 (by decide) (fun c => ?_) (fun c => ?_)
              · rw [if_neg c] at h
                refine v_al0 dX0_change_82 ?_
                refine v_gR cok0 h dX0_change_83 (by decide) q538 rfl (fun x20 h => ?_)
                refine v_il1 dX0_change_86 ?_
                refine v_iconst dX0_change_87 ?_
                refine v_al3 dX0_change_88 ?_
                obtain ⟨b89, er, ka, h⟩ := cV_some h
                obtain ⟨x21, s22, h1, h⟩ := cl_some h
                refine v_callV1 cok3 (As := []) er ka (tX4_olds h1) (lw_V q752 q666 q667 q162 q668) rfl dsX4_olds ⟨Nat.le_of_ble_eq_true rfl, Nat.le_of_ble_eq_true rfl⟩ (Nat.le_of_ble_eq_true rfl) dX0_change_89 rfl ?_
                refine v_il2 dX0_change_92 ?_
                obtain ⟨b93, er, ka, h⟩ := cV_some h
                obtain ⟨x23, s24, h1, h⟩ := cl_some h
                refine v_callV1 cok2 (As := [vi v1, vi (iI 1), vi x21, vi v2]) er ka (tX3_laysFor h1) (lw_V q647 q648 q649 q161 q650) rfl dsX3_laysFor ⟨Nat.le_of_ble_eq_true rfl, Nat.le_of_ble_eq_true rfl⟩ (Nat.le_of_ble_eq_true rfl) dX0_change_93 rfl ?_
                exact v_retI h dX0_change_96 rfl
              · rw [if_pos c] at h
                refine v_bipush dX0_change_79 rfl ?_
                exact v_retI h dX0_change_81 rfl
        · rw [if_neg c] at h
          refine v_bipush dX0_change_44 rfl ?_
          exact v_retI h dX0_change_46 rfl
      · rw [if_pos c] at h
        refine v_bipush dX0_change_30 rfl ?_
        exact v_retI h dX0_change_32 rfl
    · rw [if_pos c] at h
      refine v_iconst dX0_change_17 ?_
      exact v_retI h dX0_change_18 rfl
theorem tX0_change {E : EE} {l : Launch} {v0 : Option Nat} {v1 : Int32} {v2 : Int32} {σ : Mem} {z : Int32 × Mem} (h : sX0_change v0 v1 v2 σ = some z) : Mt E l mX0_change [vr v0, vi v1, vi v2] σ (some (vi z.1), z.2) :=
  Mt.ofVL (by decide) (Nat.le_of_ble_eq_true rfl) (fun G hG => lX0_change h)
abbrev mX3_withHeard : MM := (yX3_withHeard, cX3_withHeard, 5, (Option.some Jvm.ClassFile.FieldType.int), 0, 0)
theorem dsX3_withHeard : DsOk yX3_withHeard 2 := ⟨by decide, by decide, by decide +kernel⟩
theorem lX3_withHeard_39 {E : EE} {G : GG} {k7 : Option Nat → Int32 → Int32 → Int32 → Int32 → Mem → Option (Int32 × Mem)} (hk7 : ∀ (v0 : Option Nat) (v1 : Int32) (v2 : Int32) (v3 : Int32) (v4 : Int32) (s : Mem) (z : Int32 × Mem), k7 v0 v1 v2 v3 v4 s = some z → V E mX3_withHeard G 7 [some (vr v0), some (vi v1), some (vi v2), some (vi v3), some (vi v4)] [] s (some (vi z.1), z.2)) {v0 : Option Nat} {v1 : Int32} {v2 : Int32} {v4 : Int32} {t0 : Int32} {t1 : Int32} {σ : Mem} {z : Int32 × Mem} (h : sX3_withHeard_39 k7 v0 v1 v2 v4 t0 t1 σ = some z) : V E mX3_withHeard G 39 [some (vr v0), some (vi v1), some (vi v2), none, some (vi v4)] [vi t1, vi t0] σ (some (vi z.1), z.2) := by
  unfold sX3_withHeard_39 at h
  refine v_ior dX3_withHeard_39 ?_
  refine v_istore_n (L' := [some (vr v0), some (vi v1), some (vi v2), some (vi (t0 ||| t1)), some (vi v4)]) dX3_withHeard_40 (Nat.le_of_ble_eq_true rfl) (Nat.le_of_ble_eq_true rfl) rfl ?_
  refine v_iinc (L' := [some (vr v0), some (vi v1), some (vi v2), some (vi (t0 ||| t1)), some (vi (v4 + iI 1))]) dX3_withHeard_41 (Nat.le_of_ble_eq_true rfl) rfl rfl ?_
  refine v_goto (tgt := 7) dX3_withHeard_44 (by decide) ?_
  exact v_weak (wss (wss (wss (wss (wss wse))))) (hk7 _ _ _ _ _ _ _ h)
theorem lX3_withHeard_7b {E : EE} {G : GG} {k7 : Option Nat → Int32 → Int32 → Int32 → Int32 → Mem → Option (Int32 × Mem)} (hk7 : ∀ (v0 : Option Nat) (v1 : Int32) (v2 : Int32) (v3 : Int32) (v4 : Int32) (s : Mem) (z : Int32 × Mem), k7 v0 v1 v2 v3 v4 s = some z → V E mX3_withHeard G 7 [some (vr v0), some (vi v1), some (vi v2), some (vi v3), some (vi v4)] [] s (some (vi z.1), z.2)) {v0 : Option Nat} {v1 : Int32} {v2 : Int32} {v3 : Int32} {v4 : Int32} {σ : Mem} {z : Int32 × Mem} (h : sX3_withHeard_7b k7 v0 v1 v2 v3 v4 σ = some z) : V E mX3_withHeard G 7 [some (vr v0), some (vi v1), some (vi v2), some (vi v3), some (vi v4)] [] σ (some (vi z.1), z.2) := by
  unfold sX3_withHeard_7b at h
  refine v_iload dX3_withHeard_7 rfl ?_
  refine v_bipush dX3_withHeard_9 rfl ?_
  refine v_icmp_ge (tgt := 47) dX3_withHeard_11 (by decide) (fun c => ?_) (fun c => ?_)
  · rw [if_pos c] at h
    refine v_il3 dX3_withHeard_47 ?_
    exact v_retI h dX3_withHeard_48 rfl
  · rw [if_neg c] at h
    refine v_il3 dX3_withHeard_14 ?_
    refine v_al0 dX3_withHeard_15 ?_
    refine v_gR cok2 h dX3_withHeard_16 (by decide) q359 rfl (fun x1 h => ?_)
    refine v_il1 dX3_withHeard_19 ?_
    refine v_aR h (by decide) dX3_withHeard_20 (fun x2 h => ?_)
    refine v_gRN cok3 h dX3_withHeard_21 (by decide) q266 rfl (fun x3 h => ?_)
    refine v_iload dX3_withHeard_24 rfl ?_
    refine v_aI h dX3_withHeard_26 (fun x4 h => ?_)
    refine v_il2 dX3_withHeard_27 ?_
    refine v_icmp_lt (tgt := 38) dX3_withHeard_28 (by decide) (fun c => ?_) (fun c => ?_)
    · rw [if_pos c] at h
      refine v_iconst dX3_withHeard_38 ?_
      exact v_weak (wss (wss (wss (wsn (wss wse))))) (lX3_withHeard_39 hk7 h)
    · rw [if_neg c] at h
      refine v_iconst dX3_withHeard_31 ?_
      refine v_iload dX3_withHeard_32 rfl ?_
      refine v_ishl dX3_withHeard_34 ?_
      refine v_goto (tgt := 39) dX3_withHeard_35 (by decide) ?_
      exact v_weak (wss (wss (wss (wsn (wss wse))))) (lX3_withHeard_39 hk7 h)
theorem lX3_withHeard_7 {E : EE} {G : GG} : ∀ (f : Nat) {v0 : Option Nat} {v1 : Int32} {v2 : Int32} {v3 : Int32} {v4 : Int32} {σ : Mem} {z : Int32 × Mem}, sX3_withHeard_7 f v0 v1 v2 v3 v4 σ = some z → V E mX3_withHeard G 7 [some (vr v0), some (vi v1), some (vi v2), some (vi v3), some (vi v4)] [] σ (some (vi z.1), z.2)
  | 0, _, _, _, _, _, _, _, h => by cases h
  | f + 1, _, _, _, _, _, _, _, h => lX3_withHeard_7b (fun _ _ _ _ _ _ _ h => lX3_withHeard_7 f h) h
theorem lX3_withHeard {E : EE} {G : GG} {v0 : Option Nat} {v1 : Int32} {v2 : Int32} {σ : Mem} {z : Int32 × Mem} (h : sX3_withHeard v0 v1 v2 σ = some z) : V E mX3_withHeard G 0 [some (vr v0), some (vi v1), some (vi v2), none, none] [] σ (some (vi z.1), z.2) := by
  unfold sX3_withHeard at h
  refine v_iconst dX3_withHeard_0 ?_
  refine v_il1 dX3_withHeard_1 ?_
  refine v_ishl dX3_withHeard_2 ?_
  refine v_istore_n (L' := [some (vr v0), some (vi v1), some (vi v2), some (vi ((iI 1) <<< (v1 &&& 31))), none]) dX3_withHeard_3 (Nat.le_of_ble_eq_true rfl) (Nat.le_of_ble_eq_true rfl) rfl ?_
  refine v_iconst dX3_withHeard_4 ?_
  refine v_istore (L' := [some (vr v0), some (vi v1), some (vi v2), some (vi ((iI 1) <<< (v1 &&& 31))), some (vi (iI 0))]) dX3_withHeard_5 (Nat.le_of_ble_eq_true rfl) (Nat.le_of_ble_eq_true rfl) rfl ?_
  exact v_weak (wss (wss (wss (wss (wss wse))))) (lX3_withHeard_7 FU h)
theorem tX3_withHeard {E : EE} {l : Launch} {v0 : Option Nat} {v1 : Int32} {v2 : Int32} {σ : Mem} {z : Int32 × Mem} (h : sX3_withHeard v0 v1 v2 σ = some z) : Mt E l mX3_withHeard [vr v0, vi v1, vi v2] σ (some (vi z.1), z.2) :=
  Mt.ofVL (by decide) (Nat.le_of_ble_eq_true rfl) (fun G hG => lX3_withHeard h)
abbrev mX3_answersReads : MM := (yX3_answersReads, cX3_answersReads, 5, (Option.none : Option Jvm.ClassFile.FieldType), 4, 84)
theorem dsX3_answersReads : DsOk yX3_answersReads 1 := ⟨by decide, by decide, by decide +kernel⟩
theorem lX3_answersReads_102 {E : EE} {G : GG} {k9 : Option Nat → Int32 → Option Nat → Int32 → Mem → Option (Unit × Mem)} (hk9 : ∀ (v0 : Option Nat) (v1 : Int32) (v2 : Option Nat) (v3 : Int32) (s : Mem) (z : Unit × Mem), k9 v0 v1 v2 v3 s = some z → V E mX3_answersReads G 9 [some (vr v0), some (vi v1), some (vr v2), some (vi v3), none] [] s (none, z.2)) {v0 : Option Nat} {v1 : Int32} {v2 : Option Nat} {v3 : Int32} {σ : Mem} {z : Unit × Mem} (h : sX3_answersReads_102 k9 v0 v1 v2 v3 σ = some z) : V E mX3_answersReads G 102 [some (vr v0), some (vi v1), some (vr v2), some (vi v3), none] [] σ (none, z.2) := by
  unfold sX3_answersReads_102 at h
  refine v_iinc (L' := [some (vr v0), some (vi v1), some (vr v2), some (vi (v3 + iI 1)), none]) dX3_answersReads_102 (Nat.le_of_ble_eq_true rfl) rfl rfl ?_
  refine v_goto (tgt := 9) dX3_answersReads_105 (by decide) ?_
  exact v_weak (wss (wss (wss (wss (wsn wse))))) (hk9 _ _ _ _ _ _ h)
theorem lX3_answersReads_98 {E : EE} {G : GG} {k9 : Option Nat → Int32 → Option Nat → Int32 → Mem → Option (Unit × Mem)} (hk9 : ∀ (v0 : Option Nat) (v1 : Int32) (v2 : Option Nat) (v3 : Int32) (s : Mem) (z : Unit × Mem), k9 v0 v1 v2 v3 s = some z → V E mX3_answersReads G 9 [some (vr v0), some (vi v1), some (vr v2), some (vi v3), none] [] s (none, z.2)) {v0 : Option Nat} {v1 : Int32} {v2 : Option Nat} {v3 : Int32} {t0 : Option Nat} {t1 : Int32} {t2 : Int32} {σ : Mem} {z : Unit × Mem} (h : sX3_answersReads_98 k9 v0 v1 v2 v3 t0 t1 t2 σ = some z) : V E mX3_answersReads G 98 [some (vr v0), some (vi v1), some (vr v2), some (vi v3), none] [vi t2, vi t1, vr t0] σ (none, z.2) := by
  unfold sX3_answersReads_98 at h
  refine v_iadd dX3_answersReads_98 ?_
  refine v_pI cok2 h dX3_answersReads_99 (by decide) q377 rfl rfl (fun s1 h => ?_)
  exact v_weak (wss (wss (wss (wss (wsn wse))))) (lX3_answersReads_102 hk9 h)
theorem lX3_answersReads_9b {E : EE} {G : GG} {k9 : Option Nat → Int32 → Option Nat → Int32 → Mem → Option (Unit × Mem)} (hk9 : ∀ (v0 : Option Nat) (v1 : Int32) (v2 : Option Nat) (v3 : Int32) (s : Mem) (z : Unit × Mem), k9 v0 v1 v2 v3 s = some z → V E mX3_answersReads G 9 [some (vr v0), some (vi v1), some (vr v2), some (vi v3), none] [] s (none, z.2)) {v0 : Option Nat} {v1 : Int32} {v2 : Option Nat} {v3 : Int32} {σ : Mem} {z : Unit × Mem} (h : sX3_answersReads_9b k9 v0 v1 v2 v3 σ = some z) : V E mX3_answersReads G 9 [some (vr v0), some (vi v1), some (vr v2), some (vi v3), none] [] σ (none, z.2) := by
  unfold sX3_answersReads_9b at h
  refine v_il3 dX3_answersReads_9 ?_
  refine v_al0 dX3_answersReads_10 ?_
  refine v_gI cok2 h dX3_answersReads_11 (by decide) q385 rfl (fun x1 h => ?_)
  refine v_icmp_ge (tgt := 108) dX3_answersReads_14 (by decide) (fun c => ?_) (fun c => ?_)
  · rw [if_pos c] at h
    exact v_retV h dX3_answersReads_108 rfl
  · rw [if_neg c] at h
    refine v_al0 dX3_answersReads_17 ?_
    refine v_gR cok2 h dX3_answersReads_18 (by decide) q365 rfl (fun x2 h => ?_)
    refine v_il3 dX3_answersReads_21 ?_
    refine v_aR h (by decide) dX3_answersReads_22 (fun x3 h => ?_)
    refine v_astore (L' := [some (vr v0), some (vi v1), some (vr v2), some (vi v3), some (vr x3)]) dX3_answersReads_23 (Nat.le_of_ble_eq_true rfl) (Nat.le_of_ble_eq_true rfl) rfl ?_
    refine v_aload dX3_answersReads_25 rfl ?_
    refine v_iconst dX3_answersReads_27 ?_
    refine v_aI h dX3_answersReads_28 (fun x4 h => ?_)
    refine v_il1 dX3_answersReads_29 ?_
    refine v_icmp_ne (tgt := 102) dX3_answersReads_30 (by decide) (fun c => ?_) (fun c => ?_)
    · rw [if_neg c] at h
      exact v_weak (wss (wss (wss (wss (wsn wse))))) (lX3_answersReads_102 hk9 h)
    · rw [if_pos c] at h
      refine v_aload dX3_answersReads_33 rfl ?_
      refine v_iconst dX3_answersReads_35 ?_
      refine v_aI h dX3_answersReads_36 (fun x5 h => ?_)
      refine v_if_ne (tgt := 102) dX3_answersReads_37 (by decide) (fun c => ?_) (fun c => ?_)
      · rw [if_neg c] at h
        exact v_weak (wss (wss (wss (wss (wsn wse))))) (lX3_answersReads_102 hk9 h)
      · rw [if_pos c] at h
        refine v_al2 dX3_answersReads_40 ?_
        refine v_al0 dX3_answersReads_41 ?_
        refine v_il1 dX3_answersReads_42 ?_
        refine v_aload dX3_answersReads_43 rfl ?_
        refine v_iconst dX3_answersReads_45 ?_
        refine v_aI h dX3_answersReads_46 (fun x6 h => ?_)
        obtain ⟨b47, er, ka, h⟩ := cV_some h
        obtain ⟨x7, s8, h1, h⟩ := cl_some h
        refine v_callV1 cok2 (As := [vi v1, vi x6]) er ka (tX3_withHeard h1) (lw_V q763 q765 qs11 q161 q766) rfl dsX3_withHeard ⟨Nat.le_of_ble_eq_true rfl, Nat.le_of_ble_eq_true rfl⟩ (Nat.le_of_ble_eq_true rfl) dX3_answersReads_47 rfl ?_
        obtain ⟨b50, er, ka, h⟩ := cV_some h
        obtain ⟨x9, s10, h1, h⟩ := cl_some h
        refine v_callV1 cok3 (As := [vi x7]) er ka (tX4_isMajority h1) (lw_V q715 q716 q717 q162 q718) rfl dsX4_isMajority ⟨Nat.le_of_ble_eq_true rfl, Nat.le_of_ble_eq_true rfl⟩ (Nat.le_of_ble_eq_true rfl) dX3_answersReads_50 rfl ?_
        refine v_if_ne (tgt := 59) dX3_answersReads_53 (by decide) (fun c => ?_) (fun c => ?_)
        · rw [if_neg c] at h
          refine v_aload dX3_answersReads_59 rfl ?_
          refine v_iconst dX3_answersReads_61 ?_
          refine v_iconst dX3_answersReads_62 ?_
          refine v_sI h dX3_answersReads_63 (fun s11 h => ?_)
          refine v_aload dX3_answersReads_64 rfl ?_
          refine v_iconst dX3_answersReads_66 ?_
          refine v_al2 dX3_answersReads_67 ?_
          refine v_gRN cok3 h dX3_answersReads_68 (by decide) q254 rfl (fun x12 h => ?_)
          refine v_aload dX3_answersReads_71 rfl ?_
          refine v_iconst dX3_answersReads_73 ?_
          refine v_aI h dX3_answersReads_74 (fun x13 h => ?_)
          refine v_aI h dX3_answersReads_75 (fun x14 h => ?_)
          refine v_sI h dX3_answersReads_76 (fun s15 h => ?_)
          refine v_al0 dX3_answersReads_77 ?_
          refine v_dup dX3_answersReads_78 ?_
          refine v_gI cok2 h dX3_answersReads_79 (by decide) q377 rfl (fun x16 h => ?_)
          refine v_al2 dX3_answersReads_82 ?_
          refine v_gIN cok3 h dX3_answersReads_83 (by decide) q289 rfl (fun x17 h => ?_)
          refine v_aload dX3_answersReads_86 rfl ?_
          refine v_iconst dX3_answersReads_88 ?_
          refine v_aI h dX3_answersReads_89 (fun x18 h => ?_)
          refine v_icmp_ge (tgt := 97) dX3_answersReads_90 (by decide) (fun c => ?_) (fun c => ?_)
          · rw [if_pos c] at h
            refine v_iconst dX3_answersReads_97 ?_
            exact v_weak (wss (wss (wss (wss (wsn wse))))) (lX3_answersReads_98 hk9 h)
          · rw [if_neg c] at h
            refine v_iconst dX3_answersReads_93 ?_
            refine v_goto (tgt := 98) dX3_answersReads_94 (by decide) ?_
            exact v_weak (wss (wss (wss (wss (wsn wse))))) (lX3_answersReads_98 hk9 h)
        · rw [if_pos c] at h
          refine v_goto (tgt := 102) dX3_answersReads_56 (by decide) ?_
          exact v_weak (wss (wss (wss (wss (wsn wse))))) (lX3_answersReads_102 hk9 h)
theorem lX3_answersReads_9 {E : EE} {G : GG} : ∀ (f : Nat) {v0 : Option Nat} {v1 : Int32} {v2 : Option Nat} {v3 : Int32} {σ : Mem} {z : Unit × Mem}, sX3_answersReads_9 f v0 v1 v2 v3 σ = some z → V E mX3_answersReads G 9 [some (vr v0), some (vi v1), some (vr v2), some (vi v3), none] [] σ (none, z.2)
  | 0, _, _, _, _, _, _, h => by cases h
  | f + 1, _, _, _, _, _, _, h => lX3_answersReads_9b (fun _ _ _ _ _ _ h => lX3_answersReads_9 f h) h
theorem lX3_answersReads {E : EE} {G : GG} {v0 : Option Nat} {v1 : Int32} {σ : Mem} {z : Unit × Mem} (h : sX3_answersReads v0 v1 σ = some z) : V E mX3_answersReads G 0 [some (vr v0), some (vi v1), none, none, none] [] σ (none, z.2) := by
  unfold sX3_answersReads at h
  refine v_al0 dX3_answersReads_0 ?_
  refine v_gR cok2 h dX3_answersReads_1 (by decide) q359 rfl (fun x1 h => ?_)
  refine v_il1 dX3_answersReads_4 ?_
  refine v_aR h (by decide) dX3_answersReads_5 (fun x2 h => ?_)
  refine v_astore_n (L' := [some (vr v0), some (vi v1), some (vr x2), none, none]) dX3_answersReads_6 (Nat.le_of_ble_eq_true rfl) (Nat.le_of_ble_eq_true rfl) rfl ?_
  refine v_iconst dX3_answersReads_7 ?_
  refine v_istore_n (L' := [some (vr v0), some (vi v1), some (vr x2), some (vi (iI 0)), none]) dX3_answersReads_8 (Nat.le_of_ble_eq_true rfl) (Nat.le_of_ble_eq_true rfl) rfl ?_
  exact v_weak (wss (wss (wss (wss (wsn wse))))) (lX3_answersReads_9 FU h)
theorem tX3_answersReads {E : EE} {l : Launch} {v0 : Option Nat} {v1 : Int32} {σ : Mem} {z : Unit × Mem} (h : sX3_answersReads v0 v1 σ = some z) : Mt E l mX3_answersReads [vr v0, vi v1] σ (none, z.2) :=
  Mt.ofVL (by decide) (Nat.le_of_ble_eq_true rfl) (fun G hG => lX3_answersReads h)
abbrev mX0_ask : MM := (yX0_ask, cX0_ask, 6, (Option.some Jvm.ClassFile.FieldType.int), 89, 8208)
theorem dsX0_ask : DsOk yX0_ask 2 := ⟨by decide, by decide, by decide +kernel⟩
theorem lX0_ask {E : EE} {G : GG} {v0 : Option Nat} {v1 : Int32} {v2 : Int32} {σ : Mem} {z : Int32 × Mem} (h : sX0_ask v0 v1 v2 σ = some z) : V E mX0_ask G 0 [some (vr v0), some (vi v1), some (vi v2), none, none, none] [] σ (some (vi z.1), z.2) := by
  unfold sX0_ask at h
  refine v_il1 dX0_ask_0 ?_
  obtain ⟨x1, s2, h1, h⟩ := cl_some h
  refine v_callS1 (As := [vi v1]) (tX0_isNode h1) (lw_S q579 q580 q158 q581) dsX0_isNode ⟨Nat.le_of_ble_eq_true rfl, Nat.le_of_ble_eq_true rfl⟩ (Nat.le_of_ble_eq_true rfl) dX0_ask_1 rfl ?_
  refine v_if_eq (tgt := 16) dX0_ask_4 (by decide) (fun c => ?_) (fun c => ?_)
  · rw [if_pos c] at h
    refine v_iconst dX0_ask_16 ?_
    exact v_retI h dX0_ask_17 rfl
  · rw [if_neg c] at h
    refine v_il2 dX0_ask_7 ?_
    refine v_bipush dX0_ask_8 rfl ?_
    obtain ⟨x3, s4, h1, h⟩ := cl_some h
    refine v_callS1 (As := [vi v2, vi (iI 8)]) (tX0_in h1) (lw_S q582 q583 q158 q584) dsX0_in ⟨Nat.le_of_ble_eq_true rfl, Nat.le_of_ble_eq_true rfl⟩ (Nat.le_of_ble_eq_true rfl) dX0_ask_10 rfl ?_
    refine v_if_ne (tgt := 18) dX0_ask_13 (by decide) (fun c => ?_) (fun c => ?_)
    · rw [if_neg c] at h
      refine v_al0 dX0_ask_18 ?_
      refine v_gR cok0 h dX0_ask_19 (by decide) q538 rfl (fun x5 h => ?_)
      refine v_il1 dX0_ask_22 ?_
      obtain ⟨b23, er, ka, h⟩ := cV_some h
      obtain ⟨x6, s7, h1, h⟩ := cl_some h
      refine v_callV1 cok2 (As := [vi v1]) er ka (tX3_isLeader h1) (lw_V q635 q636 q637 q161 q638) rfl dsX3_isLeader ⟨Nat.le_of_ble_eq_true rfl, Nat.le_of_ble_eq_true rfl⟩ (Nat.le_of_ble_eq_true rfl) dX0_ask_23 rfl ?_
      refine v_if_ne (tgt := 32) dX0_ask_26 (by decide) (fun c => ?_) (fun c => ?_)
      · rw [if_neg c] at h
        refine v_al0 dX0_ask_32 ?_
        refine v_gR cok0 h dX0_ask_33 (by decide) q538 rfl (fun x8 h => ?_)
        refine v_gIN cok2 h dX0_ask_36 (by decide) q386 rfl (fun x9 h => ?_)
        refine v_bipush dX0_ask_39 rfl ?_
        refine v_icmp_ne (tgt := 47) dX0_ask_41 (by decide) (fun c => ?_) (fun c => ?_)
        · rw [if_neg c] at h
          refine v_al0 dX0_ask_47 ?_
          refine v_gR cok0 h dX0_ask_48 (by decide) q538 rfl (fun x10 h => ?_)
          refine v_gRN cok2 h dX0_ask_51 (by decide) q360 rfl (fun x11 h => ?_)
          refine v_il1 dX0_ask_54 ?_
          refine v_aR h (by decide) dX0_ask_55 (fun x12 h => ?_)
          refine v_astore_n (L' := [some (vr v0), some (vi v1), some (vi v2), some (vr x12), none, none]) dX0_ask_56 (Nat.le_of_ble_eq_true rfl) (Nat.le_of_ble_eq_true rfl) rfl ?_
          refine v_al3 dX0_ask_57 ?_
          refine v_al3 dX0_ask_58 ?_
          refine v_gIN cok3 h dX0_ask_59 (by decide) q290 rfl (fun x13 h => ?_)
          obtain ⟨b62, er, ka, h⟩ := cV_some h
          obtain ⟨x14, s15, h1, h⟩ := cl_some h
          refine v_callV1 cok3 (As := [vi x13]) er ka (tX4_termAt h1) (lw_V q757 q624 q625 q162 q626) rfl dsX4_termAt ⟨Nat.le_of_ble_eq_true rfl, Nat.le_of_ble_eq_true rfl⟩ (Nat.le_of_ble_eq_true rfl) dX0_ask_62 rfl ?_
          refine v_al3 dX0_ask_65 ?_
          refine v_gIN cok3 h dX0_ask_66 (by decide) q270 rfl (fun x16 h => ?_)
          refine v_icmp_eq (tgt := 75) dX0_ask_69 (by decide) (fun c => ?_) (fun c => ?_)
          · rw [if_pos c] at h
            refine v_al3 dX0_ask_75 ?_
            refine v_dup dX0_ask_76 ?_
            refine v_gIN cok3 h dX0_ask_77 (by decide) q302 rfl (fun x17 h => ?_)
            refine v_iconst dX0_ask_80 ?_
            refine v_iadd dX0_ask_81 ?_
            refine v_pIN cok3 h dX0_ask_82 (by decide) q302 rfl rfl (fun s18 h => ?_)
            refine v_al3 dX0_ask_85 ?_
            refine v_iconst dX0_ask_86 ?_
            refine v_pIN cok3 h dX0_ask_87 (by decide) q304 rfl rfl (fun s19 h => ?_)
            refine v_al0 dX0_ask_90 ?_
            refine v_gR cok0 h dX0_ask_91 (by decide) q538 rfl (fun x20 h => ?_)
            refine v_gIN cok2 h dX0_ask_94 (by decide) q386 rfl (fun x21 h => ?_)
            refine v_istore (L' := [some (vr v0), some (vi v1), some (vi v2), some (vr x12), some (vi x21), none]) dX0_ask_97 (Nat.le_of_ble_eq_true rfl) (Nat.le_of_ble_eq_true rfl) rfl ?_
            refine v_al0 dX0_ask_99 ?_
            refine v_gR cok0 h dX0_ask_100 (by decide) q538 rfl (fun x22 h => ?_)
            refine v_gRN cok2 h dX0_ask_103 (by decide) q366 rfl (fun x23 h => ?_)
            refine v_iload dX0_ask_106 rfl ?_
            refine v_aR h (by decide) dX0_ask_108 (fun x24 h => ?_)
            refine v_astore (L' := [some (vr v0), some (vi v1), some (vi v2), some (vr x12), some (vi x21), some (vr x24)]) dX0_ask_109 (Nat.le_of_ble_eq_true rfl) (Nat.le_of_ble_eq_true rfl) rfl ?_
            refine v_aload dX0_ask_111 rfl ?_
            refine v_iconst dX0_ask_113 ?_
            refine v_il1 dX0_ask_114 ?_
            refine v_sI h dX0_ask_115 (fun s25 h => ?_)
            refine v_aload dX0_ask_116 rfl ?_
            refine v_iconst dX0_ask_118 ?_
            refine v_il2 dX0_ask_119 ?_
            refine v_sI h dX0_ask_120 (fun s26 h => ?_)
            refine v_aload dX0_ask_121 rfl ?_
            refine v_iconst dX0_ask_123 ?_
            refine v_al3 dX0_ask_124 ?_
            refine v_gIN cok3 h dX0_ask_125 (by decide) q302 rfl (fun x27 h => ?_)
            refine v_sI h dX0_ask_128 (fun s28 h => ?_)
            refine v_aload dX0_ask_129 rfl ?_
            refine v_iconst dX0_ask_131 ?_
            refine v_al0 dX0_ask_132 ?_
            refine v_gR cok0 h dX0_ask_133 (by decide) q538 rfl (fun x29 h => ?_)
            refine v_gIN cok2 h dX0_ask_136 (by decide) q382 rfl (fun x30 h => ?_)
            refine v_sI h dX0_ask_139 (fun s31 h => ?_)
            refine v_aload dX0_ask_140 rfl ?_
            refine v_iconst dX0_ask_142 ?_
            refine v_iconst dX0_ask_143 ?_
            refine v_sI h dX0_ask_144 (fun s32 h => ?_)
            refine v_aload dX0_ask_145 rfl ?_
            refine v_iconst dX0_ask_147 ?_
            refine v_bipush dX0_ask_148 rfl ?_
            refine v_sI h dX0_ask_150 (fun s33 h => ?_)
            refine v_al0 dX0_ask_151 ?_
            refine v_gR cok0 h dX0_ask_152 (by decide) q538 rfl (fun x34 h => ?_)
            refine v_dup dX0_ask_155 ?_
            refine v_gIN cok2 h dX0_ask_156 (by decide) q386 rfl (fun x35 h => ?_)
            refine v_iconst dX0_ask_159 ?_
            refine v_iadd dX0_ask_160 ?_
            refine v_pIN cok2 h dX0_ask_161 (by decide) q386 rfl rfl (fun s36 h => ?_)
            refine v_al0 dX0_ask_164 ?_
            refine v_gR cok0 h dX0_ask_165 (by decide) q538 rfl (fun x37 h => ?_)
            refine v_il1 dX0_ask_168 ?_
            obtain ⟨b169, er, ka, h⟩ := cV_some h
            obtain ⟨_, s38, h1, h⟩ := cl_some h
            refine v_callV0 cok2 (As := [vi v1]) er ka (tX3_sendsToAll h1) (lw_V q758 q658 q659 q161 q660) rfl dsX3_sendsToAll ⟨Nat.le_of_ble_eq_true rfl, Nat.le_of_ble_eq_true rfl⟩ (Nat.le_of_ble_eq_true rfl) dX0_ask_169 rfl ?_
            refine v_al0 dX0_ask_172 ?_
            refine v_gR cok0 h dX0_ask_173 (by decide) q538 rfl (fun x39 h => ?_)
            refine v_il1 dX0_ask_176 ?_
            obtain ⟨b177, er, ka, h⟩ := cV_some h
            obtain ⟨_, s40, h1, h⟩ := cl_some h
            refine v_callV0 cok2 (As := [vi v1]) er ka (tX3_answersReads h1) (lw_V q759 q760 q761 q161 q762) rfl dsX3_answersReads ⟨Nat.le_of_ble_eq_true rfl, Nat.le_of_ble_eq_true rfl⟩ (Nat.le_of_ble_eq_true rfl) dX0_ask_177 rfl ?_
            refine v_iload dX0_ask_180 rfl ?_
            exact v_retI h dX0_ask_182 rfl
          · rw [if_neg c] at h
            refine v_bipush dX0_ask_72 rfl ?_
            exact v_retI h dX0_ask_74 rfl
        · rw [if_pos c] at h
          refine v_bipush dX0_ask_44 rfl ?_
          exact v_retI h dX0_ask_46 rfl
      · rw [if_pos c] at h
        refine v_bipush dX0_ask_29 rfl ?_
        exact v_retI h dX0_ask_31 rfl
    · rw [if_pos c] at h
      refine v_iconst dX0_ask_16 ?_
      exact v_retI h dX0_ask_17 rfl
theorem tX0_ask {E : EE} {l : Launch} {v0 : Option Nat} {v1 : Int32} {v2 : Int32} {σ : Mem} {z : Int32 × Mem} (h : sX0_ask v0 v1 v2 σ = some z) : Mt E l mX0_ask [vr v0, vi v1, vi v2] σ (some (vi z.1), z.2) :=
  Mt.ofVL (by decide) (Nat.le_of_ble_eq_true rfl) (fun G hG => lX0_ask h)
abbrev mX0_push : MM := (yX0_push, cX0_push, 3, (Option.none : Option Jvm.ClassFile.FieldType), 0, 0)
theorem dsX0_push : DsOk yX0_push 1 := ⟨by decide, by decide, by decide +kernel⟩
theorem lX0_push_3b {E : EE} {G : GG} {k3 : Option Nat → Int32 → Int32 → Mem → Option (Unit × Mem)} (hk3 : ∀ (v0 : Option Nat) (v1 : Int32) (v2 : Int32) (s : Mem) (z : Unit × Mem), k3 v0 v1 v2 s = some z → V E mX0_push G 3 [some (vr v0), some (vi v1), some (vi v2)] [] s (none, z.2)) {v0 : Option Nat} {v1 : Int32} {v2 : Int32} {σ : Mem} {z : Unit × Mem} (h : sX0_push_3b k3 v0 v1 v2 σ = some z) : V E mX0_push G 3 [some (vr v0), some (vi v1), some (vi v2)] [] σ (none, z.2) := by
  unfold sX0_push_3b at h
  refine v_il2 dX0_push_3 ?_
  refine v_if_lt (tgt := 36) dX0_push_4 (by decide) (fun c => ?_) (fun c => ?_)
  · rw [if_pos c] at h
    exact v_retV h dX0_push_36 rfl
  · rw [if_neg c] at h
    refine v_al0 dX0_push_7 ?_
    refine v_gR cok0 h dX0_push_8 (by decide) q543 rfl (fun x1 h => ?_)
    refine v_al0 dX0_push_11 ?_
    refine v_gI cok0 h dX0_push_12 (by decide) q546 rfl (fun x2 h => ?_)
    refine v_il1 dX0_push_15 ?_
    refine v_il2 dX0_push_16 ?_
    refine v_ishr dX0_push_17 ?_
    refine v_i2b dX0_push_18 ?_
    refine v_sB h dX0_push_19 (fun s3 h => ?_)
    refine v_al0 dX0_push_20 ?_
    refine v_dup dX0_push_21 ?_
    refine v_gI cok0 h dX0_push_22 (by decide) q546 rfl (fun x4 h => ?_)
    refine v_iconst dX0_push_25 ?_
    refine v_iadd dX0_push_26 ?_
    refine v_pI cok0 h dX0_push_27 (by decide) q546 rfl rfl (fun s5 h => ?_)
    refine v_iinc (L' := [some (vr v0), some (vi v1), some (vi (v2 + iI (-8)))]) dX0_push_30 (Nat.le_of_ble_eq_true rfl) rfl rfl ?_
    refine v_goto (tgt := 3) dX0_push_33 (by decide) ?_
    exact v_weak (wss (wss (wss wse))) (hk3 _ _ _ _ _ h)
theorem lX0_push_3 {E : EE} {G : GG} : ∀ (f : Nat) {v0 : Option Nat} {v1 : Int32} {v2 : Int32} {σ : Mem} {z : Unit × Mem}, sX0_push_3 f v0 v1 v2 σ = some z → V E mX0_push G 3 [some (vr v0), some (vi v1), some (vi v2)] [] σ (none, z.2)
  | 0, _, _, _, _, _, h => by cases h
  | f + 1, _, _, _, _, _, h => lX0_push_3b (fun _ _ _ _ _ h => lX0_push_3 f h) h
theorem lX0_push {E : EE} {G : GG} {v0 : Option Nat} {v1 : Int32} {σ : Mem} {z : Unit × Mem} (h : sX0_push v0 v1 σ = some z) : V E mX0_push G 0 [some (vr v0), some (vi v1), none] [] σ (none, z.2) := by
  unfold sX0_push at h
  refine v_bipush dX0_push_0 rfl ?_
  refine v_istore_n (L' := [some (vr v0), some (vi v1), some (vi (iI 24))]) dX0_push_2 (Nat.le_of_ble_eq_true rfl) (Nat.le_of_ble_eq_true rfl) rfl ?_
  exact v_weak (wss (wss (wss wse))) (lX0_push_3 FU h)
theorem tX0_push {E : EE} {l : Launch} {v0 : Option Nat} {v1 : Int32} {σ : Mem} {z : Unit × Mem} (h : sX0_push v0 v1 σ = some z) : Mt E l mX0_push [vr v0, vi v1] σ (none, z.2) :=
  Mt.ofVL (by decide) (Nat.le_of_ble_eq_true rfl) (fun G hG => lX0_push h)
abbrev mX0_feed : MM := (yX0_feed, cX0_feed, 6, (Option.some Jvm.ClassFile.FieldType.int), 1, 22)
theorem dsX0_feed : DsOk yX0_feed 5 := ⟨by decide, by decide, by decide +kernel⟩
theorem lX0_feed {E : EE} {G : GG} {v0 : Option Nat} {v1 : Int32} {v2 : Int32} {v3 : Int32} {v4 : Int32} {v5 : Int32} {σ : Mem} {z : Int32 × Mem} (h : sX0_feed v0 v1 v2 v3 v4 v5 σ = some z) : V E mX0_feed G 0 [some (vr v0), some (vi v1), some (vi v2), some (vi v3), some (vi v4), some (vi v5)] [] σ (some (vi z.1), z.2) := by
  unfold sX0_feed at h
  refine v_al0 dX0_feed_0 ?_
  refine v_gI cok0 h dX0_feed_1 (by decide) q546 rfl (fun x1 h => ?_)
  refine v_bipush dX0_feed_4 rfl ?_
  refine v_iadd dX0_feed_6 ?_
  refine v_sipush dX0_feed_7 rfl ?_
  refine v_icmp_le (tgt := 15) dX0_feed_10 (by decide) (fun c => ?_) (fun c => ?_)
  · rw [if_pos c] at h
    refine v_al0 dX0_feed_15 ?_
    refine v_il1 dX0_feed_16 ?_
    obtain ⟨b17, er, ka, h⟩ := cV_some h
    obtain ⟨_, s2, h1, h⟩ := cl_some h
    refine v_callV0 cok0 (As := [vi v1]) er ka (tX0_push h1) (lw_V q771 q773 qs12 q158 q774) rfl dsX0_push ⟨Nat.le_of_ble_eq_true rfl, Nat.le_of_ble_eq_true rfl⟩ (Nat.le_of_ble_eq_true rfl) dX0_feed_17 rfl ?_
    refine v_al0 dX0_feed_20 ?_
    refine v_il2 dX0_feed_21 ?_
    obtain ⟨b22, er, ka, h⟩ := cV_some h
    obtain ⟨_, s3, h1, h⟩ := cl_some h
    refine v_callV0 cok0 (As := [vi v2]) er ka (tX0_push h1) (lw_V q771 q773 qs12 q158 q774) rfl dsX0_push ⟨Nat.le_of_ble_eq_true rfl, Nat.le_of_ble_eq_true rfl⟩ (Nat.le_of_ble_eq_true rfl) dX0_feed_22 rfl ?_
    refine v_al0 dX0_feed_25 ?_
    refine v_il3 dX0_feed_26 ?_
    obtain ⟨b27, er, ka, h⟩ := cV_some h
    obtain ⟨_, s4, h1, h⟩ := cl_some h
    refine v_callV0 cok0 (As := [vi v3]) er ka (tX0_push h1) (lw_V q771 q773 qs12 q158 q774) rfl dsX0_push ⟨Nat.le_of_ble_eq_true rfl, Nat.le_of_ble_eq_true rfl⟩ (Nat.le_of_ble_eq_true rfl) dX0_feed_27 rfl ?_
    refine v_al0 dX0_feed_30 ?_
    refine v_iload dX0_feed_31 rfl ?_
    obtain ⟨b33, er, ka, h⟩ := cV_some h
    obtain ⟨_, s5, h1, h⟩ := cl_some h
    refine v_callV0 cok0 (As := [vi v4]) er ka (tX0_push h1) (lw_V q771 q773 qs12 q158 q774) rfl dsX0_push ⟨Nat.le_of_ble_eq_true rfl, Nat.le_of_ble_eq_true rfl⟩ (Nat.le_of_ble_eq_true rfl) dX0_feed_33 rfl ?_
    refine v_al0 dX0_feed_36 ?_
    refine v_iload dX0_feed_37 rfl ?_
    obtain ⟨b39, er, ka, h⟩ := cV_some h
    obtain ⟨_, s6, h1, h⟩ := cl_some h
    refine v_callV0 cok0 (As := [vi v5]) er ka (tX0_push h1) (lw_V q771 q773 qs12 q158 q774) rfl dsX0_push ⟨Nat.le_of_ble_eq_true rfl, Nat.le_of_ble_eq_true rfl⟩ (Nat.le_of_ble_eq_true rfl) dX0_feed_39 rfl ?_
    refine v_al0 dX0_feed_42 ?_
    refine v_gI cok0 h dX0_feed_43 (by decide) q546 rfl (fun x7 h => ?_)
    exact v_retI h dX0_feed_46 rfl
  · rw [if_neg c] at h
    refine v_iconst dX0_feed_13 ?_
    exact v_retI h dX0_feed_14 rfl
theorem tX0_feed {E : EE} {l : Launch} {v0 : Option Nat} {v1 : Int32} {v2 : Int32} {v3 : Int32} {v4 : Int32} {v5 : Int32} {σ : Mem} {z : Int32 × Mem} (h : sX0_feed v0 v1 v2 v3 v4 v5 σ = some z) : Mt E l mX0_feed [vr v0, vi v1, vi v2, vi v3, vi v4, vi v5] σ (some (vi z.1), z.2) :=
  Mt.ofVL (by decide) (Nat.le_of_ble_eq_true rfl) (fun G hG => lX0_feed h)
abbrev mX9_init : MM := (yX9_init, cX9_init, 3, (Option.none : Option Jvm.ClassFile.FieldType), 2, 40)
theorem dsX9_init : DsOk yX9_init 2 := ⟨by decide, by decide, by decide +kernel⟩
theorem lX9_init {E : EE} {G : GG} {v0 : Option Nat} {v1 : Option Nat} {v2 : Int32} {σ : Mem} {z : Unit × Mem} (h : sX9_init v0 v1 v2 σ = some z) : V E mX9_init G 0 [some (vr v0), some (vr v1), some (vi v2)] [] σ (none, z.2) := by
  unfold sX9_init at h
  refine v_al0 dX9_init_0 ?_
  refine v_al1 dX9_init_1 ?_
  refine v_pRF cok7 h dX9_init_2 (by decide) q794 rfl rfl rfl rfl (fun s1 h => ?_)
  refine v_al0 dX9_init_5 ?_
  obtain ⟨b6, er, h⟩ := cI_some h
  refine v_oI er q784 q188 q189 ⟨by decide, by decide⟩ (Nat.le_of_ble_eq_true rfl) dX9_init_6 ?_
  refine v_al0 dX9_init_9 ?_
  refine v_new cok4 h dX9_init_10 q785 (fun x2 s3 h => ?_)
  refine v_dup dX9_init_13 ?_
  obtain ⟨b14, er, h⟩ := cI_some h
  obtain ⟨_, s4, h1, h⟩ := cl_some h
  refine v_cIN er (As := []) (tX5_init h1) rfl q786 q428 q427 q163 rfl dsX5_init ⟨Nat.le_of_ble_eq_true rfl, Nat.le_of_ble_eq_true rfl⟩ (Nat.le_of_ble_eq_true rfl) dX9_init_14 rfl ?_
  refine v_pRF cok7 h dX9_init_17 (by decide) q788 rfl rfl rfl rfl (fun s5 h => ?_)
  refine v_al0 dX9_init_20 ?_
  refine v_il2 dX9_init_21 ?_
  refine v_pIF cok7 h dX9_init_22 (by decide) q787 rfl rfl rfl rfl (fun s6 h => ?_)
  exact v_retV h dX9_init_25 rfl
theorem tX9_init {E : EE} {l : Launch} {v0 : Option Nat} {v1 : Option Nat} {v2 : Int32} {σ : Mem} {z : Unit × Mem} (h : sX9_init v0 v1 v2 σ = some z) : Mt E l mX9_init [vr v0, vr v1, vi v2] σ (none, z.2) :=
  Mt.ofVL (by decide) (Nat.le_of_ble_eq_true rfl) (fun G hG => lX9_init h)
abbrev mX9_isGood : MM := (yX9_isGood, cX9_isGood, 1, (Option.some Jvm.ClassFile.FieldType.boolean), 0, 0)
theorem dsX9_isGood : DsOk yX9_isGood 0 := ⟨by decide, by decide, by decide +kernel⟩
theorem lX9_isGood {E : EE} {G : GG} {v0 : Option Nat} {σ : Mem} {z : Int32 × Mem} (h : sX9_isGood v0 σ = some z) : V E mX9_isGood G 0 [some (vr v0)] [] σ (some (vi z.1), z.2) := by
  unfold sX9_isGood at h
  refine v_al0 dX9_isGood_0 ?_
  refine v_gI cok7 h dX9_isGood_1 (by decide) q792 rfl (fun x1 h => ?_)
  refine v_if_ne (tgt := 11) dX9_isGood_4 (by decide) (fun c => ?_) (fun c => ?_)
  · rw [if_neg c] at h
    refine v_iconst dX9_isGood_11 ?_
    exact v_retZ h dX9_isGood_12 rfl
  · rw [if_pos c] at h
    refine v_iconst dX9_isGood_7 ?_
    refine v_goto (tgt := 12) dX9_isGood_8 (by decide) ?_
    exact v_retZ h dX9_isGood_12 rfl
theorem tX9_isGood {E : EE} {l : Launch} {v0 : Option Nat} {σ : Mem} {z : Int32 × Mem} (h : sX9_isGood v0 σ = some z) : Mt E l mX9_isGood [vr v0] σ (some (vi z.1), z.2) :=
  Mt.ofVL (by decide) (Nat.le_of_ble_eq_true rfl) (fun G hG => lX9_isGood h)
abbrev mX9_here : MM := (yX9_here, cX9_here, 1, (Option.some Jvm.ClassFile.FieldType.int), 0, 0)
theorem dsX9_here : DsOk yX9_here 0 := ⟨by decide, by decide, by decide +kernel⟩
theorem lX9_here {E : EE} {G : GG} {v0 : Option Nat} {σ : Mem} {z : Int32 × Mem} (h : sX9_here v0 σ = some z) : V E mX9_here G 0 [some (vr v0)] [] σ (some (vi z.1), z.2) := by
  unfold sX9_here at h
  refine v_al0 dX9_here_0 ?_
  refine v_gI cok7 h dX9_here_1 (by decide) q790 rfl (fun x1 h => ?_)
  refine v_al0 dX9_here_4 ?_
  refine v_gI cok7 h dX9_here_5 (by decide) q787 rfl (fun x2 h => ?_)
  refine v_icmp_ge (tgt := 30) dX9_here_8 (by decide) (fun c => ?_) (fun c => ?_)
  · rw [if_pos c] at h
    refine v_iconst dX9_here_30 ?_
    exact v_retI h dX9_here_31 rfl
  · rw [if_neg c] at h
    refine v_al0 dX9_here_11 ?_
    refine v_gR cok7 h dX9_here_12 (by decide) q794 rfl (fun x3 h => ?_)
    refine v_gRN cok0 h dX9_here_15 (by decide) q541 rfl (fun x4 h => ?_)
    refine v_al0 dX9_here_18 ?_
    refine v_gI cok7 h dX9_here_19 (by decide) q790 rfl (fun x5 h => ?_)
    refine v_aB h dX9_here_22 (fun x6 h => ?_)
    refine v_sipush dX9_here_23 rfl ?_
    refine v_iand dX9_here_26 ?_
    refine v_goto (tgt := 31) dX9_here_27 (by decide) ?_
    exact v_retI h dX9_here_31 rfl
theorem tX9_here {E : EE} {l : Launch} {v0 : Option Nat} {σ : Mem} {z : Int32 × Mem} (h : sX9_here v0 σ = some z) : Mt E l mX9_here [vr v0] σ (some (vi z.1), z.2) :=
  Mt.ofVL (by decide) (Nat.le_of_ble_eq_true rfl) (fun G hG => lX9_here h)
abbrev mX9_bad : MM := (yX9_bad, cX9_bad, 3, (Option.none : Option Jvm.ClassFile.FieldType), 0, 0)
theorem dsX9_bad : DsOk yX9_bad 2 := ⟨by decide, by decide, by decide +kernel⟩
theorem lX9_bad {E : EE} {G : GG} {v0 : Option Nat} {v1 : Int32} {v2 : Int32} {σ : Mem} {z : Unit × Mem} (h : sX9_bad v0 v1 v2 σ = some z) : V E mX9_bad G 0 [some (vr v0), some (vi v1), some (vi v2)] [] σ (none, z.2) := by
  unfold sX9_bad at h
  refine v_al0 dX9_bad_0 ?_
  refine v_gI cok7 h dX9_bad_1 (by decide) q792 rfl (fun x1 h => ?_)
  refine v_if_le (tgt := 8) dX9_bad_4 (by decide) (fun c => ?_) (fun c => ?_)
  · rw [if_pos c] at h
    refine v_al0 dX9_bad_8 ?_
    refine v_il1 dX9_bad_9 ?_
    refine v_pI cok7 h dX9_bad_10 (by decide) q792 rfl rfl (fun s2 h => ?_)
    refine v_al0 dX9_bad_13 ?_
    refine v_il2 dX9_bad_14 ?_
    refine v_pI cok7 h dX9_bad_15 (by decide) q793 rfl rfl (fun s3 h => ?_)
    exact v_retV h dX9_bad_18 rfl
  · rw [if_neg c] at h
    exact v_retV h dX9_bad_7 rfl
theorem tX9_bad {E : EE} {l : Launch} {v0 : Option Nat} {v1 : Int32} {v2 : Int32} {σ : Mem} {z : Unit × Mem} (h : sX9_bad v0 v1 v2 σ = some z) : Mt E l mX9_bad [vr v0, vi v1, vi v2] σ (none, z.2) :=
  Mt.ofVL (by decide) (Nat.le_of_ble_eq_true rfl) (fun G hG => lX9_bad h)
abbrev mX9_opens : MM := (yX9_opens, cX9_opens, 1, (Option.none : Option Jvm.ClassFile.FieldType), 1, 22)
theorem dsX9_opens : DsOk yX9_opens 0 := ⟨by decide, by decide, by decide +kernel⟩
theorem lX9_opens_18 {E : EE} {G : GG} {v0 : Option Nat} {σ : Mem} {z : Unit × Mem} (h : sX9_opens_18 v0 σ = some z) : V E mX9_opens G 18 [some (vr v0)] [] σ (none, z.2) := by
  unfold sX9_opens_18 at h
  refine v_al0 dX9_opens_18 ?_
  refine v_dup dX9_opens_19 ?_
  refine v_gI cok7 h dX9_opens_20 (by decide) q791 rfl (fun x1 h => ?_)
  refine v_iconst dX9_opens_23 ?_
  refine v_iadd dX9_opens_24 ?_
  refine v_pI cok7 h dX9_opens_25 (by decide) q791 rfl rfl (fun s2 h => ?_)
  refine v_al0 dX9_opens_28 ?_
  refine v_dup dX9_opens_29 ?_
  refine v_gI cok7 h dX9_opens_30 (by decide) q790 rfl (fun x3 h => ?_)
  refine v_iconst dX9_opens_33 ?_
  refine v_iadd dX9_opens_34 ?_
  refine v_pI cok7 h dX9_opens_35 (by decide) q790 rfl rfl (fun s4 h => ?_)
  exact v_retV h dX9_opens_38 rfl
theorem lX9_opens {E : EE} {G : GG} {v0 : Option Nat} {σ : Mem} {z : Unit × Mem} (h : sX9_opens v0 σ = some z) : V E mX9_opens G 0 [some (vr v0)] [] σ (none, z.2) := by
  unfold sX9_opens at h
  refine v_al0 dX9_opens_0 ?_
  refine v_gI cok7 h dX9_opens_1 (by decide) q791 rfl (fun x1 h => ?_)
  refine v_bipush dX9_opens_4 rfl ?_
  refine v_icmp_ne (tgt := 18) dX9_opens_6 (by decide) (fun c => ?_) (fun c => ?_)
  · rw [if_neg c] at h
    exact v_weak (wss wse) (lX9_opens_18 h)
  · rw [if_pos c] at h
    refine v_al0 dX9_opens_9 ?_
    refine v_iconst dX9_opens_10 ?_
    refine v_al0 dX9_opens_11 ?_
    refine v_gI cok7 h dX9_opens_12 (by decide) q790 rfl (fun x2 h => ?_)
    obtain ⟨b15, er, ka, h⟩ := cV_some h
    obtain ⟨_, s3, h1, h⟩ := cl_some h
    refine v_callV0 cok7 (As := [vi (iI 5), vi x2]) er ka (tX9_bad h1) (lw_V q909 q911 qs16 q169 q912) rfl dsX9_bad ⟨Nat.le_of_ble_eq_true rfl, Nat.le_of_ble_eq_true rfl⟩ (Nat.le_of_ble_eq_true rfl) dX9_opens_15 rfl ?_
    exact v_weak (wss wse) (lX9_opens_18 h)
theorem tX9_opens {E : EE} {l : Launch} {v0 : Option Nat} {σ : Mem} {z : Unit × Mem} (h : sX9_opens v0 σ = some z) : Mt E l mX9_opens [vr v0] σ (none, z.2) :=
  Mt.ofVL (by decide) (Nat.le_of_ble_eq_true rfl) (fun G hG => lX9_opens h)
abbrev mX9_must : MM := (yX9_must, cX9_must, 2, (Option.none : Option Jvm.ClassFile.FieldType), 1, 22)
theorem dsX9_must : DsOk yX9_must 1 := ⟨by decide, by decide, by decide +kernel⟩
theorem lX9_must_17 {E : EE} {G : GG} {v0 : Option Nat} {σ : Mem} {z : Unit × Mem} (h : sX9_must_17 v0 σ = some z) : V E mX9_must G 17 [some (vr v0), none] [] σ (none, z.2) := by
  unfold sX9_must_17 at h
  refine v_al0 dX9_must_17 ?_
  refine v_dup dX9_must_18 ?_
  refine v_gI cok7 h dX9_must_19 (by decide) q790 rfl (fun x1 h => ?_)
  refine v_iconst dX9_must_22 ?_
  refine v_iadd dX9_must_23 ?_
  refine v_pI cok7 h dX9_must_24 (by decide) q790 rfl rfl (fun s2 h => ?_)
  exact v_retV h dX9_must_27 rfl
theorem lX9_must {E : EE} {G : GG} {v0 : Option Nat} {v1 : Int32} {σ : Mem} {z : Unit × Mem} (h : sX9_must v0 v1 σ = some z) : V E mX9_must G 0 [some (vr v0), some (vi v1)] [] σ (none, z.2) := by
  unfold sX9_must at h
  refine v_al0 dX9_must_0 ?_
  obtain ⟨b1, er, ka, h⟩ := cV_some h
  obtain ⟨x1, s2, h1, h⟩ := cl_some h
  refine v_callV1 cok7 (As := []) er ka (tX9_here h1) (lw_V q822 q824 qs15 q169 q825) rfl dsX9_here ⟨Nat.le_of_ble_eq_true rfl, Nat.le_of_ble_eq_true rfl⟩ (Nat.le_of_ble_eq_true rfl) dX9_must_1 rfl ?_
  refine v_il1 dX9_must_4 ?_
  refine v_icmp_eq (tgt := 17) dX9_must_5 (by decide) (fun c => ?_) (fun c => ?_)
  · rw [if_pos c] at h
    exact v_weak (wss (wsn wse)) (lX9_must_17 h)
  · rw [if_neg c] at h
    refine v_al0 dX9_must_8 ?_
    refine v_iconst dX9_must_9 ?_
    refine v_al0 dX9_must_10 ?_
    refine v_gI cok7 h dX9_must_11 (by decide) q790 rfl (fun x3 h => ?_)
    obtain ⟨b14, er, ka, h⟩ := cV_some h
    obtain ⟨_, s4, h1, h⟩ := cl_some h
    refine v_callV0 cok7 (As := [vi (iI 1), vi x3]) er ka (tX9_bad h1) (lw_V q909 q911 qs16 q169 q912) rfl dsX9_bad ⟨Nat.le_of_ble_eq_true rfl, Nat.le_of_ble_eq_true rfl⟩ (Nat.le_of_ble_eq_true rfl) dX9_must_14 rfl ?_
    exact v_weak (wss (wsn wse)) (lX9_must_17 h)
theorem tX9_must {E : EE} {l : Launch} {v0 : Option Nat} {v1 : Int32} {σ : Mem} {z : Unit × Mem} (h : sX9_must v0 v1 σ = some z) : Mt E l mX9_must [vr v0, vi v1] σ (none, z.2) :=
  Mt.ofVL (by decide) (Nat.le_of_ble_eq_true rfl) (fun G hG => lX9_must h)
abbrev mX9_seesDigit : MM := (yX9_seesDigit, cX9_seesDigit, 1, (Option.some Jvm.ClassFile.FieldType.boolean), 1, 20)
theorem dsX9_seesDigit : DsOk yX9_seesDigit 0 := ⟨by decide, by decide, by decide +kernel⟩
theorem lX9_seesDigit {E : EE} {G : GG} {v0 : Option Nat} {σ : Mem} {z : Int32 × Mem} (h : sX9_seesDigit v0 σ = some z) : V E mX9_seesDigit G 0 [some (vr v0)] [] σ (some (vi z.1), z.2) := by
  unfold sX9_seesDigit at h
  refine v_al0 dX9_seesDigit_0 ?_
  obtain ⟨b1, er, ka, h⟩ := cV_some h
  obtain ⟨x1, s2, h1, h⟩ := cl_some h
  refine v_callV1 cok7 (As := []) er ka (tX9_here h1) (lw_V q822 q824 qs15 q169 q825) rfl dsX9_here ⟨Nat.le_of_ble_eq_true rfl, Nat.le_of_ble_eq_true rfl⟩ (Nat.le_of_ble_eq_true rfl) dX9_seesDigit_1 rfl ?_
  refine v_bipush dX9_seesDigit_4 rfl ?_
  refine v_icmp_lt (tgt := 22) dX9_seesDigit_6 (by decide) (fun c => ?_) (fun c => ?_)
  · rw [if_pos c] at h
    refine v_iconst dX9_seesDigit_22 ?_
    exact v_retZ h dX9_seesDigit_23 rfl
  · rw [if_neg c] at h
    refine v_al0 dX9_seesDigit_9 ?_
    obtain ⟨b10, er, ka, h⟩ := cV_some h
    obtain ⟨x3, s4, h1, h⟩ := cl_some h
    refine v_callV1 cok7 (As := []) er ka (tX9_here h1) (lw_V q822 q824 qs15 q169 q825) rfl dsX9_here ⟨Nat.le_of_ble_eq_true rfl, Nat.le_of_ble_eq_true rfl⟩ (Nat.le_of_ble_eq_true rfl) dX9_seesDigit_10 rfl ?_
    refine v_bipush dX9_seesDigit_13 rfl ?_
    refine v_icmp_gt (tgt := 22) dX9_seesDigit_15 (by decide) (fun c => ?_) (fun c => ?_)
    · rw [if_pos c] at h
      refine v_iconst dX9_seesDigit_22 ?_
      exact v_retZ h dX9_seesDigit_23 rfl
    · rw [if_neg c] at h
      refine v_iconst dX9_seesDigit_18 ?_
      refine v_goto (tgt := 23) dX9_seesDigit_19 (by decide) ?_
      exact v_retZ h dX9_seesDigit_23 rfl
theorem tX9_seesDigit {E : EE} {l : Launch} {v0 : Option Nat} {σ : Mem} {z : Int32 × Mem} (h : sX9_seesDigit v0 σ = some z) : Mt E l mX9_seesDigit [vr v0] σ (some (vi z.1), z.2) :=
  Mt.ofVL (by decide) (Nat.le_of_ble_eq_true rfl) (fun G hG => lX9_seesDigit h)
abbrev mX9_number : MM := (yX9_number, cX9_number, 3, (Option.some Jvm.ClassFile.FieldType.int), 2, 40)
theorem dsX9_number : DsOk yX9_number 0 := ⟨by decide, by decide, by decide +kernel⟩
theorem lX9_number_40 {E : EE} {G : GG} {k7 : Option Nat → Int32 → Int32 → Mem → Option (Int32 × Mem)} (hk7 : ∀ (v0 : Option Nat) (v1 : Int32) (v2 : Int32) (s : Mem) (z : Int32 × Mem), k7 v0 v1 v2 s = some z → V E mX9_number G 7 [some (vr v0), some (vi v1), some (vi v2)] [] s (some (vi z.1), z.2)) {v0 : Option Nat} {v1 : Int32} {v2 : Int32} {σ : Mem} {z : Int32 × Mem} (h : sX9_number_40 k7 v0 v1 v2 σ = some z) : V E mX9_number G 40 [some (vr v0), some (vi v1), some (vi v2)] [] σ (some (vi z.1), z.2) := by
  unfold sX9_number_40 at h
  refine v_bipush dX9_number_40 rfl ?_
  refine v_il2 dX9_number_42 ?_
  refine v_imul dX9_number_43 ?_
  refine v_al0 dX9_number_44 ?_
  obtain ⟨b45, er, ka, h⟩ := cV_some h
  obtain ⟨x1, s2, h1, h⟩ := cl_some h
  refine v_callV1 cok7 (As := []) er ka (tX9_here h1) (lw_V q822 q824 qs15 q169 q825) rfl dsX9_here ⟨Nat.le_of_ble_eq_true rfl, Nat.le_of_ble_eq_true rfl⟩ (Nat.le_of_ble_eq_true rfl) dX9_number_45 rfl ?_
  refine v_iadd dX9_number_48 ?_
  refine v_bipush dX9_number_49 rfl ?_
  refine v_isub dX9_number_51 ?_
  refine v_istore_n (L' := [some (vr v0), some (vi v1), some (vi ((((iI 10) * v2) + x1) - (iI 48)))]) dX9_number_52 (Nat.le_of_ble_eq_true rfl) (Nat.le_of_ble_eq_true rfl) rfl ?_
  refine v_al0 dX9_number_53 ?_
  refine v_dup dX9_number_54 ?_
  refine v_gI cok7 h dX9_number_55 (by decide) q790 rfl (fun x3 h => ?_)
  refine v_iconst dX9_number_58 ?_
  refine v_iadd dX9_number_59 ?_
  refine v_pI cok7 h dX9_number_60 (by decide) q790 rfl rfl (fun s4 h => ?_)
  refine v_goto (tgt := 7) dX9_number_63 (by decide) ?_
  exact v_weak (wss (wss (wss wse))) (hk7 _ _ _ _ _ h)
theorem lX9_number_7b {E : EE} {G : GG} {k7 : Option Nat → Int32 → Int32 → Mem → Option (Int32 × Mem)} (hk7 : ∀ (v0 : Option Nat) (v1 : Int32) (v2 : Int32) (s : Mem) (z : Int32 × Mem), k7 v0 v1 v2 s = some z → V E mX9_number G 7 [some (vr v0), some (vi v1), some (vi v2)] [] s (some (vi z.1), z.2)) {v0 : Option Nat} {v1 : Int32} {v2 : Int32} {σ : Mem} {z : Int32 × Mem} (h : sX9_number_7b k7 v0 v1 v2 σ = some z) : V E mX9_number G 7 [some (vr v0), some (vi v1), some (vi v2)] [] σ (some (vi z.1), z.2) := by
  unfold sX9_number_7b at h
  refine v_al0 dX9_number_7 ?_
  obtain ⟨b8, er, ka, h⟩ := cV_some h
  obtain ⟨x1, s2, h1, h⟩ := cl_some h
  refine v_callV1 cok7 (As := []) er ka (tX9_isGood h1) (lw_V q814 q816 qs13 q169 q817) rfl dsX9_isGood ⟨Nat.le_of_ble_eq_true rfl, Nat.le_of_ble_eq_true rfl⟩ (Nat.le_of_ble_eq_true rfl) dX9_number_8 rfl ?_
  refine v_if_eq (tgt := 66) dX9_number_11 (by decide) (fun c => ?_) (fun c => ?_)
  · rw [if_pos c] at h
    refine v_il2 dX9_number_66 ?_
    exact v_retI h dX9_number_67 rfl
  · rw [if_neg c] at h
    refine v_al0 dX9_number_14 ?_
    obtain ⟨b15, er, ka, h⟩ := cV_some h
    obtain ⟨x3, s4, h1, h⟩ := cl_some h
    refine v_callV1 cok7 (As := []) er ka (tX9_seesDigit h1) (lw_V q935 q937 qs22 q169 q938) rfl dsX9_seesDigit ⟨Nat.le_of_ble_eq_true rfl, Nat.le_of_ble_eq_true rfl⟩ (Nat.le_of_ble_eq_true rfl) dX9_number_15 rfl ?_
    refine v_if_eq (tgt := 66) dX9_number_18 (by decide) (fun c => ?_) (fun c => ?_)
    · rw [if_pos c] at h
      refine v_il2 dX9_number_66 ?_
      exact v_retI h dX9_number_67 rfl
    · rw [if_neg c] at h
      refine v_al0 dX9_number_21 ?_
      refine v_gI cok7 h dX9_number_22 (by decide) q790 rfl (fun x5 h => ?_)
      refine v_il1 dX9_number_25 ?_
      refine v_iconst dX9_number_26 ?_
      refine v_iadd dX9_number_27 ?_
      refine v_icmp_ne (tgt := 40) dX9_number_28 (by decide) (fun c => ?_) (fun c => ?_)
      · rw [if_neg c] at h
        exact v_weak (wss (wss (wss wse))) (lX9_number_40 hk7 h)
      · rw [if_pos c] at h
        refine v_al0 dX9_number_31 ?_
        refine v_iconst dX9_number_32 ?_
        refine v_al0 dX9_number_33 ?_
        refine v_gI cok7 h dX9_number_34 (by decide) q790 rfl (fun x6 h => ?_)
        obtain ⟨b37, er, ka, h⟩ := cV_some h
        obtain ⟨_, s7, h1, h⟩ := cl_some h
        refine v_callV0 cok7 (As := [vi (iI 2), vi x6]) er ka (tX9_bad h1) (lw_V q909 q911 qs16 q169 q912) rfl dsX9_bad ⟨Nat.le_of_ble_eq_true rfl, Nat.le_of_ble_eq_true rfl⟩ (Nat.le_of_ble_eq_true rfl) dX9_number_37 rfl ?_
        exact v_weak (wss (wss (wss wse))) (lX9_number_40 hk7 h)
theorem lX9_number_7 {E : EE} {G : GG} : ∀ (f : Nat) {v0 : Option Nat} {v1 : Int32} {v2 : Int32} {σ : Mem} {z : Int32 × Mem}, sX9_number_7 f v0 v1 v2 σ = some z → V E mX9_number G 7 [some (vr v0), some (vi v1), some (vi v2)] [] σ (some (vi z.1), z.2)
  | 0, _, _, _, _, _, h => by cases h
  | f + 1, _, _, _, _, _, h => lX9_number_7b (fun _ _ _ _ _ h => lX9_number_7 f h) h
theorem lX9_number {E : EE} {G : GG} {v0 : Option Nat} {σ : Mem} {z : Int32 × Mem} (h : sX9_number v0 σ = some z) : V E mX9_number G 0 [some (vr v0), none, none] [] σ (some (vi z.1), z.2) := by
  unfold sX9_number at h
  refine v_al0 dX9_number_0 ?_
  refine v_gI cok7 h dX9_number_1 (by decide) q790 rfl (fun x1 h => ?_)
  refine v_istore_n (L' := [some (vr v0), some (vi x1), none]) dX9_number_4 (Nat.le_of_ble_eq_true rfl) (Nat.le_of_ble_eq_true rfl) rfl ?_
  refine v_iconst dX9_number_5 ?_
  refine v_istore_n (L' := [some (vr v0), some (vi x1), some (vi (iI 0))]) dX9_number_6 (Nat.le_of_ble_eq_true rfl) (Nat.le_of_ble_eq_true rfl) rfl ?_
  exact v_weak (wss (wss (wss wse))) (lX9_number_7 FU h)
theorem tX9_number {E : EE} {l : Launch} {v0 : Option Nat} {σ : Mem} {z : Int32 × Mem} (h : sX9_number v0 σ = some z) : Mt E l mX9_number [vr v0] σ (some (vi z.1), z.2) :=
  Mt.ofVL (by decide) (Nat.le_of_ble_eq_true rfl) (fun G hG => lX9_number h)
abbrev mX6_init : MM := (yX6_init, cX6_init, 1, (Option.none : Option Jvm.ClassFile.FieldType), 1, 20)
theorem dsX6_init : DsOk yX6_init 0 := ⟨by decide, by decide, by decide +kernel⟩
theorem lX6_init {E : EE} {G : GG} {v0 : Option Nat} {σ : Mem} {z : Unit × Mem} (h : sX6_init v0 σ = some z) : V E mX6_init G 0 [some (vr v0)] [] σ (none, z.2) := by
  unfold sX6_init at h
  refine v_al0 dX6_init_0 ?_
  obtain ⟨b1, er, h⟩ := cI_some h
  refine v_oI er q951 q188 q189 ⟨by decide, by decide⟩ (Nat.le_of_ble_eq_true rfl) dX6_init_1 ?_
  exact v_retV h dX6_init_4 rfl
theorem tX6_init {E : EE} {l : Launch} {v0 : Option Nat} {σ : Mem} {z : Unit × Mem} (h : sX6_init v0 σ = some z) : Mt E l mX6_init [vr v0] σ (none, z.2) :=
  Mt.ofVL (by decide) (Nat.le_of_ble_eq_true rfl) (fun G hG => lX6_init h)
abbrev mX10_init : MM := (yX10_init, cX10_init, 2, (Option.none : Option Jvm.ClassFile.FieldType), 2, 40)
theorem dsX10_init : DsOk yX10_init 1 := ⟨by decide, by decide, by decide +kernel⟩
theorem lX10_init {E : EE} {G : GG} {v0 : Option Nat} {v1 : Int32} {σ : Mem} {z : Unit × Mem} (h : sX10_init v0 v1 σ = some z) : V E mX10_init G 0 [some (vr v0), some (vi v1)] [] σ (none, z.2) := by
  unfold sX10_init at h
  refine v_al0 dX10_init_0 ?_
  obtain ⟨b1, er, h⟩ := cI_some h
  obtain ⟨_, s1, h1, h⟩ := cl_some h
  refine v_cIN er (As := []) (tX6_init h1) rfl q948 q950 q949 q164 rfl dsX6_init ⟨Nat.le_of_ble_eq_true rfl, Nat.le_of_ble_eq_true rfl⟩ (Nat.le_of_ble_eq_true rfl) dX10_init_1 rfl ?_
  refine v_al0 dX10_init_4 ?_
  refine v_il1 dX10_init_5 ?_
  refine v_pIF cok8 h dX10_init_6 (by decide) q952 rfl rfl rfl rfl (fun s2 h => ?_)
  exact v_retV h dX10_init_9 rfl
theorem tX10_init {E : EE} {l : Launch} {v0 : Option Nat} {v1 : Int32} {σ : Mem} {z : Unit × Mem} (h : sX10_init v0 v1 σ = some z) : Mt E l mX10_init [vr v0, vi v1] σ (none, z.2) :=
  Mt.ofVL (by decide) (Nat.le_of_ble_eq_true rfl) (fun G hG => lX10_init h)
abbrev mX11_init : MM := (yX11_init, cX11_init, 2, (Option.none : Option Jvm.ClassFile.FieldType), 2, 40)
theorem dsX11_init : DsOk yX11_init 1 := ⟨by decide, by decide, by decide +kernel⟩
theorem lX11_init {E : EE} {G : GG} {v0 : Option Nat} {v1 : Int32} {σ : Mem} {z : Unit × Mem} (h : sX11_init v0 v1 σ = some z) : V E mX11_init G 0 [some (vr v0), some (vi v1)] [] σ (none, z.2) := by
  unfold sX11_init at h
  refine v_al0 dX11_init_0 ?_
  obtain ⟨b1, er, h⟩ := cI_some h
  obtain ⟨_, s1, h1, h⟩ := cl_some h
  refine v_cIN er (As := []) (tX6_init h1) rfl q962 q950 q949 q164 rfl dsX6_init ⟨Nat.le_of_ble_eq_true rfl, Nat.le_of_ble_eq_true rfl⟩ (Nat.le_of_ble_eq_true rfl) dX11_init_1 rfl ?_
  refine v_al0 dX11_init_4 ?_
  refine v_il1 dX11_init_5 ?_
  refine v_pIF cok9 h dX11_init_6 (by decide) q963 rfl rfl rfl rfl (fun s2 h => ?_)
  exact v_retV h dX11_init_9 rfl
theorem tX11_init {E : EE} {l : Launch} {v0 : Option Nat} {v1 : Int32} {σ : Mem} {z : Unit × Mem} (h : sX11_init v0 v1 σ = some z) : Mt E l mX11_init [vr v0, vi v1] σ (none, z.2) :=
  Mt.ofVL (by decide) (Nat.le_of_ble_eq_true rfl) (fun G hG => lX11_init h)
abbrev mX7_init : MM := (yX7_init, cX7_init, 3, (Option.none : Option Jvm.ClassFile.FieldType), 2, 40)
theorem dsX7_init : DsOk yX7_init 2 := ⟨by decide, by decide, by decide +kernel⟩
theorem lX7_init {E : EE} {G : GG} {v0 : Option Nat} {v1 : Int32} {v2 : Option Nat} {σ : Mem} {z : Unit × Mem} (h : sX7_init v0 v1 v2 σ = some z) : V E mX7_init G 0 [some (vr v0), some (vi v1), some (vr v2)] [] σ (none, z.2) := by
  unfold sX7_init at h
  refine v_al0 dX7_init_0 ?_
  obtain ⟨b1, er, h⟩ := cI_some h
  obtain ⟨_, s1, h1, h⟩ := cl_some h
  refine v_cIN er (As := []) (tX6_init h1) rfl q970 q950 q949 q164 rfl dsX6_init ⟨Nat.le_of_ble_eq_true rfl, Nat.le_of_ble_eq_true rfl⟩ (Nat.le_of_ble_eq_true rfl) dX7_init_1 rfl ?_
  refine v_al0 dX7_init_4 ?_
  refine v_il1 dX7_init_5 ?_
  refine v_pIF cok5 h dX7_init_6 (by decide) q971 rfl rfl rfl rfl (fun s2 h => ?_)
  refine v_al0 dX7_init_9 ?_
  refine v_al2 dX7_init_10 ?_
  refine v_pRF cok5 h dX7_init_11 (by decide) q972 rfl rfl rfl rfl (fun s3 h => ?_)
  exact v_retV h dX7_init_14 rfl
theorem tX7_init {E : EE} {l : Launch} {v0 : Option Nat} {v1 : Int32} {v2 : Option Nat} {σ : Mem} {z : Unit × Mem} (h : sX7_init v0 v1 v2 σ = some z) : Mt E l mX7_init [vr v0, vi v1, vr v2] σ (none, z.2) :=
  Mt.ofVL (by decide) (Nat.le_of_ble_eq_true rfl) (fun G hG => lX7_init h)
abbrev mX9_factor (d : Nat) : MM := (yX9_factor, cX9_factor, 3, (Option.some (Jvm.ClassFile.FieldType.object "TermLog$Sum")), 6 + d, 200 + 100 * d)
theorem dsX9_factor : DsOk yX9_factor 0 := ⟨by decide, by decide, by decide +kernel⟩
abbrev mX9_product (d : Nat) : MM := (yX9_product, cX9_product, 4, (Option.some (Jvm.ClassFile.FieldType.object "TermLog$Sum")), 6 + d, 200 + 100 * d)
theorem dsX9_product : DsOk yX9_product 0 := ⟨by decide, by decide, by decide +kernel⟩
abbrev mX9_sum (d : Nat) : MM := (yX9_sum, cX9_sum, 4, (Option.some (Jvm.ClassFile.FieldType.object "TermLog$Sum")), 6 + d, 200 + 100 * d)
theorem dsX9_sum : DsOk yX9_sum 0 := ⟨by decide, by decide, by decide +kernel⟩
theorem lX9_factor_97 {E : EE} {G : GG} {d : Nat} {rX9_factor : Option Nat → Mem → Option (Option Nat × Mem)} {rX9_product : Option Nat → Mem → Option (Option Nat × Mem)} {rX9_sum : Option Nat → Mem → Option (Option Nat × Mem)} (hrX9_factor : ∀ (l : Launch) {a0 : Option Nat} {s : Mem} {z : Option Nat × Mem}, rX9_factor a0 s = some z → Mt E l (mX9_factor d) [vr a0] s (some (vr z.1), z.2)) (hrX9_product : ∀ (l : Launch) {a0 : Option Nat} {s : Mem} {z : Option Nat × Mem}, rX9_product a0 s = some z → Mt E l (mX9_product d) [vr a0] s (some (vr z.1), z.2)) (hrX9_sum : ∀ (l : Launch) {a0 : Option Nat} {s : Mem} {z : Option Nat × Mem}, rX9_sum a0 s = some z → Mt E l (mX9_sum d) [vr a0] s (some (vr z.1), z.2)) {v0 : Option Nat} {v1 : Int32} {σ : Mem} {z : Option Nat × Mem} (h : sX9_factor_97 rX9_factor rX9_product rX9_sum v0 v1 σ = some z) : V E (mX9_factor (d + 1)) G 97 [some (vr v0), some (vi v1), none] [] σ (some (vr z.1), z.2) := by
  unfold sX9_factor_97 at h
  refine v_al0 dX9_factor_97 ?_
  refine v_dup dX9_factor_98 ?_
  refine v_gI cok7 h dX9_factor_99 (by decide) q790 rfl (fun x1 h => ?_)
  refine v_iconst dX9_factor_102 ?_
  refine v_iadd dX9_factor_103 ?_
  refine v_pI cok7 h dX9_factor_104 (by decide) q790 rfl rfl (fun s2 h => ?_)
  refine v_new cok9 h dX9_factor_107 q957 (fun x3 s4 h => ?_)
  refine v_dup dX9_factor_110 ?_
  refine v_il1 dX9_factor_111 ?_
  obtain ⟨b112, er, h⟩ := cI_some h
  obtain ⟨_, s5, h1, h⟩ := cl_some h
  refine v_cI er (As := [vi v1]) (tX11_init h1) rfl q959 q961 q960 q176 rfl dsX11_init ⟨by simp only [mX9_factor, mX11_init] <;> omega, by simp only [mX9_factor, mX11_init] <;> omega⟩ (Nat.le_of_ble_eq_true rfl) dX9_factor_112 rfl ?_
  exact v_retR h dX9_factor_115 rfl (Or.inl ⟨_, rfl⟩)
theorem lX9_factor_88 {E : EE} {G : GG} {d : Nat} {rX9_factor : Option Nat → Mem → Option (Option Nat × Mem)} {rX9_product : Option Nat → Mem → Option (Option Nat × Mem)} {rX9_sum : Option Nat → Mem → Option (Option Nat × Mem)} (hrX9_factor : ∀ (l : Launch) {a0 : Option Nat} {s : Mem} {z : Option Nat × Mem}, rX9_factor a0 s = some z → Mt E l (mX9_factor d) [vr a0] s (some (vr z.1), z.2)) (hrX9_product : ∀ (l : Launch) {a0 : Option Nat} {s : Mem} {z : Option Nat × Mem}, rX9_product a0 s = some z → Mt E l (mX9_product d) [vr a0] s (some (vr z.1), z.2)) (hrX9_sum : ∀ (l : Launch) {a0 : Option Nat} {s : Mem} {z : Option Nat × Mem}, rX9_sum a0 s = some z → Mt E l (mX9_sum d) [vr a0] s (some (vr z.1), z.2)) {v0 : Option Nat} {v1 : Int32} {σ : Mem} {z : Option Nat × Mem} (h : sX9_factor_88 rX9_factor rX9_product rX9_sum v0 v1 σ = some z) : V E (mX9_factor (d + 1)) G 88 [some (vr v0), some (vi v1), none] [] σ (some (vr z.1), z.2) := by
  unfold sX9_factor_88 at h
  refine v_al0 dX9_factor_88 ?_
  refine v_iconst dX9_factor_89 ?_
  refine v_al0 dX9_factor_90 ?_
  refine v_gI cok7 h dX9_factor_91 (by decide) q790 rfl (fun x1 h => ?_)
  obtain ⟨b94, er, ka, h⟩ := cV_some h
  obtain ⟨_, s2, h1, h⟩ := cl_some h
  refine v_callV0 cok7 (As := [vi (iI 1), vi x1]) er ka (tX9_bad h1) (lw_V q909 q911 qs16 q169 q912) rfl dsX9_bad ⟨by simp only [mX9_factor, mX9_bad] <;> omega, by simp only [mX9_factor, mX9_bad] <;> omega⟩ (Nat.le_of_ble_eq_true rfl) dX9_factor_94 rfl ?_
  exact v_weak (wss (wss (wsn wse))) (lX9_factor_97 hrX9_factor hrX9_product hrX9_sum h)
theorem lX9_factor_44 {E : EE} {G : GG} {d : Nat} {rX9_factor : Option Nat → Mem → Option (Option Nat × Mem)} {rX9_product : Option Nat → Mem → Option (Option Nat × Mem)} {rX9_sum : Option Nat → Mem → Option (Option Nat × Mem)} (hrX9_factor : ∀ (l : Launch) {a0 : Option Nat} {s : Mem} {z : Option Nat × Mem}, rX9_factor a0 s = some z → Mt E l (mX9_factor d) [vr a0] s (some (vr z.1), z.2)) (hrX9_product : ∀ (l : Launch) {a0 : Option Nat} {s : Mem} {z : Option Nat × Mem}, rX9_product a0 s = some z → Mt E l (mX9_product d) [vr a0] s (some (vr z.1), z.2)) (hrX9_sum : ∀ (l : Launch) {a0 : Option Nat} {s : Mem} {z : Option Nat × Mem}, rX9_sum a0 s = some z → Mt E l (mX9_sum d) [vr a0] s (some (vr z.1), z.2)) {v0 : Option Nat} {v2 : Option Nat} {σ : Mem} {z : Option Nat × Mem} (h : sX9_factor_44 rX9_factor rX9_product rX9_sum v0 v2 σ = some z) : V E (mX9_factor (d + 1)) G 44 [some (vr v0), none, some (vr v2)] [] σ (some (vr z.1), z.2) := by
  unfold sX9_factor_44 at h
  refine v_al0 dX9_factor_44 ?_
  refine v_dup dX9_factor_45 ?_
  refine v_gI cok7 h dX9_factor_46 (by decide) q791 rfl (fun x1 h => ?_)
  refine v_iconst dX9_factor_49 ?_
  refine v_isub dX9_factor_50 ?_
  refine v_pI cok7 h dX9_factor_51 (by decide) q791 rfl rfl (fun s2 h => ?_)
  refine v_al2 dX9_factor_54 ?_
  exact v_retR h dX9_factor_55 rfl (Or.inl ⟨_, rfl⟩)
theorem lX9_factor_30 {E : EE} {G : GG} {d : Nat} {rX9_factor : Option Nat → Mem → Option (Option Nat × Mem)} {rX9_product : Option Nat → Mem → Option (Option Nat × Mem)} {rX9_sum : Option Nat → Mem → Option (Option Nat × Mem)} (hrX9_factor : ∀ (l : Launch) {a0 : Option Nat} {s : Mem} {z : Option Nat × Mem}, rX9_factor a0 s = some z → Mt E l (mX9_factor d) [vr a0] s (some (vr z.1), z.2)) (hrX9_product : ∀ (l : Launch) {a0 : Option Nat} {s : Mem} {z : Option Nat × Mem}, rX9_product a0 s = some z → Mt E l (mX9_product d) [vr a0] s (some (vr z.1), z.2)) (hrX9_sum : ∀ (l : Launch) {a0 : Option Nat} {s : Mem} {z : Option Nat × Mem}, rX9_sum a0 s = some z → Mt E l (mX9_sum d) [vr a0] s (some (vr z.1), z.2)) {v0 : Option Nat} {t0 : Option Nat} {σ : Mem} {z : Option Nat × Mem} (h : sX9_factor_30 rX9_factor rX9_product rX9_sum v0 t0 σ = some z) : V E (mX9_factor (d + 1)) G 30 [some (vr v0), none, none] [vr t0] σ (some (vr z.1), z.2) := by
  unfold sX9_factor_30 at h
  refine v_astore_n (L' := [some (vr v0), none, some (vr t0)]) dX9_factor_30 (Nat.le_of_ble_eq_true rfl) (Nat.le_of_ble_eq_true rfl) rfl ?_
  refine v_al0 dX9_factor_31 ?_
  obtain ⟨b32, er, ka, h⟩ := cV_some h
  obtain ⟨x1, s2, h1, h⟩ := cl_some h
  refine v_callV1 cok7 (As := []) er ka (tX9_isGood h1) (lw_V q814 q816 qs13 q169 q817) rfl dsX9_isGood ⟨by simp only [mX9_factor, mX9_isGood] <;> omega, by simp only [mX9_factor, mX9_isGood] <;> omega⟩ (Nat.le_of_ble_eq_true rfl) dX9_factor_32 rfl ?_
  refine v_if_eq (tgt := 44) dX9_factor_35 (by decide) (fun c => ?_) (fun c => ?_)
  · rw [if_pos c] at h
    exact v_weak (wss (wsn (wss wse))) (lX9_factor_44 hrX9_factor hrX9_product hrX9_sum h)
  · rw [if_neg c] at h
    refine v_al0 dX9_factor_38 ?_
    refine v_bipush dX9_factor_39 rfl ?_
    obtain ⟨b41, er, ka, h⟩ := cV_some h
    obtain ⟨_, s3, h1, h⟩ := cl_some h
    refine v_callV0 cok7 (As := [vi (iI 93)]) er ka (tX9_must h1) (lw_V q931 q933 qs21 q169 q934) rfl dsX9_must ⟨by simp only [mX9_factor, mX9_must] <;> omega, by simp only [mX9_factor, mX9_must] <;> omega⟩ (Nat.le_of_ble_eq_true rfl) dX9_factor_41 rfl ?_
    exact v_weak (wss (wsn (wss wse))) (lX9_factor_44 hrX9_factor hrX9_product hrX9_sum h)
theorem lX9_factor_0 {E : EE} {G : GG} {d : Nat} {rX9_factor : Option Nat → Mem → Option (Option Nat × Mem)} {rX9_product : Option Nat → Mem → Option (Option Nat × Mem)} {rX9_sum : Option Nat → Mem → Option (Option Nat × Mem)} (hrX9_factor : ∀ (l : Launch) {a0 : Option Nat} {s : Mem} {z : Option Nat × Mem}, rX9_factor a0 s = some z → Mt E l (mX9_factor d) [vr a0] s (some (vr z.1), z.2)) (hrX9_product : ∀ (l : Launch) {a0 : Option Nat} {s : Mem} {z : Option Nat × Mem}, rX9_product a0 s = some z → Mt E l (mX9_product d) [vr a0] s (some (vr z.1), z.2)) (hrX9_sum : ∀ (l : Launch) {a0 : Option Nat} {s : Mem} {z : Option Nat × Mem}, rX9_sum a0 s = some z → Mt E l (mX9_sum d) [vr a0] s (some (vr z.1), z.2)) {v0 : Option Nat} {σ : Mem} {z : Option Nat × Mem} (h : sX9_factor_0 rX9_factor rX9_product rX9_sum v0 σ = some z) : V E (mX9_factor (d + 1)) G 0 [some (vr v0), none, none] [] σ (some (vr z.1), z.2) := by
  unfold sX9_factor_0 at h
  refine v_al0 dX9_factor_0 ?_
  obtain ⟨b1, er, ka, h⟩ := cV_some h
  obtain ⟨x1, s2, h1, h⟩ := cl_some h
  refine v_callV1 cok7 (As := []) er ka (tX9_here h1) (lw_V q822 q824 qs15 q169 q825) rfl dsX9_here ⟨by simp only [mX9_factor, mX9_here] <;> omega, by simp only [mX9_factor, mX9_here] <;> omega⟩ (Nat.le_of_ble_eq_true rfl) dX9_factor_1 rfl ?_
  refine v_istore_n (L' := [some (vr v0), some (vi x1), none]) dX9_factor_4 (Nat.le_of_ble_eq_true rfl) (Nat.le_of_ble_eq_true rfl) rfl ?_
  refine v_il1 dX9_factor_5 ?_
  refine v_bipush dX9_factor_6 rfl ?_
  refine v_icmp_ne (tgt := 56) dX9_factor_8 (by decide) (fun c => ?_) (fun c => ?_)
  · rw [if_neg c] at h
    refine v_al0 dX9_factor_56 ?_
    obtain ⟨b57, er, ka, h⟩ := cV_some h
    obtain ⟨x3, s4, h1, h⟩ := cl_some h
    refine v_callV1 cok7 (As := []) er ka (tX9_seesDigit h1) (lw_V q935 q937 qs22 q169 q938) rfl dsX9_seesDigit ⟨by simp only [mX9_factor, mX9_seesDigit] <;> omega, by simp only [mX9_factor, mX9_seesDigit] <;> omega⟩ (Nat.le_of_ble_eq_true rfl) dX9_factor_57 rfl ?_
    refine v_if_eq (tgt := 75) dX9_factor_60 (by decide) (fun c => ?_) (fun c => ?_)
    · rw [if_pos c] at h
      refine v_il1 dX9_factor_75 ?_
      refine v_if_eq (tgt := 88) dX9_factor_76 (by decide) (fun c => ?_) (fun c => ?_)
      · rw [if_pos c] at h
        exact v_weak (wss (wss (wsn wse))) (lX9_factor_88 hrX9_factor hrX9_product hrX9_sum h)
      · rw [if_neg c] at h
        refine v_ldcS dX9_factor_79 (1) ?_
        refine v_il1 dX9_factor_81 ?_
        refine v_ixo 1 dX9_factor_82 (by decide) q827 ⟨by simp only [mX9_factor] <;> omega, by simp only [mX9_factor] <;> omega⟩ (Nat.le_of_ble_eq_true rfl) ?_
        refine v_if_ge (tgt := 97) dX9_factor_85 (by decide) (fun c => ?_) (fun c => ?_)
        · rw [if_pos c] at h
          exact v_weak (wss (wss (wsn wse))) (lX9_factor_97 hrX9_factor hrX9_product hrX9_sum h)
        · rw [if_neg c] at h
          exact v_weak (wss (wss (wsn wse))) (lX9_factor_88 hrX9_factor hrX9_product hrX9_sum h)
    · rw [if_neg c] at h
      refine v_new cok8 h dX9_factor_63 q939 (fun x5 s6 h => ?_)
      refine v_dup dX9_factor_66 ?_
      refine v_al0 dX9_factor_67 ?_
      obtain ⟨b68, er, ka, h⟩ := cV_some h
      obtain ⟨x7, s8, h1, h⟩ := cl_some h
      refine v_callV1 cok7 (As := []) er ka (tX9_number h1) (lw_V q941 q943 qs23 q169 q944) rfl dsX9_number ⟨by simp only [mX9_factor, mX9_number] <;> omega, by simp only [mX9_factor, mX9_number] <;> omega⟩ (Nat.le_of_ble_eq_true rfl) dX9_factor_68 rfl ?_
      obtain ⟨b71, er, h⟩ := cI_some h
      obtain ⟨_, s9, h1, h⟩ := cl_some h
      refine v_cI er (As := [vi x7]) (tX10_init h1) rfl q945 q947 q946 q175 rfl dsX10_init ⟨by simp only [mX9_factor, mX10_init] <;> omega, by simp only [mX9_factor, mX10_init] <;> omega⟩ (Nat.le_of_ble_eq_true rfl) dX9_factor_71 rfl ?_
      exact v_retR h dX9_factor_74 rfl (Or.inl ⟨_, rfl⟩)
  · rw [if_pos c] at h
    refine v_al0 dX9_factor_11 ?_
    obtain ⟨b12, er, ka, h⟩ := cV_some h
    obtain ⟨_, s10, h1, h⟩ := cl_some h
    refine v_callV0 cok7 (As := []) er ka (tX9_opens h1) (lw_V q927 q929 qs20 q169 q930) rfl dsX9_opens ⟨by simp only [mX9_factor, mX9_opens] <;> omega, by simp only [mX9_factor, mX9_opens] <;> omega⟩ (Nat.le_of_ble_eq_true rfl) dX9_factor_12 rfl ?_
    refine v_al0 dX9_factor_15 ?_
    obtain ⟨b16, er, ka, h⟩ := cV_some h
    obtain ⟨x11, s12, h1, h⟩ := cl_some h
    refine v_callV1 cok7 (As := []) er ka (tX9_isGood h1) (lw_V q814 q816 qs13 q169 q817) rfl dsX9_isGood ⟨by simp only [mX9_factor, mX9_isGood] <;> omega, by simp only [mX9_factor, mX9_isGood] <;> omega⟩ (Nat.le_of_ble_eq_true rfl) dX9_factor_16 rfl ?_
    refine v_if_eq (tgt := 29) dX9_factor_19 (by decide) (fun c => ?_) (fun c => ?_)
    · rw [if_pos c] at h
      refine v_null dX9_factor_29 ?_
      exact v_weak (wss (wsn (wsn wse))) (lX9_factor_30 hrX9_factor hrX9_product hrX9_sum h)
    · rw [if_neg c] at h
      refine v_al0 dX9_factor_22 ?_
      obtain ⟨b23, er, ka, h⟩ := cV_some h
      obtain ⟨x13, s14, h1, h⟩ := cl_some h
      refine v_callV1 cok7 (As := []) er ka (hrX9_sum _ h1) (lw_V q913 q915 qs17 q169 q916) rfl dsX9_sum ⟨by simp only [mX9_factor, mX9_sum] <;> omega, by simp only [mX9_factor, mX9_sum] <;> omega⟩ (Nat.le_of_ble_eq_true rfl) dX9_factor_23 rfl ?_
      refine v_goto (tgt := 30) dX9_factor_26 (by decide) ?_
      exact v_weak (wss (wsn (wsn wse))) (lX9_factor_30 hrX9_factor hrX9_product hrX9_sum h)
theorem lX9_product_49 {E : EE} {G : GG} {d : Nat} {rX9_factor : Option Nat → Mem → Option (Option Nat × Mem)} {rX9_product : Option Nat → Mem → Option (Option Nat × Mem)} {rX9_sum : Option Nat → Mem → Option (Option Nat × Mem)} (hrX9_factor : ∀ (l : Launch) {a0 : Option Nat} {s : Mem} {z : Option Nat × Mem}, rX9_factor a0 s = some z → Mt E l (mX9_factor d) [vr a0] s (some (vr z.1), z.2)) (hrX9_product : ∀ (l : Launch) {a0 : Option Nat} {s : Mem} {z : Option Nat × Mem}, rX9_product a0 s = some z → Mt E l (mX9_product d) [vr a0] s (some (vr z.1), z.2)) (hrX9_sum : ∀ (l : Launch) {a0 : Option Nat} {s : Mem} {z : Option Nat × Mem}, rX9_sum a0 s = some z → Mt E l (mX9_sum d) [vr a0] s (some (vr z.1), z.2)) {k15 : Option Nat → Option Nat → Option Nat → Mem → Option (Option Nat × Mem)} (hk15 : ∀ (v0 : Option Nat) (v1 : Option Nat) (v2 : Option Nat) (s : Mem) (z : Option Nat × Mem), k15 v0 v1 v2 s = some z → V E (mX9_product (d + 1)) G 15 [some (vr v0), some (vr v1), some (vr v2), none] [] s (some (vr z.1), z.2)) {v0 : Option Nat} {v1 : Option Nat} {v2 : Option Nat} {σ : Mem} {z : Option Nat × Mem} (h : sX9_product_49 rX9_factor rX9_product rX9_sum k15 v0 v1 v2 σ = some z) : V E (mX9_product (d + 1)) G 49 [some (vr v0), some (vr v1), some (vr v2), none] [] σ (some (vr z.1), z.2) := by
  unfold sX9_product_49 at h
  refine v_al0 dX9_product_49 ?_
  obtain ⟨b50, er, ka, h⟩ := cV_some h
  obtain ⟨x1, s2, h1, h⟩ := cl_some h
  refine v_callV1 cok7 (As := []) er ka (tX9_here h1) (lw_V q822 q824 qs15 q169 q825) rfl dsX9_here ⟨by simp only [mX9_product, mX9_here] <;> omega, by simp only [mX9_product, mX9_here] <;> omega⟩ (Nat.le_of_ble_eq_true rfl) dX9_product_50 rfl ?_
  refine v_istore_n (L' := [some (vr v0), some (vr v1), some (vr v2), some (vi x1)]) dX9_product_53 (Nat.le_of_ble_eq_true rfl) (Nat.le_of_ble_eq_true rfl) rfl ?_
  refine v_al0 dX9_product_54 ?_
  refine v_dup dX9_product_55 ?_
  refine v_gI cok7 h dX9_product_56 (by decide) q790 rfl (fun x3 h => ?_)
  refine v_iconst dX9_product_59 ?_
  refine v_iadd dX9_product_60 ?_
  refine v_pI cok7 h dX9_product_61 (by decide) q790 rfl rfl (fun s4 h => ?_)
  refine v_al2 dX9_product_64 ?_
  refine v_new cok5 h dX9_product_65 q917 (fun x5 s6 h => ?_)
  refine v_dup dX9_product_68 ?_
  refine v_il3 dX9_product_69 ?_
  refine v_al0 dX9_product_70 ?_
  obtain ⟨b71, er, ka, h⟩ := cV_some h
  obtain ⟨x7, s8, h1, h⟩ := cl_some h
  refine v_callV1 cok7 (As := []) er ka (hrX9_factor _ h1) (lw_V q923 q925 qs19 q169 q926) rfl dsX9_factor ⟨by simp only [mX9_product, mX9_factor] <;> omega, by simp only [mX9_product, mX9_factor] <;> omega⟩ (Nat.le_of_ble_eq_true rfl) dX9_product_71 rfl ?_
  obtain ⟨b74, er, h⟩ := cI_some h
  obtain ⟨_, s9, h1, h⟩ := cl_some h
  refine v_cI er (As := [vi x1, vr x7]) (tX7_init h1) rfl q967 q969 q968 q165 rfl dsX7_init ⟨by simp only [mX9_product, mX7_init] <;> omega, by simp only [mX9_product, mX7_init] <;> omega⟩ (Nat.le_of_ble_eq_true rfl) dX9_product_74 rfl ?_
  refine v_pRN cok5 h dX9_product_77 (by decide) q974 rfl rfl (fun s10 h => ?_)
  refine v_al2 dX9_product_80 ?_
  refine v_gRN cok5 h dX9_product_81 (by decide) q974 rfl (fun x11 h => ?_)
  refine v_astore_n (L' := [some (vr v0), some (vr v1), some (vr x11), some (vi x1)]) dX9_product_84 (Nat.le_of_ble_eq_true rfl) (Nat.le_of_ble_eq_true rfl) rfl ?_
  refine v_goto (tgt := 15) dX9_product_85 (by decide) ?_
  exact v_weak (wss (wss (wss (wsn wse)))) (hk15 _ _ _ _ _ h)
theorem lX9_product_15b {E : EE} {G : GG} {d : Nat} {rX9_factor : Option Nat → Mem → Option (Option Nat × Mem)} {rX9_product : Option Nat → Mem → Option (Option Nat × Mem)} {rX9_sum : Option Nat → Mem → Option (Option Nat × Mem)} (hrX9_factor : ∀ (l : Launch) {a0 : Option Nat} {s : Mem} {z : Option Nat × Mem}, rX9_factor a0 s = some z → Mt E l (mX9_factor d) [vr a0] s (some (vr z.1), z.2)) (hrX9_product : ∀ (l : Launch) {a0 : Option Nat} {s : Mem} {z : Option Nat × Mem}, rX9_product a0 s = some z → Mt E l (mX9_product d) [vr a0] s (some (vr z.1), z.2)) (hrX9_sum : ∀ (l : Launch) {a0 : Option Nat} {s : Mem} {z : Option Nat × Mem}, rX9_sum a0 s = some z → Mt E l (mX9_sum d) [vr a0] s (some (vr z.1), z.2)) {k15 : Option Nat → Option Nat → Option Nat → Mem → Option (Option Nat × Mem)} (hk15 : ∀ (v0 : Option Nat) (v1 : Option Nat) (v2 : Option Nat) (s : Mem) (z : Option Nat × Mem), k15 v0 v1 v2 s = some z → V E (mX9_product (d + 1)) G 15 [some (vr v0), some (vr v1), some (vr v2), none] [] s (some (vr z.1), z.2)) {v0 : Option Nat} {v1 : Option Nat} {v2 : Option Nat} {σ : Mem} {z : Option Nat × Mem} (h : sX9_product_15b rX9_factor rX9_product rX9_sum k15 v0 v1 v2 σ = some z) : V E (mX9_product (d + 1)) G 15 [some (vr v0), some (vr v1), some (vr v2), none] [] σ (some (vr z.1), z.2) := by
  unfold sX9_product_15b at h
  refine v_al0 dX9_product_15 ?_
  obtain ⟨b16, er, ka, h⟩ := cV_some h
  obtain ⟨x1, s2, h1, h⟩ := cl_some h
  refine v_callV1 cok7 (As := []) er ka (tX9_isGood h1) (lw_V q814 q816 qs13 q169 q817) rfl dsX9_isGood ⟨by simp only [mX9_product, mX9_isGood] <;> omega, by simp only [mX9_product, mX9_isGood] <;> omega⟩ (Nat.le_of_ble_eq_true rfl) dX9_product_16 rfl ?_
  refine v_if_eq (tgt := 88) dX9_product_19 (by decide) (fun c => ?_) (fun c => ?_)
  · rw [if_pos c] at h
    refine v_al1 dX9_product_88 ?_
    exact v_retR h dX9_product_89 rfl (Or.inl ⟨_, rfl⟩)
  · rw [if_neg c] at h
    refine v_al0 dX9_product_22 ?_
    obtain ⟨b23, er, ka, h⟩ := cV_some h
    obtain ⟨x3, s4, h1, h⟩ := cl_some h
    refine v_callV1 cok7 (As := []) er ka (tX9_here h1) (lw_V q822 q824 qs15 q169 q825) rfl dsX9_here ⟨by simp only [mX9_product, mX9_here] <;> omega, by simp only [mX9_product, mX9_here] <;> omega⟩ (Nat.le_of_ble_eq_true rfl) dX9_product_23 rfl ?_
    refine v_bipush dX9_product_26 rfl ?_
    refine v_icmp_eq (tgt := 49) dX9_product_28 (by decide) (fun c => ?_) (fun c => ?_)
    · rw [if_pos c] at h
      exact v_weak (wss (wss (wss (wsn wse)))) (lX9_product_49 hrX9_factor hrX9_product hrX9_sum hk15 h)
    · rw [if_neg c] at h
      refine v_al0 dX9_product_31 ?_
      obtain ⟨b32, er, ka, h⟩ := cV_some h
      obtain ⟨x5, s6, h1, h⟩ := cl_some h
      refine v_callV1 cok7 (As := []) er ka (tX9_here h1) (lw_V q822 q824 qs15 q169 q825) rfl dsX9_here ⟨by simp only [mX9_product, mX9_here] <;> omega, by simp only [mX9_product, mX9_here] <;> omega⟩ (Nat.le_of_ble_eq_true rfl) dX9_product_32 rfl ?_
      refine v_bipush dX9_product_35 rfl ?_
      refine v_icmp_eq (tgt := 49) dX9_product_37 (by decide) (fun c => ?_) (fun c => ?_)
      · rw [if_pos c] at h
        exact v_weak (wss (wss (wss (wsn wse)))) (lX9_product_49 hrX9_factor hrX9_product hrX9_sum hk15 h)
      · rw [if_neg c] at h
        refine v_al0 dX9_product_40 ?_
        obtain ⟨b41, er, ka, h⟩ := cV_some h
        obtain ⟨x7, s8, h1, h⟩ := cl_some h
        refine v_callV1 cok7 (As := []) er ka (tX9_here h1) (lw_V q822 q824 qs15 q169 q825) rfl dsX9_here ⟨by simp only [mX9_product, mX9_here] <;> omega, by simp only [mX9_product, mX9_here] <;> omega⟩ (Nat.le_of_ble_eq_true rfl) dX9_product_41 rfl ?_
        refine v_bipush dX9_product_44 rfl ?_
        refine v_icmp_ne (tgt := 88) dX9_product_46 (by decide) (fun c => ?_) (fun c => ?_)
        · rw [if_neg c] at h
          refine v_al1 dX9_product_88 ?_
          exact v_retR h dX9_product_89 rfl (Or.inl ⟨_, rfl⟩)
        · rw [if_pos c] at h
          exact v_weak (wss (wss (wss (wsn wse)))) (lX9_product_49 hrX9_factor hrX9_product hrX9_sum hk15 h)
theorem lX9_product_15 {E : EE} {G : GG} {d : Nat} {rX9_factor : Option Nat → Mem → Option (Option Nat × Mem)} {rX9_product : Option Nat → Mem → Option (Option Nat × Mem)} {rX9_sum : Option Nat → Mem → Option (Option Nat × Mem)} (hrX9_factor : ∀ (l : Launch) {a0 : Option Nat} {s : Mem} {z : Option Nat × Mem}, rX9_factor a0 s = some z → Mt E l (mX9_factor d) [vr a0] s (some (vr z.1), z.2)) (hrX9_product : ∀ (l : Launch) {a0 : Option Nat} {s : Mem} {z : Option Nat × Mem}, rX9_product a0 s = some z → Mt E l (mX9_product d) [vr a0] s (some (vr z.1), z.2)) (hrX9_sum : ∀ (l : Launch) {a0 : Option Nat} {s : Mem} {z : Option Nat × Mem}, rX9_sum a0 s = some z → Mt E l (mX9_sum d) [vr a0] s (some (vr z.1), z.2)) : ∀ (f : Nat) {v0 : Option Nat} {v1 : Option Nat} {v2 : Option Nat} {σ : Mem} {z : Option Nat × Mem}, sX9_product_15 rX9_factor rX9_product rX9_sum f v0 v1 v2 σ = some z → V E (mX9_product (d + 1)) G 15 [some (vr v0), some (vr v1), some (vr v2), none] [] σ (some (vr z.1), z.2)
  | 0, _, _, _, _, _, h => by cases h
  | f + 1, _, _, _, _, _, h => lX9_product_15b hrX9_factor hrX9_product hrX9_sum (fun _ _ _ _ _ h => lX9_product_15 hrX9_factor hrX9_product hrX9_sum f h) h
theorem lX9_product_0 {E : EE} {G : GG} {d : Nat} {rX9_factor : Option Nat → Mem → Option (Option Nat × Mem)} {rX9_product : Option Nat → Mem → Option (Option Nat × Mem)} {rX9_sum : Option Nat → Mem → Option (Option Nat × Mem)} (hrX9_factor : ∀ (l : Launch) {a0 : Option Nat} {s : Mem} {z : Option Nat × Mem}, rX9_factor a0 s = some z → Mt E l (mX9_factor d) [vr a0] s (some (vr z.1), z.2)) (hrX9_product : ∀ (l : Launch) {a0 : Option Nat} {s : Mem} {z : Option Nat × Mem}, rX9_product a0 s = some z → Mt E l (mX9_product d) [vr a0] s (some (vr z.1), z.2)) (hrX9_sum : ∀ (l : Launch) {a0 : Option Nat} {s : Mem} {z : Option Nat × Mem}, rX9_sum a0 s = some z → Mt E l (mX9_sum d) [vr a0] s (some (vr z.1), z.2)) {v0 : Option Nat} {σ : Mem} {z : Option Nat × Mem} (h : sX9_product_0 rX9_factor rX9_product rX9_sum v0 σ = some z) : V E (mX9_product (d + 1)) G 0 [some (vr v0), none, none, none] [] σ (some (vr z.1), z.2) := by
  unfold sX9_product_0 at h
  refine v_new cok5 h dX9_product_0 q917 (fun x1 s2 h => ?_)
  refine v_dup dX9_product_3 ?_
  refine v_iconst dX9_product_4 ?_
  refine v_al0 dX9_product_5 ?_
  obtain ⟨b6, er, ka, h⟩ := cV_some h
  obtain ⟨x3, s4, h1, h⟩ := cl_some h
  refine v_callV1 cok7 (As := []) er ka (hrX9_factor _ h1) (lw_V q923 q925 qs19 q169 q926) rfl dsX9_factor ⟨by simp only [mX9_product, mX9_factor] <;> omega, by simp only [mX9_product, mX9_factor] <;> omega⟩ (Nat.le_of_ble_eq_true rfl) dX9_product_6 rfl ?_
  obtain ⟨b9, er, h⟩ := cI_some h
  obtain ⟨_, s5, h1, h⟩ := cl_some h
  refine v_cI er (As := [vi (iI 0), vr x3]) (tX7_init h1) rfl q967 q969 q968 q165 rfl dsX7_init ⟨by simp only [mX9_product, mX7_init] <;> omega, by simp only [mX9_product, mX7_init] <;> omega⟩ (Nat.le_of_ble_eq_true rfl) dX9_product_9 rfl ?_
  refine v_astore_n (L' := [some (vr v0), some (vr x1), none, none]) dX9_product_12 (Nat.le_of_ble_eq_true rfl) (Nat.le_of_ble_eq_true rfl) rfl ?_
  refine v_al1 dX9_product_13 ?_
  refine v_astore_n (L' := [some (vr v0), some (vr x1), some (vr x1), none]) dX9_product_14 (Nat.le_of_ble_eq_true rfl) (Nat.le_of_ble_eq_true rfl) rfl ?_
  exact v_weak (wss (wss (wss (wsn wse)))) (lX9_product_15 hrX9_factor hrX9_product hrX9_sum FU h)
theorem lX9_sum_40 {E : EE} {G : GG} {d : Nat} {rX9_factor : Option Nat → Mem → Option (Option Nat × Mem)} {rX9_product : Option Nat → Mem → Option (Option Nat × Mem)} {rX9_sum : Option Nat → Mem → Option (Option Nat × Mem)} (hrX9_factor : ∀ (l : Launch) {a0 : Option Nat} {s : Mem} {z : Option Nat × Mem}, rX9_factor a0 s = some z → Mt E l (mX9_factor d) [vr a0] s (some (vr z.1), z.2)) (hrX9_product : ∀ (l : Launch) {a0 : Option Nat} {s : Mem} {z : Option Nat × Mem}, rX9_product a0 s = some z → Mt E l (mX9_product d) [vr a0] s (some (vr z.1), z.2)) (hrX9_sum : ∀ (l : Launch) {a0 : Option Nat} {s : Mem} {z : Option Nat × Mem}, rX9_sum a0 s = some z → Mt E l (mX9_sum d) [vr a0] s (some (vr z.1), z.2)) {k15 : Option Nat → Option Nat → Option Nat → Mem → Option (Option Nat × Mem)} (hk15 : ∀ (v0 : Option Nat) (v1 : Option Nat) (v2 : Option Nat) (s : Mem) (z : Option Nat × Mem), k15 v0 v1 v2 s = some z → V E (mX9_sum (d + 1)) G 15 [some (vr v0), some (vr v1), some (vr v2), none] [] s (some (vr z.1), z.2)) {v0 : Option Nat} {v1 : Option Nat} {v2 : Option Nat} {σ : Mem} {z : Option Nat × Mem} (h : sX9_sum_40 rX9_factor rX9_product rX9_sum k15 v0 v1 v2 σ = some z) : V E (mX9_sum (d + 1)) G 40 [some (vr v0), some (vr v1), some (vr v2), none] [] σ (some (vr z.1), z.2) := by
  unfold sX9_sum_40 at h
  refine v_al0 dX9_sum_40 ?_
  obtain ⟨b41, er, ka, h⟩ := cV_some h
  obtain ⟨x1, s2, h1, h⟩ := cl_some h
  refine v_callV1 cok7 (As := []) er ka (tX9_here h1) (lw_V q822 q824 qs15 q169 q825) rfl dsX9_here ⟨by simp only [mX9_sum, mX9_here] <;> omega, by simp only [mX9_sum, mX9_here] <;> omega⟩ (Nat.le_of_ble_eq_true rfl) dX9_sum_41 rfl ?_
  refine v_istore_n (L' := [some (vr v0), some (vr v1), some (vr v2), some (vi x1)]) dX9_sum_44 (Nat.le_of_ble_eq_true rfl) (Nat.le_of_ble_eq_true rfl) rfl ?_
  refine v_al0 dX9_sum_45 ?_
  refine v_dup dX9_sum_46 ?_
  refine v_gI cok7 h dX9_sum_47 (by decide) q790 rfl (fun x3 h => ?_)
  refine v_iconst dX9_sum_50 ?_
  refine v_iadd dX9_sum_51 ?_
  refine v_pI cok7 h dX9_sum_52 (by decide) q790 rfl rfl (fun s4 h => ?_)
  refine v_al2 dX9_sum_55 ?_
  refine v_new cok5 h dX9_sum_56 q917 (fun x5 s6 h => ?_)
  refine v_dup dX9_sum_59 ?_
  refine v_il3 dX9_sum_60 ?_
  refine v_al0 dX9_sum_61 ?_
  obtain ⟨b62, er, ka, h⟩ := cV_some h
  obtain ⟨x7, s8, h1, h⟩ := cl_some h
  refine v_callV1 cok7 (As := []) er ka (hrX9_product _ h1) (lw_V q919 q921 qs18 q169 q922) rfl dsX9_product ⟨by simp only [mX9_sum, mX9_product] <;> omega, by simp only [mX9_sum, mX9_product] <;> omega⟩ (Nat.le_of_ble_eq_true rfl) dX9_sum_62 rfl ?_
  obtain ⟨b65, er, h⟩ := cI_some h
  obtain ⟨_, s9, h1, h⟩ := cl_some h
  refine v_cI er (As := [vi x1, vr x7]) (tX7_init h1) rfl q967 q969 q968 q165 rfl dsX7_init ⟨by simp only [mX9_sum, mX7_init] <;> omega, by simp only [mX9_sum, mX7_init] <;> omega⟩ (Nat.le_of_ble_eq_true rfl) dX9_sum_65 rfl ?_
  refine v_pRN cok5 h dX9_sum_68 (by decide) q974 rfl rfl (fun s10 h => ?_)
  refine v_al2 dX9_sum_71 ?_
  refine v_gRN cok5 h dX9_sum_72 (by decide) q974 rfl (fun x11 h => ?_)
  refine v_astore_n (L' := [some (vr v0), some (vr v1), some (vr x11), some (vi x1)]) dX9_sum_75 (Nat.le_of_ble_eq_true rfl) (Nat.le_of_ble_eq_true rfl) rfl ?_
  refine v_goto (tgt := 15) dX9_sum_76 (by decide) ?_
  exact v_weak (wss (wss (wss (wsn wse)))) (hk15 _ _ _ _ _ h)
theorem lX9_sum_15b {E : EE} {G : GG} {d : Nat} {rX9_factor : Option Nat → Mem → Option (Option Nat × Mem)} {rX9_product : Option Nat → Mem → Option (Option Nat × Mem)} {rX9_sum : Option Nat → Mem → Option (Option Nat × Mem)} (hrX9_factor : ∀ (l : Launch) {a0 : Option Nat} {s : Mem} {z : Option Nat × Mem}, rX9_factor a0 s = some z → Mt E l (mX9_factor d) [vr a0] s (some (vr z.1), z.2)) (hrX9_product : ∀ (l : Launch) {a0 : Option Nat} {s : Mem} {z : Option Nat × Mem}, rX9_product a0 s = some z → Mt E l (mX9_product d) [vr a0] s (some (vr z.1), z.2)) (hrX9_sum : ∀ (l : Launch) {a0 : Option Nat} {s : Mem} {z : Option Nat × Mem}, rX9_sum a0 s = some z → Mt E l (mX9_sum d) [vr a0] s (some (vr z.1), z.2)) {k15 : Option Nat → Option Nat → Option Nat → Mem → Option (Option Nat × Mem)} (hk15 : ∀ (v0 : Option Nat) (v1 : Option Nat) (v2 : Option Nat) (s : Mem) (z : Option Nat × Mem), k15 v0 v1 v2 s = some z → V E (mX9_sum (d + 1)) G 15 [some (vr v0), some (vr v1), some (vr v2), none] [] s (some (vr z.1), z.2)) {v0 : Option Nat} {v1 : Option Nat} {v2 : Option Nat} {σ : Mem} {z : Option Nat × Mem} (h : sX9_sum_15b rX9_factor rX9_product rX9_sum k15 v0 v1 v2 σ = some z) : V E (mX9_sum (d + 1)) G 15 [some (vr v0), some (vr v1), some (vr v2), none] [] σ (some (vr z.1), z.2) := by
  unfold sX9_sum_15b at h
  refine v_al0 dX9_sum_15 ?_
  obtain ⟨b16, er, ka, h⟩ := cV_some h
  obtain ⟨x1, s2, h1, h⟩ := cl_some h
  refine v_callV1 cok7 (As := []) er ka (tX9_isGood h1) (lw_V q814 q816 qs13 q169 q817) rfl dsX9_isGood ⟨by simp only [mX9_sum, mX9_isGood] <;> omega, by simp only [mX9_sum, mX9_isGood] <;> omega⟩ (Nat.le_of_ble_eq_true rfl) dX9_sum_16 rfl ?_
  refine v_if_eq (tgt := 79) dX9_sum_19 (by decide) (fun c => ?_) (fun c => ?_)
  · rw [if_pos c] at h
    refine v_al1 dX9_sum_79 ?_
    exact v_retR h dX9_sum_80 rfl (Or.inl ⟨_, rfl⟩)
  · rw [if_neg c] at h
    refine v_al0 dX9_sum_22 ?_
    obtain ⟨b23, er, ka, h⟩ := cV_some h
    obtain ⟨x3, s4, h1, h⟩ := cl_some h
    refine v_callV1 cok7 (As := []) er ka (tX9_here h1) (lw_V q822 q824 qs15 q169 q825) rfl dsX9_here ⟨by simp only [mX9_sum, mX9_here] <;> omega, by simp only [mX9_sum, mX9_here] <;> omega⟩ (Nat.le_of_ble_eq_true rfl) dX9_sum_23 rfl ?_
    refine v_bipush dX9_sum_26 rfl ?_
    refine v_icmp_eq (tgt := 40) dX9_sum_28 (by decide) (fun c => ?_) (fun c => ?_)
    · rw [if_pos c] at h
      exact v_weak (wss (wss (wss (wsn wse)))) (lX9_sum_40 hrX9_factor hrX9_product hrX9_sum hk15 h)
    · rw [if_neg c] at h
      refine v_al0 dX9_sum_31 ?_
      obtain ⟨b32, er, ka, h⟩ := cV_some h
      obtain ⟨x5, s6, h1, h⟩ := cl_some h
      refine v_callV1 cok7 (As := []) er ka (tX9_here h1) (lw_V q822 q824 qs15 q169 q825) rfl dsX9_here ⟨by simp only [mX9_sum, mX9_here] <;> omega, by simp only [mX9_sum, mX9_here] <;> omega⟩ (Nat.le_of_ble_eq_true rfl) dX9_sum_32 rfl ?_
      refine v_bipush dX9_sum_35 rfl ?_
      refine v_icmp_ne (tgt := 79) dX9_sum_37 (by decide) (fun c => ?_) (fun c => ?_)
      · rw [if_neg c] at h
        refine v_al1 dX9_sum_79 ?_
        exact v_retR h dX9_sum_80 rfl (Or.inl ⟨_, rfl⟩)
      · rw [if_pos c] at h
        exact v_weak (wss (wss (wss (wsn wse)))) (lX9_sum_40 hrX9_factor hrX9_product hrX9_sum hk15 h)
theorem lX9_sum_15 {E : EE} {G : GG} {d : Nat} {rX9_factor : Option Nat → Mem → Option (Option Nat × Mem)} {rX9_product : Option Nat → Mem → Option (Option Nat × Mem)} {rX9_sum : Option Nat → Mem → Option (Option Nat × Mem)} (hrX9_factor : ∀ (l : Launch) {a0 : Option Nat} {s : Mem} {z : Option Nat × Mem}, rX9_factor a0 s = some z → Mt E l (mX9_factor d) [vr a0] s (some (vr z.1), z.2)) (hrX9_product : ∀ (l : Launch) {a0 : Option Nat} {s : Mem} {z : Option Nat × Mem}, rX9_product a0 s = some z → Mt E l (mX9_product d) [vr a0] s (some (vr z.1), z.2)) (hrX9_sum : ∀ (l : Launch) {a0 : Option Nat} {s : Mem} {z : Option Nat × Mem}, rX9_sum a0 s = some z → Mt E l (mX9_sum d) [vr a0] s (some (vr z.1), z.2)) : ∀ (f : Nat) {v0 : Option Nat} {v1 : Option Nat} {v2 : Option Nat} {σ : Mem} {z : Option Nat × Mem}, sX9_sum_15 rX9_factor rX9_product rX9_sum f v0 v1 v2 σ = some z → V E (mX9_sum (d + 1)) G 15 [some (vr v0), some (vr v1), some (vr v2), none] [] σ (some (vr z.1), z.2)
  | 0, _, _, _, _, _, h => by cases h
  | f + 1, _, _, _, _, _, h => lX9_sum_15b hrX9_factor hrX9_product hrX9_sum (fun _ _ _ _ _ h => lX9_sum_15 hrX9_factor hrX9_product hrX9_sum f h) h
theorem lX9_sum_0 {E : EE} {G : GG} {d : Nat} {rX9_factor : Option Nat → Mem → Option (Option Nat × Mem)} {rX9_product : Option Nat → Mem → Option (Option Nat × Mem)} {rX9_sum : Option Nat → Mem → Option (Option Nat × Mem)} (hrX9_factor : ∀ (l : Launch) {a0 : Option Nat} {s : Mem} {z : Option Nat × Mem}, rX9_factor a0 s = some z → Mt E l (mX9_factor d) [vr a0] s (some (vr z.1), z.2)) (hrX9_product : ∀ (l : Launch) {a0 : Option Nat} {s : Mem} {z : Option Nat × Mem}, rX9_product a0 s = some z → Mt E l (mX9_product d) [vr a0] s (some (vr z.1), z.2)) (hrX9_sum : ∀ (l : Launch) {a0 : Option Nat} {s : Mem} {z : Option Nat × Mem}, rX9_sum a0 s = some z → Mt E l (mX9_sum d) [vr a0] s (some (vr z.1), z.2)) {v0 : Option Nat} {σ : Mem} {z : Option Nat × Mem} (h : sX9_sum_0 rX9_factor rX9_product rX9_sum v0 σ = some z) : V E (mX9_sum (d + 1)) G 0 [some (vr v0), none, none, none] [] σ (some (vr z.1), z.2) := by
  unfold sX9_sum_0 at h
  refine v_new cok5 h dX9_sum_0 q917 (fun x1 s2 h => ?_)
  refine v_dup dX9_sum_3 ?_
  refine v_iconst dX9_sum_4 ?_
  refine v_al0 dX9_sum_5 ?_
  obtain ⟨b6, er, ka, h⟩ := cV_some h
  obtain ⟨x3, s4, h1, h⟩ := cl_some h
  refine v_callV1 cok7 (As := []) er ka (hrX9_product _ h1) (lw_V q919 q921 qs18 q169 q922) rfl dsX9_product ⟨by simp only [mX9_sum, mX9_product] <;> omega, by simp only [mX9_sum, mX9_product] <;> omega⟩ (Nat.le_of_ble_eq_true rfl) dX9_sum_6 rfl ?_
  obtain ⟨b9, er, h⟩ := cI_some h
  obtain ⟨_, s5, h1, h⟩ := cl_some h
  refine v_cI er (As := [vi (iI 0), vr x3]) (tX7_init h1) rfl q967 q969 q968 q165 rfl dsX7_init ⟨by simp only [mX9_sum, mX7_init] <;> omega, by simp only [mX9_sum, mX7_init] <;> omega⟩ (Nat.le_of_ble_eq_true rfl) dX9_sum_9 rfl ?_
  refine v_astore_n (L' := [some (vr v0), some (vr x1), none, none]) dX9_sum_12 (Nat.le_of_ble_eq_true rfl) (Nat.le_of_ble_eq_true rfl) rfl ?_
  refine v_al1 dX9_sum_13 ?_
  refine v_astore_n (L' := [some (vr v0), some (vr x1), some (vr x1), none]) dX9_sum_14 (Nat.le_of_ble_eq_true rfl) (Nat.le_of_ble_eq_true rfl) rfl ?_
  exact v_weak (wss (wss (wss (wsn wse)))) (lX9_sum_15 hrX9_factor hrX9_product hrX9_sum FU h)
theorem tgX9_factor {E : EE} : ∀ d : Nat, (∀ (l : Launch) {a0 : Option Nat} {s : Mem} {z : Option Nat × Mem}, (gX9_factor d).1 a0 s = some z → Mt E l (mX9_factor d) [vr a0] s (some (vr z.1), z.2)) ∧ (∀ (l : Launch) {a0 : Option Nat} {s : Mem} {z : Option Nat × Mem}, (gX9_factor d).2.1 a0 s = some z → Mt E l (mX9_product d) [vr a0] s (some (vr z.1), z.2)) ∧ (∀ (l : Launch) {a0 : Option Nat} {s : Mem} {z : Option Nat × Mem}, (gX9_factor d).2.2 a0 s = some z → Mt E l (mX9_sum d) [vr a0] s (some (vr z.1), z.2))
  | 0 => ⟨(by intro l a0 s z h; cases h), (by intro l a0 s z h; cases h), (by intro l a0 s z h; cases h)⟩
  | d + 1 => by
    have ih := tgX9_factor (E := E) d
    obtain ⟨i0, i1, i2⟩ := ih
    exact ⟨fun l _ s z h => Mt.ofVL (show plainName yX9_factor.cls = true from by decide) (Nat.le_of_ble_eq_true rfl) (fun G hG => lX9_factor_0 i0 i1 i2 h), fun l _ s z h => Mt.ofVL (show plainName yX9_product.cls = true from by decide) (Nat.le_of_ble_eq_true rfl) (fun G hG => lX9_product_0 i0 i1 i2 h), fun l _ s z h => Mt.ofVL (show plainName yX9_sum.cls = true from by decide) (Nat.le_of_ble_eq_true rfl) (fun G hG => lX9_sum_0 i0 i1 i2 h)⟩
theorem tX9_factor {E : EE} {l : Launch} (d : Nat) {a0 : Option Nat} {σ : Mem} {z : Option Nat × Mem} (h : sX9_factor d a0 σ = some z) : Mt E l (mX9_factor d) [vr a0] σ (some (vr z.1), z.2) := (tgX9_factor (E := E) d).1 l h
theorem tX9_product {E : EE} {l : Launch} (d : Nat) {a0 : Option Nat} {σ : Mem} {z : Option Nat × Mem} (h : sX9_product d a0 σ = some z) : Mt E l (mX9_product d) [vr a0] σ (some (vr z.1), z.2) := (tgX9_factor (E := E) d).2.1 l h
theorem tX9_sum {E : EE} {l : Launch} (d : Nat) {a0 : Option Nat} {σ : Mem} {z : Option Nat × Mem} (h : sX9_sum d a0 σ = some z) : Mt E l (mX9_sum d) [vr a0] σ (some (vr z.1), z.2) := (tgX9_factor (E := E) d).2.2 l h
abbrev mX12_init : MM := (yX12_init, cX12_init, 1, (Option.none : Option Jvm.ClassFile.FieldType), 1, 20)
theorem dsX12_init : DsOk yX12_init 0 := ⟨by decide, by decide, by decide +kernel⟩
theorem lX12_init {E : EE} {G : GG} {v0 : Option Nat} {σ : Mem} {z : Unit × Mem} (h : sX12_init v0 σ = some z) : V E mX12_init G 0 [some (vr v0)] [] σ (none, z.2) := by
  unfold sX12_init at h
  refine v_al0 dX12_init_0 ?_
  obtain ⟨b1, er, h⟩ := cI_some h
  refine v_oI er q1004 q188 q189 ⟨by decide, by decide⟩ (Nat.le_of_ble_eq_true rfl) dX12_init_1 ?_
  exact v_retV h dX12_init_4 rfl
theorem tX12_init {E : EE} {l : Launch} {v0 : Option Nat} {σ : Mem} {z : Unit × Mem} (h : sX12_init v0 σ = some z) : Mt E l mX12_init [vr v0] σ (none, z.2) :=
  Mt.ofVL (by decide) (Nat.le_of_ble_eq_true rfl) (fun G hG => lX12_init h)
abbrev mX14_init : MM := (yX14_init, cX14_init, 2, (Option.none : Option Jvm.ClassFile.FieldType), 2, 40)
theorem dsX14_init : DsOk yX14_init 1 := ⟨by decide, by decide, by decide +kernel⟩
theorem lX14_init {E : EE} {G : GG} {v0 : Option Nat} {v1 : Option Nat} {σ : Mem} {z : Unit × Mem} (h : sX14_init v0 v1 σ = some z) : V E mX14_init G 0 [some (vr v0), some (vr v1)] [] σ (none, z.2) := by
  unfold sX14_init at h
  refine v_al0 dX14_init_0 ?_
  obtain ⟨b1, er, h⟩ := cI_some h
  obtain ⟨_, s1, h1, h⟩ := cl_some h
  refine v_cIN er (As := []) (tX12_init h1) rfl q1001 q1003 q1002 q177 rfl dsX12_init ⟨Nat.le_of_ble_eq_true rfl, Nat.le_of_ble_eq_true rfl⟩ (Nat.le_of_ble_eq_true rfl) dX14_init_1 rfl ?_
  refine v_al0 dX14_init_4 ?_
  refine v_al1 dX14_init_5 ?_
  refine v_pRF cok11 h dX14_init_6 (by decide) q1005 rfl rfl rfl rfl (fun s2 h => ?_)
  exact v_retV h dX14_init_9 rfl
theorem tX14_init {E : EE} {l : Launch} {v0 : Option Nat} {v1 : Option Nat} {σ : Mem} {z : Unit × Mem} (h : sX14_init v0 v1 σ = some z) : Mt E l mX14_init [vr v0, vr v1] σ (none, z.2) :=
  Mt.ofVL (by decide) (Nat.le_of_ble_eq_true rfl) (fun G hG => lX14_init h)
abbrev mX15_init : MM := (yX15_init, cX15_init, 4, (Option.none : Option Jvm.ClassFile.FieldType), 2, 40)
theorem dsX15_init : DsOk yX15_init 3 := ⟨by decide, by decide, by decide +kernel⟩
theorem lX15_init {E : EE} {G : GG} {v0 : Option Nat} {v1 : Option Nat} {v2 : Int32} {v3 : Option Nat} {σ : Mem} {z : Unit × Mem} (h : sX15_init v0 v1 v2 v3 σ = some z) : V E mX15_init G 0 [some (vr v0), some (vr v1), some (vi v2), some (vr v3)] [] σ (none, z.2) := by
  unfold sX15_init at h
  refine v_al0 dX15_init_0 ?_
  obtain ⟨b1, er, h⟩ := cI_some h
  obtain ⟨_, s1, h1, h⟩ := cl_some h
  refine v_cIN er (As := []) (tX12_init h1) rfl q1014 q1003 q1002 q177 rfl dsX12_init ⟨Nat.le_of_ble_eq_true rfl, Nat.le_of_ble_eq_true rfl⟩ (Nat.le_of_ble_eq_true rfl) dX15_init_1 rfl ?_
  refine v_al0 dX15_init_4 ?_
  refine v_al1 dX15_init_5 ?_
  refine v_pRF cok12 h dX15_init_6 (by decide) q1015 rfl rfl rfl rfl (fun s2 h => ?_)
  refine v_al0 dX15_init_9 ?_
  refine v_il2 dX15_init_10 ?_
  refine v_pIF cok12 h dX15_init_11 (by decide) q1017 rfl rfl rfl rfl (fun s3 h => ?_)
  refine v_al0 dX15_init_14 ?_
  refine v_al3 dX15_init_15 ?_
  refine v_pRF cok12 h dX15_init_16 (by decide) q1016 rfl rfl rfl rfl (fun s4 h => ?_)
  exact v_retV h dX15_init_19 rfl
theorem tX15_init {E : EE} {l : Launch} {v0 : Option Nat} {v1 : Option Nat} {v2 : Int32} {v3 : Option Nat} {σ : Mem} {z : Unit × Mem} (h : sX15_init v0 v1 v2 v3 σ = some z) : Mt E l mX15_init [vr v0, vr v1, vi v2, vr v3] σ (none, z.2) :=
  Mt.ofVL (by decide) (Nat.le_of_ble_eq_true rfl) (fun G hG => lX15_init h)
abbrev mX13_init : MM := (yX13_init, cX13_init, 3, (Option.none : Option Jvm.ClassFile.FieldType), 2, 40)
theorem dsX13_init : DsOk yX13_init 2 := ⟨by decide, by decide, by decide +kernel⟩
theorem lX13_init {E : EE} {G : GG} {v0 : Option Nat} {v1 : Option Nat} {v2 : Int32} {σ : Mem} {z : Unit × Mem} (h : sX13_init v0 v1 v2 σ = some z) : V E mX13_init G 0 [some (vr v0), some (vr v1), some (vi v2)] [] σ (none, z.2) := by
  unfold sX13_init at h
  refine v_al0 dX13_init_0 ?_
  obtain ⟨b1, er, h⟩ := cI_some h
  obtain ⟨_, s1, h1, h⟩ := cl_some h
  refine v_cIN er (As := []) (tX12_init h1) rfl q1028 q1003 q1002 q177 rfl dsX12_init ⟨Nat.le_of_ble_eq_true rfl, Nat.le_of_ble_eq_true rfl⟩ (Nat.le_of_ble_eq_true rfl) dX13_init_1 rfl ?_
  refine v_al0 dX13_init_4 ?_
  refine v_al1 dX13_init_5 ?_
  refine v_pRF cok10 h dX13_init_6 (by decide) q1029 rfl rfl rfl rfl (fun s2 h => ?_)
  refine v_al0 dX13_init_9 ?_
  refine v_il2 dX13_init_10 ?_
  refine v_pIF cok10 h dX13_init_11 (by decide) q1030 rfl rfl rfl rfl (fun s3 h => ?_)
  exact v_retV h dX13_init_14 rfl
theorem tX13_init {E : EE} {l : Launch} {v0 : Option Nat} {v1 : Option Nat} {v2 : Int32} {σ : Mem} {z : Unit × Mem} (h : sX13_init v0 v1 v2 σ = some z) : Mt E l mX13_init [vr v0, vr v1, vi v2] σ (none, z.2) :=
  Mt.ofVL (by decide) (Nat.le_of_ble_eq_true rfl) (fun G hG => lX13_init h)
abbrev mX9_condition (d : Nat) : MM := (yX9_condition, cX9_condition, 3, (Option.some (Jvm.ClassFile.FieldType.object "TermLog$Condition")), 47 + d, 4223 + 100 * d)
theorem dsX9_condition : DsOk yX9_condition 0 := ⟨by decide, by decide, by decide +kernel⟩
abbrev mX9_piece (d : Nat) : MM := (yX9_piece, cX9_piece, 4, (Option.some (Jvm.ClassFile.FieldType.object "TermLog$Condition")), 47 + d, 4223 + 100 * d)
theorem dsX9_piece : DsOk yX9_piece 0 := ⟨by decide, by decide, by decide +kernel⟩
abbrev mX9_pieces (d : Nat) : MM := (yX9_pieces, cX9_pieces, 3, (Option.some (Jvm.ClassFile.FieldType.object "TermLog$Condition")), 47 + d, 4223 + 100 * d)
theorem dsX9_pieces : DsOk yX9_pieces 0 := ⟨by decide, by decide, by decide +kernel⟩
theorem lX9_condition_93 {E : EE} {G : GG} {d : Nat} {rX9_condition : Option Nat → Mem → Option (Option Nat × Mem)} {rX9_piece : Option Nat → Mem → Option (Option Nat × Mem)} {rX9_pieces : Option Nat → Mem → Option (Option Nat × Mem)} (hrX9_condition : ∀ (l : Launch) {a0 : Option Nat} {s : Mem} {z : Option Nat × Mem}, rX9_condition a0 s = some z → Mt E l (mX9_condition d) [vr a0] s (some (vr z.1), z.2)) (hrX9_piece : ∀ (l : Launch) {a0 : Option Nat} {s : Mem} {z : Option Nat × Mem}, rX9_piece a0 s = some z → Mt E l (mX9_piece d) [vr a0] s (some (vr z.1), z.2)) (hrX9_pieces : ∀ (l : Launch) {a0 : Option Nat} {s : Mem} {z : Option Nat × Mem}, rX9_pieces a0 s = some z → Mt E l (mX9_pieces d) [vr a0] s (some (vr z.1), z.2)) {v0 : Option Nat} {v1 : Option Nat} {σ : Mem} {z : Option Nat × Mem} (h : sX9_condition_93 rX9_condition rX9_piece rX9_pieces v0 v1 σ = some z) : V E (mX9_condition (d + 1)) G 93 [some (vr v0), some (vr v1), none] [] σ (some (vr z.1), z.2) := by
  unfold sX9_condition_93 at h
  refine v_al0 dX9_condition_93 ?_
  refine v_dup dX9_condition_94 ?_
  refine v_gI cok7 h dX9_condition_95 (by decide) q791 rfl (fun x1 h => ?_)
  refine v_iconst dX9_condition_98 ?_
  refine v_isub dX9_condition_99 ?_
  refine v_pI cok7 h dX9_condition_100 (by decide) q791 rfl rfl (fun s2 h => ?_)
  refine v_al1 dX9_condition_103 ?_
  exact v_retR h dX9_condition_104 rfl (Or.inl ⟨_, rfl⟩)
theorem lX9_condition_80 {E : EE} {G : GG} {d : Nat} {rX9_condition : Option Nat → Mem → Option (Option Nat × Mem)} {rX9_piece : Option Nat → Mem → Option (Option Nat × Mem)} {rX9_pieces : Option Nat → Mem → Option (Option Nat × Mem)} (hrX9_condition : ∀ (l : Launch) {a0 : Option Nat} {s : Mem} {z : Option Nat × Mem}, rX9_condition a0 s = some z → Mt E l (mX9_condition d) [vr a0] s (some (vr z.1), z.2)) (hrX9_piece : ∀ (l : Launch) {a0 : Option Nat} {s : Mem} {z : Option Nat × Mem}, rX9_piece a0 s = some z → Mt E l (mX9_piece d) [vr a0] s (some (vr z.1), z.2)) (hrX9_pieces : ∀ (l : Launch) {a0 : Option Nat} {s : Mem} {z : Option Nat × Mem}, rX9_pieces a0 s = some z → Mt E l (mX9_pieces d) [vr a0] s (some (vr z.1), z.2)) {v0 : Option Nat} {v1 : Option Nat} {σ : Mem} {z : Option Nat × Mem} (h : sX9_condition_80 rX9_condition rX9_piece rX9_pieces v0 v1 σ = some z) : V E (mX9_condition (d + 1)) G 80 [some (vr v0), some (vr v1), none] [] σ (some (vr z.1), z.2) := by
  unfold sX9_condition_80 at h
  refine v_al0 dX9_condition_80 ?_
  obtain ⟨b81, er, ka, h⟩ := cV_some h
  obtain ⟨x1, s2, h1, h⟩ := cl_some h
  refine v_callV1 cok7 (As := []) er ka (tX9_isGood h1) (lw_V q814 q816 qs13 q169 q817) rfl dsX9_isGood ⟨by simp only [mX9_condition, mX9_isGood] <;> omega, by simp only [mX9_condition, mX9_isGood] <;> omega⟩ (Nat.le_of_ble_eq_true rfl) dX9_condition_81 rfl ?_
  refine v_if_eq (tgt := 93) dX9_condition_84 (by decide) (fun c => ?_) (fun c => ?_)
  · rw [if_pos c] at h
    exact v_weak (wss (wss (wsn wse))) (lX9_condition_93 hrX9_condition hrX9_piece hrX9_pieces h)
  · rw [if_neg c] at h
    refine v_al0 dX9_condition_87 ?_
    refine v_bipush dX9_condition_88 rfl ?_
    obtain ⟨b90, er, ka, h⟩ := cV_some h
    obtain ⟨_, s3, h1, h⟩ := cl_some h
    refine v_callV0 cok7 (As := [vi (iI 41)]) er ka (tX9_must h1) (lw_V q931 q933 qs21 q169 q934) rfl dsX9_must ⟨by simp only [mX9_condition, mX9_must] <;> omega, by simp only [mX9_condition, mX9_must] <;> omega⟩ (Nat.le_of_ble_eq_true rfl) dX9_condition_90 rfl ?_
    exact v_weak (wss (wss (wsn wse))) (lX9_condition_93 hrX9_condition hrX9_piece hrX9_pieces h)
theorem lX9_condition_30b {E : EE} {G : GG} {d : Nat} {rX9_condition : Option Nat → Mem → Option (Option Nat × Mem)} {rX9_piece : Option Nat → Mem → Option (Option Nat × Mem)} {rX9_pieces : Option Nat → Mem → Option (Option Nat × Mem)} (hrX9_condition : ∀ (l : Launch) {a0 : Option Nat} {s : Mem} {z : Option Nat × Mem}, rX9_condition a0 s = some z → Mt E l (mX9_condition d) [vr a0] s (some (vr z.1), z.2)) (hrX9_piece : ∀ (l : Launch) {a0 : Option Nat} {s : Mem} {z : Option Nat × Mem}, rX9_piece a0 s = some z → Mt E l (mX9_piece d) [vr a0] s (some (vr z.1), z.2)) (hrX9_pieces : ∀ (l : Launch) {a0 : Option Nat} {s : Mem} {z : Option Nat × Mem}, rX9_pieces a0 s = some z → Mt E l (mX9_pieces d) [vr a0] s (some (vr z.1), z.2)) {k30 : Option Nat → Option Nat → Option Nat → Mem → Option (Option Nat × Mem)} (hk30 : ∀ (v0 : Option Nat) (v1 : Option Nat) (v2 : Option Nat) (s : Mem) (z : Option Nat × Mem), k30 v0 v1 v2 s = some z → V E (mX9_condition (d + 1)) G 30 [some (vr v0), some (vr v1), some (vr v2)] [] s (some (vr z.1), z.2)) {v0 : Option Nat} {v1 : Option Nat} {v2 : Option Nat} {σ : Mem} {z : Option Nat × Mem} (h : sX9_condition_30b rX9_condition rX9_piece rX9_pieces k30 v0 v1 v2 σ = some z) : V E (mX9_condition (d + 1)) G 30 [some (vr v0), some (vr v1), some (vr v2)] [] σ (some (vr z.1), z.2) := by
  unfold sX9_condition_30b at h
  refine v_al0 dX9_condition_30 ?_
  obtain ⟨b31, er, ka, h⟩ := cV_some h
  obtain ⟨x1, s2, h1, h⟩ := cl_some h
  refine v_callV1 cok7 (As := []) er ka (tX9_isGood h1) (lw_V q814 q816 qs13 q169 q817) rfl dsX9_isGood ⟨by simp only [mX9_condition, mX9_isGood] <;> omega, by simp only [mX9_condition, mX9_isGood] <;> omega⟩ (Nat.le_of_ble_eq_true rfl) dX9_condition_31 rfl ?_
  refine v_if_eq (tgt := 80) dX9_condition_34 (by decide) (fun c => ?_) (fun c => ?_)
  · rw [if_pos c] at h
    exact v_weak (wss (wss (wsn wse))) (lX9_condition_80 hrX9_condition hrX9_piece hrX9_pieces h)
  · rw [if_neg c] at h
    refine v_al0 dX9_condition_37 ?_
    obtain ⟨b38, er, ka, h⟩ := cV_some h
    obtain ⟨x3, s4, h1, h⟩ := cl_some h
    refine v_callV1 cok7 (As := []) er ka (tX9_here h1) (lw_V q822 q824 qs15 q169 q825) rfl dsX9_here ⟨by simp only [mX9_condition, mX9_here] <;> omega, by simp only [mX9_condition, mX9_here] <;> omega⟩ (Nat.le_of_ble_eq_true rfl) dX9_condition_38 rfl ?_
    refine v_bipush dX9_condition_41 rfl ?_
    refine v_icmp_ne (tgt := 80) dX9_condition_43 (by decide) (fun c => ?_) (fun c => ?_)
    · rw [if_neg c] at h
      exact v_weak (wss (wss (wsn wse))) (lX9_condition_80 hrX9_condition hrX9_piece hrX9_pieces h)
    · rw [if_pos c] at h
      refine v_al0 dX9_condition_46 ?_
      refine v_dup dX9_condition_47 ?_
      refine v_gI cok7 h dX9_condition_48 (by decide) q790 rfl (fun x5 h => ?_)
      refine v_iconst dX9_condition_51 ?_
      refine v_iadd dX9_condition_52 ?_
      refine v_pI cok7 h dX9_condition_53 (by decide) q790 rfl rfl (fun s6 h => ?_)
      refine v_al2 dX9_condition_56 ?_
      refine v_new cok10 h dX9_condition_57 q986 (fun x7 s8 h => ?_)
      refine v_dup dX9_condition_60 ?_
      refine v_al0 dX9_condition_61 ?_
      obtain ⟨b62, er, ka, h⟩ := cV_some h
      obtain ⟨x9, s10, h1, h⟩ := cl_some h
      refine v_callV1 cok7 (As := []) er ka (hrX9_pieces _ h1) (lw_V q988 q990 qs25 q169 q991) rfl dsX9_pieces ⟨by simp only [mX9_condition, mX9_pieces] <;> omega, by simp only [mX9_condition, mX9_pieces] <;> omega⟩ (Nat.le_of_ble_eq_true rfl) dX9_condition_62 rfl ?_
      refine v_iconst dX9_condition_65 ?_
      obtain ⟨b66, er, h⟩ := cI_some h
      obtain ⟨_, s11, h1, h⟩ := cl_some h
      refine v_cI er (As := [vr x9, vi (iI 1)]) (tX13_init h1) rfl q1025 q1027 q1026 q178 rfl dsX13_init ⟨by simp only [mX9_condition, mX13_init] <;> omega, by simp only [mX9_condition, mX13_init] <;> omega⟩ (Nat.le_of_ble_eq_true rfl) dX9_condition_66 rfl ?_
      refine v_pRN cok10 h dX9_condition_69 (by decide) q1032 rfl rfl (fun s12 h => ?_)
      refine v_al2 dX9_condition_72 ?_
      refine v_gRN cok10 h dX9_condition_73 (by decide) q1032 rfl (fun x13 h => ?_)
      refine v_astore_n (L' := [some (vr v0), some (vr v1), some (vr x13)]) dX9_condition_76 (Nat.le_of_ble_eq_true rfl) (Nat.le_of_ble_eq_true rfl) rfl ?_
      refine v_goto (tgt := 30) dX9_condition_77 (by decide) ?_
      exact v_weak (wss (wss (wss wse))) (hk30 _ _ _ _ _ h)
theorem lX9_condition_30 {E : EE} {G : GG} {d : Nat} {rX9_condition : Option Nat → Mem → Option (Option Nat × Mem)} {rX9_piece : Option Nat → Mem → Option (Option Nat × Mem)} {rX9_pieces : Option Nat → Mem → Option (Option Nat × Mem)} (hrX9_condition : ∀ (l : Launch) {a0 : Option Nat} {s : Mem} {z : Option Nat × Mem}, rX9_condition a0 s = some z → Mt E l (mX9_condition d) [vr a0] s (some (vr z.1), z.2)) (hrX9_piece : ∀ (l : Launch) {a0 : Option Nat} {s : Mem} {z : Option Nat × Mem}, rX9_piece a0 s = some z → Mt E l (mX9_piece d) [vr a0] s (some (vr z.1), z.2)) (hrX9_pieces : ∀ (l : Launch) {a0 : Option Nat} {s : Mem} {z : Option Nat × Mem}, rX9_pieces a0 s = some z → Mt E l (mX9_pieces d) [vr a0] s (some (vr z.1), z.2)) : ∀ (f : Nat) {v0 : Option Nat} {v1 : Option Nat} {v2 : Option Nat} {σ : Mem} {z : Option Nat × Mem}, sX9_condition_30 rX9_condition rX9_piece rX9_pieces f v0 v1 v2 σ = some z → V E (mX9_condition (d + 1)) G 30 [some (vr v0), some (vr v1), some (vr v2)] [] σ (some (vr z.1), z.2)
  | 0, _, _, _, _, _, h => by cases h
  | f + 1, _, _, _, _, _, h => lX9_condition_30b hrX9_condition hrX9_piece hrX9_pieces (fun _ _ _ _ _ h => lX9_condition_30 hrX9_condition hrX9_piece hrX9_pieces f h) h
theorem lX9_condition_27 {E : EE} {G : GG} {d : Nat} {rX9_condition : Option Nat → Mem → Option (Option Nat × Mem)} {rX9_piece : Option Nat → Mem → Option (Option Nat × Mem)} {rX9_pieces : Option Nat → Mem → Option (Option Nat × Mem)} (hrX9_condition : ∀ (l : Launch) {a0 : Option Nat} {s : Mem} {z : Option Nat × Mem}, rX9_condition a0 s = some z → Mt E l (mX9_condition d) [vr a0] s (some (vr z.1), z.2)) (hrX9_piece : ∀ (l : Launch) {a0 : Option Nat} {s : Mem} {z : Option Nat × Mem}, rX9_piece a0 s = some z → Mt E l (mX9_piece d) [vr a0] s (some (vr z.1), z.2)) (hrX9_pieces : ∀ (l : Launch) {a0 : Option Nat} {s : Mem} {z : Option Nat × Mem}, rX9_pieces a0 s = some z → Mt E l (mX9_pieces d) [vr a0] s (some (vr z.1), z.2)) {v0 : Option Nat} {t0 : Option Nat} {σ : Mem} {z : Option Nat × Mem} (h : sX9_condition_27 rX9_condition rX9_piece rX9_pieces v0 t0 σ = some z) : V E (mX9_condition (d + 1)) G 27 [some (vr v0), none, none] [vr t0] σ (some (vr z.1), z.2) := by
  unfold sX9_condition_27 at h
  refine v_astore_n (L' := [some (vr v0), some (vr t0), none]) dX9_condition_27 (Nat.le_of_ble_eq_true rfl) (Nat.le_of_ble_eq_true rfl) rfl ?_
  refine v_al1 dX9_condition_28 ?_
  refine v_astore_n (L' := [some (vr v0), some (vr t0), some (vr t0)]) dX9_condition_29 (Nat.le_of_ble_eq_true rfl) (Nat.le_of_ble_eq_true rfl) rfl ?_
  exact v_weak (wss (wss (wss wse))) (lX9_condition_30 hrX9_condition hrX9_piece hrX9_pieces FU h)
theorem lX9_condition_0 {E : EE} {G : GG} {d : Nat} {rX9_condition : Option Nat → Mem → Option (Option Nat × Mem)} {rX9_piece : Option Nat → Mem → Option (Option Nat × Mem)} {rX9_pieces : Option Nat → Mem → Option (Option Nat × Mem)} (hrX9_condition : ∀ (l : Launch) {a0 : Option Nat} {s : Mem} {z : Option Nat × Mem}, rX9_condition a0 s = some z → Mt E l (mX9_condition d) [vr a0] s (some (vr z.1), z.2)) (hrX9_piece : ∀ (l : Launch) {a0 : Option Nat} {s : Mem} {z : Option Nat × Mem}, rX9_piece a0 s = some z → Mt E l (mX9_piece d) [vr a0] s (some (vr z.1), z.2)) (hrX9_pieces : ∀ (l : Launch) {a0 : Option Nat} {s : Mem} {z : Option Nat × Mem}, rX9_pieces a0 s = some z → Mt E l (mX9_pieces d) [vr a0] s (some (vr z.1), z.2)) {v0 : Option Nat} {σ : Mem} {z : Option Nat × Mem} (h : sX9_condition_0 rX9_condition rX9_piece rX9_pieces v0 σ = some z) : V E (mX9_condition (d + 1)) G 0 [some (vr v0), none, none] [] σ (some (vr z.1), z.2) := by
  unfold sX9_condition_0 at h
  refine v_al0 dX9_condition_0 ?_
  obtain ⟨b1, er, ka, h⟩ := cV_some h
  obtain ⟨_, s1, h1, h⟩ := cl_some h
  refine v_callV0 cok7 (As := []) er ka (tX9_opens h1) (lw_V q927 q929 qs20 q169 q930) rfl dsX9_opens ⟨by simp only [mX9_condition, mX9_opens] <;> omega, by simp only [mX9_condition, mX9_opens] <;> omega⟩ (Nat.le_of_ble_eq_true rfl) dX9_condition_1 rfl ?_
  refine v_al0 dX9_condition_4 ?_
  obtain ⟨b5, er, ka, h⟩ := cV_some h
  obtain ⟨x2, s3, h1, h⟩ := cl_some h
  refine v_callV1 cok7 (As := []) er ka (tX9_isGood h1) (lw_V q814 q816 qs13 q169 q817) rfl dsX9_isGood ⟨by simp only [mX9_condition, mX9_isGood] <;> omega, by simp only [mX9_condition, mX9_isGood] <;> omega⟩ (Nat.le_of_ble_eq_true rfl) dX9_condition_5 rfl ?_
  refine v_if_eq (tgt := 26) dX9_condition_8 (by decide) (fun c => ?_) (fun c => ?_)
  · rw [if_pos c] at h
    refine v_null dX9_condition_26 ?_
    exact v_weak (wss (wsn (wsn wse))) (lX9_condition_27 hrX9_condition hrX9_piece hrX9_pieces h)
  · rw [if_neg c] at h
    refine v_new cok10 h dX9_condition_11 q986 (fun x4 s5 h => ?_)
    refine v_dup dX9_condition_14 ?_
    refine v_al0 dX9_condition_15 ?_
    obtain ⟨b16, er, ka, h⟩ := cV_some h
    obtain ⟨x6, s7, h1, h⟩ := cl_some h
    refine v_callV1 cok7 (As := []) er ka (hrX9_pieces _ h1) (lw_V q988 q990 qs25 q169 q991) rfl dsX9_pieces ⟨by simp only [mX9_condition, mX9_pieces] <;> omega, by simp only [mX9_condition, mX9_pieces] <;> omega⟩ (Nat.le_of_ble_eq_true rfl) dX9_condition_16 rfl ?_
    refine v_iconst dX9_condition_19 ?_
    obtain ⟨b20, er, h⟩ := cI_some h
    obtain ⟨_, s8, h1, h⟩ := cl_some h
    refine v_cI er (As := [vr x6, vi (iI 1)]) (tX13_init h1) rfl q1025 q1027 q1026 q178 rfl dsX13_init ⟨by simp only [mX9_condition, mX13_init] <;> omega, by simp only [mX9_condition, mX13_init] <;> omega⟩ (Nat.le_of_ble_eq_true rfl) dX9_condition_20 rfl ?_
    refine v_goto (tgt := 27) dX9_condition_23 (by decide) ?_
    exact v_weak (wss (wsn (wsn wse))) (lX9_condition_27 hrX9_condition hrX9_piece hrX9_pieces h)
theorem lX9_piece_129 {E : EE} {G : GG} {d : Nat} {rX9_condition : Option Nat → Mem → Option (Option Nat × Mem)} {rX9_piece : Option Nat → Mem → Option (Option Nat × Mem)} {rX9_pieces : Option Nat → Mem → Option (Option Nat × Mem)} (hrX9_condition : ∀ (l : Launch) {a0 : Option Nat} {s : Mem} {z : Option Nat × Mem}, rX9_condition a0 s = some z → Mt E l (mX9_condition d) [vr a0] s (some (vr z.1), z.2)) (hrX9_piece : ∀ (l : Launch) {a0 : Option Nat} {s : Mem} {z : Option Nat × Mem}, rX9_piece a0 s = some z → Mt E l (mX9_piece d) [vr a0] s (some (vr z.1), z.2)) (hrX9_pieces : ∀ (l : Launch) {a0 : Option Nat} {s : Mem} {z : Option Nat × Mem}, rX9_pieces a0 s = some z → Mt E l (mX9_pieces d) [vr a0] s (some (vr z.1), z.2)) {t0 : Option Nat} {t1 : Option Nat} {t2 : Option Nat} {t3 : Int32} {t4 : Option Nat} {σ : Mem} {z : Option Nat × Mem} (h : sX9_piece_129 rX9_condition rX9_piece rX9_pieces t0 t1 t2 t3 t4 σ = some z) : V E (mX9_piece (d + 1)) G 129 [none, none, none, none] [vr t4, vi t3, vr t2, vr t1, vr t0] σ (some (vr z.1), z.2) := by
  unfold sX9_piece_129 at h
  obtain ⟨b129, er, h⟩ := cI_some h
  obtain ⟨_, s1, h1, h⟩ := cl_some h
  refine v_cI er (As := [vr t2, vi t3, vr t4]) (tX15_init h1) rfl q1011 q1013 q1012 q180 rfl dsX15_init ⟨by simp only [mX9_piece, mX15_init] <;> omega, by simp only [mX9_piece, mX15_init] <;> omega⟩ (Nat.le_of_ble_eq_true rfl) dX9_piece_129 rfl ?_
  exact v_retR h dX9_piece_132 rfl (Or.inl ⟨_, rfl⟩)
theorem lX9_piece_98 {E : EE} {G : GG} {d : Nat} {rX9_condition : Option Nat → Mem → Option (Option Nat × Mem)} {rX9_piece : Option Nat → Mem → Option (Option Nat × Mem)} {rX9_pieces : Option Nat → Mem → Option (Option Nat × Mem)} (hrX9_condition : ∀ (l : Launch) {a0 : Option Nat} {s : Mem} {z : Option Nat × Mem}, rX9_condition a0 s = some z → Mt E l (mX9_condition d) [vr a0] s (some (vr z.1), z.2)) (hrX9_piece : ∀ (l : Launch) {a0 : Option Nat} {s : Mem} {z : Option Nat × Mem}, rX9_piece a0 s = some z → Mt E l (mX9_piece d) [vr a0] s (some (vr z.1), z.2)) (hrX9_pieces : ∀ (l : Launch) {a0 : Option Nat} {s : Mem} {z : Option Nat × Mem}, rX9_pieces a0 s = some z → Mt E l (mX9_pieces d) [vr a0] s (some (vr z.1), z.2)) {v0 : Option Nat} {v2 : Option Nat} {v3 : Int32} {σ : Mem} {z : Option Nat × Mem} (h : sX9_piece_98 rX9_condition rX9_piece rX9_pieces v0 v2 v3 σ = some z) : V E (mX9_piece (d + 1)) G 98 [some (vr v0), none, some (vr v2), some (vi v3)] [] σ (some (vr z.1), z.2) := by
  unfold sX9_piece_98 at h
  refine v_al0 dX9_piece_98 ?_
  refine v_dup dX9_piece_99 ?_
  refine v_gI cok7 h dX9_piece_100 (by decide) q790 rfl (fun x1 h => ?_)
  refine v_iconst dX9_piece_103 ?_
  refine v_iadd dX9_piece_104 ?_
  refine v_pI cok7 h dX9_piece_105 (by decide) q790 rfl rfl (fun s2 h => ?_)
  refine v_new cok12 h dX9_piece_108 q1009 (fun x3 s4 h => ?_)
  refine v_dup dX9_piece_111 ?_
  refine v_al2 dX9_piece_112 ?_
  refine v_il3 dX9_piece_113 ?_
  refine v_al0 dX9_piece_114 ?_
  obtain ⟨b115, er, ka, h⟩ := cV_some h
  obtain ⟨x5, s6, h1, h⟩ := cl_some h
  refine v_callV1 cok7 (As := []) er ka (tX9_isGood h1) (lw_V q814 q816 qs13 q169 q817) rfl dsX9_isGood ⟨by simp only [mX9_piece, mX9_isGood] <;> omega, by simp only [mX9_piece, mX9_isGood] <;> omega⟩ (Nat.le_of_ble_eq_true rfl) dX9_piece_115 rfl ?_
  refine v_if_eq (tgt := 128) dX9_piece_118 (by decide) (fun c => ?_) (fun c => ?_)
  · rw [if_pos c] at h
    refine v_null dX9_piece_128 ?_
    exact v_weak (wsn (wsn (wsn (wsn wse)))) (lX9_piece_129 hrX9_condition hrX9_piece hrX9_pieces h)
  · rw [if_neg c] at h
    refine v_al0 dX9_piece_121 ?_
    obtain ⟨b122, er, ka, h⟩ := cV_some h
    obtain ⟨x7, s8, h1, h⟩ := cl_some h
    refine v_callV1 cok7 (As := []) er ka (tX9_sum 40 h1) (lw_V q913 q915 qs17 q169 q916) rfl dsX9_sum ⟨by simp only [mX9_piece, mX9_sum] <;> omega, by simp only [mX9_piece, mX9_sum] <;> omega⟩ (Nat.le_of_ble_eq_true rfl) dX9_piece_122 rfl ?_
    refine v_goto (tgt := 129) dX9_piece_125 (by decide) ?_
    exact v_weak (wsn (wsn (wsn (wsn wse)))) (lX9_piece_129 hrX9_condition hrX9_piece hrX9_pieces h)
theorem lX9_piece_30 {E : EE} {G : GG} {d : Nat} {rX9_condition : Option Nat → Mem → Option (Option Nat × Mem)} {rX9_piece : Option Nat → Mem → Option (Option Nat × Mem)} {rX9_pieces : Option Nat → Mem → Option (Option Nat × Mem)} (hrX9_condition : ∀ (l : Launch) {a0 : Option Nat} {s : Mem} {z : Option Nat × Mem}, rX9_condition a0 s = some z → Mt E l (mX9_condition d) [vr a0] s (some (vr z.1), z.2)) (hrX9_piece : ∀ (l : Launch) {a0 : Option Nat} {s : Mem} {z : Option Nat × Mem}, rX9_piece a0 s = some z → Mt E l (mX9_piece d) [vr a0] s (some (vr z.1), z.2)) (hrX9_pieces : ∀ (l : Launch) {a0 : Option Nat} {s : Mem} {z : Option Nat × Mem}, rX9_pieces a0 s = some z → Mt E l (mX9_pieces d) [vr a0] s (some (vr z.1), z.2)) {v0 : Option Nat} {t0 : Option Nat} {σ : Mem} {z : Option Nat × Mem} (h : sX9_piece_30 rX9_condition rX9_piece rX9_pieces v0 t0 σ = some z) : V E (mX9_piece (d + 1)) G 30 [some (vr v0), none, none, none] [vr t0] σ (some (vr z.1), z.2) := by
  unfold sX9_piece_30 at h
  refine v_astore_n (L' := [some (vr v0), none, some (vr t0), none]) dX9_piece_30 (Nat.le_of_ble_eq_true rfl) (Nat.le_of_ble_eq_true rfl) rfl ?_
  refine v_al0 dX9_piece_31 ?_
  refine v_dup dX9_piece_32 ?_
  refine v_gI cok7 h dX9_piece_33 (by decide) q791 rfl (fun x1 h => ?_)
  refine v_iconst dX9_piece_36 ?_
  refine v_isub dX9_piece_37 ?_
  refine v_pI cok7 h dX9_piece_38 (by decide) q791 rfl rfl (fun s2 h => ?_)
  refine v_new cok11 h dX9_piece_41 q996 (fun x3 s4 h => ?_)
  refine v_dup dX9_piece_44 ?_
  refine v_al2 dX9_piece_45 ?_
  obtain ⟨b46, er, h⟩ := cI_some h
  obtain ⟨_, s5, h1, h⟩ := cl_some h
  refine v_cI er (As := [vr t0]) (tX14_init h1) rfl q998 q1000 q999 q179 rfl dsX14_init ⟨by simp only [mX9_piece, mX14_init] <;> omega, by simp only [mX9_piece, mX14_init] <;> omega⟩ (Nat.le_of_ble_eq_true rfl) dX9_piece_46 rfl ?_
  exact v_retR h dX9_piece_49 rfl (Or.inl ⟨_, rfl⟩)
theorem lX9_piece_0 {E : EE} {G : GG} {d : Nat} {rX9_condition : Option Nat → Mem → Option (Option Nat × Mem)} {rX9_piece : Option Nat → Mem → Option (Option Nat × Mem)} {rX9_pieces : Option Nat → Mem → Option (Option Nat × Mem)} (hrX9_condition : ∀ (l : Launch) {a0 : Option Nat} {s : Mem} {z : Option Nat × Mem}, rX9_condition a0 s = some z → Mt E l (mX9_condition d) [vr a0] s (some (vr z.1), z.2)) (hrX9_piece : ∀ (l : Launch) {a0 : Option Nat} {s : Mem} {z : Option Nat × Mem}, rX9_piece a0 s = some z → Mt E l (mX9_piece d) [vr a0] s (some (vr z.1), z.2)) (hrX9_pieces : ∀ (l : Launch) {a0 : Option Nat} {s : Mem} {z : Option Nat × Mem}, rX9_pieces a0 s = some z → Mt E l (mX9_pieces d) [vr a0] s (some (vr z.1), z.2)) {v0 : Option Nat} {σ : Mem} {z : Option Nat × Mem} (h : sX9_piece_0 rX9_condition rX9_piece rX9_pieces v0 σ = some z) : V E (mX9_piece (d + 1)) G 0 [some (vr v0), none, none, none] [] σ (some (vr z.1), z.2) := by
  unfold sX9_piece_0 at h
  refine v_al0 dX9_piece_0 ?_
  obtain ⟨b1, er, ka, h⟩ := cV_some h
  obtain ⟨x1, s2, h1, h⟩ := cl_some h
  refine v_callV1 cok7 (As := []) er ka (tX9_here h1) (lw_V q822 q824 qs15 q169 q825) rfl dsX9_here ⟨by simp only [mX9_piece, mX9_here] <;> omega, by simp only [mX9_piece, mX9_here] <;> omega⟩ (Nat.le_of_ble_eq_true rfl) dX9_piece_1 rfl ?_
  refine v_istore_n (L' := [some (vr v0), some (vi x1), none, none]) dX9_piece_4 (Nat.le_of_ble_eq_true rfl) (Nat.le_of_ble_eq_true rfl) rfl ?_
  refine v_il1 dX9_piece_5 ?_
  refine v_bipush dX9_piece_6 rfl ?_
  refine v_icmp_ne (tgt := 50) dX9_piece_8 (by decide) (fun c => ?_) (fun c => ?_)
  · rw [if_neg c] at h
    refine v_il1 dX9_piece_50 ?_
    refine v_bipush dX9_piece_51 rfl ?_
    refine v_icmp_ne (tgt := 61) dX9_piece_53 (by decide) (fun c => ?_) (fun c => ?_)
    · rw [if_neg c] at h
      refine v_al0 dX9_piece_61 ?_
      obtain ⟨b62, er, ka, h⟩ := cV_some h
      obtain ⟨x3, s4, h1, h⟩ := cl_some h
      refine v_callV1 cok7 (As := []) er ka (tX9_sum 40 h1) (lw_V q913 q915 qs17 q169 q916) rfl dsX9_sum ⟨by simp only [mX9_piece, mX9_sum] <;> omega, by simp only [mX9_piece, mX9_sum] <;> omega⟩ (Nat.le_of_ble_eq_true rfl) dX9_piece_62 rfl ?_
      refine v_astore_n (L' := [some (vr v0), some (vi x1), some (vr x3), none]) dX9_piece_65 (Nat.le_of_ble_eq_true rfl) (Nat.le_of_ble_eq_true rfl) rfl ?_
      refine v_al0 dX9_piece_66 ?_
      obtain ⟨b67, er, ka, h⟩ := cV_some h
      obtain ⟨x5, s6, h1, h⟩ := cl_some h
      refine v_callV1 cok7 (As := []) er ka (tX9_here h1) (lw_V q822 q824 qs15 q169 q825) rfl dsX9_here ⟨by simp only [mX9_piece, mX9_here] <;> omega, by simp only [mX9_piece, mX9_here] <;> omega⟩ (Nat.le_of_ble_eq_true rfl) dX9_piece_67 rfl ?_
      refine v_istore_n (L' := [some (vr v0), some (vi x1), some (vr x3), some (vi x5)]) dX9_piece_70 (Nat.le_of_ble_eq_true rfl) (Nat.le_of_ble_eq_true rfl) rfl ?_
      refine v_il3 dX9_piece_71 ?_
      refine v_bipush dX9_piece_72 rfl ?_
      refine v_icmp_eq (tgt := 98) dX9_piece_74 (by decide) (fun c => ?_) (fun c => ?_)
      · rw [if_pos c] at h
        exact v_weak (wss (wsn (wss (wss wse)))) (lX9_piece_98 hrX9_condition hrX9_piece hrX9_pieces h)
      · rw [if_neg c] at h
        refine v_il3 dX9_piece_77 ?_
        refine v_bipush dX9_piece_78 rfl ?_
        refine v_icmp_eq (tgt := 98) dX9_piece_80 (by decide) (fun c => ?_) (fun c => ?_)
        · rw [if_pos c] at h
          exact v_weak (wss (wsn (wss (wss wse)))) (lX9_piece_98 hrX9_condition hrX9_piece hrX9_pieces h)
        · rw [if_neg c] at h
          refine v_il3 dX9_piece_83 ?_
          refine v_bipush dX9_piece_84 rfl ?_
          refine v_icmp_eq (tgt := 98) dX9_piece_86 (by decide) (fun c => ?_) (fun c => ?_)
          · rw [if_pos c] at h
            exact v_weak (wss (wsn (wss (wss wse)))) (lX9_piece_98 hrX9_condition hrX9_piece hrX9_pieces h)
          · rw [if_neg c] at h
            refine v_al0 dX9_piece_89 ?_
            refine v_iconst dX9_piece_90 ?_
            refine v_al0 dX9_piece_91 ?_
            refine v_gI cok7 h dX9_piece_92 (by decide) q790 rfl (fun x7 h => ?_)
            obtain ⟨b95, er, ka, h⟩ := cV_some h
            obtain ⟨_, s8, h1, h⟩ := cl_some h
            refine v_callV0 cok7 (As := [vi (iI 1), vi x7]) er ka (tX9_bad h1) (lw_V q909 q911 qs16 q169 q912) rfl dsX9_bad ⟨by simp only [mX9_piece, mX9_bad] <;> omega, by simp only [mX9_piece, mX9_bad] <;> omega⟩ (Nat.le_of_ble_eq_true rfl) dX9_piece_95 rfl ?_
            exact v_weak (wss (wsn (wss (wss wse)))) (lX9_piece_98 hrX9_condition hrX9_piece hrX9_pieces h)
    · rw [if_pos c] at h
      refine v_al0 dX9_piece_56 ?_
      obtain ⟨b57, er, ka, h⟩ := cV_some h
      obtain ⟨x9, s10, h1, h⟩ := cl_some h
      refine v_callV1 cok7 (As := []) er ka (hrX9_condition _ h1) (lw_V q982 q984 qs24 q169 q985) rfl dsX9_condition ⟨by simp only [mX9_piece, mX9_condition] <;> omega, by simp only [mX9_piece, mX9_condition] <;> omega⟩ (Nat.le_of_ble_eq_true rfl) dX9_piece_57 rfl ?_
      exact v_retR h dX9_piece_60 rfl (Or.inl ⟨_, rfl⟩)
  · rw [if_pos c] at h
    refine v_al0 dX9_piece_11 ?_
    obtain ⟨b12, er, ka, h⟩ := cV_some h
    obtain ⟨_, s11, h1, h⟩ := cl_some h
    refine v_callV0 cok7 (As := []) er ka (tX9_opens h1) (lw_V q927 q929 qs20 q169 q930) rfl dsX9_opens ⟨by simp only [mX9_piece, mX9_opens] <;> omega, by simp only [mX9_piece, mX9_opens] <;> omega⟩ (Nat.le_of_ble_eq_true rfl) dX9_piece_12 rfl ?_
    refine v_al0 dX9_piece_15 ?_
    obtain ⟨b16, er, ka, h⟩ := cV_some h
    obtain ⟨x12, s13, h1, h⟩ := cl_some h
    refine v_callV1 cok7 (As := []) er ka (tX9_isGood h1) (lw_V q814 q816 qs13 q169 q817) rfl dsX9_isGood ⟨by simp only [mX9_piece, mX9_isGood] <;> omega, by simp only [mX9_piece, mX9_isGood] <;> omega⟩ (Nat.le_of_ble_eq_true rfl) dX9_piece_16 rfl ?_
    refine v_if_eq (tgt := 29) dX9_piece_19 (by decide) (fun c => ?_) (fun c => ?_)
    · rw [if_pos c] at h
      refine v_null dX9_piece_29 ?_
      exact v_weak (wss (wsn (wsn (wsn wse)))) (lX9_piece_30 hrX9_condition hrX9_piece hrX9_pieces h)
    · rw [if_neg c] at h
      refine v_al0 dX9_piece_22 ?_
      obtain ⟨b23, er, ka, h⟩ := cV_some h
      obtain ⟨x14, s15, h1, h⟩ := cl_some h
      refine v_callV1 cok7 (As := []) er ka (hrX9_piece _ h1) (lw_V q992 q994 qs26 q169 q995) rfl dsX9_piece ⟨by simp only [mX9_piece, mX9_piece] <;> omega, by simp only [mX9_piece, mX9_piece] <;> omega⟩ (Nat.le_of_ble_eq_true rfl) dX9_piece_23 rfl ?_
      refine v_goto (tgt := 30) dX9_piece_26 (by decide) ?_
      exact v_weak (wss (wsn (wsn (wsn wse)))) (lX9_piece_30 hrX9_condition hrX9_piece hrX9_pieces h)
theorem lX9_pieces_15b {E : EE} {G : GG} {d : Nat} {rX9_condition : Option Nat → Mem → Option (Option Nat × Mem)} {rX9_piece : Option Nat → Mem → Option (Option Nat × Mem)} {rX9_pieces : Option Nat → Mem → Option (Option Nat × Mem)} (hrX9_condition : ∀ (l : Launch) {a0 : Option Nat} {s : Mem} {z : Option Nat × Mem}, rX9_condition a0 s = some z → Mt E l (mX9_condition d) [vr a0] s (some (vr z.1), z.2)) (hrX9_piece : ∀ (l : Launch) {a0 : Option Nat} {s : Mem} {z : Option Nat × Mem}, rX9_piece a0 s = some z → Mt E l (mX9_piece d) [vr a0] s (some (vr z.1), z.2)) (hrX9_pieces : ∀ (l : Launch) {a0 : Option Nat} {s : Mem} {z : Option Nat × Mem}, rX9_pieces a0 s = some z → Mt E l (mX9_pieces d) [vr a0] s (some (vr z.1), z.2)) {k15 : Option Nat → Option Nat → Option Nat → Mem → Option (Option Nat × Mem)} (hk15 : ∀ (v0 : Option Nat) (v1 : Option Nat) (v2 : Option Nat) (s : Mem) (z : Option Nat × Mem), k15 v0 v1 v2 s = some z → V E (mX9_pieces (d + 1)) G 15 [some (vr v0), some (vr v1), some (vr v2)] [] s (some (vr z.1), z.2)) {v0 : Option Nat} {v1 : Option Nat} {v2 : Option Nat} {σ : Mem} {z : Option Nat × Mem} (h : sX9_pieces_15b rX9_condition rX9_piece rX9_pieces k15 v0 v1 v2 σ = some z) : V E (mX9_pieces (d + 1)) G 15 [some (vr v0), some (vr v1), some (vr v2)] [] σ (some (vr z.1), z.2) := by
  unfold sX9_pieces_15b at h
  refine v_al0 dX9_pieces_15 ?_
  obtain ⟨b16, er, ka, h⟩ := cV_some h
  obtain ⟨x1, s2, h1, h⟩ := cl_some h
  refine v_callV1 cok7 (As := []) er ka (tX9_isGood h1) (lw_V q814 q816 qs13 q169 q817) rfl dsX9_isGood ⟨by simp only [mX9_pieces, mX9_isGood] <;> omega, by simp only [mX9_pieces, mX9_isGood] <;> omega⟩ (Nat.le_of_ble_eq_true rfl) dX9_pieces_16 rfl ?_
  refine v_if_eq (tgt := 65) dX9_pieces_19 (by decide) (fun c => ?_) (fun c => ?_)
  · rw [if_pos c] at h
    refine v_al1 dX9_pieces_65 ?_
    exact v_retR h dX9_pieces_66 rfl (Or.inl ⟨_, rfl⟩)
  · rw [if_neg c] at h
    refine v_al0 dX9_pieces_22 ?_
    obtain ⟨b23, er, ka, h⟩ := cV_some h
    obtain ⟨x3, s4, h1, h⟩ := cl_some h
    refine v_callV1 cok7 (As := []) er ka (tX9_here h1) (lw_V q822 q824 qs15 q169 q825) rfl dsX9_here ⟨by simp only [mX9_pieces, mX9_here] <;> omega, by simp only [mX9_pieces, mX9_here] <;> omega⟩ (Nat.le_of_ble_eq_true rfl) dX9_pieces_23 rfl ?_
    refine v_bipush dX9_pieces_26 rfl ?_
    refine v_icmp_ne (tgt := 65) dX9_pieces_28 (by decide) (fun c => ?_) (fun c => ?_)
    · rw [if_neg c] at h
      refine v_al1 dX9_pieces_65 ?_
      exact v_retR h dX9_pieces_66 rfl (Or.inl ⟨_, rfl⟩)
    · rw [if_pos c] at h
      refine v_al0 dX9_pieces_31 ?_
      refine v_dup dX9_pieces_32 ?_
      refine v_gI cok7 h dX9_pieces_33 (by decide) q790 rfl (fun x5 h => ?_)
      refine v_iconst dX9_pieces_36 ?_
      refine v_iadd dX9_pieces_37 ?_
      refine v_pI cok7 h dX9_pieces_38 (by decide) q790 rfl rfl (fun s6 h => ?_)
      refine v_al2 dX9_pieces_41 ?_
      refine v_new cok10 h dX9_pieces_42 q986 (fun x7 s8 h => ?_)
      refine v_dup dX9_pieces_45 ?_
      refine v_al0 dX9_pieces_46 ?_
      obtain ⟨b47, er, ka, h⟩ := cV_some h
      obtain ⟨x9, s10, h1, h⟩ := cl_some h
      refine v_callV1 cok7 (As := []) er ka (hrX9_piece _ h1) (lw_V q992 q994 qs26 q169 q995) rfl dsX9_piece ⟨by simp only [mX9_pieces, mX9_piece] <;> omega, by simp only [mX9_pieces, mX9_piece] <;> omega⟩ (Nat.le_of_ble_eq_true rfl) dX9_pieces_47 rfl ?_
      refine v_iconst dX9_pieces_50 ?_
      obtain ⟨b51, er, h⟩ := cI_some h
      obtain ⟨_, s11, h1, h⟩ := cl_some h
      refine v_cI er (As := [vr x9, vi (iI 0)]) (tX13_init h1) rfl q1025 q1027 q1026 q178 rfl dsX13_init ⟨by simp only [mX9_pieces, mX13_init] <;> omega, by simp only [mX9_pieces, mX13_init] <;> omega⟩ (Nat.le_of_ble_eq_true rfl) dX9_pieces_51 rfl ?_
      refine v_pRN cok10 h dX9_pieces_54 (by decide) q1032 rfl rfl (fun s12 h => ?_)
      refine v_al2 dX9_pieces_57 ?_
      refine v_gRN cok10 h dX9_pieces_58 (by decide) q1032 rfl (fun x13 h => ?_)
      refine v_astore_n (L' := [some (vr v0), some (vr v1), some (vr x13)]) dX9_pieces_61 (Nat.le_of_ble_eq_true rfl) (Nat.le_of_ble_eq_true rfl) rfl ?_
      refine v_goto (tgt := 15) dX9_pieces_62 (by decide) ?_
      exact v_weak (wss (wss (wss wse))) (hk15 _ _ _ _ _ h)
theorem lX9_pieces_15 {E : EE} {G : GG} {d : Nat} {rX9_condition : Option Nat → Mem → Option (Option Nat × Mem)} {rX9_piece : Option Nat → Mem → Option (Option Nat × Mem)} {rX9_pieces : Option Nat → Mem → Option (Option Nat × Mem)} (hrX9_condition : ∀ (l : Launch) {a0 : Option Nat} {s : Mem} {z : Option Nat × Mem}, rX9_condition a0 s = some z → Mt E l (mX9_condition d) [vr a0] s (some (vr z.1), z.2)) (hrX9_piece : ∀ (l : Launch) {a0 : Option Nat} {s : Mem} {z : Option Nat × Mem}, rX9_piece a0 s = some z → Mt E l (mX9_piece d) [vr a0] s (some (vr z.1), z.2)) (hrX9_pieces : ∀ (l : Launch) {a0 : Option Nat} {s : Mem} {z : Option Nat × Mem}, rX9_pieces a0 s = some z → Mt E l (mX9_pieces d) [vr a0] s (some (vr z.1), z.2)) : ∀ (f : Nat) {v0 : Option Nat} {v1 : Option Nat} {v2 : Option Nat} {σ : Mem} {z : Option Nat × Mem}, sX9_pieces_15 rX9_condition rX9_piece rX9_pieces f v0 v1 v2 σ = some z → V E (mX9_pieces (d + 1)) G 15 [some (vr v0), some (vr v1), some (vr v2)] [] σ (some (vr z.1), z.2)
  | 0, _, _, _, _, _, h => by cases h
  | f + 1, _, _, _, _, _, h => lX9_pieces_15b hrX9_condition hrX9_piece hrX9_pieces (fun _ _ _ _ _ h => lX9_pieces_15 hrX9_condition hrX9_piece hrX9_pieces f h) h
theorem lX9_pieces_0 {E : EE} {G : GG} {d : Nat} {rX9_condition : Option Nat → Mem → Option (Option Nat × Mem)} {rX9_piece : Option Nat → Mem → Option (Option Nat × Mem)} {rX9_pieces : Option Nat → Mem → Option (Option Nat × Mem)} (hrX9_condition : ∀ (l : Launch) {a0 : Option Nat} {s : Mem} {z : Option Nat × Mem}, rX9_condition a0 s = some z → Mt E l (mX9_condition d) [vr a0] s (some (vr z.1), z.2)) (hrX9_piece : ∀ (l : Launch) {a0 : Option Nat} {s : Mem} {z : Option Nat × Mem}, rX9_piece a0 s = some z → Mt E l (mX9_piece d) [vr a0] s (some (vr z.1), z.2)) (hrX9_pieces : ∀ (l : Launch) {a0 : Option Nat} {s : Mem} {z : Option Nat × Mem}, rX9_pieces a0 s = some z → Mt E l (mX9_pieces d) [vr a0] s (some (vr z.1), z.2)) {v0 : Option Nat} {σ : Mem} {z : Option Nat × Mem} (h : sX9_pieces_0 rX9_condition rX9_piece rX9_pieces v0 σ = some z) : V E (mX9_pieces (d + 1)) G 0 [some (vr v0), none, none] [] σ (some (vr z.1), z.2) := by
  unfold sX9_pieces_0 at h
  refine v_new cok10 h dX9_pieces_0 q986 (fun x1 s2 h => ?_)
  refine v_dup dX9_pieces_3 ?_
  refine v_al0 dX9_pieces_4 ?_
  obtain ⟨b5, er, ka, h⟩ := cV_some h
  obtain ⟨x3, s4, h1, h⟩ := cl_some h
  refine v_callV1 cok7 (As := []) er ka (hrX9_piece _ h1) (lw_V q992 q994 qs26 q169 q995) rfl dsX9_piece ⟨by simp only [mX9_pieces, mX9_piece] <;> omega, by simp only [mX9_pieces, mX9_piece] <;> omega⟩ (Nat.le_of_ble_eq_true rfl) dX9_pieces_5 rfl ?_
  refine v_iconst dX9_pieces_8 ?_
  obtain ⟨b9, er, h⟩ := cI_some h
  obtain ⟨_, s5, h1, h⟩ := cl_some h
  refine v_cI er (As := [vr x3, vi (iI 0)]) (tX13_init h1) rfl q1025 q1027 q1026 q178 rfl dsX13_init ⟨by simp only [mX9_pieces, mX13_init] <;> omega, by simp only [mX9_pieces, mX13_init] <;> omega⟩ (Nat.le_of_ble_eq_true rfl) dX9_pieces_9 rfl ?_
  refine v_astore_n (L' := [some (vr v0), some (vr x1), none]) dX9_pieces_12 (Nat.le_of_ble_eq_true rfl) (Nat.le_of_ble_eq_true rfl) rfl ?_
  refine v_al1 dX9_pieces_13 ?_
  refine v_astore_n (L' := [some (vr v0), some (vr x1), some (vr x1)]) dX9_pieces_14 (Nat.le_of_ble_eq_true rfl) (Nat.le_of_ble_eq_true rfl) rfl ?_
  exact v_weak (wss (wss (wss wse))) (lX9_pieces_15 hrX9_condition hrX9_piece hrX9_pieces FU h)
theorem tgX9_condition {E : EE} : ∀ d : Nat, (∀ (l : Launch) {a0 : Option Nat} {s : Mem} {z : Option Nat × Mem}, (gX9_condition d).1 a0 s = some z → Mt E l (mX9_condition d) [vr a0] s (some (vr z.1), z.2)) ∧ (∀ (l : Launch) {a0 : Option Nat} {s : Mem} {z : Option Nat × Mem}, (gX9_condition d).2.1 a0 s = some z → Mt E l (mX9_piece d) [vr a0] s (some (vr z.1), z.2)) ∧ (∀ (l : Launch) {a0 : Option Nat} {s : Mem} {z : Option Nat × Mem}, (gX9_condition d).2.2 a0 s = some z → Mt E l (mX9_pieces d) [vr a0] s (some (vr z.1), z.2))
  | 0 => ⟨(by intro l a0 s z h; cases h), (by intro l a0 s z h; cases h), (by intro l a0 s z h; cases h)⟩
  | d + 1 => by
    have ih := tgX9_condition (E := E) d
    obtain ⟨i0, i1, i2⟩ := ih
    exact ⟨fun l _ s z h => Mt.ofVL (show plainName yX9_condition.cls = true from by decide) (Nat.le_of_ble_eq_true rfl) (fun G hG => lX9_condition_0 i0 i1 i2 h), fun l _ s z h => Mt.ofVL (show plainName yX9_piece.cls = true from by decide) (Nat.le_of_ble_eq_true rfl) (fun G hG => lX9_piece_0 i0 i1 i2 h), fun l _ s z h => Mt.ofVL (show plainName yX9_pieces.cls = true from by decide) (Nat.le_of_ble_eq_true rfl) (fun G hG => lX9_pieces_0 i0 i1 i2 h)⟩
theorem tX9_condition {E : EE} {l : Launch} (d : Nat) {a0 : Option Nat} {σ : Mem} {z : Option Nat × Mem} (h : sX9_condition d a0 σ = some z) : Mt E l (mX9_condition d) [vr a0] σ (some (vr z.1), z.2) := (tgX9_condition (E := E) d).1 l h
theorem tX9_piece {E : EE} {l : Launch} (d : Nat) {a0 : Option Nat} {σ : Mem} {z : Option Nat × Mem} (h : sX9_piece d a0 σ = some z) : Mt E l (mX9_piece d) [vr a0] σ (some (vr z.1), z.2) := (tgX9_condition (E := E) d).2.1 l h
theorem tX9_pieces {E : EE} {l : Launch} (d : Nat) {a0 : Option Nat} {σ : Mem} {z : Option Nat × Mem} (h : sX9_pieces d a0 σ = some z) : Mt E l (mX9_pieces d) [vr a0] σ (some (vr z.1), z.2) := (tgX9_condition (E := E) d).2.2 l h
abbrev mX9_clause : MM := (yX9_clause, cX9_clause, 4, (Option.none : Option Jvm.ClassFile.FieldType), 88, 8245)
theorem dsX9_clause : DsOk yX9_clause 0 := ⟨by decide, by decide, by decide +kernel⟩
theorem lX9_clause_129 {E : EE} {G : GG} {v0 : Option Nat} {v1 : Int32} {v2 : Option Nat} {t0 : Option Nat} {σ : Mem} {z : Unit × Mem} (h : sX9_clause_129 v0 v1 v2 t0 σ = some z) : V E mX9_clause G 129 [some (vr v0), some (vi v1), some (vr v2), none] [vr t0] σ (none, z.2) := by
  unfold sX9_clause_129 at h
  refine v_astore_n (L' := [some (vr v0), some (vi v1), some (vr v2), some (vr t0)]) dX9_clause_129 (Nat.le_of_ble_eq_true rfl) (Nat.le_of_ble_eq_true rfl) rfl ?_
  refine v_al0 dX9_clause_130 ?_
  refine v_gR cok7 h dX9_clause_131 (by decide) q788 rfl (fun x1 h => ?_)
  refine v_gRN cok4 h dX9_clause_134 (by decide) q435 rfl (fun x2 h => ?_)
  refine v_al0 dX9_clause_137 ?_
  refine v_gR cok7 h dX9_clause_138 (by decide) q788 rfl (fun x3 h => ?_)
  refine v_gIN cok4 h dX9_clause_141 (by decide) q441 rfl (fun x4 h => ?_)
  refine v_il1 dX9_clause_144 ?_
  refine v_sI h dX9_clause_145 (fun s5 h => ?_)
  refine v_al0 dX9_clause_146 ?_
  refine v_gR cok7 h dX9_clause_147 (by decide) q788 rfl (fun x6 h => ?_)
  refine v_gRN cok4 h dX9_clause_150 (by decide) q437 rfl (fun x7 h => ?_)
  refine v_al0 dX9_clause_153 ?_
  refine v_gR cok7 h dX9_clause_154 (by decide) q788 rfl (fun x8 h => ?_)
  refine v_gIN cok4 h dX9_clause_157 (by decide) q441 rfl (fun x9 h => ?_)
  refine v_al2 dX9_clause_160 ?_
  refine v_sR24 h dX9_clause_161 (fun s10 h => ?_)
  refine v_al0 dX9_clause_162 ?_
  refine v_gR cok7 h dX9_clause_163 (by decide) q788 rfl (fun x11 h => ?_)
  refine v_gRN cok4 h dX9_clause_166 (by decide) q439 rfl (fun x12 h => ?_)
  refine v_al0 dX9_clause_169 ?_
  refine v_gR cok7 h dX9_clause_170 (by decide) q788 rfl (fun x13 h => ?_)
  refine v_gIN cok4 h dX9_clause_173 (by decide) q441 rfl (fun x14 h => ?_)
  refine v_al3 dX9_clause_176 ?_
  refine v_sR25 h dX9_clause_177 (fun s15 h => ?_)
  refine v_al0 dX9_clause_178 ?_
  refine v_gR cok7 h dX9_clause_179 (by decide) q788 rfl (fun x16 h => ?_)
  refine v_dup dX9_clause_182 ?_
  refine v_gIN cok4 h dX9_clause_183 (by decide) q441 rfl (fun x17 h => ?_)
  refine v_iconst dX9_clause_186 ?_
  refine v_iadd dX9_clause_187 ?_
  refine v_pIN cok4 h dX9_clause_188 (by decide) q441 rfl rfl (fun s18 h => ?_)
  exact v_retV h dX9_clause_191 rfl
theorem lX9_clause_114 {E : EE} {G : GG} {v0 : Option Nat} {v1 : Int32} {v2 : Option Nat} {σ : Mem} {z : Unit × Mem} (h : sX9_clause_114 v0 v1 v2 σ = some z) : V E mX9_clause G 114 [some (vr v0), some (vi v1), some (vr v2), none] [] σ (none, z.2) := by
  unfold sX9_clause_114 at h
  refine v_al0 dX9_clause_114 ?_
  obtain ⟨b115, er, ka, h⟩ := cV_some h
  obtain ⟨x1, s2, h1, h⟩ := cl_some h
  refine v_callV1 cok7 (As := []) er ka (tX9_isGood h1) (lw_V q814 q816 qs13 q169 q817) rfl dsX9_isGood ⟨Nat.le_of_ble_eq_true rfl, Nat.le_of_ble_eq_true rfl⟩ (Nat.le_of_ble_eq_true rfl) dX9_clause_115 rfl ?_
  refine v_if_eq (tgt := 128) dX9_clause_118 (by decide) (fun c => ?_) (fun c => ?_)
  · rw [if_pos c] at h
    refine v_null dX9_clause_128 ?_
    exact v_weak (wss (wss (wss (wsn wse)))) (lX9_clause_129 h)
  · rw [if_neg c] at h
    refine v_al0 dX9_clause_121 ?_
    obtain ⟨b122, er, ka, h⟩ := cV_some h
    obtain ⟨x3, s4, h1, h⟩ := cl_some h
    refine v_callV1 cok7 (As := []) er ka (tX9_condition 40 h1) (lw_V q982 q984 qs24 q169 q985) rfl dsX9_condition ⟨Nat.le_of_ble_eq_true rfl, Nat.le_of_ble_eq_true rfl⟩ (Nat.le_of_ble_eq_true rfl) dX9_clause_122 rfl ?_
    refine v_goto (tgt := 129) dX9_clause_125 (by decide) ?_
    exact v_weak (wss (wss (wss (wsn wse)))) (lX9_clause_129 h)
theorem lX9_clause_88 {E : EE} {G : GG} {v0 : Option Nat} {v1 : Int32} {t0 : Option Nat} {σ : Mem} {z : Unit × Mem} (h : sX9_clause_88 v0 v1 t0 σ = some z) : V E mX9_clause G 88 [some (vr v0), some (vi v1), none, none] [vr t0] σ (none, z.2) := by
  unfold sX9_clause_88 at h
  refine v_astore_n (L' := [some (vr v0), some (vi v1), some (vr t0), none]) dX9_clause_88 (Nat.le_of_ble_eq_true rfl) (Nat.le_of_ble_eq_true rfl) rfl ?_
  refine v_al0 dX9_clause_89 ?_
  obtain ⟨b90, er, ka, h⟩ := cV_some h
  obtain ⟨x1, s2, h1, h⟩ := cl_some h
  refine v_callV1 cok7 (As := []) er ka (tX9_isGood h1) (lw_V q814 q816 qs13 q169 q817) rfl dsX9_isGood ⟨Nat.le_of_ble_eq_true rfl, Nat.le_of_ble_eq_true rfl⟩ (Nat.le_of_ble_eq_true rfl) dX9_clause_90 rfl ?_
  refine v_if_eq (tgt := 114) dX9_clause_93 (by decide) (fun c => ?_) (fun c => ?_)
  · rw [if_pos c] at h
    exact v_weak (wss (wss (wss (wsn wse)))) (lX9_clause_114 h)
  · rw [if_neg c] at h
    refine v_al0 dX9_clause_96 ?_
    obtain ⟨b97, er, ka, h⟩ := cV_some h
    obtain ⟨x3, s4, h1, h⟩ := cl_some h
    refine v_callV1 cok7 (As := []) er ka (tX9_here h1) (lw_V q822 q824 qs15 q169 q825) rfl dsX9_here ⟨Nat.le_of_ble_eq_true rfl, Nat.le_of_ble_eq_true rfl⟩ (Nat.le_of_ble_eq_true rfl) dX9_clause_97 rfl ?_
    refine v_bipush dX9_clause_100 rfl ?_
    refine v_icmp_eq (tgt := 114) dX9_clause_102 (by decide) (fun c => ?_) (fun c => ?_)
    · rw [if_pos c] at h
      exact v_weak (wss (wss (wss (wsn wse)))) (lX9_clause_114 h)
    · rw [if_neg c] at h
      refine v_al0 dX9_clause_105 ?_
      refine v_iconst dX9_clause_106 ?_
      refine v_al0 dX9_clause_107 ?_
      refine v_gI cok7 h dX9_clause_108 (by decide) q790 rfl (fun x5 h => ?_)
      obtain ⟨b111, er, ka, h⟩ := cV_some h
      obtain ⟨_, s6, h1, h⟩ := cl_some h
      refine v_callV0 cok7 (As := [vi (iI 1), vi x5]) er ka (tX9_bad h1) (lw_V q909 q911 qs16 q169 q912) rfl dsX9_bad ⟨Nat.le_of_ble_eq_true rfl, Nat.le_of_ble_eq_true rfl⟩ (Nat.le_of_ble_eq_true rfl) dX9_clause_111 rfl ?_
      exact v_weak (wss (wss (wss (wsn wse)))) (lX9_clause_114 h)
theorem lX9_clause_51 {E : EE} {G : GG} {v0 : Option Nat} {v1 : Int32} {σ : Mem} {z : Unit × Mem} (h : sX9_clause_51 v0 v1 σ = some z) : V E mX9_clause G 51 [some (vr v0), some (vi v1), none, none] [] σ (none, z.2) := by
  unfold sX9_clause_51 at h
  refine v_al0 dX9_clause_51 ?_
  obtain ⟨b52, er, ka, h⟩ := cV_some h
  obtain ⟨x1, s2, h1, h⟩ := cl_some h
  refine v_callV1 cok7 (As := []) er ka (tX9_isGood h1) (lw_V q814 q816 qs13 q169 q817) rfl dsX9_isGood ⟨Nat.le_of_ble_eq_true rfl, Nat.le_of_ble_eq_true rfl⟩ (Nat.le_of_ble_eq_true rfl) dX9_clause_52 rfl ?_
  refine v_if_ne (tgt := 59) dX9_clause_55 (by decide) (fun c => ?_) (fun c => ?_)
  · rw [if_neg c] at h
    refine v_al0 dX9_clause_59 ?_
    refine v_dup dX9_clause_60 ?_
    refine v_gI cok7 h dX9_clause_61 (by decide) q790 rfl (fun x3 h => ?_)
    refine v_iconst dX9_clause_64 ?_
    refine v_iadd dX9_clause_65 ?_
    refine v_pI cok7 h dX9_clause_66 (by decide) q790 rfl rfl (fun s4 h => ?_)
    refine v_al0 dX9_clause_69 ?_
    refine v_iconst dX9_clause_70 ?_
    refine v_pI cok7 h dX9_clause_71 (by decide) q791 rfl rfl (fun s5 h => ?_)
    refine v_il1 dX9_clause_74 ?_
    refine v_bipush dX9_clause_75 rfl ?_
    refine v_icmp_ne (tgt := 84) dX9_clause_77 (by decide) (fun c => ?_) (fun c => ?_)
    · rw [if_neg c] at h
      refine v_al0 dX9_clause_84 ?_
      obtain ⟨b85, er, ka, h⟩ := cV_some h
      obtain ⟨x6, s7, h1, h⟩ := cl_some h
      refine v_callV1 cok7 (As := []) er ka (tX9_sum 40 h1) (lw_V q913 q915 qs17 q169 q916) rfl dsX9_sum ⟨Nat.le_of_ble_eq_true rfl, Nat.le_of_ble_eq_true rfl⟩ (Nat.le_of_ble_eq_true rfl) dX9_clause_85 rfl ?_
      exact v_weak (wss (wss (wsn (wsn wse)))) (lX9_clause_88 h)
    · rw [if_pos c] at h
      refine v_null dX9_clause_80 ?_
      refine v_goto (tgt := 88) dX9_clause_81 (by decide) ?_
      exact v_weak (wss (wss (wsn (wsn wse)))) (lX9_clause_88 h)
  · rw [if_pos c] at h
    exact v_retV h dX9_clause_58 rfl
theorem lX9_clause_18 {E : EE} {G : GG} {v0 : Option Nat} {v1 : Int32} {σ : Mem} {z : Unit × Mem} (h : sX9_clause_18 v0 v1 σ = some z) : V E mX9_clause G 18 [some (vr v0), some (vi v1), none, none] [] σ (none, z.2) := by
  unfold sX9_clause_18 at h
  refine v_al0 dX9_clause_18 ?_
  refine v_iconst dX9_clause_19 ?_
  refine v_al0 dX9_clause_20 ?_
  refine v_gI cok7 h dX9_clause_21 (by decide) q790 rfl (fun x1 h => ?_)
  obtain ⟨b24, er, ka, h⟩ := cV_some h
  obtain ⟨_, s2, h1, h⟩ := cl_some h
  refine v_callV0 cok7 (As := [vi (iI 1), vi x1]) er ka (tX9_bad h1) (lw_V q909 q911 qs16 q169 q912) rfl dsX9_bad ⟨Nat.le_of_ble_eq_true rfl, Nat.le_of_ble_eq_true rfl⟩ (Nat.le_of_ble_eq_true rfl) dX9_clause_24 rfl ?_
  refine v_goto (tgt := 51) dX9_clause_27 (by decide) ?_
  exact v_weak (wss (wss (wsn (wsn wse)))) (lX9_clause_51 h)
theorem lX9_clause {E : EE} {G : GG} {v0 : Option Nat} {σ : Mem} {z : Unit × Mem} (h : sX9_clause v0 σ = some z) : V E mX9_clause G 0 [some (vr v0), none, none, none] [] σ (none, z.2) := by
  unfold sX9_clause at h
  refine v_al0 dX9_clause_0 ?_
  obtain ⟨b1, er, ka, h⟩ := cV_some h
  obtain ⟨x1, s2, h1, h⟩ := cl_some h
  refine v_callV1 cok7 (As := []) er ka (tX9_here h1) (lw_V q822 q824 qs15 q169 q825) rfl dsX9_here ⟨Nat.le_of_ble_eq_true rfl, Nat.le_of_ble_eq_true rfl⟩ (Nat.le_of_ble_eq_true rfl) dX9_clause_1 rfl ?_
  refine v_istore_n (L' := [some (vr v0), some (vi x1), none, none]) dX9_clause_4 (Nat.le_of_ble_eq_true rfl) (Nat.le_of_ble_eq_true rfl) rfl ?_
  refine v_il1 dX9_clause_5 ?_
  refine v_if_eq (tgt := 18) dX9_clause_6 (by decide) (fun c => ?_) (fun c => ?_)
  · rw [if_pos c] at h
    exact v_weak (wss (wss (wsn (wsn wse)))) (lX9_clause_18 h)
  · rw [if_neg c] at h
    refine v_ldcS dX9_clause_9 (0) ?_
    refine v_il1 dX9_clause_11 ?_
    refine v_ixo 0 dX9_clause_12 (by decide) q827 ⟨Nat.le_of_ble_eq_true rfl, Nat.le_of_ble_eq_true rfl⟩ (Nat.le_of_ble_eq_true rfl) ?_
    refine v_if_ge (tgt := 30) dX9_clause_15 (by decide) (fun c => ?_) (fun c => ?_)
    · rw [if_pos c] at h
      refine v_al0 dX9_clause_30 ?_
      refine v_gR cok7 h dX9_clause_31 (by decide) q788 rfl (fun x3 h => ?_)
      refine v_gIN cok4 h dX9_clause_34 (by decide) q441 rfl (fun x4 h => ?_)
      refine v_bipush dX9_clause_37 rfl ?_
      refine v_icmp_ne (tgt := 51) dX9_clause_39 (by decide) (fun c => ?_) (fun c => ?_)
      · rw [if_neg c] at h
        exact v_weak (wss (wss (wsn (wsn wse)))) (lX9_clause_51 h)
      · rw [if_pos c] at h
        refine v_al0 dX9_clause_42 ?_
        refine v_iconst dX9_clause_43 ?_
        refine v_al0 dX9_clause_44 ?_
        refine v_gI cok7 h dX9_clause_45 (by decide) q790 rfl (fun x5 h => ?_)
        obtain ⟨b48, er, ka, h⟩ := cV_some h
        obtain ⟨_, s6, h1, h⟩ := cl_some h
        refine v_callV0 cok7 (As := [vi (iI 4), vi x5]) er ka (tX9_bad h1) (lw_V q909 q911 qs16 q169 q912) rfl dsX9_bad ⟨Nat.le_of_ble_eq_true rfl, Nat.le_of_ble_eq_true rfl⟩ (Nat.le_of_ble_eq_true rfl) dX9_clause_48 rfl ?_
        exact v_weak (wss (wss (wsn (wsn wse)))) (lX9_clause_51 h)
    · rw [if_neg c] at h
      exact v_weak (wss (wss (wsn (wsn wse)))) (lX9_clause_18 h)
theorem tX9_clause {E : EE} {l : Launch} {v0 : Option Nat} {σ : Mem} {z : Unit × Mem} (h : sX9_clause v0 σ = some z) : Mt E l mX9_clause [vr v0] σ (none, z.2) :=
  Mt.ofVL (by decide) (Nat.le_of_ble_eq_true rfl) (fun G hG => lX9_clause h)
abbrev mX9_read : MM := (yX9_read, cX9_read, 2, (Option.some Jvm.ClassFile.FieldType.int), 89, 8268)
theorem dsX9_read : DsOk yX9_read 0 := ⟨by decide, by decide, by decide +kernel⟩
theorem lX9_read_54 {E : EE} {G : GG} {v0 : Option Nat} {σ : Mem} {z : Int32 × Mem} (h : sX9_read_54 v0 σ = some z) : V E mX9_read G 54 [some (vr v0), none] [] σ (some (vi z.1), z.2) := by
  unfold sX9_read_54 at h
  refine v_al0 dX9_read_54 ?_
  obtain ⟨b55, er, ka, h⟩ := cV_some h
  obtain ⟨x1, s2, h1, h⟩ := cl_some h
  refine v_callV1 cok7 (As := []) er ka (tX9_isGood h1) (lw_V q814 q816 qs13 q169 q817) rfl dsX9_isGood ⟨Nat.le_of_ble_eq_true rfl, Nat.le_of_ble_eq_true rfl⟩ (Nat.le_of_ble_eq_true rfl) dX9_read_55 rfl ?_
  refine v_if_eq (tgt := 71) dX9_read_58 (by decide) (fun c => ?_) (fun c => ?_)
  · rw [if_pos c] at h
    refine v_sipush dX9_read_71 rfl ?_
    refine v_al0 dX9_read_74 ?_
    refine v_gI cok7 h dX9_read_75 (by decide) q792 rfl (fun x3 h => ?_)
    refine v_imul dX9_read_78 ?_
    refine v_al0 dX9_read_79 ?_
    refine v_gI cok7 h dX9_read_80 (by decide) q793 rfl (fun x4 h => ?_)
    refine v_isub dX9_read_83 ?_
    exact v_retI h dX9_read_84 rfl
  · rw [if_neg c] at h
    refine v_al0 dX9_read_61 ?_
    refine v_gR cok7 h dX9_read_62 (by decide) q788 rfl (fun x5 h => ?_)
    refine v_gIN cok4 h dX9_read_65 (by decide) q441 rfl (fun x6 h => ?_)
    refine v_goto (tgt := 84) dX9_read_68 (by decide) ?_
    exact v_retI h dX9_read_84 rfl
theorem lX9_read_40 {E : EE} {G : GG} {k2 : Option Nat → Int32 → Mem → Option (Int32 × Mem)} (hk2 : ∀ (v0 : Option Nat) (v1 : Int32) (s : Mem) (z : Int32 × Mem), k2 v0 v1 s = some z → V E mX9_read G 2 [some (vr v0), some (vi v1)] [] s (some (vi z.1), z.2)) {v0 : Option Nat} {t0 : Int32} {σ : Mem} {z : Int32 × Mem} (h : sX9_read_40 k2 v0 t0 σ = some z) : V E mX9_read G 40 [some (vr v0), none] [vi t0] σ (some (vi z.1), z.2) := by
  unfold sX9_read_40 at h
  refine v_istore_n (L' := [some (vr v0), some (vi t0)]) dX9_read_40 (Nat.le_of_ble_eq_true rfl) (Nat.le_of_ble_eq_true rfl) rfl ?_
  refine v_il1 dX9_read_41 ?_
  refine v_if_eq (tgt := 2) dX9_read_42 (by decide) (fun c => ?_) (fun c => ?_)
  · rw [if_pos c] at h
    exact v_weak (wss (wss wse)) (hk2 _ _ _ _ h)
  · rw [if_neg c] at h
    refine v_al0 dX9_read_45 ?_
    refine v_bipush dX9_read_46 rfl ?_
    obtain ⟨b48, er, ka, h⟩ := cV_some h
    obtain ⟨_, s1, h1, h⟩ := cl_some h
    refine v_callV0 cok7 (As := [vi (iI 59)]) er ka (tX9_must h1) (lw_V q931 q933 qs21 q169 q934) rfl dsX9_must ⟨Nat.le_of_ble_eq_true rfl, Nat.le_of_ble_eq_true rfl⟩ (Nat.le_of_ble_eq_true rfl) dX9_read_48 rfl ?_
    refine v_goto (tgt := 2) dX9_read_51 (by decide) ?_
    exact v_weak (wss (wss wse)) (hk2 _ _ _ _ h)
theorem lX9_read_39 {E : EE} {G : GG} {k2 : Option Nat → Int32 → Mem → Option (Int32 × Mem)} (hk2 : ∀ (v0 : Option Nat) (v1 : Int32) (s : Mem) (z : Int32 × Mem), k2 v0 v1 s = some z → V E mX9_read G 2 [some (vr v0), some (vi v1)] [] s (some (vi z.1), z.2)) {v0 : Option Nat} {σ : Mem} {z : Int32 × Mem} (h : sX9_read_39 k2 v0 σ = some z) : V E mX9_read G 39 [some (vr v0), none] [] σ (some (vi z.1), z.2) := by
  unfold sX9_read_39 at h
  refine v_iconst dX9_read_39 ?_
  exact v_weak (wss (wsn wse)) (lX9_read_40 hk2 h)
theorem lX9_read_2b {E : EE} {G : GG} {k2 : Option Nat → Int32 → Mem → Option (Int32 × Mem)} (hk2 : ∀ (v0 : Option Nat) (v1 : Int32) (s : Mem) (z : Int32 × Mem), k2 v0 v1 s = some z → V E mX9_read G 2 [some (vr v0), some (vi v1)] [] s (some (vi z.1), z.2)) {v0 : Option Nat} {v1 : Int32} {σ : Mem} {z : Int32 × Mem} (h : sX9_read_2b k2 v0 v1 σ = some z) : V E mX9_read G 2 [some (vr v0), some (vi v1)] [] σ (some (vi z.1), z.2) := by
  unfold sX9_read_2b at h
  refine v_il1 dX9_read_2 ?_
  refine v_if_eq (tgt := 54) dX9_read_3 (by decide) (fun c => ?_) (fun c => ?_)
  · rw [if_pos c] at h
    exact v_weak (wss (wsn wse)) (lX9_read_54 h)
  · rw [if_neg c] at h
    refine v_al0 dX9_read_6 ?_
    obtain ⟨b7, er, ka, h⟩ := cV_some h
    obtain ⟨x1, s2, h1, h⟩ := cl_some h
    refine v_callV1 cok7 (As := []) er ka (tX9_isGood h1) (lw_V q814 q816 qs13 q169 q817) rfl dsX9_isGood ⟨Nat.le_of_ble_eq_true rfl, Nat.le_of_ble_eq_true rfl⟩ (Nat.le_of_ble_eq_true rfl) dX9_read_7 rfl ?_
    refine v_if_eq (tgt := 54) dX9_read_10 (by decide) (fun c => ?_) (fun c => ?_)
    · rw [if_pos c] at h
      exact v_weak (wss (wsn wse)) (lX9_read_54 h)
    · rw [if_neg c] at h
      refine v_al0 dX9_read_13 ?_
      obtain ⟨b14, er, ka, h⟩ := cV_some h
      obtain ⟨_, s3, h1, h⟩ := cl_some h
      refine v_callV0 cok7 (As := []) er ka (tX9_clause h1) (lw_V q818 q820 qs14 q169 q821) rfl dsX9_clause ⟨Nat.le_of_ble_eq_true rfl, Nat.le_of_ble_eq_true rfl⟩ (Nat.le_of_ble_eq_true rfl) dX9_read_14 rfl ?_
      refine v_al0 dX9_read_17 ?_
      obtain ⟨b18, er, ka, h⟩ := cV_some h
      obtain ⟨x4, s5, h1, h⟩ := cl_some h
      refine v_callV1 cok7 (As := []) er ka (tX9_isGood h1) (lw_V q814 q816 qs13 q169 q817) rfl dsX9_isGood ⟨Nat.le_of_ble_eq_true rfl, Nat.le_of_ble_eq_true rfl⟩ (Nat.le_of_ble_eq_true rfl) dX9_read_18 rfl ?_
      refine v_if_eq (tgt := 39) dX9_read_21 (by decide) (fun c => ?_) (fun c => ?_)
      · rw [if_pos c] at h
        exact v_weak (wss (wsn wse)) (lX9_read_39 hk2 h)
      · rw [if_neg c] at h
        refine v_al0 dX9_read_24 ?_
        refine v_gI cok7 h dX9_read_25 (by decide) q790 rfl (fun x6 h => ?_)
        refine v_al0 dX9_read_28 ?_
        refine v_gI cok7 h dX9_read_29 (by decide) q787 rfl (fun x7 h => ?_)
        refine v_icmp_ge (tgt := 39) dX9_read_32 (by decide) (fun c => ?_) (fun c => ?_)
        · rw [if_pos c] at h
          exact v_weak (wss (wsn wse)) (lX9_read_39 hk2 h)
        · rw [if_neg c] at h
          refine v_iconst dX9_read_35 ?_
          refine v_goto (tgt := 40) dX9_read_36 (by decide) ?_
          exact v_weak (wss (wsn wse)) (lX9_read_40 hk2 h)
theorem lX9_read_2 {E : EE} {G : GG} : ∀ (f : Nat) {v0 : Option Nat} {v1 : Int32} {σ : Mem} {z : Int32 × Mem}, sX9_read_2 f v0 v1 σ = some z → V E mX9_read G 2 [some (vr v0), some (vi v1)] [] σ (some (vi z.1), z.2)
  | 0, _, _, _, _, h => by cases h
  | f + 1, _, _, _, _, h => lX9_read_2b (fun _ _ _ _ h => lX9_read_2 f h) h
theorem lX9_read {E : EE} {G : GG} {v0 : Option Nat} {σ : Mem} {z : Int32 × Mem} (h : sX9_read v0 σ = some z) : V E mX9_read G 0 [some (vr v0), none] [] σ (some (vi z.1), z.2) := by
  unfold sX9_read at h
  refine v_iconst dX9_read_0 ?_
  refine v_istore_n (L' := [some (vr v0), some (vi (iI 1))]) dX9_read_1 (Nat.le_of_ble_eq_true rfl) (Nat.le_of_ble_eq_true rfl) rfl ?_
  exact v_weak (wss (wss wse)) (lX9_read_2 FU h)
theorem tX9_read {E : EE} {l : Launch} {v0 : Option Nat} {σ : Mem} {z : Int32 × Mem} (h : sX9_read v0 σ = some z) : Mt E l mX9_read [vr v0] σ (some (vi z.1), z.2) :=
  Mt.ofVL (by decide) (Nat.le_of_ble_eq_true rfl) (fun G hG => lX9_read h)
abbrev mX0_law : MM := (yX0_law, cX0_law, 4, (Option.some Jvm.ClassFile.FieldType.int), 90, 8289)
theorem dsX0_law : DsOk yX0_law 1 := ⟨by decide, by decide, by decide +kernel⟩
theorem lX0_law {E : EE} {G : GG} {v0 : Option Nat} {v1 : Int32} {σ : Mem} {z : Int32 × Mem} (h : sX0_law v0 v1 σ = some z) : V E mX0_law G 0 [some (vr v0), some (vi v1), none, none] [] σ (some (vi z.1), z.2) := by
  unfold sX0_law at h
  refine v_il1 dX0_law_0 ?_
  refine v_iconst dX0_law_1 ?_
  refine v_sipush dX0_law_2 rfl ?_
  obtain ⟨x1, s2, h1, h⟩ := cl_some h
  refine v_callS1 (As := [vi v1, vi (iI 1), vi (iI 240)]) (tX0_within h1) (lw_S q572 q573 q158 q574) dsX0_within ⟨Nat.le_of_ble_eq_true rfl, Nat.le_of_ble_eq_true rfl⟩ (Nat.le_of_ble_eq_true rfl) dX0_law_5 rfl ?_
  refine v_if_eq (tgt := 19) dX0_law_8 (by decide) (fun c => ?_) (fun c => ?_)
  · rw [if_pos c] at h
    refine v_iconst dX0_law_19 ?_
    exact v_retI h dX0_law_20 rfl
  · rw [if_neg c] at h
    refine v_il1 dX0_law_11 ?_
    refine v_al0 dX0_law_12 ?_
    refine v_gI cok0 h dX0_law_13 (by decide) q546 rfl (fun x3 h => ?_)
    refine v_icmp_le (tgt := 21) dX0_law_16 (by decide) (fun c => ?_) (fun c => ?_)
    · rw [if_pos c] at h
      refine v_al0 dX0_law_21 ?_
      refine v_iconst dX0_law_22 ?_
      refine v_pI cok0 h dX0_law_23 (by decide) q546 rfl rfl (fun s4 h => ?_)
      refine v_new cok7 h dX0_law_26 q779 (fun x5 s6 h => ?_)
      refine v_dup dX0_law_29 ?_
      refine v_al0 dX0_law_30 ?_
      refine v_il1 dX0_law_31 ?_
      obtain ⟨b32, er, h⟩ := cI_some h
      obtain ⟨_, s7, h1, h⟩ := cl_some h
      refine v_cI er (As := [vr v0, vi v1]) (tX9_init h1) rfl q781 q783 q782 q169 rfl dsX9_init ⟨Nat.le_of_ble_eq_true rfl, Nat.le_of_ble_eq_true rfl⟩ (Nat.le_of_ble_eq_true rfl) dX0_law_32 rfl ?_
      refine v_astore_n (L' := [some (vr v0), some (vi v1), some (vr x5), none]) dX0_law_35 (Nat.le_of_ble_eq_true rfl) (Nat.le_of_ble_eq_true rfl) rfl ?_
      refine v_al2 dX0_law_36 ?_
      obtain ⟨b37, er, ka, h⟩ := cV_some h
      obtain ⟨x8, s9, h1, h⟩ := cl_some h
      refine v_callV1 cok7 (As := []) er ka (tX9_read h1) (lw_V q810 q811 q812 q169 q813) rfl dsX9_read ⟨Nat.le_of_ble_eq_true rfl, Nat.le_of_ble_eq_true rfl⟩ (Nat.le_of_ble_eq_true rfl) dX0_law_37 rfl ?_
      refine v_istore_n (L' := [some (vr v0), some (vi v1), some (vr x5), some (vi x8)]) dX0_law_40 (Nat.le_of_ble_eq_true rfl) (Nat.le_of_ble_eq_true rfl) rfl ?_
      refine v_il3 dX0_law_41 ?_
      refine v_if_lt (tgt := 53) dX0_law_42 (by decide) (fun c => ?_) (fun c => ?_)
      · rw [if_pos c] at h
        refine v_il3 dX0_law_53 ?_
        exact v_retI h dX0_law_54 rfl
      · rw [if_neg c] at h
        refine v_al0 dX0_law_45 ?_
        refine v_al2 dX0_law_46 ?_
        refine v_gRN cok7 h dX0_law_47 (by decide) q789 rfl (fun x10 h => ?_)
        refine v_pR cok0 h dX0_law_50 (by decide) q545 rfl rfl (fun s11 h => ?_)
        refine v_il3 dX0_law_53 ?_
        exact v_retI h dX0_law_54 rfl
    · rw [if_neg c] at h
      refine v_iconst dX0_law_19 ?_
      exact v_retI h dX0_law_20 rfl
theorem tX0_law {E : EE} {l : Launch} {v0 : Option Nat} {v1 : Int32} {σ : Mem} {z : Int32 × Mem} (h : sX0_law v0 v1 σ = some z) : Mt E l mX0_law [vr v0, vi v1] σ (some (vi z.1), z.2) :=
  Mt.ofVL (by decide) (Nat.le_of_ble_eq_true rfl) (fun G hG => lX0_law h)
abbrev mX16_init : MM := (yX16_init, cX16_init, 3, (Option.none : Option Jvm.ClassFile.FieldType), 1, 20)
theorem dsX16_init : DsOk yX16_init 2 := ⟨by decide, by decide, by decide +kernel⟩
theorem lX16_init {E : EE} {G : GG} {v0 : Option Nat} {v1 : Option Nat} {v2 : Int32} {σ : Mem} {z : Unit × Mem} (h : sX16_init v0 v1 v2 σ = some z) : V E mX16_init G 0 [some (vr v0), some (vr v1), some (vi v2)] [] σ (none, z.2) := by
  unfold sX16_init at h
  refine v_al0 dX16_init_0 ?_
  refine v_al1 dX16_init_1 ?_
  refine v_pRF cok13 h dX16_init_2 (by decide) q1060 rfl rfl rfl rfl (fun s1 h => ?_)
  refine v_al0 dX16_init_5 ?_
  obtain ⟨b6, er, h⟩ := cI_some h
  refine v_oI er q1049 q188 q189 ⟨by decide, by decide⟩ (Nat.le_of_ble_eq_true rfl) dX16_init_6 ?_
  refine v_al0 dX16_init_9 ?_
  refine v_sipush dX16_init_10 rfl ?_
  refine v_newa20 h dX16_init_13 (fun x2 s3 h => ?_)
  refine v_pRF cok13 h dX16_init_15 (by decide) q1051 rfl rfl rfl rfl (fun s4 h => ?_)
  refine v_al0 dX16_init_18 ?_
  refine v_sipush dX16_init_19 rfl ?_
  refine v_newa20 h dX16_init_22 (fun x5 s6 h => ?_)
  refine v_pRF cok13 h dX16_init_24 (by decide) q1052 rfl rfl rfl rfl (fun s7 h => ?_)
  refine v_al0 dX16_init_27 ?_
  refine v_sipush dX16_init_28 rfl ?_
  refine v_newa20 h dX16_init_31 (fun x8 s9 h => ?_)
  refine v_pRF cok13 h dX16_init_33 (by decide) q1053 rfl rfl rfl rfl (fun s10 h => ?_)
  refine v_al0 dX16_init_36 ?_
  refine v_sipush dX16_init_37 rfl ?_
  refine v_newa20 h dX16_init_40 (fun x11 s12 h => ?_)
  refine v_pRF cok13 h dX16_init_42 (by decide) q1054 rfl rfl rfl rfl (fun s13 h => ?_)
  refine v_al0 dX16_init_45 ?_
  refine v_il2 dX16_init_46 ?_
  refine v_pIF cok13 h dX16_init_47 (by decide) q1050 rfl rfl rfl rfl (fun s14 h => ?_)
  exact v_retV h dX16_init_50 rfl
theorem tX16_init {E : EE} {l : Launch} {v0 : Option Nat} {v1 : Option Nat} {v2 : Int32} {σ : Mem} {z : Unit × Mem} (h : sX16_init v0 v1 v2 σ = some z) : Mt E l mX16_init [vr v0, vr v1, vi v2] σ (none, z.2) :=
  Mt.ofVL (by decide) (Nat.le_of_ble_eq_true rfl) (fun G hG => lX16_init h)
abbrev mX16_isGood : MM := (yX16_isGood, cX16_isGood, 1, (Option.some Jvm.ClassFile.FieldType.boolean), 0, 0)
theorem dsX16_isGood : DsOk yX16_isGood 0 := ⟨by decide, by decide, by decide +kernel⟩
theorem lX16_isGood {E : EE} {G : GG} {v0 : Option Nat} {σ : Mem} {z : Int32 × Mem} (h : sX16_isGood v0 σ = some z) : V E mX16_isGood G 0 [some (vr v0)] [] σ (some (vi z.1), z.2) := by
  unfold sX16_isGood at h
  refine v_al0 dX16_isGood_0 ?_
  refine v_gI cok13 h dX16_isGood_1 (by decide) q1056 rfl (fun x1 h => ?_)
  refine v_if_ne (tgt := 11) dX16_isGood_4 (by decide) (fun c => ?_) (fun c => ?_)
  · rw [if_neg c] at h
    refine v_iconst dX16_isGood_11 ?_
    exact v_retZ h dX16_isGood_12 rfl
  · rw [if_pos c] at h
    refine v_iconst dX16_isGood_7 ?_
    refine v_goto (tgt := 12) dX16_isGood_8 (by decide) ?_
    exact v_retZ h dX16_isGood_12 rfl
theorem tX16_isGood {E : EE} {l : Launch} {v0 : Option Nat} {σ : Mem} {z : Int32 × Mem} (h : sX16_isGood v0 σ = some z) : Mt E l mX16_isGood [vr v0] σ (some (vi z.1), z.2) :=
  Mt.ofVL (by decide) (Nat.le_of_ble_eq_true rfl) (fun G hG => lX16_isGood h)
abbrev mX16_here : MM := (yX16_here, cX16_here, 1, (Option.some Jvm.ClassFile.FieldType.int), 0, 0)
theorem dsX16_here : DsOk yX16_here 0 := ⟨by decide, by decide, by decide +kernel⟩
theorem lX16_here {E : EE} {G : GG} {v0 : Option Nat} {σ : Mem} {z : Int32 × Mem} (h : sX16_here v0 σ = some z) : V E mX16_here G 0 [some (vr v0)] [] σ (some (vi z.1), z.2) := by
  unfold sX16_here at h
  refine v_al0 dX16_here_0 ?_
  refine v_gI cok13 h dX16_here_1 (by decide) q1055 rfl (fun x1 h => ?_)
  refine v_al0 dX16_here_4 ?_
  refine v_gI cok13 h dX16_here_5 (by decide) q1050 rfl (fun x2 h => ?_)
  refine v_icmp_ge (tgt := 30) dX16_here_8 (by decide) (fun c => ?_) (fun c => ?_)
  · rw [if_pos c] at h
    refine v_iconst dX16_here_30 ?_
    exact v_retI h dX16_here_31 rfl
  · rw [if_neg c] at h
    refine v_al0 dX16_here_11 ?_
    refine v_gR cok13 h dX16_here_12 (by decide) q1060 rfl (fun x3 h => ?_)
    refine v_gRN cok0 h dX16_here_15 (by decide) q542 rfl (fun x4 h => ?_)
    refine v_al0 dX16_here_18 ?_
    refine v_gI cok13 h dX16_here_19 (by decide) q1055 rfl (fun x5 h => ?_)
    refine v_aB h dX16_here_22 (fun x6 h => ?_)
    refine v_sipush dX16_here_23 rfl ?_
    refine v_iand dX16_here_26 ?_
    refine v_goto (tgt := 31) dX16_here_27 (by decide) ?_
    exact v_retI h dX16_here_31 rfl
theorem tX16_here {E : EE} {l : Launch} {v0 : Option Nat} {σ : Mem} {z : Int32 × Mem} (h : sX16_here v0 σ = some z) : Mt E l mX16_here [vr v0] σ (some (vi z.1), z.2) :=
  Mt.ofVL (by decide) (Nat.le_of_ble_eq_true rfl) (fun G hG => lX16_here h)
abbrev mX16_bad : MM := (yX16_bad, cX16_bad, 3, (Option.none : Option Jvm.ClassFile.FieldType), 0, 0)
theorem dsX16_bad : DsOk yX16_bad 2 := ⟨by decide, by decide, by decide +kernel⟩
theorem lX16_bad {E : EE} {G : GG} {v0 : Option Nat} {v1 : Int32} {v2 : Int32} {σ : Mem} {z : Unit × Mem} (h : sX16_bad v0 v1 v2 σ = some z) : V E mX16_bad G 0 [some (vr v0), some (vi v1), some (vi v2)] [] σ (none, z.2) := by
  unfold sX16_bad at h
  refine v_al0 dX16_bad_0 ?_
  refine v_gI cok13 h dX16_bad_1 (by decide) q1056 rfl (fun x1 h => ?_)
  refine v_if_le (tgt := 8) dX16_bad_4 (by decide) (fun c => ?_) (fun c => ?_)
  · rw [if_pos c] at h
    refine v_al0 dX16_bad_8 ?_
    refine v_il1 dX16_bad_9 ?_
    refine v_pI cok13 h dX16_bad_10 (by decide) q1056 rfl rfl (fun s2 h => ?_)
    refine v_al0 dX16_bad_13 ?_
    refine v_il2 dX16_bad_14 ?_
    refine v_pI cok13 h dX16_bad_15 (by decide) q1057 rfl rfl (fun s3 h => ?_)
    exact v_retV h dX16_bad_18 rfl
  · rw [if_neg c] at h
    exact v_retV h dX16_bad_7 rfl
theorem tX16_bad {E : EE} {l : Launch} {v0 : Option Nat} {v1 : Int32} {v2 : Int32} {σ : Mem} {z : Unit × Mem} (h : sX16_bad v0 v1 v2 σ = some z) : Mt E l mX16_bad [vr v0, vi v1, vi v2] σ (none, z.2) :=
  Mt.ofVL (by decide) (Nat.le_of_ble_eq_true rfl) (fun G hG => lX16_bad h)
abbrev mX16_digit : MM := (yX16_digit, cX16_digit, 3, (Option.some Jvm.ClassFile.FieldType.int), 1, 22)
theorem dsX16_digit : DsOk yX16_digit 1 := ⟨by decide, by decide, by decide +kernel⟩
theorem lX16_digit_32 {E : EE} {G : GG} {v0 : Option Nat} {v2 : Int32} {σ : Mem} {z : Int32 × Mem} (h : sX16_digit_32 v0 v2 σ = some z) : V E mX16_digit G 32 [some (vr v0), none, some (vi v2)] [] σ (some (vi z.1), z.2) := by
  unfold sX16_digit_32 at h
  refine v_al0 dX16_digit_32 ?_
  refine v_dup dX16_digit_33 ?_
  refine v_gI cok13 h dX16_digit_34 (by decide) q1055 rfl (fun x1 h => ?_)
  refine v_iconst dX16_digit_37 ?_
  refine v_iadd dX16_digit_38 ?_
  refine v_pI cok13 h dX16_digit_39 (by decide) q1055 rfl rfl (fun s2 h => ?_)
  refine v_il2 dX16_digit_42 ?_
  exact v_retI h dX16_digit_43 rfl
theorem lX16_digit {E : EE} {G : GG} {v0 : Option Nat} {v1 : Int32} {σ : Mem} {z : Int32 × Mem} (h : sX16_digit v0 v1 σ = some z) : V E mX16_digit G 0 [some (vr v0), some (vi v1), none] [] σ (some (vi z.1), z.2) := by
  unfold sX16_digit at h
  refine v_al0 dX16_digit_0 ?_
  obtain ⟨b1, er, ka, h⟩ := cV_some h
  obtain ⟨x1, s2, h1, h⟩ := cl_some h
  refine v_callV1 cok13 (As := []) er ka (tX16_here h1) (lw_V q1100 q1102 qs30 q181 q1103) rfl dsX16_here ⟨Nat.le_of_ble_eq_true rfl, Nat.le_of_ble_eq_true rfl⟩ (Nat.le_of_ble_eq_true rfl) dX16_digit_1 rfl ?_
  refine v_bipush dX16_digit_4 rfl ?_
  refine v_isub dX16_digit_6 ?_
  refine v_istore_n (L' := [some (vr v0), some (vi v1), some (vi (x1 - (iI 48)))]) dX16_digit_7 (Nat.le_of_ble_eq_true rfl) (Nat.le_of_ble_eq_true rfl) rfl ?_
  refine v_al0 dX16_digit_8 ?_
  obtain ⟨b9, er, ka, h⟩ := cV_some h
  obtain ⟨x3, s4, h1, h⟩ := cl_some h
  refine v_callV1 cok13 (As := []) er ka (tX16_isGood h1) (lw_V q1092 q1094 qs28 q181 q1095) rfl dsX16_isGood ⟨Nat.le_of_ble_eq_true rfl, Nat.le_of_ble_eq_true rfl⟩ (Nat.le_of_ble_eq_true rfl) dX16_digit_9 rfl ?_
  refine v_if_eq (tgt := 32) dX16_digit_12 (by decide) (fun c => ?_) (fun c => ?_)
  · rw [if_pos c] at h
    exact v_weak (wss (wsn (wss wse))) (lX16_digit_32 h)
  · rw [if_neg c] at h
    refine v_il2 dX16_digit_15 ?_
    refine v_il1 dX16_digit_16 ?_
    obtain ⟨x5, s6, h1, h⟩ := cl_some h
    refine v_callSN1 (As := [vi (x1 - (iI 48)), vi v1]) (tX0_in h1) q1122 q584 q583 q158 dsX0_in ⟨Nat.le_of_ble_eq_true rfl, Nat.le_of_ble_eq_true rfl⟩ (Nat.le_of_ble_eq_true rfl) dX16_digit_17 rfl ?_
    refine v_if_ne (tgt := 32) dX16_digit_20 (by decide) (fun c => ?_) (fun c => ?_)
    · rw [if_neg c] at h
      exact v_weak (wss (wsn (wss wse))) (lX16_digit_32 h)
    · rw [if_pos c] at h
      refine v_al0 dX16_digit_23 ?_
      refine v_iconst dX16_digit_24 ?_
      refine v_al0 dX16_digit_25 ?_
      refine v_gI cok13 h dX16_digit_26 (by decide) q1055 rfl (fun x7 h => ?_)
      obtain ⟨b29, er, ka, h⟩ := cV_some h
      obtain ⟨_, s8, h1, h⟩ := cl_some h
      refine v_callV0 cok13 (As := [vi (iI 1), vi x7]) er ka (tX16_bad h1) (lw_V q1108 q1110 qs32 q181 q1111) rfl dsX16_bad ⟨Nat.le_of_ble_eq_true rfl, Nat.le_of_ble_eq_true rfl⟩ (Nat.le_of_ble_eq_true rfl) dX16_digit_29 rfl ?_
      exact v_weak (wss (wsn (wss wse))) (lX16_digit_32 h)
theorem tX16_digit {E : EE} {l : Launch} {v0 : Option Nat} {v1 : Int32} {σ : Mem} {z : Int32 × Mem} (h : sX16_digit v0 v1 σ = some z) : Mt E l mX16_digit [vr v0, vi v1] σ (some (vi z.1), z.2) :=
  Mt.ofVL (by decide) (Nat.le_of_ble_eq_true rfl) (fun G hG => lX16_digit h)
abbrev mX16_act : MM := (yX16_act, cX16_act, 8, (Option.none : Option Jvm.ClassFile.FieldType), 6, 200)
theorem dsX16_act : DsOk yX16_act 2 := ⟨by decide, by decide, by decide +kernel⟩
theorem lX16_act_192 {E : EE} {G : GG} {v0 : Option Nat} {v3 : Int32} {v4 : Int32} {v6 : Int32} {v7 : Int32} {σ : Mem} {z : Unit × Mem} (h : sX16_act_192 v0 v3 v4 v6 v7 σ = some z) : V E mX16_act G 192 [some (vr v0), none, none, some (vi v3), some (vi v4), none, some (vi v6), some (vi v7)] [] σ (none, z.2) := by
  unfold sX16_act_192 at h
  refine v_al0 dX16_act_192 ?_
  obtain ⟨b193, er, ka, h⟩ := cV_some h
  obtain ⟨x1, s2, h1, h⟩ := cl_some h
  refine v_callV1 cok13 (As := []) er ka (tX16_isGood h1) (lw_V q1092 q1094 qs28 q181 q1095) rfl dsX16_isGood ⟨Nat.le_of_ble_eq_true rfl, Nat.le_of_ble_eq_true rfl⟩ (Nat.le_of_ble_eq_true rfl) dX16_act_193 rfl ?_
  refine v_if_ne (tgt := 200) dX16_act_196 (by decide) (fun c => ?_) (fun c => ?_)
  · rw [if_neg c] at h
    refine v_al0 dX16_act_200 ?_
    refine v_gR cok13 h dX16_act_201 (by decide) q1051 rfl (fun x3 h => ?_)
    refine v_al0 dX16_act_204 ?_
    refine v_gI cok13 h dX16_act_205 (by decide) q1058 rfl (fun x4 h => ?_)
    refine v_il3 dX16_act_208 ?_
    refine v_sI h dX16_act_209 (fun s5 h => ?_)
    refine v_al0 dX16_act_210 ?_
    refine v_gR cok13 h dX16_act_211 (by decide) q1052 rfl (fun x6 h => ?_)
    refine v_al0 dX16_act_214 ?_
    refine v_gI cok13 h dX16_act_215 (by decide) q1058 rfl (fun x7 h => ?_)
    refine v_iload dX16_act_218 rfl ?_
    refine v_sI h dX16_act_220 (fun s8 h => ?_)
    refine v_al0 dX16_act_221 ?_
    refine v_gR cok13 h dX16_act_222 (by decide) q1053 rfl (fun x9 h => ?_)
    refine v_al0 dX16_act_225 ?_
    refine v_gI cok13 h dX16_act_226 (by decide) q1058 rfl (fun x10 h => ?_)
    refine v_iload dX16_act_229 rfl ?_
    refine v_sI h dX16_act_231 (fun s11 h => ?_)
    refine v_al0 dX16_act_232 ?_
    refine v_gR cok13 h dX16_act_233 (by decide) q1054 rfl (fun x12 h => ?_)
    refine v_al0 dX16_act_236 ?_
    refine v_gI cok13 h dX16_act_237 (by decide) q1058 rfl (fun x13 h => ?_)
    refine v_iload dX16_act_240 rfl ?_
    refine v_sI h dX16_act_242 (fun s14 h => ?_)
    refine v_al0 dX16_act_243 ?_
    refine v_dup dX16_act_244 ?_
    refine v_gI cok13 h dX16_act_245 (by decide) q1058 rfl (fun x15 h => ?_)
    refine v_iconst dX16_act_248 ?_
    refine v_iadd dX16_act_249 ?_
    refine v_pI cok13 h dX16_act_250 (by decide) q1058 rfl rfl (fun s16 h => ?_)
    exact v_retV h dX16_act_253 rfl
  · rw [if_pos c] at h
    exact v_retV h dX16_act_199 rfl
theorem lX16_act_164 {E : EE} {G : GG} {v0 : Option Nat} {v1 : Int32} {v2 : Int32} {v3 : Int32} {v4 : Int32} {v6 : Int32} {t0 : Int32} {σ : Mem} {z : Unit × Mem} (h : sX16_act_164 v0 v1 v2 v3 v4 v6 t0 σ = some z) : V E mX16_act G 164 [some (vr v0), some (vi v1), some (vi v2), some (vi v3), some (vi v4), none, some (vi v6), none] [vi t0] σ (none, z.2) := by
  unfold sX16_act_164 at h
  refine v_istore (L' := [some (vr v0), some (vi v1), some (vi v2), some (vi v3), some (vi v4), none, some (vi v6), some (vi t0)]) dX16_act_164 (Nat.le_of_ble_eq_true rfl) (Nat.le_of_ble_eq_true rfl) rfl ?_
  refine v_al0 dX16_act_166 ?_
  obtain ⟨b167, er, ka, h⟩ := cV_some h
  obtain ⟨x1, s2, h1, h⟩ := cl_some h
  refine v_callV1 cok13 (As := []) er ka (tX16_isGood h1) (lw_V q1092 q1094 qs28 q181 q1095) rfl dsX16_isGood ⟨Nat.le_of_ble_eq_true rfl, Nat.le_of_ble_eq_true rfl⟩ (Nat.le_of_ble_eq_true rfl) dX16_act_167 rfl ?_
  refine v_if_eq (tgt := 192) dX16_act_170 (by decide) (fun c => ?_) (fun c => ?_)
  · rw [if_pos c] at h
    exact v_weak (wss (wsn (wsn (wss (wss (wsn (wss (wss wse)))))))) (lX16_act_192 h)
  · rw [if_neg c] at h
    refine v_al0 dX16_act_173 ?_
    refine v_gI cok13 h dX16_act_174 (by decide) q1058 rfl (fun x3 h => ?_)
    refine v_il2 dX16_act_177 ?_
    refine v_iadd dX16_act_178 ?_
    refine v_sipush dX16_act_179 rfl ?_
    refine v_icmp_le (tgt := 192) dX16_act_182 (by decide) (fun c => ?_) (fun c => ?_)
    · rw [if_pos c] at h
      exact v_weak (wss (wsn (wsn (wss (wss (wsn (wss (wss wse)))))))) (lX16_act_192 h)
    · rw [if_neg c] at h
      refine v_al0 dX16_act_185 ?_
      refine v_bipush dX16_act_186 rfl ?_
      refine v_il1 dX16_act_188 ?_
      obtain ⟨b189, er, ka, h⟩ := cV_some h
      obtain ⟨_, s4, h1, h⟩ := cl_some h
      refine v_callV0 cok13 (As := [vi (iI 6), vi v1]) er ka (tX16_bad h1) (lw_V q1108 q1110 qs32 q181 q1111) rfl dsX16_bad ⟨Nat.le_of_ble_eq_true rfl, Nat.le_of_ble_eq_true rfl⟩ (Nat.le_of_ble_eq_true rfl) dX16_act_189 rfl ?_
      exact v_weak (wss (wsn (wsn (wss (wss (wsn (wss (wss wse)))))))) (lX16_act_192 h)
theorem lX16_act_148 {E : EE} {G : GG} {v0 : Option Nat} {v1 : Int32} {v2 : Int32} {v3 : Int32} {v4 : Int32} {v6 : Int32} {σ : Mem} {z : Unit × Mem} (h : sX16_act_148 v0 v1 v2 v3 v4 v6 σ = some z) : V E mX16_act G 148 [some (vr v0), some (vi v1), some (vi v2), some (vi v3), some (vi v4), none, some (vi v6), none] [] σ (none, z.2) := by
  unfold sX16_act_148 at h
  refine v_il3 dX16_act_148 ?_
  refine v_bipush dX16_act_149 rfl ?_
  refine v_icmp_ne (tgt := 163) dX16_act_151 (by decide) (fun c => ?_) (fun c => ?_)
  · rw [if_neg c] at h
    refine v_iconst dX16_act_163 ?_
    exact v_weak (wss (wss (wss (wss (wss (wsn (wss (wsn wse)))))))) (lX16_act_164 h)
  · rw [if_pos c] at h
    refine v_al0 dX16_act_154 ?_
    refine v_bipush dX16_act_155 rfl ?_
    obtain ⟨b157, er, ka, h⟩ := cV_some h
    obtain ⟨x1, s2, h1, h⟩ := cl_some h
    refine v_callV1 cok13 (As := [vi (iI 10)]) er ka (tX16_digit h1) (lw_V q1118 q1120 qs34 q181 q1121) rfl dsX16_digit ⟨Nat.le_of_ble_eq_true rfl, Nat.le_of_ble_eq_true rfl⟩ (Nat.le_of_ble_eq_true rfl) dX16_act_157 rfl ?_
    refine v_goto (tgt := 164) dX16_act_160 (by decide) ?_
    exact v_weak (wss (wss (wss (wss (wss (wsn (wss (wsn wse)))))))) (lX16_act_164 h)
theorem lX16_act_133 {E : EE} {G : GG} {v0 : Option Nat} {v1 : Int32} {v2 : Int32} {v3 : Int32} {v4 : Int32} {v5 : Int32} {v6 : Int32} {σ : Mem} {z : Unit × Mem} (h : sX16_act_133 v0 v1 v2 v3 v4 v5 v6 σ = some z) : V E mX16_act G 133 [some (vr v0), some (vi v1), some (vi v2), some (vi v3), some (vi v4), some (vi v5), some (vi v6), none] [] σ (none, z.2) := by
  unfold sX16_act_133 at h
  refine v_iload dX16_act_133 rfl ?_
  refine v_iload dX16_act_135 rfl ?_
  refine v_icmp_ne (tgt := 148) dX16_act_137 (by decide) (fun c => ?_) (fun c => ?_)
  · rw [if_neg c] at h
    exact v_weak (wss (wss (wss (wss (wss (wsn (wss (wsn wse)))))))) (lX16_act_148 h)
  · rw [if_pos c] at h
    refine v_al0 dX16_act_140 ?_
    refine v_bipush dX16_act_141 rfl ?_
    refine v_iload dX16_act_143 rfl ?_
    obtain ⟨b145, er, ka, h⟩ := cV_some h
    obtain ⟨_, s1, h1, h⟩ := cl_some h
    refine v_callV0 cok13 (As := [vi (iI 7), vi v5]) er ka (tX16_bad h1) (lw_V q1108 q1110 qs32 q181 q1111) rfl dsX16_bad ⟨Nat.le_of_ble_eq_true rfl, Nat.le_of_ble_eq_true rfl⟩ (Nat.le_of_ble_eq_true rfl) dX16_act_145 rfl ?_
    exact v_weak (wss (wss (wss (wss (wss (wsn (wss (wsn wse)))))))) (lX16_act_148 h)
theorem lX16_act_112 {E : EE} {G : GG} {v0 : Option Nat} {v1 : Int32} {v2 : Int32} {v3 : Int32} {v4 : Int32} {v5 : Int32} {t0 : Int32} {σ : Mem} {z : Unit × Mem} (h : sX16_act_112 v0 v1 v2 v3 v4 v5 t0 σ = some z) : V E mX16_act G 112 [some (vr v0), some (vi v1), some (vi v2), some (vi v3), some (vi v4), some (vi v5), none, none] [vi t0] σ (none, z.2) := by
  unfold sX16_act_112 at h
  refine v_istore (L' := [some (vr v0), some (vi v1), some (vi v2), some (vi v3), some (vi v4), some (vi v5), some (vi t0), none]) dX16_act_112 (Nat.le_of_ble_eq_true rfl) (Nat.le_of_ble_eq_true rfl) rfl ?_
  refine v_al0 dX16_act_114 ?_
  obtain ⟨b115, er, ka, h⟩ := cV_some h
  obtain ⟨x1, s2, h1, h⟩ := cl_some h
  refine v_callV1 cok13 (As := []) er ka (tX16_isGood h1) (lw_V q1092 q1094 qs28 q181 q1095) rfl dsX16_isGood ⟨Nat.le_of_ble_eq_true rfl, Nat.le_of_ble_eq_true rfl⟩ (Nat.le_of_ble_eq_true rfl) dX16_act_115 rfl ?_
  refine v_if_eq (tgt := 148) dX16_act_118 (by decide) (fun c => ?_) (fun c => ?_)
  · rw [if_pos c] at h
    exact v_weak (wss (wss (wss (wss (wss (wsn (wss (wsn wse)))))))) (lX16_act_148 h)
  · rw [if_neg c] at h
    refine v_il3 dX16_act_121 ?_
    refine v_bipush dX16_act_122 rfl ?_
    refine v_icmp_eq (tgt := 133) dX16_act_124 (by decide) (fun c => ?_) (fun c => ?_)
    · rw [if_pos c] at h
      exact v_weak (wss (wss (wss (wss (wss (wss (wss (wsn wse)))))))) (lX16_act_133 h)
    · rw [if_neg c] at h
      refine v_il3 dX16_act_127 ?_
      refine v_bipush dX16_act_128 rfl ?_
      refine v_icmp_ne (tgt := 148) dX16_act_130 (by decide) (fun c => ?_) (fun c => ?_)
      · rw [if_neg c] at h
        exact v_weak (wss (wss (wss (wss (wss (wsn (wss (wsn wse)))))))) (lX16_act_148 h)
      · rw [if_pos c] at h
        exact v_weak (wss (wss (wss (wss (wss (wss (wss (wsn wse)))))))) (lX16_act_133 h)
theorem lX16_act_85 {E : EE} {G : GG} {v0 : Option Nat} {v1 : Int32} {v2 : Int32} {v3 : Int32} {v4 : Int32} {v5 : Int32} {σ : Mem} {z : Unit × Mem} (h : sX16_act_85 v0 v1 v2 v3 v4 v5 σ = some z) : V E mX16_act G 85 [some (vr v0), some (vi v1), some (vi v2), some (vi v3), some (vi v4), some (vi v5), none, none] [] σ (none, z.2) := by
  unfold sX16_act_85 at h
  refine v_iconst dX16_act_85 ?_
  refine v_goto (tgt := 112) dX16_act_86 (by decide) ?_
  exact v_weak (wss (wss (wss (wss (wss (wss (wsn (wsn wse)))))))) (lX16_act_112 h)
theorem lX16_act_109 {E : EE} {G : GG} {v0 : Option Nat} {v1 : Int32} {v2 : Int32} {v3 : Int32} {v4 : Int32} {v5 : Int32} {t0 : Option Nat} {t1 : Int32} {σ : Mem} {z : Unit × Mem} (h : sX16_act_109 v0 v1 v2 v3 v4 v5 t0 t1 σ = some z) : V E mX16_act G 109 [some (vr v0), some (vi v1), some (vi v2), some (vi v3), some (vi v4), some (vi v5), none, none] [vi t1, vr t0] σ (none, z.2) := by
  unfold sX16_act_109 at h
  obtain ⟨b109, er, ka, h⟩ := cV_some h
  obtain ⟨x1, s2, h1, h⟩ := cl_some h
  refine v_callV1 cok13 (As := [vi t1]) er ka (tX16_digit h1) (lw_V q1118 q1120 qs34 q181 q1121) rfl dsX16_digit ⟨Nat.le_of_ble_eq_true rfl, Nat.le_of_ble_eq_true rfl⟩ (Nat.le_of_ble_eq_true rfl) dX16_act_109 rfl ?_
  exact v_weak (wss (wss (wss (wss (wss (wss (wsn (wsn wse)))))))) (lX16_act_112 h)
theorem lX16_act_102 {E : EE} {G : GG} {v0 : Option Nat} {v1 : Int32} {v2 : Int32} {v3 : Int32} {v4 : Int32} {v5 : Int32} {t0 : Option Nat} {σ : Mem} {z : Unit × Mem} (h : sX16_act_102 v0 v1 v2 v3 v4 v5 t0 σ = some z) : V E mX16_act G 102 [some (vr v0), some (vi v1), some (vi v2), some (vi v3), some (vi v4), some (vi v5), none, none] [vr t0] σ (none, z.2) := by
  unfold sX16_act_102 at h
  refine v_bipush dX16_act_102 rfl ?_
  refine v_goto (tgt := 109) dX16_act_104 (by decide) ?_
  exact v_weak (wss (wss (wss (wss (wss (wss (wsn (wsn wse)))))))) (lX16_act_109 h)
theorem lX16_act_53 {E : EE} {G : GG} {v0 : Option Nat} {v1 : Int32} {v2 : Int32} {v3 : Int32} {t0 : Int32} {σ : Mem} {z : Unit × Mem} (h : sX16_act_53 v0 v1 v2 v3 t0 σ = some z) : V E mX16_act G 53 [some (vr v0), some (vi v1), some (vi v2), some (vi v3), none, none, none, none] [vi t0] σ (none, z.2) := by
  unfold sX16_act_53 at h
  refine v_istore (L' := [some (vr v0), some (vi v1), some (vi v2), some (vi v3), some (vi t0), none, none, none]) dX16_act_53 (Nat.le_of_ble_eq_true rfl) (Nat.le_of_ble_eq_true rfl) rfl ?_
  refine v_al0 dX16_act_55 ?_
  refine v_gI cok13 h dX16_act_56 (by decide) q1055 rfl (fun x1 h => ?_)
  refine v_istore (L' := [some (vr v0), some (vi v1), some (vi v2), some (vi v3), some (vi t0), some (vi x1), none, none]) dX16_act_59 (Nat.le_of_ble_eq_true rfl) (Nat.le_of_ble_eq_true rfl) rfl ?_
  refine v_il3 dX16_act_61 ?_
  refine v_bipush dX16_act_62 rfl ?_
  refine v_icmp_eq (tgt := 85) dX16_act_64 (by decide) (fun c => ?_) (fun c => ?_)
  · rw [if_pos c] at h
    exact v_weak (wss (wss (wss (wss (wss (wss (wsn (wsn wse)))))))) (lX16_act_85 h)
  · rw [if_neg c] at h
    refine v_il3 dX16_act_67 ?_
    refine v_bipush dX16_act_68 rfl ?_
    refine v_icmp_eq (tgt := 85) dX16_act_70 (by decide) (fun c => ?_) (fun c => ?_)
    · rw [if_pos c] at h
      exact v_weak (wss (wss (wss (wss (wss (wss (wsn (wsn wse)))))))) (lX16_act_85 h)
    · rw [if_neg c] at h
      refine v_il3 dX16_act_73 ?_
      refine v_bipush dX16_act_74 rfl ?_
      refine v_icmp_eq (tgt := 85) dX16_act_76 (by decide) (fun c => ?_) (fun c => ?_)
      · rw [if_pos c] at h
        exact v_weak (wss (wss (wss (wss (wss (wss (wsn (wsn wse)))))))) (lX16_act_85 h)
      · rw [if_neg c] at h
        refine v_il3 dX16_act_79 ?_
        refine v_bipush dX16_act_80 rfl ?_
        refine v_icmp_ne (tgt := 89) dX16_act_82 (by decide) (fun c => ?_) (fun c => ?_)
        · rw [if_neg c] at h
          refine v_al0 dX16_act_89 ?_
          refine v_il3 dX16_act_90 ?_
          refine v_bipush dX16_act_91 rfl ?_
          refine v_icmp_eq (tgt := 102) dX16_act_93 (by decide) (fun c => ?_) (fun c => ?_)
          · rw [if_pos c] at h
            exact v_weak (wss (wss (wss (wss (wss (wss (wsn (wsn wse)))))))) (lX16_act_102 h)
          · rw [if_neg c] at h
            refine v_il3 dX16_act_96 ?_
            refine v_bipush dX16_act_97 rfl ?_
            refine v_icmp_ne (tgt := 107) dX16_act_99 (by decide) (fun c => ?_) (fun c => ?_)
            · rw [if_neg c] at h
              refine v_bipush dX16_act_107 rfl ?_
              exact v_weak (wss (wss (wss (wss (wss (wss (wsn (wsn wse)))))))) (lX16_act_109 h)
            · rw [if_pos c] at h
              exact v_weak (wss (wss (wss (wss (wss (wss (wsn (wsn wse)))))))) (lX16_act_102 h)
        · rw [if_pos c] at h
          exact v_weak (wss (wss (wss (wss (wss (wss (wsn (wsn wse)))))))) (lX16_act_85 h)
theorem lX16_act_27 {E : EE} {G : GG} {v0 : Option Nat} {v1 : Int32} {v2 : Int32} {v3 : Int32} {σ : Mem} {z : Unit × Mem} (h : sX16_act_27 v0 v1 v2 v3 σ = some z) : V E mX16_act G 27 [some (vr v0), some (vi v1), some (vi v2), some (vi v3), none, none, none, none] [] σ (none, z.2) := by
  unfold sX16_act_27 at h
  refine v_al0 dX16_act_27 ?_
  refine v_dup dX16_act_28 ?_
  refine v_gI cok13 h dX16_act_29 (by decide) q1055 rfl (fun x1 h => ?_)
  refine v_iconst dX16_act_32 ?_
  refine v_iadd dX16_act_33 ?_
  refine v_pI cok13 h dX16_act_34 (by decide) q1055 rfl rfl (fun s2 h => ?_)
  refine v_il3 dX16_act_37 ?_
  refine v_bipush dX16_act_38 rfl ?_
  refine v_icmp_ne (tgt := 47) dX16_act_40 (by decide) (fun c => ?_) (fun c => ?_)
  · rw [if_neg c] at h
    refine v_al0 dX16_act_47 ?_
    refine v_bipush dX16_act_48 rfl ?_
    obtain ⟨b50, er, ka, h⟩ := cV_some h
    obtain ⟨x3, s4, h1, h⟩ := cl_some h
    refine v_callV1 cok13 (As := [vi (iI 7)]) er ka (tX16_digit h1) (lw_V q1118 q1120 qs34 q181 q1121) rfl dsX16_digit ⟨Nat.le_of_ble_eq_true rfl, Nat.le_of_ble_eq_true rfl⟩ (Nat.le_of_ble_eq_true rfl) dX16_act_50 rfl ?_
    exact v_weak (wss (wss (wss (wss (wsn (wsn (wsn (wsn wse)))))))) (lX16_act_53 h)
  · rw [if_pos c] at h
    refine v_iconst dX16_act_43 ?_
    refine v_goto (tgt := 53) dX16_act_44 (by decide) ?_
    exact v_weak (wss (wss (wss (wss (wsn (wsn (wsn (wsn wse)))))))) (lX16_act_53 h)
theorem lX16_act_18 {E : EE} {G : GG} {v0 : Option Nat} {v1 : Int32} {v2 : Int32} {v3 : Int32} {σ : Mem} {z : Unit × Mem} (h : sX16_act_18 v0 v1 v2 v3 σ = some z) : V E mX16_act G 18 [some (vr v0), some (vi v1), some (vi v2), some (vi v3), none, none, none, none] [] σ (none, z.2) := by
  unfold sX16_act_18 at h
  refine v_al0 dX16_act_18 ?_
  refine v_iconst dX16_act_19 ?_
  refine v_al0 dX16_act_20 ?_
  refine v_gI cok13 h dX16_act_21 (by decide) q1055 rfl (fun x1 h => ?_)
  obtain ⟨b24, er, ka, h⟩ := cV_some h
  obtain ⟨_, s2, h1, h⟩ := cl_some h
  refine v_callV0 cok13 (As := [vi (iI 1), vi x1]) er ka (tX16_bad h1) (lw_V q1108 q1110 qs32 q181 q1111) rfl dsX16_bad ⟨Nat.le_of_ble_eq_true rfl, Nat.le_of_ble_eq_true rfl⟩ (Nat.le_of_ble_eq_true rfl) dX16_act_24 rfl ?_
  exact v_weak (wss (wss (wss (wss (wsn (wsn (wsn (wsn wse)))))))) (lX16_act_27 h)
theorem lX16_act {E : EE} {G : GG} {v0 : Option Nat} {v1 : Int32} {v2 : Int32} {σ : Mem} {z : Unit × Mem} (h : sX16_act v0 v1 v2 σ = some z) : V E mX16_act G 0 [some (vr v0), some (vi v1), some (vi v2), none, none, none, none, none] [] σ (none, z.2) := by
  unfold sX16_act at h
  refine v_al0 dX16_act_0 ?_
  obtain ⟨b1, er, ka, h⟩ := cV_some h
  obtain ⟨x1, s2, h1, h⟩ := cl_some h
  refine v_callV1 cok13 (As := []) er ka (tX16_here h1) (lw_V q1100 q1102 qs30 q181 q1103) rfl dsX16_here ⟨Nat.le_of_ble_eq_true rfl, Nat.le_of_ble_eq_true rfl⟩ (Nat.le_of_ble_eq_true rfl) dX16_act_1 rfl ?_
  refine v_istore_n (L' := [some (vr v0), some (vi v1), some (vi v2), some (vi x1), none, none, none, none]) dX16_act_4 (Nat.le_of_ble_eq_true rfl) (Nat.le_of_ble_eq_true rfl) rfl ?_
  refine v_il3 dX16_act_5 ?_
  refine v_if_eq (tgt := 18) dX16_act_6 (by decide) (fun c => ?_) (fun c => ?_)
  · rw [if_pos c] at h
    exact v_weak (wss (wss (wss (wss (wsn (wsn (wsn (wsn wse)))))))) (lX16_act_18 h)
  · rw [if_neg c] at h
    refine v_ldcS dX16_act_9 (2) ?_
    refine v_il3 dX16_act_11 ?_
    refine v_ixo 2 dX16_act_12 (by decide) q1117 ⟨Nat.le_of_ble_eq_true rfl, Nat.le_of_ble_eq_true rfl⟩ (Nat.le_of_ble_eq_true rfl) ?_
    refine v_if_ge (tgt := 27) dX16_act_15 (by decide) (fun c => ?_) (fun c => ?_)
    · rw [if_pos c] at h
      exact v_weak (wss (wss (wss (wss (wsn (wsn (wsn (wsn wse)))))))) (lX16_act_27 h)
    · rw [if_neg c] at h
      exact v_weak (wss (wss (wss (wss (wsn (wsn (wsn (wsn wse)))))))) (lX16_act_18 h)
theorem tX16_act {E : EE} {l : Launch} {v0 : Option Nat} {v1 : Int32} {v2 : Int32} {σ : Mem} {z : Unit × Mem} (h : sX16_act v0 v1 v2 σ = some z) : Mt E l mX16_act [vr v0, vi v1, vi v2] σ (none, z.2) :=
  Mt.ofVL (by decide) (Nat.le_of_ble_eq_true rfl) (fun G hG => lX16_act h)
abbrev mX16_all (d : Nat) : MM := (yX16_all, cX16_all, 2, (Option.none : Option Jvm.ClassFile.FieldType), 7 + d, 227 + 100 * d)
theorem dsX16_all : DsOk yX16_all 0 := ⟨by decide, by decide, by decide +kernel⟩
abbrev mX16_one (d : Nat) : MM := (yX16_one, cX16_one, 6, (Option.none : Option Jvm.ClassFile.FieldType), 7 + d, 227 + 100 * d)
theorem dsX16_one : DsOk yX16_one 0 := ⟨by decide, by decide, by decide +kernel⟩
abbrev mX16_rounds (d : Nat) : MM := (yX16_rounds, cX16_rounds, 1, (Option.none : Option Jvm.ClassFile.FieldType), 7 + d, 227 + 100 * d)
theorem dsX16_rounds : DsOk yX16_rounds 0 := ⟨by decide, by decide, by decide +kernel⟩
theorem lX16_all_45 {E : EE} {G : GG} {d : Nat} {rX16_all : Option Nat → Mem → Option (Unit × Mem)} {rX16_one : Option Nat → Mem → Option (Unit × Mem)} {rX16_rounds : Option Nat → Mem → Option (Unit × Mem)} (hrX16_all : ∀ (l : Launch) {a0 : Option Nat} {s : Mem} {z : Unit × Mem}, rX16_all a0 s = some z → Mt E l (mX16_all d) [vr a0] s (none, z.2)) (hrX16_one : ∀ (l : Launch) {a0 : Option Nat} {s : Mem} {z : Unit × Mem}, rX16_one a0 s = some z → Mt E l (mX16_one d) [vr a0] s (none, z.2)) (hrX16_rounds : ∀ (l : Launch) {a0 : Option Nat} {s : Mem} {z : Unit × Mem}, rX16_rounds a0 s = some z → Mt E l (mX16_rounds d) [vr a0] s (none, z.2)) {k5 : Option Nat → Int32 → Mem → Option (Unit × Mem)} (hk5 : ∀ (v0 : Option Nat) (v1 : Int32) (s : Mem) (z : Unit × Mem), k5 v0 v1 s = some z → V E (mX16_all (d + 1)) G 5 [some (vr v0), some (vi v1)] [] s (none, z.2)) {v0 : Option Nat} {t0 : Int32} {σ : Mem} {z : Unit × Mem} (h : sX16_all_45 rX16_all rX16_one rX16_rounds k5 v0 t0 σ = some z) : V E (mX16_all (d + 1)) G 45 [some (vr v0), none] [vi t0] σ (none, z.2) := by
  unfold sX16_all_45 at h
  refine v_istore_n (L' := [some (vr v0), some (vi t0)]) dX16_all_45 (Nat.le_of_ble_eq_true rfl) (Nat.le_of_ble_eq_true rfl) rfl ?_
  refine v_goto (tgt := 5) dX16_all_46 (by decide) ?_
  exact v_weak (wss (wss wse)) (hk5 _ _ _ _ h)
theorem lX16_all_44 {E : EE} {G : GG} {d : Nat} {rX16_all : Option Nat → Mem → Option (Unit × Mem)} {rX16_one : Option Nat → Mem → Option (Unit × Mem)} {rX16_rounds : Option Nat → Mem → Option (Unit × Mem)} (hrX16_all : ∀ (l : Launch) {a0 : Option Nat} {s : Mem} {z : Unit × Mem}, rX16_all a0 s = some z → Mt E l (mX16_all d) [vr a0] s (none, z.2)) (hrX16_one : ∀ (l : Launch) {a0 : Option Nat} {s : Mem} {z : Unit × Mem}, rX16_one a0 s = some z → Mt E l (mX16_one d) [vr a0] s (none, z.2)) (hrX16_rounds : ∀ (l : Launch) {a0 : Option Nat} {s : Mem} {z : Unit × Mem}, rX16_rounds a0 s = some z → Mt E l (mX16_rounds d) [vr a0] s (none, z.2)) {k5 : Option Nat → Int32 → Mem → Option (Unit × Mem)} (hk5 : ∀ (v0 : Option Nat) (v1 : Int32) (s : Mem) (z : Unit × Mem), k5 v0 v1 s = some z → V E (mX16_all (d + 1)) G 5 [some (vr v0), some (vi v1)] [] s (none, z.2)) {v0 : Option Nat} {σ : Mem} {z : Unit × Mem} (h : sX16_all_44 rX16_all rX16_one rX16_rounds k5 v0 σ = some z) : V E (mX16_all (d + 1)) G 44 [some (vr v0), none] [] σ (none, z.2) := by
  unfold sX16_all_44 at h
  refine v_iconst dX16_all_44 ?_
  exact v_weak (wss (wsn wse)) (lX16_all_45 hrX16_all hrX16_one hrX16_rounds hk5 h)
theorem lX16_all_5b {E : EE} {G : GG} {d : Nat} {rX16_all : Option Nat → Mem → Option (Unit × Mem)} {rX16_one : Option Nat → Mem → Option (Unit × Mem)} {rX16_rounds : Option Nat → Mem → Option (Unit × Mem)} (hrX16_all : ∀ (l : Launch) {a0 : Option Nat} {s : Mem} {z : Unit × Mem}, rX16_all a0 s = some z → Mt E l (mX16_all d) [vr a0] s (none, z.2)) (hrX16_one : ∀ (l : Launch) {a0 : Option Nat} {s : Mem} {z : Unit × Mem}, rX16_one a0 s = some z → Mt E l (mX16_one d) [vr a0] s (none, z.2)) (hrX16_rounds : ∀ (l : Launch) {a0 : Option Nat} {s : Mem} {z : Unit × Mem}, rX16_rounds a0 s = some z → Mt E l (mX16_rounds d) [vr a0] s (none, z.2)) {k5 : Option Nat → Int32 → Mem → Option (Unit × Mem)} (hk5 : ∀ (v0 : Option Nat) (v1 : Int32) (s : Mem) (z : Unit × Mem), k5 v0 v1 s = some z → V E (mX16_all (d + 1)) G 5 [some (vr v0), some (vi v1)] [] s (none, z.2)) {v0 : Option Nat} {v1 : Int32} {σ : Mem} {z : Unit × Mem} (h : sX16_all_5b rX16_all rX16_one rX16_rounds k5 v0 v1 σ = some z) : V E (mX16_all (d + 1)) G 5 [some (vr v0), some (vi v1)] [] σ (none, z.2) := by
  unfold sX16_all_5b at h
  refine v_il1 dX16_all_5 ?_
  refine v_if_eq (tgt := 49) dX16_all_6 (by decide) (fun c => ?_) (fun c => ?_)
  · rw [if_pos c] at h
    exact v_retV h dX16_all_49 rfl
  · rw [if_neg c] at h
    refine v_al0 dX16_all_9 ?_
    obtain ⟨b10, er, ka, h⟩ := cV_some h
    obtain ⟨_, s1, h1, h⟩ := cl_some h
    refine v_callV0 cok13 (As := []) er ka (hrX16_one _ h1) (lw_V q1096 q1098 qs29 q181 q1099) rfl dsX16_one ⟨by simp only [mX16_all, mX16_one] <;> omega, by simp only [mX16_all, mX16_one] <;> omega⟩ (Nat.le_of_ble_eq_true rfl) dX16_all_10 rfl ?_
    refine v_al0 dX16_all_13 ?_
    obtain ⟨b14, er, ka, h⟩ := cV_some h
    obtain ⟨x2, s3, h1, h⟩ := cl_some h
    refine v_callV1 cok13 (As := []) er ka (tX16_isGood h1) (lw_V q1092 q1094 qs28 q181 q1095) rfl dsX16_isGood ⟨by simp only [mX16_all, mX16_isGood] <;> omega, by simp only [mX16_all, mX16_isGood] <;> omega⟩ (Nat.le_of_ble_eq_true rfl) dX16_all_14 rfl ?_
    refine v_if_eq (tgt := 44) dX16_all_17 (by decide) (fun c => ?_) (fun c => ?_)
    · rw [if_pos c] at h
      exact v_weak (wss (wsn wse)) (lX16_all_44 hrX16_all hrX16_one hrX16_rounds hk5 h)
    · rw [if_neg c] at h
      refine v_al0 dX16_all_20 ?_
      refine v_gI cok13 h dX16_all_21 (by decide) q1055 rfl (fun x4 h => ?_)
      refine v_al0 dX16_all_24 ?_
      refine v_gI cok13 h dX16_all_25 (by decide) q1050 rfl (fun x5 h => ?_)
      refine v_icmp_ge (tgt := 44) dX16_all_28 (by decide) (fun c => ?_) (fun c => ?_)
      · rw [if_pos c] at h
        exact v_weak (wss (wsn wse)) (lX16_all_44 hrX16_all hrX16_one hrX16_rounds hk5 h)
      · rw [if_neg c] at h
        refine v_al0 dX16_all_31 ?_
        obtain ⟨b32, er, ka, h⟩ := cV_some h
        obtain ⟨x6, s7, h1, h⟩ := cl_some h
        refine v_callV1 cok13 (As := []) er ka (tX16_here h1) (lw_V q1100 q1102 qs30 q181 q1103) rfl dsX16_here ⟨by simp only [mX16_all, mX16_here] <;> omega, by simp only [mX16_all, mX16_here] <;> omega⟩ (Nat.le_of_ble_eq_true rfl) dX16_all_32 rfl ?_
        refine v_bipush dX16_all_35 rfl ?_
        refine v_icmp_eq (tgt := 44) dX16_all_37 (by decide) (fun c => ?_) (fun c => ?_)
        · rw [if_pos c] at h
          exact v_weak (wss (wsn wse)) (lX16_all_44 hrX16_all hrX16_one hrX16_rounds hk5 h)
        · rw [if_neg c] at h
          refine v_iconst dX16_all_40 ?_
          refine v_goto (tgt := 45) dX16_all_41 (by decide) ?_
          exact v_weak (wss (wsn wse)) (lX16_all_45 hrX16_all hrX16_one hrX16_rounds hk5 h)
theorem lX16_all_5 {E : EE} {G : GG} {d : Nat} {rX16_all : Option Nat → Mem → Option (Unit × Mem)} {rX16_one : Option Nat → Mem → Option (Unit × Mem)} {rX16_rounds : Option Nat → Mem → Option (Unit × Mem)} (hrX16_all : ∀ (l : Launch) {a0 : Option Nat} {s : Mem} {z : Unit × Mem}, rX16_all a0 s = some z → Mt E l (mX16_all d) [vr a0] s (none, z.2)) (hrX16_one : ∀ (l : Launch) {a0 : Option Nat} {s : Mem} {z : Unit × Mem}, rX16_one a0 s = some z → Mt E l (mX16_one d) [vr a0] s (none, z.2)) (hrX16_rounds : ∀ (l : Launch) {a0 : Option Nat} {s : Mem} {z : Unit × Mem}, rX16_rounds a0 s = some z → Mt E l (mX16_rounds d) [vr a0] s (none, z.2)) : ∀ (f : Nat) {v0 : Option Nat} {v1 : Int32} {σ : Mem} {z : Unit × Mem}, sX16_all_5 rX16_all rX16_one rX16_rounds f v0 v1 σ = some z → V E (mX16_all (d + 1)) G 5 [some (vr v0), some (vi v1)] [] σ (none, z.2)
  | 0, _, _, _, _, h => by cases h
  | f + 1, _, _, _, _, h => lX16_all_5b hrX16_all hrX16_one hrX16_rounds (fun _ _ _ _ h => lX16_all_5 hrX16_all hrX16_one hrX16_rounds f h) h
theorem lX16_all_0 {E : EE} {G : GG} {d : Nat} {rX16_all : Option Nat → Mem → Option (Unit × Mem)} {rX16_one : Option Nat → Mem → Option (Unit × Mem)} {rX16_rounds : Option Nat → Mem → Option (Unit × Mem)} (hrX16_all : ∀ (l : Launch) {a0 : Option Nat} {s : Mem} {z : Unit × Mem}, rX16_all a0 s = some z → Mt E l (mX16_all d) [vr a0] s (none, z.2)) (hrX16_one : ∀ (l : Launch) {a0 : Option Nat} {s : Mem} {z : Unit × Mem}, rX16_one a0 s = some z → Mt E l (mX16_one d) [vr a0] s (none, z.2)) (hrX16_rounds : ∀ (l : Launch) {a0 : Option Nat} {s : Mem} {z : Unit × Mem}, rX16_rounds a0 s = some z → Mt E l (mX16_rounds d) [vr a0] s (none, z.2)) {v0 : Option Nat} {σ : Mem} {z : Unit × Mem} (h : sX16_all_0 rX16_all rX16_one rX16_rounds v0 σ = some z) : V E (mX16_all (d + 1)) G 0 [some (vr v0), none] [] σ (none, z.2) := by
  unfold sX16_all_0 at h
  refine v_al0 dX16_all_0 ?_
  obtain ⟨b1, er, ka, h⟩ := cV_some h
  obtain ⟨x1, s2, h1, h⟩ := cl_some h
  refine v_callV1 cok13 (As := []) er ka (tX16_isGood h1) (lw_V q1092 q1094 qs28 q181 q1095) rfl dsX16_isGood ⟨by simp only [mX16_all, mX16_isGood] <;> omega, by simp only [mX16_all, mX16_isGood] <;> omega⟩ (Nat.le_of_ble_eq_true rfl) dX16_all_1 rfl ?_
  refine v_istore_n (L' := [some (vr v0), some (vi x1)]) dX16_all_4 (Nat.le_of_ble_eq_true rfl) (Nat.le_of_ble_eq_true rfl) rfl ?_
  exact v_weak (wss (wss wse)) (lX16_all_5 hrX16_all hrX16_one hrX16_rounds FU h)
theorem lX16_one_115b {E : EE} {G : GG} {d : Nat} {rX16_all : Option Nat → Mem → Option (Unit × Mem)} {rX16_one : Option Nat → Mem → Option (Unit × Mem)} {rX16_rounds : Option Nat → Mem → Option (Unit × Mem)} (hrX16_all : ∀ (l : Launch) {a0 : Option Nat} {s : Mem} {z : Unit × Mem}, rX16_all a0 s = some z → Mt E l (mX16_all d) [vr a0] s (none, z.2)) (hrX16_one : ∀ (l : Launch) {a0 : Option Nat} {s : Mem} {z : Unit × Mem}, rX16_one a0 s = some z → Mt E l (mX16_one d) [vr a0] s (none, z.2)) (hrX16_rounds : ∀ (l : Launch) {a0 : Option Nat} {s : Mem} {z : Unit × Mem}, rX16_rounds a0 s = some z → Mt E l (mX16_rounds d) [vr a0] s (none, z.2)) {k115 : Option Nat → Int32 → Int32 → Int32 → Int32 → Mem → Option (Unit × Mem)} (hk115 : ∀ (v0 : Option Nat) (v2 : Int32) (v3 : Int32) (v4 : Int32) (v5 : Int32) (s : Mem) (z : Unit × Mem), k115 v0 v2 v3 v4 v5 s = some z → V E (mX16_one (d + 1)) G 115 [some (vr v0), none, some (vi v2), some (vi v3), some (vi v4), some (vi v5)] [] s (none, z.2)) {v0 : Option Nat} {v2 : Int32} {v3 : Int32} {v4 : Int32} {v5 : Int32} {σ : Mem} {z : Unit × Mem} (h : sX16_one_115b rX16_all rX16_one rX16_rounds k115 v0 v2 v3 v4 v5 σ = some z) : V E (mX16_one (d + 1)) G 115 [some (vr v0), none, some (vi v2), some (vi v3), some (vi v4), some (vi v5)] [] σ (none, z.2) := by
  unfold sX16_one_115b at h
  refine v_al0 dX16_one_115 ?_
  obtain ⟨b116, er, ka, h⟩ := cV_some h
  obtain ⟨x1, s2, h1, h⟩ := cl_some h
  refine v_callV1 cok13 (As := []) er ka (tX16_isGood h1) (lw_V q1092 q1094 qs28 q181 q1095) rfl dsX16_isGood ⟨by simp only [mX16_one, mX16_isGood] <;> omega, by simp only [mX16_one, mX16_isGood] <;> omega⟩ (Nat.le_of_ble_eq_true rfl) dX16_one_116 rfl ?_
  refine v_if_eq (tgt := 231) dX16_one_119 (by decide) (fun c => ?_) (fun c => ?_)
  · rw [if_pos c] at h
    exact v_retV h dX16_one_231 rfl
  · rw [if_neg c] at h
    refine v_iload dX16_one_122 rfl ?_
    refine v_iload dX16_one_124 rfl ?_
    refine v_il2 dX16_one_126 ?_
    refine v_imul dX16_one_127 ?_
    refine v_icmp_ge (tgt := 231) dX16_one_128 (by decide) (fun c => ?_) (fun c => ?_)
    · rw [if_pos c] at h
      exact v_retV h dX16_one_231 rfl
    · rw [if_neg c] at h
      refine v_al0 dX16_one_131 ?_
      refine v_gR cok13 h dX16_one_132 (by decide) q1051 rfl (fun x3 h => ?_)
      refine v_al0 dX16_one_135 ?_
      refine v_gI cok13 h dX16_one_136 (by decide) q1058 rfl (fun x4 h => ?_)
      refine v_al0 dX16_one_139 ?_
      refine v_gR cok13 h dX16_one_140 (by decide) q1051 rfl (fun x5 h => ?_)
      refine v_il3 dX16_one_143 ?_
      refine v_iload dX16_one_144 rfl ?_
      refine v_iload dX16_one_146 rfl ?_
      obtain ⟨hne, h⟩ := rm_some h
      refine v_irem dX16_one_148 hne ?_
      generalize v5 - v5 / v4 * v4 = x6 at h ⊢
      refine v_iadd dX16_one_149 ?_
      refine v_aI h dX16_one_150 (fun x7 h => ?_)
      refine v_sI h dX16_one_151 (fun s8 h => ?_)
      refine v_al0 dX16_one_152 ?_
      refine v_gR cok13 h dX16_one_153 (by decide) q1052 rfl (fun x9 h => ?_)
      refine v_al0 dX16_one_156 ?_
      refine v_gI cok13 h dX16_one_157 (by decide) q1058 rfl (fun x10 h => ?_)
      refine v_al0 dX16_one_160 ?_
      refine v_gR cok13 h dX16_one_161 (by decide) q1052 rfl (fun x11 h => ?_)
      refine v_il3 dX16_one_164 ?_
      refine v_iload dX16_one_165 rfl ?_
      refine v_iload dX16_one_167 rfl ?_
      obtain ⟨hne, h⟩ := rm_some h
      refine v_irem dX16_one_169 hne ?_
      generalize v5 - v5 / v4 * v4 = x12 at h ⊢
      refine v_iadd dX16_one_170 ?_
      refine v_aI h dX16_one_171 (fun x13 h => ?_)
      refine v_sI h dX16_one_172 (fun s14 h => ?_)
      refine v_al0 dX16_one_173 ?_
      refine v_gR cok13 h dX16_one_174 (by decide) q1053 rfl (fun x15 h => ?_)
      refine v_al0 dX16_one_177 ?_
      refine v_gI cok13 h dX16_one_178 (by decide) q1058 rfl (fun x16 h => ?_)
      refine v_al0 dX16_one_181 ?_
      refine v_gR cok13 h dX16_one_182 (by decide) q1053 rfl (fun x17 h => ?_)
      refine v_il3 dX16_one_185 ?_
      refine v_iload dX16_one_186 rfl ?_
      refine v_iload dX16_one_188 rfl ?_
      obtain ⟨hne, h⟩ := rm_some h
      refine v_irem dX16_one_190 hne ?_
      generalize v5 - v5 / v4 * v4 = x18 at h ⊢
      refine v_iadd dX16_one_191 ?_
      refine v_aI h dX16_one_192 (fun x19 h => ?_)
      refine v_sI h dX16_one_193 (fun s20 h => ?_)
      refine v_al0 dX16_one_194 ?_
      refine v_gR cok13 h dX16_one_195 (by decide) q1054 rfl (fun x21 h => ?_)
      refine v_al0 dX16_one_198 ?_
      refine v_gI cok13 h dX16_one_199 (by decide) q1058 rfl (fun x22 h => ?_)
      refine v_al0 dX16_one_202 ?_
      refine v_gR cok13 h dX16_one_203 (by decide) q1054 rfl (fun x23 h => ?_)
      refine v_il3 dX16_one_206 ?_
      refine v_iload dX16_one_207 rfl ?_
      refine v_iload dX16_one_209 rfl ?_
      obtain ⟨hne, h⟩ := rm_some h
      refine v_irem dX16_one_211 hne ?_
      generalize v5 - v5 / v4 * v4 = x24 at h ⊢
      refine v_iadd dX16_one_212 ?_
      refine v_aI h dX16_one_213 (fun x25 h => ?_)
      refine v_sI h dX16_one_214 (fun s26 h => ?_)
      refine v_al0 dX16_one_215 ?_
      refine v_dup dX16_one_216 ?_
      refine v_gI cok13 h dX16_one_217 (by decide) q1058 rfl (fun x27 h => ?_)
      refine v_iconst dX16_one_220 ?_
      refine v_iadd dX16_one_221 ?_
      refine v_pI cok13 h dX16_one_222 (by decide) q1058 rfl rfl (fun s28 h => ?_)
      refine v_iinc (L' := [some (vr v0), none, some (vi v2), some (vi v3), some (vi v4), some (vi (v5 + iI 1))]) dX16_one_225 (Nat.le_of_ble_eq_true rfl) rfl rfl ?_
      refine v_goto (tgt := 115) dX16_one_228 (by decide) ?_
      exact v_weak (wss (wsn (wss (wss (wss (wss wse)))))) (hk115 _ _ _ _ _ _ _ h)
theorem lX16_one_115 {E : EE} {G : GG} {d : Nat} {rX16_all : Option Nat → Mem → Option (Unit × Mem)} {rX16_one : Option Nat → Mem → Option (Unit × Mem)} {rX16_rounds : Option Nat → Mem → Option (Unit × Mem)} (hrX16_all : ∀ (l : Launch) {a0 : Option Nat} {s : Mem} {z : Unit × Mem}, rX16_all a0 s = some z → Mt E l (mX16_all d) [vr a0] s (none, z.2)) (hrX16_one : ∀ (l : Launch) {a0 : Option Nat} {s : Mem} {z : Unit × Mem}, rX16_one a0 s = some z → Mt E l (mX16_one d) [vr a0] s (none, z.2)) (hrX16_rounds : ∀ (l : Launch) {a0 : Option Nat} {s : Mem} {z : Unit × Mem}, rX16_rounds a0 s = some z → Mt E l (mX16_rounds d) [vr a0] s (none, z.2)) : ∀ (f : Nat) {v0 : Option Nat} {v2 : Int32} {v3 : Int32} {v4 : Int32} {v5 : Int32} {σ : Mem} {z : Unit × Mem}, sX16_one_115 rX16_all rX16_one rX16_rounds f v0 v2 v3 v4 v5 σ = some z → V E (mX16_one (d + 1)) G 115 [some (vr v0), none, some (vi v2), some (vi v3), some (vi v4), some (vi v5)] [] σ (none, z.2)
  | 0, _, _, _, _, _, _, _, h => by cases h
  | f + 1, _, _, _, _, _, _, _, h => lX16_one_115b hrX16_all hrX16_one hrX16_rounds (fun _ _ _ _ _ _ _ h => lX16_one_115 hrX16_all hrX16_one hrX16_rounds f h) h
theorem lX16_one_111 {E : EE} {G : GG} {d : Nat} {rX16_all : Option Nat → Mem → Option (Unit × Mem)} {rX16_one : Option Nat → Mem → Option (Unit × Mem)} {rX16_rounds : Option Nat → Mem → Option (Unit × Mem)} (hrX16_all : ∀ (l : Launch) {a0 : Option Nat} {s : Mem} {z : Unit × Mem}, rX16_all a0 s = some z → Mt E l (mX16_all d) [vr a0] s (none, z.2)) (hrX16_one : ∀ (l : Launch) {a0 : Option Nat} {s : Mem} {z : Unit × Mem}, rX16_one a0 s = some z → Mt E l (mX16_one d) [vr a0] s (none, z.2)) (hrX16_rounds : ∀ (l : Launch) {a0 : Option Nat} {s : Mem} {z : Unit × Mem}, rX16_rounds a0 s = some z → Mt E l (mX16_rounds d) [vr a0] s (none, z.2)) {v0 : Option Nat} {v2 : Int32} {v3 : Int32} {v4 : Int32} {σ : Mem} {z : Unit × Mem} (h : sX16_one_111 rX16_all rX16_one rX16_rounds v0 v2 v3 v4 σ = some z) : V E (mX16_one (d + 1)) G 111 [some (vr v0), none, some (vi v2), some (vi v3), some (vi v4), none] [] σ (none, z.2) := by
  unfold sX16_one_111 at h
  refine v_iload dX16_one_111 rfl ?_
  refine v_istore (L' := [some (vr v0), none, some (vi v2), some (vi v3), some (vi v4), some (vi v4)]) dX16_one_113 (Nat.le_of_ble_eq_true rfl) (Nat.le_of_ble_eq_true rfl) rfl ?_
  exact v_weak (wss (wsn (wss (wss (wss (wss wse)))))) (lX16_one_115 hrX16_all hrX16_one hrX16_rounds FU h)
theorem lX16_one_77 {E : EE} {G : GG} {d : Nat} {rX16_all : Option Nat → Mem → Option (Unit × Mem)} {rX16_one : Option Nat → Mem → Option (Unit × Mem)} {rX16_rounds : Option Nat → Mem → Option (Unit × Mem)} (hrX16_all : ∀ (l : Launch) {a0 : Option Nat} {s : Mem} {z : Unit × Mem}, rX16_all a0 s = some z → Mt E l (mX16_all d) [vr a0] s (none, z.2)) (hrX16_one : ∀ (l : Launch) {a0 : Option Nat} {s : Mem} {z : Unit × Mem}, rX16_one a0 s = some z → Mt E l (mX16_one d) [vr a0] s (none, z.2)) (hrX16_rounds : ∀ (l : Launch) {a0 : Option Nat} {s : Mem} {z : Unit × Mem}, rX16_rounds a0 s = some z → Mt E l (mX16_rounds d) [vr a0] s (none, z.2)) {v0 : Option Nat} {v1 : Int32} {v2 : Int32} {v3 : Int32} {σ : Mem} {z : Unit × Mem} (h : sX16_one_77 rX16_all rX16_one rX16_rounds v0 v1 v2 v3 σ = some z) : V E (mX16_one (d + 1)) G 77 [some (vr v0), some (vi v1), some (vi v2), some (vi v3), none, none] [] σ (none, z.2) := by
  unfold sX16_one_77 at h
  refine v_al0 dX16_one_77 ?_
  refine v_gI cok13 h dX16_one_78 (by decide) q1058 rfl (fun x1 h => ?_)
  refine v_il3 dX16_one_81 ?_
  refine v_isub dX16_one_82 ?_
  refine v_istore (L' := [some (vr v0), some (vi v1), some (vi v2), some (vi v3), some (vi (x1 - v3)), none]) dX16_one_83 (Nat.le_of_ble_eq_true rfl) (Nat.le_of_ble_eq_true rfl) rfl ?_
  refine v_al0 dX16_one_85 ?_
  obtain ⟨b86, er, ka, h⟩ := cV_some h
  obtain ⟨x2, s3, h1, h⟩ := cl_some h
  refine v_callV1 cok13 (As := []) er ka (tX16_isGood h1) (lw_V q1092 q1094 qs28 q181 q1095) rfl dsX16_isGood ⟨by simp only [mX16_one, mX16_isGood] <;> omega, by simp only [mX16_one, mX16_isGood] <;> omega⟩ (Nat.le_of_ble_eq_true rfl) dX16_one_86 rfl ?_
  refine v_if_eq (tgt := 111) dX16_one_89 (by decide) (fun c => ?_) (fun c => ?_)
  · rw [if_pos c] at h
    exact v_weak (wss (wsn (wss (wss (wss (wsn wse)))))) (lX16_one_111 hrX16_all hrX16_one hrX16_rounds h)
  · rw [if_neg c] at h
    refine v_il3 dX16_one_92 ?_
    refine v_iload dX16_one_93 rfl ?_
    refine v_il2 dX16_one_95 ?_
    refine v_imul dX16_one_96 ?_
    refine v_iadd dX16_one_97 ?_
    refine v_sipush dX16_one_98 rfl ?_
    refine v_icmp_le (tgt := 111) dX16_one_101 (by decide) (fun c => ?_) (fun c => ?_)
    · rw [if_pos c] at h
      exact v_weak (wss (wsn (wss (wss (wss (wsn wse)))))) (lX16_one_111 hrX16_all hrX16_one hrX16_rounds h)
    · rw [if_neg c] at h
      refine v_al0 dX16_one_104 ?_
      refine v_bipush dX16_one_105 rfl ?_
      refine v_il1 dX16_one_107 ?_
      obtain ⟨b108, er, ka, h⟩ := cV_some h
      obtain ⟨_, s4, h1, h⟩ := cl_some h
      refine v_callV0 cok13 (As := [vi (iI 6), vi v1]) er ka (tX16_bad h1) (lw_V q1108 q1110 qs32 q181 q1111) rfl dsX16_bad ⟨by simp only [mX16_one, mX16_bad] <;> omega, by simp only [mX16_one, mX16_bad] <;> omega⟩ (Nat.le_of_ble_eq_true rfl) dX16_one_108 rfl ?_
      exact v_weak (wss (wsn (wss (wss (wss (wsn wse)))))) (lX16_one_111 hrX16_all hrX16_one hrX16_rounds h)
theorem lX16_one_50 {E : EE} {G : GG} {d : Nat} {rX16_all : Option Nat → Mem → Option (Unit × Mem)} {rX16_one : Option Nat → Mem → Option (Unit × Mem)} {rX16_rounds : Option Nat → Mem → Option (Unit × Mem)} (hrX16_all : ∀ (l : Launch) {a0 : Option Nat} {s : Mem} {z : Unit × Mem}, rX16_all a0 s = some z → Mt E l (mX16_all d) [vr a0] s (none, z.2)) (hrX16_one : ∀ (l : Launch) {a0 : Option Nat} {s : Mem} {z : Unit × Mem}, rX16_one a0 s = some z → Mt E l (mX16_one d) [vr a0] s (none, z.2)) (hrX16_rounds : ∀ (l : Launch) {a0 : Option Nat} {s : Mem} {z : Unit × Mem}, rX16_rounds a0 s = some z → Mt E l (mX16_rounds d) [vr a0] s (none, z.2)) {v0 : Option Nat} {v1 : Int32} {v2 : Int32} {σ : Mem} {z : Unit × Mem} (h : sX16_one_50 rX16_all rX16_one rX16_rounds v0 v1 v2 σ = some z) : V E (mX16_one (d + 1)) G 50 [some (vr v0), some (vi v1), some (vi v2), none, none, none] [] σ (none, z.2) := by
  unfold sX16_one_50 at h
  refine v_al0 dX16_one_50 ?_
  refine v_gI cok13 h dX16_one_51 (by decide) q1058 rfl (fun x1 h => ?_)
  refine v_istore_n (L' := [some (vr v0), some (vi v1), some (vi v2), some (vi x1), none, none]) dX16_one_54 (Nat.le_of_ble_eq_true rfl) (Nat.le_of_ble_eq_true rfl) rfl ?_
  refine v_al0 dX16_one_55 ?_
  obtain ⟨b56, er, ka, h⟩ := cV_some h
  obtain ⟨x2, s3, h1, h⟩ := cl_some h
  refine v_callV1 cok13 (As := []) er ka (tX16_here h1) (lw_V q1100 q1102 qs30 q181 q1103) rfl dsX16_here ⟨by simp only [mX16_one, mX16_here] <;> omega, by simp only [mX16_one, mX16_here] <;> omega⟩ (Nat.le_of_ble_eq_true rfl) dX16_one_56 rfl ?_
  refine v_bipush dX16_one_59 rfl ?_
  refine v_icmp_ne (tgt := 71) dX16_one_61 (by decide) (fun c => ?_) (fun c => ?_)
  · rw [if_neg c] at h
    refine v_al0 dX16_one_71 ?_
    refine v_il1 dX16_one_72 ?_
    refine v_il2 dX16_one_73 ?_
    obtain ⟨b74, er, ka, h⟩ := cV_some h
    obtain ⟨_, s4, h1, h⟩ := cl_some h
    refine v_callV0 cok13 (As := [vi v1, vi v2]) er ka (tX16_act h1) (lw_V q1112 q1114 qs33 q181 q1115) rfl dsX16_act ⟨by simp only [mX16_one, mX16_act] <;> omega, by simp only [mX16_one, mX16_act] <;> omega⟩ (Nat.le_of_ble_eq_true rfl) dX16_one_74 rfl ?_
    exact v_weak (wss (wss (wss (wss (wsn (wsn wse)))))) (lX16_one_77 hrX16_all hrX16_one hrX16_rounds h)
  · rw [if_pos c] at h
    refine v_al0 dX16_one_64 ?_
    obtain ⟨b65, er, ka, h⟩ := cV_some h
    obtain ⟨_, s5, h1, h⟩ := cl_some h
    refine v_callV0 cok13 (As := []) er ka (hrX16_rounds _ h1) (lw_V q1104 q1106 qs31 q181 q1107) rfl dsX16_rounds ⟨by simp only [mX16_one, mX16_rounds] <;> omega, by simp only [mX16_one, mX16_rounds] <;> omega⟩ (Nat.le_of_ble_eq_true rfl) dX16_one_65 rfl ?_
    refine v_goto (tgt := 77) dX16_one_68 (by decide) ?_
    exact v_weak (wss (wss (wss (wss (wsn (wsn wse)))))) (lX16_one_77 hrX16_all hrX16_one hrX16_rounds h)
theorem lX16_one_34 {E : EE} {G : GG} {d : Nat} {rX16_all : Option Nat → Mem → Option (Unit × Mem)} {rX16_one : Option Nat → Mem → Option (Unit × Mem)} {rX16_rounds : Option Nat → Mem → Option (Unit × Mem)} (hrX16_all : ∀ (l : Launch) {a0 : Option Nat} {s : Mem} {z : Unit × Mem}, rX16_all a0 s = some z → Mt E l (mX16_all d) [vr a0] s (none, z.2)) (hrX16_one : ∀ (l : Launch) {a0 : Option Nat} {s : Mem} {z : Unit × Mem}, rX16_one a0 s = some z → Mt E l (mX16_one d) [vr a0] s (none, z.2)) (hrX16_rounds : ∀ (l : Launch) {a0 : Option Nat} {s : Mem} {z : Unit × Mem}, rX16_rounds a0 s = some z → Mt E l (mX16_rounds d) [vr a0] s (none, z.2)) {v0 : Option Nat} {v1 : Int32} {t0 : Int32} {σ : Mem} {z : Unit × Mem} (h : sX16_one_34 rX16_all rX16_one rX16_rounds v0 v1 t0 σ = some z) : V E (mX16_one (d + 1)) G 34 [some (vr v0), some (vi v1), none, none, none, none] [vi t0] σ (none, z.2) := by
  unfold sX16_one_34 at h
  refine v_istore_n (L' := [some (vr v0), some (vi v1), some (vi t0), none, none, none]) dX16_one_34 (Nat.le_of_ble_eq_true rfl) (Nat.le_of_ble_eq_true rfl) rfl ?_
  refine v_il2 dX16_one_35 ?_
  refine v_iconst dX16_one_36 ?_
  refine v_icmp_le (tgt := 50) dX16_one_37 (by decide) (fun c => ?_) (fun c => ?_)
  · rw [if_pos c] at h
    exact v_weak (wss (wss (wss (wsn (wsn (wsn wse)))))) (lX16_one_50 hrX16_all hrX16_one hrX16_rounds h)
  · rw [if_neg c] at h
    refine v_al0 dX16_one_40 ?_
    refine v_dup dX16_one_41 ?_
    refine v_gI cok13 h dX16_one_42 (by decide) q1055 rfl (fun x1 h => ?_)
    refine v_iconst dX16_one_45 ?_
    refine v_iadd dX16_one_46 ?_
    refine v_pI cok13 h dX16_one_47 (by decide) q1055 rfl rfl (fun s2 h => ?_)
    exact v_weak (wss (wss (wss (wsn (wsn (wsn wse)))))) (lX16_one_50 hrX16_all hrX16_one hrX16_rounds h)
theorem lX16_one_33 {E : EE} {G : GG} {d : Nat} {rX16_all : Option Nat → Mem → Option (Unit × Mem)} {rX16_one : Option Nat → Mem → Option (Unit × Mem)} {rX16_rounds : Option Nat → Mem → Option (Unit × Mem)} (hrX16_all : ∀ (l : Launch) {a0 : Option Nat} {s : Mem} {z : Unit × Mem}, rX16_all a0 s = some z → Mt E l (mX16_all d) [vr a0] s (none, z.2)) (hrX16_one : ∀ (l : Launch) {a0 : Option Nat} {s : Mem} {z : Unit × Mem}, rX16_one a0 s = some z → Mt E l (mX16_one d) [vr a0] s (none, z.2)) (hrX16_rounds : ∀ (l : Launch) {a0 : Option Nat} {s : Mem} {z : Unit × Mem}, rX16_rounds a0 s = some z → Mt E l (mX16_rounds d) [vr a0] s (none, z.2)) {v0 : Option Nat} {v1 : Int32} {σ : Mem} {z : Unit × Mem} (h : sX16_one_33 rX16_all rX16_one rX16_rounds v0 v1 σ = some z) : V E (mX16_one (d + 1)) G 33 [some (vr v0), some (vi v1), none, none, none, none] [] σ (none, z.2) := by
  unfold sX16_one_33 at h
  refine v_iconst dX16_one_33 ?_
  exact v_weak (wss (wss (wsn (wsn (wsn (wsn wse)))))) (lX16_one_34 hrX16_all hrX16_one hrX16_rounds h)
theorem lX16_one_0 {E : EE} {G : GG} {d : Nat} {rX16_all : Option Nat → Mem → Option (Unit × Mem)} {rX16_one : Option Nat → Mem → Option (Unit × Mem)} {rX16_rounds : Option Nat → Mem → Option (Unit × Mem)} (hrX16_all : ∀ (l : Launch) {a0 : Option Nat} {s : Mem} {z : Unit × Mem}, rX16_all a0 s = some z → Mt E l (mX16_all d) [vr a0] s (none, z.2)) (hrX16_one : ∀ (l : Launch) {a0 : Option Nat} {s : Mem} {z : Unit × Mem}, rX16_one a0 s = some z → Mt E l (mX16_one d) [vr a0] s (none, z.2)) (hrX16_rounds : ∀ (l : Launch) {a0 : Option Nat} {s : Mem} {z : Unit × Mem}, rX16_rounds a0 s = some z → Mt E l (mX16_rounds d) [vr a0] s (none, z.2)) {v0 : Option Nat} {σ : Mem} {z : Unit × Mem} (h : sX16_one_0 rX16_all rX16_one rX16_rounds v0 σ = some z) : V E (mX16_one (d + 1)) G 0 [some (vr v0), none, none, none, none, none] [] σ (none, z.2) := by
  unfold sX16_one_0 at h
  refine v_al0 dX16_one_0 ?_
  refine v_gI cok13 h dX16_one_1 (by decide) q1055 rfl (fun x1 h => ?_)
  refine v_istore_n (L' := [some (vr v0), some (vi x1), none, none, none, none]) dX16_one_4 (Nat.le_of_ble_eq_true rfl) (Nat.le_of_ble_eq_true rfl) rfl ?_
  refine v_al0 dX16_one_5 ?_
  obtain ⟨b6, er, ka, h⟩ := cV_some h
  obtain ⟨x2, s3, h1, h⟩ := cl_some h
  refine v_callV1 cok13 (As := []) er ka (tX16_here h1) (lw_V q1100 q1102 qs30 q181 q1103) rfl dsX16_here ⟨by simp only [mX16_one, mX16_here] <;> omega, by simp only [mX16_one, mX16_here] <;> omega⟩ (Nat.le_of_ble_eq_true rfl) dX16_one_6 rfl ?_
  refine v_bipush dX16_one_9 rfl ?_
  refine v_icmp_lt (tgt := 33) dX16_one_11 (by decide) (fun c => ?_) (fun c => ?_)
  · rw [if_pos c] at h
    exact v_weak (wss (wss (wsn (wsn (wsn (wsn wse)))))) (lX16_one_33 hrX16_all hrX16_one hrX16_rounds h)
  · rw [if_neg c] at h
    refine v_al0 dX16_one_14 ?_
    obtain ⟨b15, er, ka, h⟩ := cV_some h
    obtain ⟨x4, s5, h1, h⟩ := cl_some h
    refine v_callV1 cok13 (As := []) er ka (tX16_here h1) (lw_V q1100 q1102 qs30 q181 q1103) rfl dsX16_here ⟨by simp only [mX16_one, mX16_here] <;> omega, by simp only [mX16_one, mX16_here] <;> omega⟩ (Nat.le_of_ble_eq_true rfl) dX16_one_15 rfl ?_
    refine v_bipush dX16_one_18 rfl ?_
    refine v_icmp_gt (tgt := 33) dX16_one_20 (by decide) (fun c => ?_) (fun c => ?_)
    · rw [if_pos c] at h
      exact v_weak (wss (wss (wsn (wsn (wsn (wsn wse)))))) (lX16_one_33 hrX16_all hrX16_one hrX16_rounds h)
    · rw [if_neg c] at h
      refine v_al0 dX16_one_23 ?_
      obtain ⟨b24, er, ka, h⟩ := cV_some h
      obtain ⟨x6, s7, h1, h⟩ := cl_some h
      refine v_callV1 cok13 (As := []) er ka (tX16_here h1) (lw_V q1100 q1102 qs30 q181 q1103) rfl dsX16_here ⟨by simp only [mX16_one, mX16_here] <;> omega, by simp only [mX16_one, mX16_here] <;> omega⟩ (Nat.le_of_ble_eq_true rfl) dX16_one_24 rfl ?_
      refine v_bipush dX16_one_27 rfl ?_
      refine v_isub dX16_one_29 ?_
      refine v_goto (tgt := 34) dX16_one_30 (by decide) ?_
      exact v_weak (wss (wss (wsn (wsn (wsn (wsn wse)))))) (lX16_one_34 hrX16_all hrX16_one hrX16_rounds h)
theorem lX16_rounds_66 {E : EE} {G : GG} {d : Nat} {rX16_all : Option Nat → Mem → Option (Unit × Mem)} {rX16_one : Option Nat → Mem → Option (Unit × Mem)} {rX16_rounds : Option Nat → Mem → Option (Unit × Mem)} (hrX16_all : ∀ (l : Launch) {a0 : Option Nat} {s : Mem} {z : Unit × Mem}, rX16_all a0 s = some z → Mt E l (mX16_all d) [vr a0] s (none, z.2)) (hrX16_one : ∀ (l : Launch) {a0 : Option Nat} {s : Mem} {z : Unit × Mem}, rX16_one a0 s = some z → Mt E l (mX16_one d) [vr a0] s (none, z.2)) (hrX16_rounds : ∀ (l : Launch) {a0 : Option Nat} {s : Mem} {z : Unit × Mem}, rX16_rounds a0 s = some z → Mt E l (mX16_rounds d) [vr a0] s (none, z.2)) {v0 : Option Nat} {σ : Mem} {z : Unit × Mem} (h : sX16_rounds_66 rX16_all rX16_one rX16_rounds v0 σ = some z) : V E (mX16_rounds (d + 1)) G 66 [some (vr v0)] [] σ (none, z.2) := by
  unfold sX16_rounds_66 at h
  refine v_al0 dX16_rounds_66 ?_
  refine v_dup dX16_rounds_67 ?_
  refine v_gI cok13 h dX16_rounds_68 (by decide) q1055 rfl (fun x1 h => ?_)
  refine v_iconst dX16_rounds_71 ?_
  refine v_iadd dX16_rounds_72 ?_
  refine v_pI cok13 h dX16_rounds_73 (by decide) q1055 rfl rfl (fun s2 h => ?_)
  refine v_al0 dX16_rounds_76 ?_
  refine v_dup dX16_rounds_77 ?_
  refine v_gI cok13 h dX16_rounds_78 (by decide) q1059 rfl (fun x3 h => ?_)
  refine v_iconst dX16_rounds_81 ?_
  refine v_isub dX16_rounds_82 ?_
  refine v_pI cok13 h dX16_rounds_83 (by decide) q1059 rfl rfl (fun s4 h => ?_)
  exact v_retV h dX16_rounds_86 rfl
theorem lX16_rounds_17 {E : EE} {G : GG} {d : Nat} {rX16_all : Option Nat → Mem → Option (Unit × Mem)} {rX16_one : Option Nat → Mem → Option (Unit × Mem)} {rX16_rounds : Option Nat → Mem → Option (Unit × Mem)} (hrX16_all : ∀ (l : Launch) {a0 : Option Nat} {s : Mem} {z : Unit × Mem}, rX16_all a0 s = some z → Mt E l (mX16_all d) [vr a0] s (none, z.2)) (hrX16_one : ∀ (l : Launch) {a0 : Option Nat} {s : Mem} {z : Unit × Mem}, rX16_one a0 s = some z → Mt E l (mX16_one d) [vr a0] s (none, z.2)) (hrX16_rounds : ∀ (l : Launch) {a0 : Option Nat} {s : Mem} {z : Unit × Mem}, rX16_rounds a0 s = some z → Mt E l (mX16_rounds d) [vr a0] s (none, z.2)) {v0 : Option Nat} {σ : Mem} {z : Unit × Mem} (h : sX16_rounds_17 rX16_all rX16_one rX16_rounds v0 σ = some z) : V E (mX16_rounds (d + 1)) G 17 [some (vr v0)] [] σ (none, z.2) := by
  unfold sX16_rounds_17 at h
  refine v_al0 dX16_rounds_17 ?_
  refine v_dup dX16_rounds_18 ?_
  refine v_gI cok13 h dX16_rounds_19 (by decide) q1055 rfl (fun x1 h => ?_)
  refine v_iconst dX16_rounds_22 ?_
  refine v_iadd dX16_rounds_23 ?_
  refine v_pI cok13 h dX16_rounds_24 (by decide) q1055 rfl rfl (fun s2 h => ?_)
  refine v_al0 dX16_rounds_27 ?_
  refine v_dup dX16_rounds_28 ?_
  refine v_gI cok13 h dX16_rounds_29 (by decide) q1059 rfl (fun x3 h => ?_)
  refine v_iconst dX16_rounds_32 ?_
  refine v_iadd dX16_rounds_33 ?_
  refine v_pI cok13 h dX16_rounds_34 (by decide) q1059 rfl rfl (fun s4 h => ?_)
  refine v_al0 dX16_rounds_37 ?_
  obtain ⟨b38, er, ka, h⟩ := cV_some h
  obtain ⟨_, s5, h1, h⟩ := cl_some h
  refine v_callV0 cok13 (As := []) er ka (hrX16_all _ h1) (lw_V q1088 q1090 qs27 q181 q1091) rfl dsX16_all ⟨by simp only [mX16_rounds, mX16_all] <;> omega, by simp only [mX16_rounds, mX16_all] <;> omega⟩ (Nat.le_of_ble_eq_true rfl) dX16_rounds_38 rfl ?_
  refine v_al0 dX16_rounds_41 ?_
  obtain ⟨b42, er, ka, h⟩ := cV_some h
  obtain ⟨x6, s7, h1, h⟩ := cl_some h
  refine v_callV1 cok13 (As := []) er ka (tX16_isGood h1) (lw_V q1092 q1094 qs28 q181 q1095) rfl dsX16_isGood ⟨by simp only [mX16_rounds, mX16_isGood] <;> omega, by simp only [mX16_rounds, mX16_isGood] <;> omega⟩ (Nat.le_of_ble_eq_true rfl) dX16_rounds_42 rfl ?_
  refine v_if_eq (tgt := 66) dX16_rounds_45 (by decide) (fun c => ?_) (fun c => ?_)
  · rw [if_pos c] at h
    exact v_weak (wss wse) (lX16_rounds_66 hrX16_all hrX16_one hrX16_rounds h)
  · rw [if_neg c] at h
    refine v_al0 dX16_rounds_48 ?_
    obtain ⟨b49, er, ka, h⟩ := cV_some h
    obtain ⟨x8, s9, h1, h⟩ := cl_some h
    refine v_callV1 cok13 (As := []) er ka (tX16_here h1) (lw_V q1100 q1102 qs30 q181 q1103) rfl dsX16_here ⟨by simp only [mX16_rounds, mX16_here] <;> omega, by simp only [mX16_rounds, mX16_here] <;> omega⟩ (Nat.le_of_ble_eq_true rfl) dX16_rounds_49 rfl ?_
    refine v_bipush dX16_rounds_52 rfl ?_
    refine v_icmp_eq (tgt := 66) dX16_rounds_54 (by decide) (fun c => ?_) (fun c => ?_)
    · rw [if_pos c] at h
      exact v_weak (wss wse) (lX16_rounds_66 hrX16_all hrX16_one hrX16_rounds h)
    · rw [if_neg c] at h
      refine v_al0 dX16_rounds_57 ?_
      refine v_iconst dX16_rounds_58 ?_
      refine v_al0 dX16_rounds_59 ?_
      refine v_gI cok13 h dX16_rounds_60 (by decide) q1055 rfl (fun x10 h => ?_)
      obtain ⟨b63, er, ka, h⟩ := cV_some h
      obtain ⟨_, s11, h1, h⟩ := cl_some h
      refine v_callV0 cok13 (As := [vi (iI 1), vi x10]) er ka (tX16_bad h1) (lw_V q1108 q1110 qs32 q181 q1111) rfl dsX16_bad ⟨by simp only [mX16_rounds, mX16_bad] <;> omega, by simp only [mX16_rounds, mX16_bad] <;> omega⟩ (Nat.le_of_ble_eq_true rfl) dX16_rounds_63 rfl ?_
      exact v_weak (wss wse) (lX16_rounds_66 hrX16_all hrX16_one hrX16_rounds h)
theorem lX16_rounds_0 {E : EE} {G : GG} {d : Nat} {rX16_all : Option Nat → Mem → Option (Unit × Mem)} {rX16_one : Option Nat → Mem → Option (Unit × Mem)} {rX16_rounds : Option Nat → Mem → Option (Unit × Mem)} (hrX16_all : ∀ (l : Launch) {a0 : Option Nat} {s : Mem} {z : Unit × Mem}, rX16_all a0 s = some z → Mt E l (mX16_all d) [vr a0] s (none, z.2)) (hrX16_one : ∀ (l : Launch) {a0 : Option Nat} {s : Mem} {z : Unit × Mem}, rX16_one a0 s = some z → Mt E l (mX16_one d) [vr a0] s (none, z.2)) (hrX16_rounds : ∀ (l : Launch) {a0 : Option Nat} {s : Mem} {z : Unit × Mem}, rX16_rounds a0 s = some z → Mt E l (mX16_rounds d) [vr a0] s (none, z.2)) {v0 : Option Nat} {σ : Mem} {z : Unit × Mem} (h : sX16_rounds_0 rX16_all rX16_one rX16_rounds v0 σ = some z) : V E (mX16_rounds (d + 1)) G 0 [some (vr v0)] [] σ (none, z.2) := by
  unfold sX16_rounds_0 at h
  refine v_al0 dX16_rounds_0 ?_
  refine v_gI cok13 h dX16_rounds_1 (by decide) q1059 rfl (fun x1 h => ?_)
  refine v_iconst dX16_rounds_4 ?_
  refine v_icmp_ne (tgt := 17) dX16_rounds_5 (by decide) (fun c => ?_) (fun c => ?_)
  · rw [if_neg c] at h
    exact v_weak (wss wse) (lX16_rounds_17 hrX16_all hrX16_one hrX16_rounds h)
  · rw [if_pos c] at h
    refine v_al0 dX16_rounds_8 ?_
    refine v_iconst dX16_rounds_9 ?_
    refine v_al0 dX16_rounds_10 ?_
    refine v_gI cok13 h dX16_rounds_11 (by decide) q1055 rfl (fun x2 h => ?_)
    obtain ⟨b14, er, ka, h⟩ := cV_some h
    obtain ⟨_, s3, h1, h⟩ := cl_some h
    refine v_callV0 cok13 (As := [vi (iI 5), vi x2]) er ka (tX16_bad h1) (lw_V q1108 q1110 qs32 q181 q1111) rfl dsX16_bad ⟨by simp only [mX16_rounds, mX16_bad] <;> omega, by simp only [mX16_rounds, mX16_bad] <;> omega⟩ (Nat.le_of_ble_eq_true rfl) dX16_rounds_14 rfl ?_
    exact v_weak (wss wse) (lX16_rounds_17 hrX16_all hrX16_one hrX16_rounds h)
theorem tgX16_all {E : EE} : ∀ d : Nat, (∀ (l : Launch) {a0 : Option Nat} {s : Mem} {z : Unit × Mem}, (gX16_all d).1 a0 s = some z → Mt E l (mX16_all d) [vr a0] s (none, z.2)) ∧ (∀ (l : Launch) {a0 : Option Nat} {s : Mem} {z : Unit × Mem}, (gX16_all d).2.1 a0 s = some z → Mt E l (mX16_one d) [vr a0] s (none, z.2)) ∧ (∀ (l : Launch) {a0 : Option Nat} {s : Mem} {z : Unit × Mem}, (gX16_all d).2.2 a0 s = some z → Mt E l (mX16_rounds d) [vr a0] s (none, z.2))
  | 0 => ⟨(by intro l a0 s z h; cases h), (by intro l a0 s z h; cases h), (by intro l a0 s z h; cases h)⟩
  | d + 1 => by
    have ih := tgX16_all (E := E) d
    obtain ⟨i0, i1, i2⟩ := ih
    exact ⟨fun l _ s z h => Mt.ofVL (show plainName yX16_all.cls = true from by decide) (Nat.le_of_ble_eq_true rfl) (fun G hG => lX16_all_0 i0 i1 i2 h), fun l _ s z h => Mt.ofVL (show plainName yX16_one.cls = true from by decide) (Nat.le_of_ble_eq_true rfl) (fun G hG => lX16_one_0 i0 i1 i2 h), fun l _ s z h => Mt.ofVL (show plainName yX16_rounds.cls = true from by decide) (Nat.le_of_ble_eq_true rfl) (fun G hG => lX16_rounds_0 i0 i1 i2 h)⟩
theorem tX16_all {E : EE} {l : Launch} (d : Nat) {a0 : Option Nat} {σ : Mem} {z : Unit × Mem} (h : sX16_all d a0 σ = some z) : Mt E l (mX16_all d) [vr a0] σ (none, z.2) := (tgX16_all (E := E) d).1 l h
theorem tX16_one {E : EE} {l : Launch} (d : Nat) {a0 : Option Nat} {σ : Mem} {z : Unit × Mem} (h : sX16_one d a0 σ = some z) : Mt E l (mX16_one d) [vr a0] σ (none, z.2) := (tgX16_all (E := E) d).2.1 l h
theorem tX16_rounds {E : EE} {l : Launch} (d : Nat) {a0 : Option Nat} {σ : Mem} {z : Unit × Mem} (h : sX16_rounds d a0 σ = some z) : Mt E l (mX16_rounds d) [vr a0] σ (none, z.2) := (tgX16_all (E := E) d).2.2 l h
abbrev mX16_reads : MM := (yX16_reads, cX16_reads, 1, (Option.some Jvm.ClassFile.FieldType.int), 48, 4248)
theorem dsX16_reads : DsOk yX16_reads 0 := ⟨by decide, by decide, by decide +kernel⟩
theorem lX16_reads_31 {E : EE} {G : GG} {v0 : Option Nat} {σ : Mem} {z : Int32 × Mem} (h : sX16_reads_31 v0 σ = some z) : V E mX16_reads G 31 [some (vr v0)] [] σ (some (vi z.1), z.2) := by
  unfold sX16_reads_31 at h
  refine v_al0 dX16_reads_31 ?_
  obtain ⟨b32, er, ka, h⟩ := cV_some h
  obtain ⟨x1, s2, h1, h⟩ := cl_some h
  refine v_callV1 cok13 (As := []) er ka (tX16_isGood h1) (lw_V q1092 q1094 qs28 q181 q1095) rfl dsX16_isGood ⟨Nat.le_of_ble_eq_true rfl, Nat.le_of_ble_eq_true rfl⟩ (Nat.le_of_ble_eq_true rfl) dX16_reads_32 rfl ?_
  refine v_if_eq (tgt := 45) dX16_reads_35 (by decide) (fun c => ?_) (fun c => ?_)
  · rw [if_pos c] at h
    refine v_sipush dX16_reads_45 rfl ?_
    refine v_al0 dX16_reads_48 ?_
    refine v_gI cok13 h dX16_reads_49 (by decide) q1056 rfl (fun x3 h => ?_)
    refine v_imul dX16_reads_52 ?_
    refine v_al0 dX16_reads_53 ?_
    refine v_gI cok13 h dX16_reads_54 (by decide) q1057 rfl (fun x4 h => ?_)
    refine v_isub dX16_reads_57 ?_
    exact v_retI h dX16_reads_58 rfl
  · rw [if_neg c] at h
    refine v_al0 dX16_reads_38 ?_
    refine v_gI cok13 h dX16_reads_39 (by decide) q1058 rfl (fun x5 h => ?_)
    refine v_goto (tgt := 58) dX16_reads_42 (by decide) ?_
    exact v_retI h dX16_reads_58 rfl
theorem lX16_reads {E : EE} {G : GG} {v0 : Option Nat} {σ : Mem} {z : Int32 × Mem} (h : sX16_reads v0 σ = some z) : V E mX16_reads G 0 [some (vr v0)] [] σ (some (vi z.1), z.2) := by
  unfold sX16_reads at h
  refine v_al0 dX16_reads_0 ?_
  obtain ⟨b1, er, ka, h⟩ := cV_some h
  obtain ⟨_, s1, h1, h⟩ := cl_some h
  refine v_callV0 cok13 (As := []) er ka (tX16_all 40 h1) (lw_V q1088 q1090 qs27 q181 q1091) rfl dsX16_all ⟨Nat.le_of_ble_eq_true rfl, Nat.le_of_ble_eq_true rfl⟩ (Nat.le_of_ble_eq_true rfl) dX16_reads_1 rfl ?_
  refine v_al0 dX16_reads_4 ?_
  obtain ⟨b5, er, ka, h⟩ := cV_some h
  obtain ⟨x2, s3, h1, h⟩ := cl_some h
  refine v_callV1 cok13 (As := []) er ka (tX16_isGood h1) (lw_V q1092 q1094 qs28 q181 q1095) rfl dsX16_isGood ⟨Nat.le_of_ble_eq_true rfl, Nat.le_of_ble_eq_true rfl⟩ (Nat.le_of_ble_eq_true rfl) dX16_reads_5 rfl ?_
  refine v_if_eq (tgt := 31) dX16_reads_8 (by decide) (fun c => ?_) (fun c => ?_)
  · rw [if_pos c] at h
    exact v_weak (wss wse) (lX16_reads_31 h)
  · rw [if_neg c] at h
    refine v_al0 dX16_reads_11 ?_
    refine v_gI cok13 h dX16_reads_12 (by decide) q1055 rfl (fun x4 h => ?_)
    refine v_al0 dX16_reads_15 ?_
    refine v_gI cok13 h dX16_reads_16 (by decide) q1050 rfl (fun x5 h => ?_)
    refine v_icmp_ge (tgt := 31) dX16_reads_19 (by decide) (fun c => ?_) (fun c => ?_)
    · rw [if_pos c] at h
      exact v_weak (wss wse) (lX16_reads_31 h)
    · rw [if_neg c] at h
      refine v_al0 dX16_reads_22 ?_
      refine v_iconst dX16_reads_23 ?_
      refine v_al0 dX16_reads_24 ?_
      refine v_gI cok13 h dX16_reads_25 (by decide) q1055 rfl (fun x6 h => ?_)
      obtain ⟨b28, er, ka, h⟩ := cV_some h
      obtain ⟨_, s7, h1, h⟩ := cl_some h
      refine v_callV0 cok13 (As := [vi (iI 1), vi x6]) er ka (tX16_bad h1) (lw_V q1108 q1110 qs32 q181 q1111) rfl dsX16_bad ⟨Nat.le_of_ble_eq_true rfl, Nat.le_of_ble_eq_true rfl⟩ (Nat.le_of_ble_eq_true rfl) dX16_reads_28 rfl ?_
      exact v_weak (wss wse) (lX16_reads_31 h)
theorem tX16_reads {E : EE} {l : Launch} {v0 : Option Nat} {σ : Mem} {z : Int32 × Mem} (h : sX16_reads v0 σ = some z) : Mt E l mX16_reads [vr v0] σ (some (vi z.1), z.2) :=
  Mt.ofVL (by decide) (Nat.le_of_ble_eq_true rfl) (fun G hG => lX16_reads h)
abbrev mX3_takesDue : MM := (yX3_takesDue, cX3_takesDue, 3, (Option.some Jvm.ClassFile.FieldType.boolean), 1, 23)
theorem dsX3_takesDue : DsOk yX3_takesDue 0 := ⟨by decide, by decide, by decide +kernel⟩
theorem lX3_takesDue_54b {E : EE} {G : GG} {k54 : Option Nat → Int32 → Mem → Option (Int32 × Mem)} (hk54 : ∀ (v0 : Option Nat) (v2 : Int32) (s : Mem) (z : Int32 × Mem), k54 v0 v2 s = some z → V E mX3_takesDue G 54 [some (vr v0), none, some (vi v2)] [] s (some (vi z.1), z.2)) {v0 : Option Nat} {v2 : Int32} {σ : Mem} {z : Int32 × Mem} (h : sX3_takesDue_54b k54 v0 v2 σ = some z) : V E mX3_takesDue G 54 [some (vr v0), none, some (vi v2)] [] σ (some (vi z.1), z.2) := by
  unfold sX3_takesDue_54b at h
  refine v_il2 dX3_takesDue_54 ?_
  refine v_al0 dX3_takesDue_55 ?_
  refine v_gI cok2 h dX3_takesDue_56 (by decide) q371 rfl (fun x1 h => ?_)
  refine v_icmp_ge (tgt := 86) dX3_takesDue_59 (by decide) (fun c => ?_) (fun c => ?_)
  · rw [if_pos c] at h
    refine v_iconst dX3_takesDue_86 ?_
    exact v_retZ h dX3_takesDue_87 rfl
  · rw [if_neg c] at h
    refine v_al0 dX3_takesDue_62 ?_
    refine v_al0 dX3_takesDue_63 ?_
    refine v_gR cok2 h dX3_takesDue_64 (by decide) q361 rfl (fun x2 h => ?_)
    refine v_il2 dX3_takesDue_67 ?_
    refine v_iconst dX3_takesDue_68 ?_
    refine v_iadd dX3_takesDue_69 ?_
    refine v_aR h (by decide) dX3_takesDue_70 (fun x3 h => ?_)
    refine v_al0 dX3_takesDue_71 ?_
    refine v_gR cok2 h dX3_takesDue_72 (by decide) q361 rfl (fun x4 h => ?_)
    refine v_il2 dX3_takesDue_75 ?_
    refine v_aR h (by decide) dX3_takesDue_76 (fun x5 h => ?_)
    obtain ⟨b77, er, ka, h⟩ := cV_some h
    obtain ⟨_, s6, h1, h⟩ := cl_some h
    refine v_callV0 cok2 (As := [vr x3, vr x5]) er ka (tX3_copies h1) (lw_V q703 q705 qs6 q161 q706) rfl dsX3_copies ⟨Nat.le_of_ble_eq_true rfl, Nat.le_of_ble_eq_true rfl⟩ (Nat.le_of_ble_eq_true rfl) dX3_takesDue_77 rfl ?_
    refine v_iinc (L' := [some (vr v0), none, some (vi (v2 + iI 1))]) dX3_takesDue_80 (Nat.le_of_ble_eq_true rfl) rfl rfl ?_
    refine v_goto (tgt := 54) dX3_takesDue_83 (by decide) ?_
    exact v_weak (wss (wsn (wss wse))) (hk54 _ _ _ _ h)
theorem lX3_takesDue_54 {E : EE} {G : GG} : ∀ (f : Nat) {v0 : Option Nat} {v2 : Int32} {σ : Mem} {z : Int32 × Mem}, sX3_takesDue_54 f v0 v2 σ = some z → V E mX3_takesDue G 54 [some (vr v0), none, some (vi v2)] [] σ (some (vi z.1), z.2)
  | 0, _, _, _, _, h => by cases h
  | f + 1, _, _, _, _, h => lX3_takesDue_54b (fun _ _ _ _ h => lX3_takesDue_54 f h) h
theorem lX3_takesDue_2b {E : EE} {G : GG} {k2 : Option Nat → Int32 → Mem → Option (Int32 × Mem)} (hk2 : ∀ (v0 : Option Nat) (v1 : Int32) (s : Mem) (z : Int32 × Mem), k2 v0 v1 s = some z → V E mX3_takesDue G 2 [some (vr v0), some (vi v1), none] [] s (some (vi z.1), z.2)) {v0 : Option Nat} {v1 : Int32} {σ : Mem} {z : Int32 × Mem} (h : sX3_takesDue_2b k2 v0 v1 σ = some z) : V E mX3_takesDue G 2 [some (vr v0), some (vi v1), none] [] σ (some (vi z.1), z.2) := by
  unfold sX3_takesDue_2b at h
  refine v_il1 dX3_takesDue_2 ?_
  refine v_al0 dX3_takesDue_3 ?_
  refine v_gI cok2 h dX3_takesDue_4 (by decide) q371 rfl (fun x1 h => ?_)
  refine v_icmp_ge (tgt := 94) dX3_takesDue_7 (by decide) (fun c => ?_) (fun c => ?_)
  · rw [if_pos c] at h
    refine v_iconst dX3_takesDue_94 ?_
    exact v_retZ h dX3_takesDue_95 rfl
  · rw [if_neg c] at h
    refine v_al0 dX3_takesDue_10 ?_
    refine v_gR cok2 h dX3_takesDue_11 (by decide) q361 rfl (fun x2 h => ?_)
    refine v_il1 dX3_takesDue_14 ?_
    refine v_aR h (by decide) dX3_takesDue_15 (fun x3 h => ?_)
    refine v_iconst dX3_takesDue_16 ?_
    refine v_aI h dX3_takesDue_17 (fun x4 h => ?_)
    refine v_al0 dX3_takesDue_18 ?_
    refine v_gI cok2 h dX3_takesDue_19 (by decide) q373 rfl (fun x5 h => ?_)
    refine v_icmp_le (tgt := 28) dX3_takesDue_22 (by decide) (fun c => ?_) (fun c => ?_)
    · rw [if_pos c] at h
      refine v_al0 dX3_takesDue_28 ?_
      refine v_al0 dX3_takesDue_29 ?_
      refine v_gR cok2 h dX3_takesDue_30 (by decide) q361 rfl (fun x6 h => ?_)
      refine v_il1 dX3_takesDue_33 ?_
      refine v_aR h (by decide) dX3_takesDue_34 (fun x7 h => ?_)
      refine v_al0 dX3_takesDue_35 ?_
      refine v_gR cok2 h dX3_takesDue_36 (by decide) q387 rfl (fun x8 h => ?_)
      obtain ⟨b39, er, ka, h⟩ := cV_some h
      obtain ⟨_, s9, h1, h⟩ := cl_some h
      refine v_callV0 cok2 (As := [vr x7, vr x8]) er ka (tX3_copies h1) (lw_V q703 q705 qs6 q161 q706) rfl dsX3_copies ⟨Nat.le_of_ble_eq_true rfl, Nat.le_of_ble_eq_true rfl⟩ (Nat.le_of_ble_eq_true rfl) dX3_takesDue_39 rfl ?_
      refine v_al0 dX3_takesDue_42 ?_
      refine v_dup dX3_takesDue_43 ?_
      refine v_gI cok2 h dX3_takesDue_44 (by decide) q371 rfl (fun x10 h => ?_)
      refine v_iconst dX3_takesDue_47 ?_
      refine v_isub dX3_takesDue_48 ?_
      refine v_pI cok2 h dX3_takesDue_49 (by decide) q371 rfl rfl (fun s11 h => ?_)
      refine v_il1 dX3_takesDue_52 ?_
      refine v_istore_n (L' := [some (vr v0), some (vi v1), some (vi v1)]) dX3_takesDue_53 (Nat.le_of_ble_eq_true rfl) (Nat.le_of_ble_eq_true rfl) rfl ?_
      exact v_weak (wss (wsn (wss wse))) (lX3_takesDue_54 FU h)
    · rw [if_neg c] at h
      refine v_goto (tgt := 88) dX3_takesDue_25 (by decide) ?_
      refine v_iinc (L' := [some (vr v0), some (vi (v1 + iI 1)), none]) dX3_takesDue_88 (Nat.le_of_ble_eq_true rfl) rfl rfl ?_
      refine v_goto (tgt := 2) dX3_takesDue_91 (by decide) ?_
      exact v_weak (wss (wss (wsn wse))) (hk2 _ _ _ _ h)
theorem lX3_takesDue_2 {E : EE} {G : GG} : ∀ (f : Nat) {v0 : Option Nat} {v1 : Int32} {σ : Mem} {z : Int32 × Mem}, sX3_takesDue_2 f v0 v1 σ = some z → V E mX3_takesDue G 2 [some (vr v0), some (vi v1), none] [] σ (some (vi z.1), z.2)
  | 0, _, _, _, _, h => by cases h
  | f + 1, _, _, _, _, h => lX3_takesDue_2b (fun _ _ _ _ h => lX3_takesDue_2 f h) h
theorem lX3_takesDue {E : EE} {G : GG} {v0 : Option Nat} {σ : Mem} {z : Int32 × Mem} (h : sX3_takesDue v0 σ = some z) : V E mX3_takesDue G 0 [some (vr v0), none, none] [] σ (some (vi z.1), z.2) := by
  unfold sX3_takesDue at h
  refine v_iconst dX3_takesDue_0 ?_
  refine v_istore_n (L' := [some (vr v0), some (vi (iI 0)), none]) dX3_takesDue_1 (Nat.le_of_ble_eq_true rfl) (Nat.le_of_ble_eq_true rfl) rfl ?_
  exact v_weak (wss (wss (wsn wse))) (lX3_takesDue_2 FU h)
theorem tX3_takesDue {E : EE} {l : Launch} {v0 : Option Nat} {σ : Mem} {z : Int32 × Mem} (h : sX3_takesDue v0 σ = some z) : Mt E l mX3_takesDue [vr v0] σ (some (vi z.1), z.2) :=
  Mt.ofVL (by decide) (Nat.le_of_ble_eq_true rfl) (fun G hG => lX3_takesDue h)
abbrev mX3_areLinked : MM := (yX3_areLinked, cX3_areLinked, 3, (Option.some Jvm.ClassFile.FieldType.boolean), 1, 21)
theorem dsX3_areLinked : DsOk yX3_areLinked 2 := ⟨by decide, by decide, by decide +kernel⟩
theorem lX3_areLinked {E : EE} {G : GG} {v0 : Option Nat} {v1 : Int32} {v2 : Int32} {σ : Mem} {z : Int32 × Mem} (h : sX3_areLinked v0 v1 v2 σ = some z) : V E mX3_areLinked G 0 [some (vr v0), some (vi v1), some (vi v2)] [] σ (some (vi z.1), z.2) := by
  unfold sX3_areLinked at h
  refine v_al0 dX3_areLinked_0 ?_
  refine v_gR cok2 h dX3_areLinked_1 (by decide) q367 rfl (fun x1 h => ?_)
  refine v_il1 dX3_areLinked_4 ?_
  refine v_aI h dX3_areLinked_5 (fun x2 h => ?_)
  refine v_il2 dX3_areLinked_6 ?_
  obtain ⟨x3, s4, h1, h⟩ := cl_some h
  refine v_callSN1 (As := [vi x2, vi v2]) (tX0_has h1) q673 q675 q674 q158 dsX0_has ⟨Nat.le_of_ble_eq_true rfl, Nat.le_of_ble_eq_true rfl⟩ (Nat.le_of_ble_eq_true rfl) dX3_areLinked_7 rfl ?_
  refine v_if_ne (tgt := 17) dX3_areLinked_10 (by decide) (fun c => ?_) (fun c => ?_)
  · rw [if_neg c] at h
    refine v_iconst dX3_areLinked_17 ?_
    exact v_retZ h dX3_areLinked_18 rfl
  · rw [if_pos c] at h
    refine v_iconst dX3_areLinked_13 ?_
    refine v_goto (tgt := 18) dX3_areLinked_14 (by decide) ?_
    exact v_retZ h dX3_areLinked_18 rfl
theorem tX3_areLinked {E : EE} {l : Launch} {v0 : Option Nat} {v1 : Int32} {v2 : Int32} {σ : Mem} {z : Int32 × Mem} (h : sX3_areLinked v0 v1 v2 σ = some z) : Mt E l mX3_areLinked [vr v0, vi v1, vi v2] σ (some (vi z.1), z.2) :=
  Mt.ofVL (by decide) (Nat.le_of_ble_eq_true rfl) (fun G hG => lX3_areLinked h)
abbrev mX3_answers : MM := (yX3_answers, cX3_answers, 7, (Option.none : Option Jvm.ClassFile.FieldType), 87, 8159)
theorem dsX3_answers : DsOk yX3_answers 6 := ⟨by decide, by decide, by decide +kernel⟩
theorem lX3_answers {E : EE} {G : GG} {v0 : Option Nat} {v1 : Int32} {v2 : Int32} {v3 : Int32} {v4 : Int32} {v5 : Int32} {v6 : Int32} {σ : Mem} {z : Unit × Mem} (h : sX3_answers v0 v1 v2 v3 v4 v5 v6 σ = some z) : V E mX3_answers G 0 [some (vr v0), some (vi v1), some (vi v2), some (vi v3), some (vi v4), some (vi v5), some (vi v6)] [] σ (none, z.2) := by
  unfold sX3_answers at h
  refine v_al0 dX3_answers_0 ?_
  refine v_il1 dX3_answers_1 ?_
  refine v_il2 dX3_answers_2 ?_
  refine v_il3 dX3_answers_3 ?_
  refine v_iload dX3_answers_4 rfl ?_
  refine v_iload dX3_answers_6 rfl ?_
  refine v_iload dX3_answers_8 rfl ?_
  refine v_iconst dX3_answers_10 ?_
  obtain ⟨b11, er, ka, h⟩ := cV_some h
  obtain ⟨x1, s2, h1, h⟩ := cl_some h
  refine v_callV1 cok2 (As := [vi v1, vi v2, vi v3, vi v4, vi v5, vi v6, vi (iI 0)]) er ka (tX3_writes h1) (lw_V q680 q682 qs3 q161 q683) rfl dsX3_writes ⟨Nat.le_of_ble_eq_true rfl, Nat.le_of_ble_eq_true rfl⟩ (Nat.le_of_ble_eq_true rfl) dX3_answers_11 rfl ?_
  refine v_pop dX3_answers_14 ?_
  refine v_al0 dX3_answers_15 ?_
  obtain ⟨b16, er, ka, h⟩ := cV_some h
  obtain ⟨_, s3, h1, h⟩ := cl_some h
  refine v_callV0 cok2 (As := []) er ka (tX3_sends h1) (lw_V q685 q687 qs4 q161 q688) rfl dsX3_sends ⟨Nat.le_of_ble_eq_true rfl, Nat.le_of_ble_eq_true rfl⟩ (Nat.le_of_ble_eq_true rfl) dX3_answers_16 rfl ?_
  exact v_retV h dX3_answers_19 rfl
theorem tX3_answers {E : EE} {l : Launch} {v0 : Option Nat} {v1 : Int32} {v2 : Int32} {v3 : Int32} {v4 : Int32} {v5 : Int32} {v6 : Int32} {σ : Mem} {z : Unit × Mem} (h : sX3_answers v0 v1 v2 v3 v4 v5 v6 σ = some z) : Mt E l mX3_answers [vr v0, vi v1, vi v2, vi v3, vi v4, vi v5, vi v6] σ (none, z.2) :=
  Mt.ofVL (by decide) (Nat.le_of_ble_eq_true rfl) (fun G hG => lX3_answers h)
abbrev mX3_votes : MM := (yX3_votes, cX3_votes, 4, (Option.none : Option Jvm.ClassFile.FieldType), 88, 8185)
theorem dsX3_votes : DsOk yX3_votes 1 := ⟨by decide, by decide, by decide +kernel⟩
theorem lX3_votes_104 {E : EE} {G : GG} {t0 : Option Nat} {t1 : Int32} {t2 : Int32} {t3 : Int32} {t4 : Int32} {σ : Mem} {z : Unit × Mem} (h : sX3_votes_104 t0 t1 t2 t3 t4 σ = some z) : V E mX3_votes G 104 [none, none, none, none] [vi t4, vi t3, vi t2, vi t1, vr t0] σ (none, z.2) := by
  unfold sX3_votes_104 at h
  refine v_iconst dX3_votes_104 ?_
  refine v_iconst dX3_votes_105 ?_
  obtain ⟨b106, er, ka, h⟩ := cV_some h
  obtain ⟨_, s1, h1, h⟩ := cl_some h
  refine v_callV0 cok2 (As := [vi t1, vi t2, vi t3, vi t4, vi (iI 0), vi (iI 0)]) er ka (tX3_answers h1) (lw_V q1159 q1161 qs39 q161 q1162) rfl dsX3_answers ⟨Nat.le_of_ble_eq_true rfl, Nat.le_of_ble_eq_true rfl⟩ (Nat.le_of_ble_eq_true rfl) dX3_votes_106 rfl ?_
  exact v_retV h dX3_votes_109 rfl
theorem lX3_votes_86 {E : EE} {G : GG} {v0 : Option Nat} {v1 : Int32} {v3 : Int32} {σ : Mem} {z : Unit × Mem} (h : sX3_votes_86 v0 v1 v3 σ = some z) : V E mX3_votes G 86 [some (vr v0), some (vi v1), none, some (vi v3)] [] σ (none, z.2) := by
  unfold sX3_votes_86 at h
  refine v_al0 dX3_votes_86 ?_
  refine v_il1 dX3_votes_87 ?_
  refine v_al0 dX3_votes_88 ?_
  refine v_gR cok2 h dX3_votes_89 (by decide) q387 rfl (fun x1 h => ?_)
  refine v_iconst dX3_votes_92 ?_
  refine v_aI h dX3_votes_93 (fun x2 h => ?_)
  refine v_iconst dX3_votes_94 ?_
  refine v_il3 dX3_votes_95 ?_
  refine v_if_eq (tgt := 103) dX3_votes_96 (by decide) (fun c => ?_) (fun c => ?_)
  · rw [if_pos c] at h
    refine v_iconst dX3_votes_103 ?_
    exact v_weak (wsn (wsn (wsn (wsn wse)))) (lX3_votes_104 h)
  · rw [if_neg c] at h
    refine v_iconst dX3_votes_99 ?_
    refine v_goto (tgt := 104) dX3_votes_100 (by decide) ?_
    exact v_weak (wsn (wsn (wsn (wsn wse)))) (lX3_votes_104 h)
theorem lX3_votes_66 {E : EE} {G : GG} {v0 : Option Nat} {v1 : Int32} {v2 : Option Nat} {t0 : Int32} {σ : Mem} {z : Unit × Mem} (h : sX3_votes_66 v0 v1 v2 t0 σ = some z) : V E mX3_votes G 66 [some (vr v0), some (vi v1), some (vr v2), none] [vi t0] σ (none, z.2) := by
  unfold sX3_votes_66 at h
  refine v_istore_n (L' := [some (vr v0), some (vi v1), some (vr v2), some (vi t0)]) dX3_votes_66 (Nat.le_of_ble_eq_true rfl) (Nat.le_of_ble_eq_true rfl) rfl ?_
  refine v_il3 dX3_votes_67 ?_
  refine v_if_eq (tgt := 86) dX3_votes_68 (by decide) (fun c => ?_) (fun c => ?_)
  · rw [if_pos c] at h
    exact v_weak (wss (wss (wsn (wss wse)))) (lX3_votes_86 h)
  · rw [if_neg c] at h
    refine v_al2 dX3_votes_71 ?_
    refine v_al0 dX3_votes_72 ?_
    refine v_gR cok2 h dX3_votes_73 (by decide) q387 rfl (fun x1 h => ?_)
    refine v_iconst dX3_votes_76 ?_
    refine v_aI h dX3_votes_77 (fun x2 h => ?_)
    refine v_pIN cok3 h dX3_votes_78 (by decide) q272 rfl rfl (fun s3 h => ?_)
    refine v_al0 dX3_votes_81 ?_
    refine v_il1 dX3_votes_82 ?_
    obtain ⟨b83, er, ka, h⟩ := cV_some h
    obtain ⟨_, s4, h1, h⟩ := cl_some h
    refine v_callV0 cok2 (As := [vi v1]) er ka (tX3_setsTimer h1) (lw_V q465 q466 q467 q161 q468) rfl dsX3_setsTimer ⟨Nat.le_of_ble_eq_true rfl, Nat.le_of_ble_eq_true rfl⟩ (Nat.le_of_ble_eq_true rfl) dX3_votes_83 rfl ?_
    exact v_weak (wss (wss (wsn (wss wse)))) (lX3_votes_86 h)
theorem lX3_votes_65 {E : EE} {G : GG} {v0 : Option Nat} {v1 : Int32} {v2 : Option Nat} {σ : Mem} {z : Unit × Mem} (h : sX3_votes_65 v0 v1 v2 σ = some z) : V E mX3_votes G 65 [some (vr v0), some (vi v1), some (vr v2), none] [] σ (none, z.2) := by
  unfold sX3_votes_65 at h
  refine v_iconst dX3_votes_65 ?_
  exact v_weak (wss (wss (wss (wsn wse)))) (lX3_votes_66 h)
theorem lX3_votes_41 {E : EE} {G : GG} {v0 : Option Nat} {v1 : Int32} {v2 : Option Nat} {σ : Mem} {z : Unit × Mem} (h : sX3_votes_41 v0 v1 v2 σ = some z) : V E mX3_votes G 41 [some (vr v0), some (vi v1), some (vr v2), none] [] σ (none, z.2) := by
  unfold sX3_votes_41 at h
  refine v_al2 dX3_votes_41 ?_
  refine v_al0 dX3_votes_42 ?_
  refine v_gR cok2 h dX3_votes_43 (by decide) q387 rfl (fun x1 h => ?_)
  refine v_bipush dX3_votes_46 rfl ?_
  refine v_aI h dX3_votes_48 (fun x2 h => ?_)
  refine v_al0 dX3_votes_49 ?_
  refine v_gR cok2 h dX3_votes_50 (by decide) q387 rfl (fun x3 h => ?_)
  refine v_iconst dX3_votes_53 ?_
  refine v_aI h dX3_votes_54 (fun x4 h => ?_)
  obtain ⟨b55, er, ka, h⟩ := cV_some h
  obtain ⟨x5, s6, h1, h⟩ := cl_some h
  refine v_callV1 cok3 (As := [vi x2, vi x4]) er ka (tX4_isNoLess h1) (lw_V q1155 q1156 q1157 q162 q1158) rfl dsX4_isNoLess ⟨Nat.le_of_ble_eq_true rfl, Nat.le_of_ble_eq_true rfl⟩ (Nat.le_of_ble_eq_true rfl) dX3_votes_55 rfl ?_
  refine v_if_eq (tgt := 65) dX3_votes_58 (by decide) (fun c => ?_) (fun c => ?_)
  · rw [if_pos c] at h
    exact v_weak (wss (wss (wss (wsn wse)))) (lX3_votes_65 h)
  · rw [if_neg c] at h
    refine v_iconst dX3_votes_61 ?_
    refine v_goto (tgt := 66) dX3_votes_62 (by decide) ?_
    exact v_weak (wss (wss (wss (wsn wse)))) (lX3_votes_66 h)
theorem lX3_votes {E : EE} {G : GG} {v0 : Option Nat} {v1 : Int32} {σ : Mem} {z : Unit × Mem} (h : sX3_votes v0 v1 σ = some z) : V E mX3_votes G 0 [some (vr v0), some (vi v1), none, none] [] σ (none, z.2) := by
  unfold sX3_votes at h
  refine v_al0 dX3_votes_0 ?_
  refine v_gR cok2 h dX3_votes_1 (by decide) q359 rfl (fun x1 h => ?_)
  refine v_il1 dX3_votes_4 ?_
  refine v_aR h (by decide) dX3_votes_5 (fun x2 h => ?_)
  refine v_astore_n (L' := [some (vr v0), some (vi v1), some (vr x2), none]) dX3_votes_6 (Nat.le_of_ble_eq_true rfl) (Nat.le_of_ble_eq_true rfl) rfl ?_
  refine v_al0 dX3_votes_7 ?_
  refine v_gR cok2 h dX3_votes_8 (by decide) q387 rfl (fun x3 h => ?_)
  refine v_iconst dX3_votes_11 ?_
  refine v_aI h dX3_votes_12 (fun x4 h => ?_)
  refine v_al2 dX3_votes_13 ?_
  refine v_gIN cok3 h dX3_votes_14 (by decide) q269 rfl (fun x5 h => ?_)
  refine v_icmp_ne (tgt := 65) dX3_votes_17 (by decide) (fun c => ?_) (fun c => ?_)
  · rw [if_neg c] at h
    exact v_weak (wss (wss (wss (wsn wse)))) (lX3_votes_65 h)
  · rw [if_pos c] at h
    refine v_al2 dX3_votes_20 ?_
    refine v_gIN cok3 h dX3_votes_21 (by decide) q272 rfl (fun x6 h => ?_)
    refine v_iconst dX3_votes_24 ?_
    refine v_icmp_eq (tgt := 41) dX3_votes_25 (by decide) (fun c => ?_) (fun c => ?_)
    · rw [if_pos c] at h
      exact v_weak (wss (wss (wss (wsn wse)))) (lX3_votes_41 h)
    · rw [if_neg c] at h
      refine v_al2 dX3_votes_28 ?_
      refine v_gIN cok3 h dX3_votes_29 (by decide) q272 rfl (fun x7 h => ?_)
      refine v_al0 dX3_votes_32 ?_
      refine v_gR cok2 h dX3_votes_33 (by decide) q387 rfl (fun x8 h => ?_)
      refine v_iconst dX3_votes_36 ?_
      refine v_aI h dX3_votes_37 (fun x9 h => ?_)
      refine v_icmp_ne (tgt := 65) dX3_votes_38 (by decide) (fun c => ?_) (fun c => ?_)
      · rw [if_neg c] at h
        exact v_weak (wss (wss (wss (wsn wse)))) (lX3_votes_65 h)
      · rw [if_pos c] at h
        exact v_weak (wss (wss (wss (wsn wse)))) (lX3_votes_41 h)
theorem tX3_votes {E : EE} {l : Launch} {v0 : Option Nat} {v1 : Int32} {σ : Mem} {z : Unit × Mem} (h : sX3_votes v0 v1 σ = some z) : Mt E l mX3_votes [vr v0, vi v1] σ (none, z.2) :=
  Mt.ofVL (by decide) (Nat.le_of_ble_eq_true rfl) (fun G hG => lX3_votes h)
abbrev mX3_leads : MM := (yX3_leads, cX3_leads, 4, (Option.none : Option Jvm.ClassFile.FieldType), 94, 8631)
theorem dsX3_leads : DsOk yX3_leads 1 := ⟨by decide, by decide, by decide +kernel⟩
theorem lX3_leads_137 {E : EE} {G : GG} {v0 : Option Nat} {v1 : Int32} {v2 : Option Nat} {t0 : Option Nat} {t1 : Int32} {t2 : Int32} {σ : Mem} {z : Unit × Mem} (h : sX3_leads_137 v0 v1 v2 t0 t1 t2 σ = some z) : V E mX3_leads G 137 [some (vr v0), some (vi v1), some (vr v2), none] [vi t2, vi t1, vr t0] σ (none, z.2) := by
  unfold sX3_leads_137 at h
  refine v_sI h dX3_leads_137 (fun s1 h => ?_)
  refine v_al2 dX3_leads_138 ?_
  refine v_al2 dX3_leads_139 ?_
  refine v_gIN cok3 h dX3_leads_140 (by decide) q269 rfl (fun x2 h => ?_)
  refine v_iconst dX3_leads_143 ?_
  refine v_iconst dX3_leads_144 ?_
  refine v_iconst dX3_leads_145 ?_
  obtain ⟨b146, er, ka, h⟩ := cV_some h
  obtain ⟨x3, s4, h1, h⟩ := cl_some h
  refine v_callV1 cok3 (As := [vi x2, vi (iI 2), vi (iI 0), vi (iI 0)]) er ka (tX4_lays h1) (lw_V q651 q652 q653 q162 q654) rfl dsX4_lays ⟨Nat.le_of_ble_eq_true rfl, Nat.le_of_ble_eq_true rfl⟩ (Nat.le_of_ble_eq_true rfl) dX3_leads_146 rfl ?_
  refine v_pop dX3_leads_149 ?_
  refine v_al2 dX3_leads_150 ?_
  refine v_gRN cok3 h dX3_leads_151 (by decide) q263 rfl (fun x5 h => ?_)
  refine v_il1 dX3_leads_154 ?_
  refine v_al2 dX3_leads_155 ?_
  obtain ⟨b156, er, ka, h⟩ := cV_some h
  obtain ⟨x6, s7, h1, h⟩ := cl_some h
  refine v_callV1 cok3 (As := []) er ka (tX4_last h1) (lw_V q643 q644 q645 q162 q646) rfl dsX4_last ⟨Nat.le_of_ble_eq_true rfl, Nat.le_of_ble_eq_true rfl⟩ (Nat.le_of_ble_eq_true rfl) dX3_leads_156 rfl ?_
  refine v_sI h dX3_leads_159 (fun s8 h => ?_)
  refine v_al0 dX3_leads_160 ?_
  refine v_il1 dX3_leads_161 ?_
  obtain ⟨b162, er, ka, h⟩ := cV_some h
  obtain ⟨_, s9, h1, h⟩ := cl_some h
  refine v_callV0 cok2 (As := [vi v1]) er ka (tX3_sendsToAll h1) (lw_V q657 q658 q659 q161 q660) rfl dsX3_sendsToAll ⟨Nat.le_of_ble_eq_true rfl, Nat.le_of_ble_eq_true rfl⟩ (Nat.le_of_ble_eq_true rfl) dX3_leads_162 rfl ?_
  refine v_al0 dX3_leads_165 ?_
  refine v_il1 dX3_leads_166 ?_
  obtain ⟨b167, er, ka, h⟩ := cV_some h
  obtain ⟨_, s10, h1, h⟩ := cl_some h
  refine v_callV0 cok2 (As := [vi v1]) er ka (tX3_holds 4 h1) (lw_V q707 q708 q709 q161 q710) rfl dsX3_holds ⟨Nat.le_of_ble_eq_true rfl, Nat.le_of_ble_eq_true rfl⟩ (Nat.le_of_ble_eq_true rfl) dX3_leads_167 rfl ?_
  exact v_retV h dX3_leads_170 rfl
theorem lX3_leads_103 {E : EE} {G : GG} {v0 : Option Nat} {v1 : Int32} {v2 : Option Nat} {σ : Mem} {z : Unit × Mem} (h : sX3_leads_103 v0 v1 v2 σ = some z) : V E mX3_leads G 103 [some (vr v0), some (vi v1), some (vr v2), none] [] σ (none, z.2) := by
  unfold sX3_leads_103 at h
  refine v_al0 dX3_leads_103 ?_
  refine v_gR cok2 h dX3_leads_104 (by decide) q369 rfl (fun x1 h => ?_)
  refine v_al2 dX3_leads_107 ?_
  refine v_gIN cok3 h dX3_leads_108 (by decide) q269 rfl (fun x2 h => ?_)
  refine v_al0 dX3_leads_111 ?_
  refine v_gR cok2 h dX3_leads_112 (by decide) q369 rfl (fun x3 h => ?_)
  refine v_al2 dX3_leads_115 ?_
  refine v_gIN cok3 h dX3_leads_116 (by decide) q269 rfl (fun x4 h => ?_)
  refine v_aI h dX3_leads_119 (fun x5 h => ?_)
  refine v_iconst dX3_leads_120 ?_
  refine v_icmp_ne (tgt := 128) dX3_leads_121 (by decide) (fun c => ?_) (fun c => ?_)
  · rw [if_neg c] at h
    refine v_al0 dX3_leads_128 ?_
    refine v_gR cok2 h dX3_leads_129 (by decide) q369 rfl (fun x6 h => ?_)
    refine v_al2 dX3_leads_132 ?_
    refine v_gIN cok3 h dX3_leads_133 (by decide) q269 rfl (fun x7 h => ?_)
    refine v_aI h dX3_leads_136 (fun x8 h => ?_)
    exact v_weak (wss (wss (wss (wsn wse)))) (lX3_leads_137 h)
  · rw [if_pos c] at h
    refine v_il1 dX3_leads_124 ?_
    refine v_goto (tgt := 137) dX3_leads_125 (by decide) ?_
    exact v_weak (wss (wss (wss (wsn wse)))) (lX3_leads_137 h)
theorem lX3_leads_19b {E : EE} {G : GG} {k19 : Option Nat → Int32 → Option Nat → Int32 → Mem → Option (Unit × Mem)} (hk19 : ∀ (v0 : Option Nat) (v1 : Int32) (v2 : Option Nat) (v3 : Int32) (s : Mem) (z : Unit × Mem), k19 v0 v1 v2 v3 s = some z → V E mX3_leads G 19 [some (vr v0), some (vi v1), some (vr v2), some (vi v3)] [] s (none, z.2)) {v0 : Option Nat} {v1 : Int32} {v2 : Option Nat} {v3 : Int32} {σ : Mem} {z : Unit × Mem} (h : sX3_leads_19b k19 v0 v1 v2 v3 σ = some z) : V E mX3_leads G 19 [some (vr v0), some (vi v1), some (vr v2), some (vi v3)] [] σ (none, z.2) := by
  unfold sX3_leads_19b at h
  refine v_il3 dX3_leads_19 ?_
  refine v_bipush dX3_leads_20 rfl ?_
  refine v_icmp_ge (tgt := 57) dX3_leads_22 (by decide) (fun c => ?_) (fun c => ?_)
  · rw [if_pos c] at h
    refine v_al2 dX3_leads_57 ?_
    refine v_iconst dX3_leads_58 ?_
    refine v_pIN cok3 h dX3_leads_59 (by decide) q305 rfl rfl (fun s1 h => ?_)
    refine v_al2 dX3_leads_62 ?_
    refine v_iconst dX3_leads_63 ?_
    refine v_pIN cok3 h dX3_leads_64 (by decide) q301 rfl rfl (fun s2 h => ?_)
    refine v_al0 dX3_leads_67 ?_
    refine v_gR cok2 h dX3_leads_68 (by decide) q369 rfl (fun x3 h => ?_)
    refine v_al2 dX3_leads_71 ?_
    refine v_gIN cok3 h dX3_leads_72 (by decide) q269 rfl (fun x4 h => ?_)
    refine v_aI h dX3_leads_75 (fun x5 h => ?_)
    refine v_iconst dX3_leads_76 ?_
    refine v_icmp_eq (tgt := 103) dX3_leads_77 (by decide) (fun c => ?_) (fun c => ?_)
    · rw [if_pos c] at h
      exact v_weak (wss (wss (wss (wsn wse)))) (lX3_leads_103 h)
    · rw [if_neg c] at h
      refine v_al0 dX3_leads_80 ?_
      refine v_gR cok2 h dX3_leads_81 (by decide) q369 rfl (fun x6 h => ?_)
      refine v_al2 dX3_leads_84 ?_
      refine v_gIN cok3 h dX3_leads_85 (by decide) q269 rfl (fun x7 h => ?_)
      refine v_aI h dX3_leads_88 (fun x8 h => ?_)
      refine v_il1 dX3_leads_89 ?_
      refine v_icmp_eq (tgt := 103) dX3_leads_90 (by decide) (fun c => ?_) (fun c => ?_)
      · rw [if_pos c] at h
        exact v_weak (wss (wss (wss (wsn wse)))) (lX3_leads_103 h)
      · rw [if_neg c] at h
        refine v_al0 dX3_leads_93 ?_
        refine v_dup dX3_leads_94 ?_
        refine v_gI cok2 h dX3_leads_95 (by decide) q377 rfl (fun x9 h => ?_)
        refine v_iconst dX3_leads_98 ?_
        refine v_iadd dX3_leads_99 ?_
        refine v_pI cok2 h dX3_leads_100 (by decide) q377 rfl rfl (fun s10 h => ?_)
        exact v_weak (wss (wss (wss (wsn wse)))) (lX3_leads_103 h)
  · rw [if_neg c] at h
    refine v_al2 dX3_leads_25 ?_
    refine v_gRN cok3 h dX3_leads_26 (by decide) q260 rfl (fun x11 h => ?_)
    refine v_il3 dX3_leads_29 ?_
    refine v_al2 dX3_leads_30 ?_
    obtain ⟨b31, er, ka, h⟩ := cV_some h
    obtain ⟨x12, s13, h1, h⟩ := cl_some h
    refine v_callV1 cok3 (As := []) er ka (tX4_last h1) (lw_V q643 q644 q645 q162 q646) rfl dsX4_last ⟨Nat.le_of_ble_eq_true rfl, Nat.le_of_ble_eq_true rfl⟩ (Nat.le_of_ble_eq_true rfl) dX3_leads_31 rfl ?_
    refine v_iconst dX3_leads_34 ?_
    refine v_iadd dX3_leads_35 ?_
    refine v_sI h dX3_leads_36 (fun s14 h => ?_)
    refine v_al2 dX3_leads_37 ?_
    refine v_gRN cok3 h dX3_leads_38 (by decide) q263 rfl (fun x15 h => ?_)
    refine v_il3 dX3_leads_41 ?_
    refine v_iconst dX3_leads_42 ?_
    refine v_sI h dX3_leads_43 (fun s16 h => ?_)
    refine v_al2 dX3_leads_44 ?_
    refine v_gRN cok3 h dX3_leads_45 (by decide) q266 rfl (fun x17 h => ?_)
    refine v_il3 dX3_leads_48 ?_
    refine v_iconst dX3_leads_49 ?_
    refine v_sI h dX3_leads_50 (fun s18 h => ?_)
    refine v_iinc (L' := [some (vr v0), some (vi v1), some (vr v2), some (vi (v3 + iI 1))]) dX3_leads_51 (Nat.le_of_ble_eq_true rfl) rfl rfl ?_
    refine v_goto (tgt := 19) dX3_leads_54 (by decide) ?_
    exact v_weak (wss (wss (wss (wss wse)))) (hk19 _ _ _ _ _ _ h)
theorem lX3_leads_19 {E : EE} {G : GG} : ∀ (f : Nat) {v0 : Option Nat} {v1 : Int32} {v2 : Option Nat} {v3 : Int32} {σ : Mem} {z : Unit × Mem}, sX3_leads_19 f v0 v1 v2 v3 σ = some z → V E mX3_leads G 19 [some (vr v0), some (vi v1), some (vr v2), some (vi v3)] [] σ (none, z.2)
  | 0, _, _, _, _, _, _, h => by cases h
  | f + 1, _, _, _, _, _, _, h => lX3_leads_19b (fun _ _ _ _ _ _ h => lX3_leads_19 f h) h
theorem lX3_leads {E : EE} {G : GG} {v0 : Option Nat} {v1 : Int32} {σ : Mem} {z : Unit × Mem} (h : sX3_leads v0 v1 σ = some z) : V E mX3_leads G 0 [some (vr v0), some (vi v1), none, none] [] σ (none, z.2) := by
  unfold sX3_leads at h
  refine v_al0 dX3_leads_0 ?_
  refine v_gR cok2 h dX3_leads_1 (by decide) q359 rfl (fun x1 h => ?_)
  refine v_il1 dX3_leads_4 ?_
  refine v_aR h (by decide) dX3_leads_5 (fun x2 h => ?_)
  refine v_astore_n (L' := [some (vr v0), some (vi v1), some (vr x2), none]) dX3_leads_6 (Nat.le_of_ble_eq_true rfl) (Nat.le_of_ble_eq_true rfl) rfl ?_
  refine v_al2 dX3_leads_7 ?_
  refine v_iconst dX3_leads_8 ?_
  refine v_pIN cok3 h dX3_leads_9 (by decide) q287 rfl rfl (fun s3 h => ?_)
  refine v_al2 dX3_leads_12 ?_
  refine v_il1 dX3_leads_13 ?_
  refine v_pIN cok3 h dX3_leads_14 (by decide) q295 rfl rfl (fun s4 h => ?_)
  refine v_iconst dX3_leads_17 ?_
  refine v_istore_n (L' := [some (vr v0), some (vi v1), some (vr x2), some (vi (iI 0))]) dX3_leads_18 (Nat.le_of_ble_eq_true rfl) (Nat.le_of_ble_eq_true rfl) rfl ?_
  exact v_weak (wss (wss (wss (wss wse)))) (lX3_leads_19 FU h)
theorem tX3_leads {E : EE} {l : Launch} {v0 : Option Nat} {v1 : Int32} {σ : Mem} {z : Unit × Mem} (h : sX3_leads v0 v1 σ = some z) : Mt E l mX3_leads [vr v0, vi v1] σ (none, z.2) :=
  Mt.ofVL (by decide) (Nat.le_of_ble_eq_true rfl) (fun G hG => lX3_leads h)
abbrev mX3_countsVote : MM := (yX3_countsVote, cX3_countsVote, 3, (Option.none : Option Jvm.ClassFile.FieldType), 95, 8654)
theorem dsX3_countsVote : DsOk yX3_countsVote 1 := ⟨by decide, by decide, by decide +kernel⟩
theorem lX3_countsVote {E : EE} {G : GG} {v0 : Option Nat} {v1 : Int32} {σ : Mem} {z : Unit × Mem} (h : sX3_countsVote v0 v1 σ = some z) : V E mX3_countsVote G 0 [some (vr v0), some (vi v1), none] [] σ (none, z.2) := by
  unfold sX3_countsVote at h
  refine v_al0 dX3_countsVote_0 ?_
  refine v_gR cok2 h dX3_countsVote_1 (by decide) q359 rfl (fun x1 h => ?_)
  refine v_il1 dX3_countsVote_4 ?_
  refine v_aR h (by decide) dX3_countsVote_5 (fun x2 h => ?_)
  refine v_astore_n (L' := [some (vr v0), some (vi v1), some (vr x2)]) dX3_countsVote_6 (Nat.le_of_ble_eq_true rfl) (Nat.le_of_ble_eq_true rfl) rfl ?_
  refine v_al2 dX3_countsVote_7 ?_
  refine v_gIN cok3 h dX3_countsVote_8 (by decide) q287 rfl (fun x3 h => ?_)
  refine v_iconst dX3_countsVote_11 ?_
  refine v_icmp_ne (tgt := 37) dX3_countsVote_12 (by decide) (fun c => ?_) (fun c => ?_)
  · rw [if_neg c] at h
    exact v_retV h dX3_countsVote_37 rfl
  · rw [if_pos c] at h
    refine v_al0 dX3_countsVote_15 ?_
    refine v_gR cok2 h dX3_countsVote_16 (by decide) q387 rfl (fun x4 h => ?_)
    refine v_iconst dX3_countsVote_19 ?_
    refine v_aI h dX3_countsVote_20 (fun x5 h => ?_)
    refine v_al2 dX3_countsVote_21 ?_
    refine v_gIN cok3 h dX3_countsVote_22 (by decide) q269 rfl (fun x6 h => ?_)
    refine v_icmp_ne (tgt := 37) dX3_countsVote_25 (by decide) (fun c => ?_) (fun c => ?_)
    · rw [if_neg c] at h
      exact v_retV h dX3_countsVote_37 rfl
    · rw [if_pos c] at h
      refine v_al0 dX3_countsVote_28 ?_
      refine v_gR cok2 h dX3_countsVote_29 (by decide) q387 rfl (fun x7 h => ?_)
      refine v_iconst dX3_countsVote_32 ?_
      refine v_aI h dX3_countsVote_33 (fun x8 h => ?_)
      refine v_if_ne (tgt := 38) dX3_countsVote_34 (by decide) (fun c => ?_) (fun c => ?_)
      · rw [if_neg c] at h
        refine v_al2 dX3_countsVote_38 ?_
        refine v_dup dX3_countsVote_39 ?_
        refine v_gIN cok3 h dX3_countsVote_40 (by decide) q298 rfl (fun x9 h => ?_)
        refine v_iconst dX3_countsVote_43 ?_
        refine v_al0 dX3_countsVote_44 ?_
        refine v_gR cok2 h dX3_countsVote_45 (by decide) q387 rfl (fun x10 h => ?_)
        refine v_iconst dX3_countsVote_48 ?_
        refine v_aI h dX3_countsVote_49 (fun x11 h => ?_)
        refine v_ishl dX3_countsVote_50 ?_
        refine v_ior dX3_countsVote_51 ?_
        refine v_pIN cok3 h dX3_countsVote_52 (by decide) q298 rfl rfl (fun s12 h => ?_)
        refine v_al2 dX3_countsVote_55 ?_
        refine v_al2 dX3_countsVote_56 ?_
        refine v_gIN cok3 h dX3_countsVote_57 (by decide) q298 rfl (fun x13 h => ?_)
        obtain ⟨b60, er, ka, h⟩ := cV_some h
        obtain ⟨x14, s15, h1, h⟩ := cl_some h
        refine v_callV1 cok3 (As := [vi x13]) er ka (tX4_isMajority h1) (lw_V q715 q716 q717 q162 q718) rfl dsX4_isMajority ⟨Nat.le_of_ble_eq_true rfl, Nat.le_of_ble_eq_true rfl⟩ (Nat.le_of_ble_eq_true rfl) dX3_countsVote_60 rfl ?_
        refine v_if_eq (tgt := 71) dX3_countsVote_63 (by decide) (fun c => ?_) (fun c => ?_)
        · rw [if_pos c] at h
          exact v_retV h dX3_countsVote_71 rfl
        · rw [if_neg c] at h
          refine v_al0 dX3_countsVote_66 ?_
          refine v_il1 dX3_countsVote_67 ?_
          obtain ⟨b68, er, ka, h⟩ := cV_some h
          obtain ⟨_, s16, h1, h⟩ := cl_some h
          refine v_callV0 cok2 (As := [vi v1]) er ka (tX3_leads h1) (lw_V q1167 q1169 qs41 q161 q1170) rfl dsX3_leads ⟨Nat.le_of_ble_eq_true rfl, Nat.le_of_ble_eq_true rfl⟩ (Nat.le_of_ble_eq_true rfl) dX3_countsVote_68 rfl ?_
          exact v_retV h dX3_countsVote_71 rfl
      · rw [if_pos c] at h
        exact v_retV h dX3_countsVote_37 rfl
theorem tX3_countsVote {E : EE} {l : Launch} {v0 : Option Nat} {v1 : Int32} {σ : Mem} {z : Unit × Mem} (h : sX3_countsVote v0 v1 σ = some z) : Mt E l mX3_countsVote [vr v0, vi v1] σ (none, z.2) :=
  Mt.ofVL (by decide) (Nat.le_of_ble_eq_true rfl) (fun G hG => lX3_countsVote h)
abbrev mX3_comesTo : MM := (yX3_comesTo, cX3_comesTo, 6, (Option.some Jvm.ClassFile.FieldType.boolean), 4, 91)
theorem dsX3_comesTo : DsOk yX3_comesTo 3 := ⟨by decide, by decide, by decide +kernel⟩
theorem lX3_comesTo_102 {E : EE} {G : GG} {v0 : Option Nat} {v4 : Option Nat} {v5 : Int32} {σ : Mem} {z : Int32 × Mem} (h : sX3_comesTo_102 v0 v4 v5 σ = some z) : V E mX3_comesTo G 102 [some (vr v0), none, none, none, some (vr v4), some (vi v5)] [] σ (some (vi z.1), z.2) := by
  unfold sX3_comesTo_102 at h
  refine v_aload dX3_comesTo_102 rfl ?_
  refine v_al0 dX3_comesTo_104 ?_
  refine v_gR cok2 h dX3_comesTo_105 (by decide) q387 rfl (fun x1 h => ?_)
  refine v_iload dX3_comesTo_108 rfl ?_
  refine v_aI h dX3_comesTo_110 (fun x2 h => ?_)
  refine v_al0 dX3_comesTo_111 ?_
  refine v_gR cok2 h dX3_comesTo_112 (by decide) q387 rfl (fun x3 h => ?_)
  refine v_iload dX3_comesTo_115 rfl ?_
  refine v_iconst dX3_comesTo_117 ?_
  refine v_iadd dX3_comesTo_118 ?_
  refine v_aI h dX3_comesTo_119 (fun x4 h => ?_)
  refine v_al0 dX3_comesTo_120 ?_
  refine v_gR cok2 h dX3_comesTo_121 (by decide) q387 rfl (fun x5 h => ?_)
  refine v_iload dX3_comesTo_124 rfl ?_
  refine v_iconst dX3_comesTo_126 ?_
  refine v_iadd dX3_comesTo_127 ?_
  refine v_aI h dX3_comesTo_128 (fun x6 h => ?_)
  refine v_al0 dX3_comesTo_129 ?_
  refine v_gR cok2 h dX3_comesTo_130 (by decide) q387 rfl (fun x7 h => ?_)
  refine v_iload dX3_comesTo_133 rfl ?_
  refine v_iconst dX3_comesTo_135 ?_
  refine v_iadd dX3_comesTo_136 ?_
  refine v_aI h dX3_comesTo_137 (fun x8 h => ?_)
  obtain ⟨b138, er, ka, h⟩ := cV_some h
  obtain ⟨x9, s10, h1, h⟩ := cl_some h
  refine v_callV1 cok3 (As := [vi x2, vi x4, vi x6, vi x8]) er ka (tX4_lays h1) (lw_V q651 q652 q653 q162 q654) rfl dsX4_lays ⟨Nat.le_of_ble_eq_true rfl, Nat.le_of_ble_eq_true rfl⟩ (Nat.le_of_ble_eq_true rfl) dX3_comesTo_138 rfl ?_
  exact v_retZ h dX3_comesTo_141 rfl
theorem lX3_comesTo_88 {E : EE} {G : GG} {v0 : Option Nat} {v2 : Int32} {v4 : Option Nat} {v5 : Int32} {σ : Mem} {z : Int32 × Mem} (h : sX3_comesTo_88 v0 v2 v4 v5 σ = some z) : V E mX3_comesTo G 88 [some (vr v0), none, some (vi v2), none, some (vr v4), some (vi v5)] [] σ (some (vi z.1), z.2) := by
  unfold sX3_comesTo_88 at h
  refine v_aload dX3_comesTo_88 rfl ?_
  refine v_il2 dX3_comesTo_90 ?_
  refine v_aload dX3_comesTo_91 rfl ?_
  refine v_gIN cok3 h dX3_comesTo_93 (by decide) q275 rfl (fun x1 h => ?_)
  refine v_isub dX3_comesTo_96 ?_
  refine v_iconst dX3_comesTo_97 ?_
  refine v_isub dX3_comesTo_98 ?_
  refine v_pIN cok3 h dX3_comesTo_99 (by decide) q284 rfl rfl (fun s2 h => ?_)
  exact v_weak (wss (wsn (wsn (wsn (wss (wss wse)))))) (lX3_comesTo_102 h)
theorem lX3_comesTo_52 {E : EE} {G : GG} {v0 : Option Nat} {v2 : Int32} {v4 : Option Nat} {v5 : Int32} {σ : Mem} {z : Int32 × Mem} (h : sX3_comesTo_52 v0 v2 v4 v5 σ = some z) : V E mX3_comesTo G 52 [some (vr v0), none, some (vi v2), none, some (vr v4), some (vi v5)] [] σ (some (vi z.1), z.2) := by
  unfold sX3_comesTo_52 at h
  refine v_aload dX3_comesTo_52 rfl ?_
  refine v_il2 dX3_comesTo_54 ?_
  obtain ⟨b55, er, ka, h⟩ := cV_some h
  obtain ⟨x1, s2, h1, h⟩ := cl_some h
  refine v_callV1 cok3 (As := [vi v2]) er ka (tX4_hasEntry h1) (lw_V q1184 q1185 q1186 q162 q1187) rfl dsX4_hasEntry ⟨Nat.le_of_ble_eq_true rfl, Nat.le_of_ble_eq_true rfl⟩ (Nat.le_of_ble_eq_true rfl) dX3_comesTo_55 rfl ?_
  refine v_if_eq (tgt := 102) dX3_comesTo_58 (by decide) (fun c => ?_) (fun c => ?_)
  · rw [if_pos c] at h
    exact v_weak (wss (wsn (wsn (wsn (wss (wss wse)))))) (lX3_comesTo_102 h)
  · rw [if_neg c] at h
    refine v_il2 dX3_comesTo_61 ?_
    refine v_aload dX3_comesTo_62 rfl ?_
    refine v_gIN cok3 h dX3_comesTo_64 (by decide) q289 rfl (fun x3 h => ?_)
    refine v_icmp_gt (tgt := 88) dX3_comesTo_67 (by decide) (fun c => ?_) (fun c => ?_)
    · rw [if_pos c] at h
      exact v_weak (wss (wsn (wss (wsn (wss (wss wse)))))) (lX3_comesTo_88 h)
    · rw [if_neg c] at h
      refine v_al0 dX3_comesTo_70 ?_
      refine v_dup dX3_comesTo_71 ?_
      refine v_gI cok2 h dX3_comesTo_72 (by decide) q377 rfl (fun x4 h => ?_)
      refine v_iconst dX3_comesTo_75 ?_
      refine v_iadd dX3_comesTo_76 ?_
      refine v_pI cok2 h dX3_comesTo_77 (by decide) q377 rfl rfl (fun s5 h => ?_)
      refine v_aload dX3_comesTo_80 rfl ?_
      refine v_il2 dX3_comesTo_82 ?_
      refine v_iconst dX3_comesTo_83 ?_
      refine v_isub dX3_comesTo_84 ?_
      refine v_pIN cok3 h dX3_comesTo_85 (by decide) q289 rfl rfl (fun s6 h => ?_)
      exact v_weak (wss (wsn (wss (wsn (wss (wss wse)))))) (lX3_comesTo_88 h)
theorem lX3_comesTo {E : EE} {G : GG} {v0 : Option Nat} {v1 : Int32} {v2 : Int32} {v3 : Int32} {σ : Mem} {z : Int32 × Mem} (h : sX3_comesTo v0 v1 v2 v3 σ = some z) : V E mX3_comesTo G 0 [some (vr v0), some (vi v1), some (vi v2), some (vi v3), none, none] [] σ (some (vi z.1), z.2) := by
  unfold sX3_comesTo at h
  refine v_al0 dX3_comesTo_0 ?_
  refine v_gR cok2 h dX3_comesTo_1 (by decide) q359 rfl (fun x1 h => ?_)
  refine v_il1 dX3_comesTo_4 ?_
  refine v_aR h (by decide) dX3_comesTo_5 (fun x2 h => ?_)
  refine v_astore (L' := [some (vr v0), some (vi v1), some (vi v2), some (vi v3), some (vr x2), none]) dX3_comesTo_6 (Nat.le_of_ble_eq_true rfl) (Nat.le_of_ble_eq_true rfl) rfl ?_
  refine v_bipush dX3_comesTo_8 rfl ?_
  refine v_iconst dX3_comesTo_10 ?_
  refine v_il3 dX3_comesTo_11 ?_
  refine v_imul dX3_comesTo_12 ?_
  refine v_iadd dX3_comesTo_13 ?_
  refine v_istore (L' := [some (vr v0), some (vi v1), some (vi v2), some (vi v3), some (vr x2), some (vi ((iI 10) + ((iI 4) * v3)))]) dX3_comesTo_14 (Nat.le_of_ble_eq_true rfl) (Nat.le_of_ble_eq_true rfl) rfl ?_
  refine v_il2 dX3_comesTo_16 ?_
  refine v_aload dX3_comesTo_17 rfl ?_
  refine v_gIN cok3 h dX3_comesTo_19 (by decide) q275 rfl (fun x3 h => ?_)
  refine v_icmp_le (tgt := 50) dX3_comesTo_22 (by decide) (fun c => ?_) (fun c => ?_)
  · rw [if_pos c] at h
    refine v_iconst dX3_comesTo_50 ?_
    exact v_retZ h dX3_comesTo_51 rfl
  · rw [if_neg c] at h
    refine v_aload dX3_comesTo_25 rfl ?_
    refine v_il2 dX3_comesTo_27 ?_
    obtain ⟨b28, er, ka, h⟩ := cV_some h
    obtain ⟨x4, s5, h1, h⟩ := cl_some h
    refine v_callV1 cok3 (As := [vi v2]) er ka (tX4_hasEntry h1) (lw_V q1184 q1185 q1186 q162 q1187) rfl dsX4_hasEntry ⟨Nat.le_of_ble_eq_true rfl, Nat.le_of_ble_eq_true rfl⟩ (Nat.le_of_ble_eq_true rfl) dX3_comesTo_28 rfl ?_
    refine v_if_eq (tgt := 52) dX3_comesTo_31 (by decide) (fun c => ?_) (fun c => ?_)
    · rw [if_pos c] at h
      exact v_weak (wss (wsn (wss (wsn (wss (wss wse)))))) (lX3_comesTo_52 h)
    · rw [if_neg c] at h
      refine v_aload dX3_comesTo_34 rfl ?_
      refine v_il2 dX3_comesTo_36 ?_
      obtain ⟨b37, er, ka, h⟩ := cV_some h
      obtain ⟨x6, s7, h1, h⟩ := cl_some h
      refine v_callV1 cok3 (As := [vi v2]) er ka (tX4_termAt h1) (lw_V q684 q624 q625 q162 q626) rfl dsX4_termAt ⟨Nat.le_of_ble_eq_true rfl, Nat.le_of_ble_eq_true rfl⟩ (Nat.le_of_ble_eq_true rfl) dX3_comesTo_37 rfl ?_
      refine v_al0 dX3_comesTo_40 ?_
      refine v_gR cok2 h dX3_comesTo_41 (by decide) q387 rfl (fun x8 h => ?_)
      refine v_iload dX3_comesTo_44 rfl ?_
      refine v_aI h dX3_comesTo_46 (fun x9 h => ?_)
      refine v_icmp_ne (tgt := 52) dX3_comesTo_47 (by decide) (fun c => ?_) (fun c => ?_)
      · rw [if_neg c] at h
        exact v_weak (wss (wsn (wss (wsn (wss (wss wse)))))) (lX3_comesTo_52 h)
      · rw [if_pos c] at h
        refine v_iconst dX3_comesTo_50 ?_
        exact v_retZ h dX3_comesTo_51 rfl
theorem tX3_comesTo {E : EE} {l : Launch} {v0 : Option Nat} {v1 : Int32} {v2 : Int32} {v3 : Int32} {σ : Mem} {z : Int32 × Mem} (h : sX3_comesTo v0 v1 v2 v3 σ = some z) : Mt E l mX3_comesTo [vr v0, vi v1, vi v2, vi v3] σ (some (vi z.1), z.2) :=
  Mt.ofVL (by decide) (Nat.le_of_ble_eq_true rfl) (fun G hG => lX3_comesTo h)
abbrev mX3_takesEntries : MM := (yX3_takesEntries, cX3_takesEntries, 7, (Option.none : Option Jvm.ClassFile.FieldType), 88, 8185)
theorem dsX3_takesEntries : DsOk yX3_takesEntries 1 := ⟨by decide, by decide, by decide +kernel⟩
theorem lX3_takesEntries_186 {E : EE} {G : GG} {v0 : Option Nat} {v1 : Int32} {v3 : Int32} {v5 : Int32} {σ : Mem} {z : Unit × Mem} (h : sX3_takesEntries_186 v0 v1 v3 v5 σ = some z) : V E mX3_takesEntries G 186 [some (vr v0), some (vi v1), none, some (vi v3), none, some (vi v5), none] [] σ (none, z.2) := by
  unfold sX3_takesEntries_186 at h
  refine v_al0 dX3_takesEntries_186 ?_
  refine v_il1 dX3_takesEntries_187 ?_
  refine v_al0 dX3_takesEntries_188 ?_
  refine v_gR cok2 h dX3_takesEntries_189 (by decide) q387 rfl (fun x1 h => ?_)
  refine v_bipush dX3_takesEntries_192 rfl ?_
  refine v_aI h dX3_takesEntries_194 (fun x2 h => ?_)
  refine v_iload dX3_takesEntries_195 rfl ?_
  refine v_mmin dX3_takesEntries_197 q530 q531 q166 q532 (by decide) (by decide) (Nat.le_of_ble_eq_true rfl) ?_
  obtain ⟨b200, er, ka, h⟩ := cV_some h
  obtain ⟨_, s3, h1, h⟩ := cl_some h
  refine v_callV0 cok2 (As := [vi v1, vi (mni x2 v5)]) er ka (tX3_commits h1) (lw_V q728 q730 qs8 q161 q731) rfl dsX3_commits ⟨Nat.le_of_ble_eq_true rfl, Nat.le_of_ble_eq_true rfl⟩ (Nat.le_of_ble_eq_true rfl) dX3_takesEntries_200 rfl ?_
  refine v_al0 dX3_takesEntries_203 ?_
  refine v_il1 dX3_takesEntries_204 ?_
  refine v_il3 dX3_takesEntries_205 ?_
  refine v_iconst dX3_takesEntries_206 ?_
  refine v_iconst dX3_takesEntries_207 ?_
  refine v_iload dX3_takesEntries_208 rfl ?_
  refine v_al0 dX3_takesEntries_210 ?_
  refine v_gR cok2 h dX3_takesEntries_211 (by decide) q387 rfl (fun x4 h => ?_)
  refine v_bipush dX3_takesEntries_214 rfl ?_
  refine v_aI h dX3_takesEntries_216 (fun x5 h => ?_)
  obtain ⟨b217, er, ka, h⟩ := cV_some h
  obtain ⟨_, s6, h1, h⟩ := cl_some h
  refine v_callV0 cok2 (As := [vi v1, vi v3, vi (iI 3), vi (iI 1), vi v5, vi x5]) er ka (tX3_answers h1) (lw_V q1159 q1161 qs39 q161 q1162) rfl dsX3_answers ⟨Nat.le_of_ble_eq_true rfl, Nat.le_of_ble_eq_true rfl⟩ (Nat.le_of_ble_eq_true rfl) dX3_takesEntries_217 rfl ?_
  exact v_retV h dX3_takesEntries_220 rfl
theorem lX3_takesEntries_142b {E : EE} {G : GG} {k142 : Option Nat → Int32 → Int32 → Int32 → Int32 → Int32 → Mem → Option (Unit × Mem)} (hk142 : ∀ (v0 : Option Nat) (v1 : Int32) (v3 : Int32) (v4 : Int32) (v5 : Int32) (v6 : Int32) (s : Mem) (z : Unit × Mem), k142 v0 v1 v3 v4 v5 v6 s = some z → V E mX3_takesEntries G 142 [some (vr v0), some (vi v1), none, some (vi v3), some (vi v4), some (vi v5), some (vi v6)] [] s (none, z.2)) {v0 : Option Nat} {v1 : Int32} {v3 : Int32} {v4 : Int32} {v5 : Int32} {v6 : Int32} {σ : Mem} {z : Unit × Mem} (h : sX3_takesEntries_142b k142 v0 v1 v3 v4 v5 v6 σ = some z) : V E mX3_takesEntries G 142 [some (vr v0), some (vi v1), none, some (vi v3), some (vi v4), some (vi v5), some (vi v6)] [] σ (none, z.2) := by
  unfold sX3_takesEntries_142b at h
  refine v_iload dX3_takesEntries_142 rfl ?_
  refine v_al0 dX3_takesEntries_144 ?_
  refine v_gR cok2 h dX3_takesEntries_145 (by decide) q387 rfl (fun x1 h => ?_)
  refine v_bipush dX3_takesEntries_148 rfl ?_
  refine v_aI h dX3_takesEntries_150 (fun x2 h => ?_)
  refine v_icmp_ge (tgt := 186) dX3_takesEntries_151 (by decide) (fun c => ?_) (fun c => ?_)
  · rw [if_pos c] at h
    exact v_weak (wss (wss (wsn (wss (wsn (wss (wsn wse))))))) (lX3_takesEntries_186 h)
  · rw [if_neg c] at h
    refine v_al0 dX3_takesEntries_154 ?_
    refine v_il1 dX3_takesEntries_155 ?_
    refine v_iload dX3_takesEntries_156 rfl ?_
    refine v_iconst dX3_takesEntries_158 ?_
    refine v_iadd dX3_takesEntries_159 ?_
    refine v_iload dX3_takesEntries_160 rfl ?_
    refine v_iadd dX3_takesEntries_162 ?_
    refine v_iload dX3_takesEntries_163 rfl ?_
    obtain ⟨b165, er, ka, h⟩ := cV_some h
    obtain ⟨x3, s4, h1, h⟩ := cl_some h
    refine v_callV1 cok2 (As := [vi v1, vi ((v4 + (iI 1)) + v6), vi v6]) er ka (tX3_comesTo h1) (lw_V q1180 q1182 qs43 q161 q1183) rfl dsX3_comesTo ⟨Nat.le_of_ble_eq_true rfl, Nat.le_of_ble_eq_true rfl⟩ (Nat.le_of_ble_eq_true rfl) dX3_takesEntries_165 rfl ?_
    refine v_if_eq (tgt := 186) dX3_takesEntries_168 (by decide) (fun c => ?_) (fun c => ?_)
    · rw [if_pos c] at h
      exact v_weak (wss (wss (wsn (wss (wsn (wss (wsn wse))))))) (lX3_takesEntries_186 h)
    · rw [if_neg c] at h
      refine v_iload dX3_takesEntries_171 rfl ?_
      refine v_iconst dX3_takesEntries_173 ?_
      refine v_iadd dX3_takesEntries_174 ?_
      refine v_iload dX3_takesEntries_175 rfl ?_
      refine v_iadd dX3_takesEntries_177 ?_
      refine v_istore (L' := [some (vr v0), some (vi v1), none, some (vi v3), some (vi v4), some (vi ((v4 + (iI 1)) + v6)), some (vi v6)]) dX3_takesEntries_178 (Nat.le_of_ble_eq_true rfl) (Nat.le_of_ble_eq_true rfl) rfl ?_
      refine v_iinc (L' := [some (vr v0), some (vi v1), none, some (vi v3), some (vi v4), some (vi ((v4 + (iI 1)) + v6)), some (vi (v6 + iI 1))]) dX3_takesEntries_180 (Nat.le_of_ble_eq_true rfl) rfl rfl ?_
      refine v_goto (tgt := 142) dX3_takesEntries_183 (by decide) ?_
      exact v_weak (wss (wss (wsn (wss (wss (wss (wss wse))))))) (hk142 _ _ _ _ _ _ _ _ h)
theorem lX3_takesEntries_142 {E : EE} {G : GG} : ∀ (f : Nat) {v0 : Option Nat} {v1 : Int32} {v3 : Int32} {v4 : Int32} {v5 : Int32} {v6 : Int32} {σ : Mem} {z : Unit × Mem}, sX3_takesEntries_142 f v0 v1 v3 v4 v5 v6 σ = some z → V E mX3_takesEntries G 142 [some (vr v0), some (vi v1), none, some (vi v3), some (vi v4), some (vi v5), some (vi v6)] [] σ (none, z.2)
  | 0, _, _, _, _, _, _, _, _, h => by cases h
  | f + 1, _, _, _, _, _, _, _, _, h => lX3_takesEntries_142b (fun _ _ _ _ _ _ _ _ h => lX3_takesEntries_142 f h) h
theorem lX3_takesEntries_135 {E : EE} {G : GG} {v0 : Option Nat} {v1 : Int32} {v3 : Int32} {v4 : Int32} {σ : Mem} {z : Unit × Mem} (h : sX3_takesEntries_135 v0 v1 v3 v4 σ = some z) : V E mX3_takesEntries G 135 [some (vr v0), some (vi v1), none, some (vi v3), some (vi v4), none, none] [] σ (none, z.2) := by
  unfold sX3_takesEntries_135 at h
  refine v_iload dX3_takesEntries_135 rfl ?_
  refine v_istore (L' := [some (vr v0), some (vi v1), none, some (vi v3), some (vi v4), some (vi v4), none]) dX3_takesEntries_137 (Nat.le_of_ble_eq_true rfl) (Nat.le_of_ble_eq_true rfl) rfl ?_
  refine v_iconst dX3_takesEntries_139 ?_
  refine v_istore (L' := [some (vr v0), some (vi v1), none, some (vi v3), some (vi v4), some (vi v4), some (vi (iI 0))]) dX3_takesEntries_140 (Nat.le_of_ble_eq_true rfl) (Nat.le_of_ble_eq_true rfl) rfl ?_
  exact v_weak (wss (wss (wsn (wss (wss (wss (wss wse))))))) (lX3_takesEntries_142 FU h)
theorem lX3_takesEntries {E : EE} {G : GG} {v0 : Option Nat} {v1 : Int32} {σ : Mem} {z : Unit × Mem} (h : sX3_takesEntries v0 v1 σ = some z) : V E mX3_takesEntries G 0 [some (vr v0), some (vi v1), none, none, none, none, none] [] σ (none, z.2) := by
  unfold sX3_takesEntries at h
  refine v_al0 dX3_takesEntries_0 ?_
  refine v_gR cok2 h dX3_takesEntries_1 (by decide) q359 rfl (fun x1 h => ?_)
  refine v_il1 dX3_takesEntries_4 ?_
  refine v_aR h (by decide) dX3_takesEntries_5 (fun x2 h => ?_)
  refine v_astore_n (L' := [some (vr v0), some (vi v1), some (vr x2), none, none, none, none]) dX3_takesEntries_6 (Nat.le_of_ble_eq_true rfl) (Nat.le_of_ble_eq_true rfl) rfl ?_
  refine v_al0 dX3_takesEntries_7 ?_
  refine v_gR cok2 h dX3_takesEntries_8 (by decide) q387 rfl (fun x3 h => ?_)
  refine v_iconst dX3_takesEntries_11 ?_
  refine v_aI h dX3_takesEntries_12 (fun x4 h => ?_)
  refine v_istore_n (L' := [some (vr v0), some (vi v1), some (vr x2), some (vi x4), none, none, none]) dX3_takesEntries_13 (Nat.le_of_ble_eq_true rfl) (Nat.le_of_ble_eq_true rfl) rfl ?_
  refine v_al0 dX3_takesEntries_14 ?_
  refine v_gR cok2 h dX3_takesEntries_15 (by decide) q387 rfl (fun x5 h => ?_)
  refine v_iconst dX3_takesEntries_18 ?_
  refine v_aI h dX3_takesEntries_19 (fun x6 h => ?_)
  refine v_al2 dX3_takesEntries_20 ?_
  refine v_gIN cok3 h dX3_takesEntries_21 (by decide) q269 rfl (fun x7 h => ?_)
  refine v_icmp_ge (tgt := 38) dX3_takesEntries_24 (by decide) (fun c => ?_) (fun c => ?_)
  · rw [if_pos c] at h
    refine v_al0 dX3_takesEntries_38 ?_
    refine v_il1 dX3_takesEntries_39 ?_
    refine v_il3 dX3_takesEntries_40 ?_
    obtain ⟨b41, er, ka, h⟩ := cV_some h
    obtain ⟨_, s8, h1, h⟩ := cl_some h
    refine v_callV0 cok2 (As := [vi v1, vi x4]) er ka (tX3_follows h1) (lw_V q741 q743 qs10 q161 q744) rfl dsX3_follows ⟨Nat.le_of_ble_eq_true rfl, Nat.le_of_ble_eq_true rfl⟩ (Nat.le_of_ble_eq_true rfl) dX3_takesEntries_41 rfl ?_
    refine v_al0 dX3_takesEntries_44 ?_
    refine v_il1 dX3_takesEntries_45 ?_
    obtain ⟨b46, er, ka, h⟩ := cV_some h
    obtain ⟨_, s9, h1, h⟩ := cl_some h
    refine v_callV0 cok2 (As := [vi v1]) er ka (tX3_setsTimer h1) (lw_V q465 q466 q467 q161 q468) rfl dsX3_setsTimer ⟨Nat.le_of_ble_eq_true rfl, Nat.le_of_ble_eq_true rfl⟩ (Nat.le_of_ble_eq_true rfl) dX3_takesEntries_46 rfl ?_
    refine v_al0 dX3_takesEntries_49 ?_
    refine v_gR cok2 h dX3_takesEntries_50 (by decide) q387 rfl (fun x10 h => ?_)
    refine v_iconst dX3_takesEntries_53 ?_
    refine v_aI h dX3_takesEntries_54 (fun x11 h => ?_)
    refine v_istore (L' := [some (vr v0), some (vi v1), some (vr x2), some (vi x4), some (vi x11), none, none]) dX3_takesEntries_55 (Nat.le_of_ble_eq_true rfl) (Nat.le_of_ble_eq_true rfl) rfl ?_
    refine v_iload dX3_takesEntries_57 rfl ?_
    refine v_al2 dX3_takesEntries_59 ?_
    obtain ⟨b60, er, ka, h⟩ := cV_some h
    obtain ⟨x12, s13, h1, h⟩ := cl_some h
    refine v_callV1 cok3 (As := []) er ka (tX4_last h1) (lw_V q643 q644 q645 q162 q646) rfl dsX4_last ⟨Nat.le_of_ble_eq_true rfl, Nat.le_of_ble_eq_true rfl⟩ (Nat.le_of_ble_eq_true rfl) dX3_takesEntries_60 rfl ?_
    refine v_icmp_le (tgt := 88) dX3_takesEntries_63 (by decide) (fun c => ?_) (fun c => ?_)
    · rw [if_pos c] at h
      refine v_iload dX3_takesEntries_88 rfl ?_
      refine v_al2 dX3_takesEntries_90 ?_
      refine v_gIN cok3 h dX3_takesEntries_91 (by decide) q275 rfl (fun x14 h => ?_)
      refine v_icmp_lt (tgt := 135) dX3_takesEntries_94 (by decide) (fun c => ?_) (fun c => ?_)
      · rw [if_pos c] at h
        exact v_weak (wss (wss (wsn (wss (wss (wsn (wsn wse))))))) (lX3_takesEntries_135 h)
      · rw [if_neg c] at h
        refine v_al2 dX3_takesEntries_97 ?_
        refine v_iload dX3_takesEntries_98 rfl ?_
        obtain ⟨b100, er, ka, h⟩ := cV_some h
        obtain ⟨x15, s16, h1, h⟩ := cl_some h
        refine v_callV1 cok3 (As := [vi x11]) er ka (tX4_termAt h1) (lw_V q684 q624 q625 q162 q626) rfl dsX4_termAt ⟨Nat.le_of_ble_eq_true rfl, Nat.le_of_ble_eq_true rfl⟩ (Nat.le_of_ble_eq_true rfl) dX3_takesEntries_100 rfl ?_
        refine v_al0 dX3_takesEntries_103 ?_
        refine v_gR cok2 h dX3_takesEntries_104 (by decide) q387 rfl (fun x17 h => ?_)
        refine v_bipush dX3_takesEntries_107 rfl ?_
        refine v_aI h dX3_takesEntries_109 (fun x18 h => ?_)
        refine v_icmp_eq (tgt := 135) dX3_takesEntries_110 (by decide) (fun c => ?_) (fun c => ?_)
        · rw [if_pos c] at h
          exact v_weak (wss (wss (wsn (wss (wss (wsn (wsn wse))))))) (lX3_takesEntries_135 h)
        · rw [if_neg c] at h
          refine v_al0 dX3_takesEntries_113 ?_
          refine v_il1 dX3_takesEntries_114 ?_
          refine v_il3 dX3_takesEntries_115 ?_
          refine v_iconst dX3_takesEntries_116 ?_
          refine v_iconst dX3_takesEntries_117 ?_
          refine v_al2 dX3_takesEntries_118 ?_
          refine v_iload dX3_takesEntries_119 rfl ?_
          obtain ⟨b121, er, ka, h⟩ := cV_some h
          obtain ⟨x19, s20, h1, h⟩ := cl_some h
          refine v_callV1 cok3 (As := [vi x11]) er ka (tX4_firstOfTerm h1) (lw_V q1175 q1176 q1177 q162 q1178) rfl dsX4_firstOfTerm ⟨Nat.le_of_ble_eq_true rfl, Nat.le_of_ble_eq_true rfl⟩ (Nat.le_of_ble_eq_true rfl) dX3_takesEntries_121 rfl ?_
          refine v_al0 dX3_takesEntries_124 ?_
          refine v_gR cok2 h dX3_takesEntries_125 (by decide) q387 rfl (fun x21 h => ?_)
          refine v_bipush dX3_takesEntries_128 rfl ?_
          refine v_aI h dX3_takesEntries_130 (fun x22 h => ?_)
          obtain ⟨b131, er, ka, h⟩ := cV_some h
          obtain ⟨_, s23, h1, h⟩ := cl_some h
          refine v_callV0 cok2 (As := [vi v1, vi x4, vi (iI 3), vi (iI 0), vi x19, vi x22]) er ka (tX3_answers h1) (lw_V q1159 q1161 qs39 q161 q1162) rfl dsX3_answers ⟨Nat.le_of_ble_eq_true rfl, Nat.le_of_ble_eq_true rfl⟩ (Nat.le_of_ble_eq_true rfl) dX3_takesEntries_131 rfl ?_
          exact v_retV h dX3_takesEntries_134 rfl
    · rw [if_neg c] at h
      refine v_al0 dX3_takesEntries_66 ?_
      refine v_il1 dX3_takesEntries_67 ?_
      refine v_il3 dX3_takesEntries_68 ?_
      refine v_iconst dX3_takesEntries_69 ?_
      refine v_iconst dX3_takesEntries_70 ?_
      refine v_al2 dX3_takesEntries_71 ?_
      obtain ⟨b72, er, ka, h⟩ := cV_some h
      obtain ⟨x24, s25, h1, h⟩ := cl_some h
      refine v_callV1 cok3 (As := []) er ka (tX4_last h1) (lw_V q643 q644 q645 q162 q646) rfl dsX4_last ⟨Nat.le_of_ble_eq_true rfl, Nat.le_of_ble_eq_true rfl⟩ (Nat.le_of_ble_eq_true rfl) dX3_takesEntries_72 rfl ?_
      refine v_iconst dX3_takesEntries_75 ?_
      refine v_iadd dX3_takesEntries_76 ?_
      refine v_al0 dX3_takesEntries_77 ?_
      refine v_gR cok2 h dX3_takesEntries_78 (by decide) q387 rfl (fun x26 h => ?_)
      refine v_bipush dX3_takesEntries_81 rfl ?_
      refine v_aI h dX3_takesEntries_83 (fun x27 h => ?_)
      obtain ⟨b84, er, ka, h⟩ := cV_some h
      obtain ⟨_, s28, h1, h⟩ := cl_some h
      refine v_callV0 cok2 (As := [vi v1, vi x4, vi (iI 3), vi (iI 0), vi (x24 + (iI 1)), vi x27]) er ka (tX3_answers h1) (lw_V q1159 q1161 qs39 q161 q1162) rfl dsX3_answers ⟨Nat.le_of_ble_eq_true rfl, Nat.le_of_ble_eq_true rfl⟩ (Nat.le_of_ble_eq_true rfl) dX3_takesEntries_84 rfl ?_
      exact v_retV h dX3_takesEntries_87 rfl
  · rw [if_neg c] at h
    refine v_al0 dX3_takesEntries_27 ?_
    refine v_il1 dX3_takesEntries_28 ?_
    refine v_il3 dX3_takesEntries_29 ?_
    refine v_iconst dX3_takesEntries_30 ?_
    refine v_iconst dX3_takesEntries_31 ?_
    refine v_iconst dX3_takesEntries_32 ?_
    refine v_iconst dX3_takesEntries_33 ?_
    obtain ⟨b34, er, ka, h⟩ := cV_some h
    obtain ⟨_, s29, h1, h⟩ := cl_some h
    refine v_callV0 cok2 (As := [vi v1, vi x4, vi (iI 3), vi (iI 0), vi (iI 1), vi (iI 0)]) er ka (tX3_answers h1) (lw_V q1159 q1161 qs39 q161 q1162) rfl dsX3_answers ⟨Nat.le_of_ble_eq_true rfl, Nat.le_of_ble_eq_true rfl⟩ (Nat.le_of_ble_eq_true rfl) dX3_takesEntries_34 rfl ?_
    exact v_retV h dX3_takesEntries_37 rfl
theorem tX3_takesEntries {E : EE} {l : Launch} {v0 : Option Nat} {v1 : Int32} {σ : Mem} {z : Unit × Mem} (h : sX3_takesEntries v0 v1 σ = some z) : Mt E l mX3_takesEntries [vr v0, vi v1] σ (none, z.2) :=
  Mt.ofVL (by decide) (Nat.le_of_ble_eq_true rfl) (fun G hG => lX3_takesEntries h)
abbrev mX3_takesSnapshot : MM := (yX3_takesSnapshot, cX3_takesSnapshot, 6, (Option.none : Option Jvm.ClassFile.FieldType), 88, 8185)
theorem dsX3_takesSnapshot : DsOk yX3_takesSnapshot 1 := ⟨by decide, by decide, by decide +kernel⟩
theorem lX3_takesSnapshot_177b {E : EE} {G : GG} {k177 : Option Nat → Int32 → Option Nat → Int32 → Int32 → Int32 → Mem → Option (Unit × Mem)} (hk177 : ∀ (v0 : Option Nat) (v1 : Int32) (v2 : Option Nat) (v3 : Int32) (v4 : Int32) (v5 : Int32) (s : Mem) (z : Unit × Mem), k177 v0 v1 v2 v3 v4 v5 s = some z → V E mX3_takesSnapshot G 177 [some (vr v0), some (vi v1), some (vr v2), some (vi v3), some (vi v4), some (vi v5)] [] s (none, z.2)) {v0 : Option Nat} {v1 : Int32} {v2 : Option Nat} {v3 : Int32} {v4 : Int32} {v5 : Int32} {σ : Mem} {z : Unit × Mem} (h : sX3_takesSnapshot_177b k177 v0 v1 v2 v3 v4 v5 σ = some z) : V E mX3_takesSnapshot G 177 [some (vr v0), some (vi v1), some (vr v2), some (vi v3), some (vi v4), some (vi v5)] [] σ (none, z.2) := by
  unfold sX3_takesSnapshot_177b at h
  refine v_iload dX3_takesSnapshot_177 rfl ?_
  refine v_bipush dX3_takesSnapshot_179 rfl ?_
  refine v_icmp_ge (tgt := 221) dX3_takesSnapshot_181 (by decide) (fun c => ?_) (fun c => ?_)
  · rw [if_pos c] at h
    refine v_al0 dX3_takesSnapshot_221 ?_
    refine v_il1 dX3_takesSnapshot_222 ?_
    refine v_il3 dX3_takesSnapshot_223 ?_
    refine v_iconst dX3_takesSnapshot_224 ?_
    refine v_iload dX3_takesSnapshot_225 rfl ?_
    refine v_al0 dX3_takesSnapshot_227 ?_
    refine v_gR cok2 h dX3_takesSnapshot_228 (by decide) q387 rfl (fun x1 h => ?_)
    refine v_bipush dX3_takesSnapshot_231 rfl ?_
    refine v_aI h dX3_takesSnapshot_233 (fun x2 h => ?_)
    refine v_iconst dX3_takesSnapshot_234 ?_
    obtain ⟨b235, er, ka, h⟩ := cV_some h
    obtain ⟨_, s3, h1, h⟩ := cl_some h
    refine v_callV0 cok2 (As := [vi v1, vi v3, vi (iI 5), vi v4, vi x2, vi (iI 0)]) er ka (tX3_answers h1) (lw_V q1159 q1161 qs39 q161 q1162) rfl dsX3_answers ⟨Nat.le_of_ble_eq_true rfl, Nat.le_of_ble_eq_true rfl⟩ (Nat.le_of_ble_eq_true rfl) dX3_takesSnapshot_235 rfl ?_
    exact v_retV h dX3_takesSnapshot_238 rfl
  · rw [if_neg c] at h
    refine v_al2 dX3_takesSnapshot_184 ?_
    refine v_gRN cok3 h dX3_takesSnapshot_185 (by decide) q257 rfl (fun x4 h => ?_)
    refine v_iload dX3_takesSnapshot_188 rfl ?_
    refine v_al0 dX3_takesSnapshot_190 ?_
    refine v_gR cok2 h dX3_takesSnapshot_191 (by decide) q387 rfl (fun x5 h => ?_)
    refine v_bipush dX3_takesSnapshot_194 rfl ?_
    refine v_iload dX3_takesSnapshot_196 rfl ?_
    refine v_iadd dX3_takesSnapshot_198 ?_
    refine v_aI h dX3_takesSnapshot_199 (fun x6 h => ?_)
    refine v_sI h dX3_takesSnapshot_200 (fun s7 h => ?_)
    refine v_al2 dX3_takesSnapshot_201 ?_
    refine v_gRN cok3 h dX3_takesSnapshot_202 (by decide) q254 rfl (fun x8 h => ?_)
    refine v_iload dX3_takesSnapshot_205 rfl ?_
    refine v_al2 dX3_takesSnapshot_207 ?_
    refine v_gRN cok3 h dX3_takesSnapshot_208 (by decide) q257 rfl (fun x9 h => ?_)
    refine v_iload dX3_takesSnapshot_211 rfl ?_
    refine v_aI h dX3_takesSnapshot_213 (fun x10 h => ?_)
    refine v_sI h dX3_takesSnapshot_214 (fun s11 h => ?_)
    refine v_iinc (L' := [some (vr v0), some (vi v1), some (vr v2), some (vi v3), some (vi v4), some (vi (v5 + iI 1))]) dX3_takesSnapshot_215 (Nat.le_of_ble_eq_true rfl) rfl rfl ?_
    refine v_goto (tgt := 177) dX3_takesSnapshot_218 (by decide) ?_
    exact v_weak (wss (wss (wss (wss (wss (wss wse)))))) (hk177 _ _ _ _ _ _ _ _ h)
theorem lX3_takesSnapshot_177 {E : EE} {G : GG} : ∀ (f : Nat) {v0 : Option Nat} {v1 : Int32} {v2 : Option Nat} {v3 : Int32} {v4 : Int32} {v5 : Int32} {σ : Mem} {z : Unit × Mem}, sX3_takesSnapshot_177 f v0 v1 v2 v3 v4 v5 σ = some z → V E mX3_takesSnapshot G 177 [some (vr v0), some (vi v1), some (vr v2), some (vi v3), some (vi v4), some (vi v5)] [] σ (none, z.2)
  | 0, _, _, _, _, _, _, _, _, h => by cases h
  | f + 1, _, _, _, _, _, _, _, _, h => lX3_takesSnapshot_177b (fun _ _ _ _ _ _ _ _ h => lX3_takesSnapshot_177 f h) h
theorem lX3_takesSnapshot_126 {E : EE} {G : GG} {v0 : Option Nat} {v1 : Int32} {v2 : Option Nat} {v3 : Int32} {v4 : Int32} {t0 : Option Nat} {t1 : Int32} {σ : Mem} {z : Unit × Mem} (h : sX3_takesSnapshot_126 v0 v1 v2 v3 v4 t0 t1 σ = some z) : V E mX3_takesSnapshot G 126 [some (vr v0), some (vi v1), some (vr v2), some (vi v3), some (vi v4), none] [vi t1, vr t0] σ (none, z.2) := by
  unfold sX3_takesSnapshot_126 at h
  obtain ⟨b126, er, ka, h⟩ := cV_some h
  obtain ⟨_, s1, h1, h⟩ := cl_some h
  refine v_callVN0 cok3 (As := [vi t1]) er ka (tX4_goes h1) q1192 q630 q629 qs1 q162 dsX4_goes ⟨Nat.le_of_ble_eq_true rfl, Nat.le_of_ble_eq_true rfl⟩ (Nat.le_of_ble_eq_true rfl) dX3_takesSnapshot_126 rfl ?_
  refine v_al2 dX3_takesSnapshot_129 ?_
  refine v_iload dX3_takesSnapshot_130 rfl ?_
  refine v_pIN cok3 h dX3_takesSnapshot_132 (by decide) q275 rfl rfl (fun s2 h => ?_)
  refine v_al2 dX3_takesSnapshot_135 ?_
  refine v_al0 dX3_takesSnapshot_136 ?_
  refine v_gR cok2 h dX3_takesSnapshot_137 (by decide) q387 rfl (fun x3 h => ?_)
  refine v_bipush dX3_takesSnapshot_140 rfl ?_
  refine v_aI h dX3_takesSnapshot_142 (fun x4 h => ?_)
  refine v_pIN cok3 h dX3_takesSnapshot_143 (by decide) q278 rfl rfl (fun s5 h => ?_)
  refine v_al2 dX3_takesSnapshot_146 ?_
  refine v_al0 dX3_takesSnapshot_147 ?_
  refine v_gR cok2 h dX3_takesSnapshot_148 (by decide) q387 rfl (fun x6 h => ?_)
  refine v_bipush dX3_takesSnapshot_151 rfl ?_
  refine v_aI h dX3_takesSnapshot_153 (fun x7 h => ?_)
  refine v_pIN cok3 h dX3_takesSnapshot_154 (by decide) q280 rfl rfl (fun s8 h => ?_)
  refine v_al2 dX3_takesSnapshot_157 ?_
  refine v_al0 dX3_takesSnapshot_158 ?_
  refine v_gR cok2 h dX3_takesSnapshot_159 (by decide) q387 rfl (fun x9 h => ?_)
  refine v_bipush dX3_takesSnapshot_162 rfl ?_
  refine v_aI h dX3_takesSnapshot_164 (fun x10 h => ?_)
  refine v_pIN cok3 h dX3_takesSnapshot_165 (by decide) q282 rfl rfl (fun s11 h => ?_)
  refine v_al2 dX3_takesSnapshot_168 ?_
  refine v_iload dX3_takesSnapshot_169 rfl ?_
  refine v_pIN cok3 h dX3_takesSnapshot_171 (by decide) q289 rfl rfl (fun s12 h => ?_)
  refine v_iconst dX3_takesSnapshot_174 ?_
  refine v_istore (L' := [some (vr v0), some (vi v1), some (vr v2), some (vi v3), some (vi v4), some (vi (iI 0))]) dX3_takesSnapshot_175 (Nat.le_of_ble_eq_true rfl) (Nat.le_of_ble_eq_true rfl) rfl ?_
  exact v_weak (wss (wss (wss (wss (wss (wss wse)))))) (lX3_takesSnapshot_177 FU h)
theorem lX3_takesSnapshot_122 {E : EE} {G : GG} {v0 : Option Nat} {v1 : Int32} {v2 : Option Nat} {v3 : Int32} {v4 : Int32} {t0 : Option Nat} {σ : Mem} {z : Unit × Mem} (h : sX3_takesSnapshot_122 v0 v1 v2 v3 v4 t0 σ = some z) : V E mX3_takesSnapshot G 122 [some (vr v0), some (vi v1), some (vr v2), some (vi v3), some (vi v4), none] [vr t0] σ (none, z.2) := by
  unfold sX3_takesSnapshot_122 at h
  refine v_al2 dX3_takesSnapshot_122 ?_
  refine v_gIN cok3 h dX3_takesSnapshot_123 (by decide) q284 rfl (fun x1 h => ?_)
  exact v_weak (wss (wss (wss (wss (wss (wsn wse)))))) (lX3_takesSnapshot_126 h)
theorem lX3_takesSnapshot {E : EE} {G : GG} {v0 : Option Nat} {v1 : Int32} {σ : Mem} {z : Unit × Mem} (h : sX3_takesSnapshot v0 v1 σ = some z) : V E mX3_takesSnapshot G 0 [some (vr v0), some (vi v1), none, none, none, none] [] σ (none, z.2) := by
  unfold sX3_takesSnapshot at h
  refine v_al0 dX3_takesSnapshot_0 ?_
  refine v_gR cok2 h dX3_takesSnapshot_1 (by decide) q359 rfl (fun x1 h => ?_)
  refine v_il1 dX3_takesSnapshot_4 ?_
  refine v_aR h (by decide) dX3_takesSnapshot_5 (fun x2 h => ?_)
  refine v_astore_n (L' := [some (vr v0), some (vi v1), some (vr x2), none, none, none]) dX3_takesSnapshot_6 (Nat.le_of_ble_eq_true rfl) (Nat.le_of_ble_eq_true rfl) rfl ?_
  refine v_al0 dX3_takesSnapshot_7 ?_
  refine v_gR cok2 h dX3_takesSnapshot_8 (by decide) q387 rfl (fun x3 h => ?_)
  refine v_iconst dX3_takesSnapshot_11 ?_
  refine v_aI h dX3_takesSnapshot_12 (fun x4 h => ?_)
  refine v_istore_n (L' := [some (vr v0), some (vi v1), some (vr x2), some (vi x4), none, none]) dX3_takesSnapshot_13 (Nat.le_of_ble_eq_true rfl) (Nat.le_of_ble_eq_true rfl) rfl ?_
  refine v_al0 dX3_takesSnapshot_14 ?_
  refine v_gR cok2 h dX3_takesSnapshot_15 (by decide) q387 rfl (fun x5 h => ?_)
  refine v_iconst dX3_takesSnapshot_18 ?_
  refine v_aI h dX3_takesSnapshot_19 (fun x6 h => ?_)
  refine v_al2 dX3_takesSnapshot_20 ?_
  refine v_gIN cok3 h dX3_takesSnapshot_21 (by decide) q269 rfl (fun x7 h => ?_)
  refine v_icmp_ge (tgt := 38) dX3_takesSnapshot_24 (by decide) (fun c => ?_) (fun c => ?_)
  · rw [if_pos c] at h
    refine v_al0 dX3_takesSnapshot_38 ?_
    refine v_il1 dX3_takesSnapshot_39 ?_
    refine v_il3 dX3_takesSnapshot_40 ?_
    obtain ⟨b41, er, ka, h⟩ := cV_some h
    obtain ⟨_, s8, h1, h⟩ := cl_some h
    refine v_callV0 cok2 (As := [vi v1, vi x4]) er ka (tX3_follows h1) (lw_V q741 q743 qs10 q161 q744) rfl dsX3_follows ⟨Nat.le_of_ble_eq_true rfl, Nat.le_of_ble_eq_true rfl⟩ (Nat.le_of_ble_eq_true rfl) dX3_takesSnapshot_41 rfl ?_
    refine v_al0 dX3_takesSnapshot_44 ?_
    refine v_il1 dX3_takesSnapshot_45 ?_
    obtain ⟨b46, er, ka, h⟩ := cV_some h
    obtain ⟨_, s9, h1, h⟩ := cl_some h
    refine v_callV0 cok2 (As := [vi v1]) er ka (tX3_setsTimer h1) (lw_V q465 q466 q467 q161 q468) rfl dsX3_setsTimer ⟨Nat.le_of_ble_eq_true rfl, Nat.le_of_ble_eq_true rfl⟩ (Nat.le_of_ble_eq_true rfl) dX3_takesSnapshot_46 rfl ?_
    refine v_al0 dX3_takesSnapshot_49 ?_
    refine v_gR cok2 h dX3_takesSnapshot_50 (by decide) q387 rfl (fun x10 h => ?_)
    refine v_iconst dX3_takesSnapshot_53 ?_
    refine v_aI h dX3_takesSnapshot_54 (fun x11 h => ?_)
    refine v_istore (L' := [some (vr v0), some (vi v1), some (vr x2), some (vi x4), some (vi x11), none]) dX3_takesSnapshot_55 (Nat.le_of_ble_eq_true rfl) (Nat.le_of_ble_eq_true rfl) rfl ?_
    refine v_iload dX3_takesSnapshot_57 rfl ?_
    refine v_al2 dX3_takesSnapshot_59 ?_
    refine v_gIN cok3 h dX3_takesSnapshot_60 (by decide) q289 rfl (fun x12 h => ?_)
    refine v_icmp_gt (tgt := 86) dX3_takesSnapshot_63 (by decide) (fun c => ?_) (fun c => ?_)
    · rw [if_pos c] at h
      refine v_al2 dX3_takesSnapshot_86 ?_
      refine v_al2 dX3_takesSnapshot_87 ?_
      refine v_iload dX3_takesSnapshot_88 rfl ?_
      obtain ⟨b90, er, ka, h⟩ := cV_some h
      obtain ⟨x13, s14, h1, h⟩ := cl_some h
      refine v_callV1 cok3 (As := [vi x11]) er ka (tX4_hasEntry h1) (lw_V q1184 q1185 q1186 q162 q1187) rfl dsX4_hasEntry ⟨Nat.le_of_ble_eq_true rfl, Nat.le_of_ble_eq_true rfl⟩ (Nat.le_of_ble_eq_true rfl) dX3_takesSnapshot_90 rfl ?_
      refine v_if_eq (tgt := 122) dX3_takesSnapshot_93 (by decide) (fun c => ?_) (fun c => ?_)
      · rw [if_pos c] at h
        exact v_weak (wss (wss (wss (wss (wss (wsn wse)))))) (lX3_takesSnapshot_122 h)
      · rw [if_neg c] at h
        refine v_al2 dX3_takesSnapshot_96 ?_
        refine v_iload dX3_takesSnapshot_97 rfl ?_
        obtain ⟨b99, er, ka, h⟩ := cV_some h
        obtain ⟨x15, s16, h1, h⟩ := cl_some h
        refine v_callV1 cok3 (As := [vi x11]) er ka (tX4_termAt h1) (lw_V q684 q624 q625 q162 q626) rfl dsX4_termAt ⟨Nat.le_of_ble_eq_true rfl, Nat.le_of_ble_eq_true rfl⟩ (Nat.le_of_ble_eq_true rfl) dX3_takesSnapshot_99 rfl ?_
        refine v_al0 dX3_takesSnapshot_102 ?_
        refine v_gR cok2 h dX3_takesSnapshot_103 (by decide) q387 rfl (fun x17 h => ?_)
        refine v_bipush dX3_takesSnapshot_106 rfl ?_
        refine v_aI h dX3_takesSnapshot_108 (fun x18 h => ?_)
        refine v_icmp_ne (tgt := 122) dX3_takesSnapshot_109 (by decide) (fun c => ?_) (fun c => ?_)
        · rw [if_neg c] at h
          exact v_weak (wss (wss (wss (wss (wss (wsn wse)))))) (lX3_takesSnapshot_122 h)
        · rw [if_pos c] at h
          refine v_iload dX3_takesSnapshot_112 rfl ?_
          refine v_al2 dX3_takesSnapshot_114 ?_
          refine v_gIN cok3 h dX3_takesSnapshot_115 (by decide) q275 rfl (fun x19 h => ?_)
          refine v_isub dX3_takesSnapshot_118 ?_
          refine v_goto (tgt := 126) dX3_takesSnapshot_119 (by decide) ?_
          exact v_weak (wss (wss (wss (wss (wss (wsn wse)))))) (lX3_takesSnapshot_126 h)
    · rw [if_neg c] at h
      refine v_al0 dX3_takesSnapshot_66 ?_
      refine v_il1 dX3_takesSnapshot_67 ?_
      refine v_il3 dX3_takesSnapshot_68 ?_
      refine v_iconst dX3_takesSnapshot_69 ?_
      refine v_al2 dX3_takesSnapshot_70 ?_
      refine v_gIN cok3 h dX3_takesSnapshot_71 (by decide) q289 rfl (fun x20 h => ?_)
      refine v_al0 dX3_takesSnapshot_74 ?_
      refine v_gR cok2 h dX3_takesSnapshot_75 (by decide) q387 rfl (fun x21 h => ?_)
      refine v_bipush dX3_takesSnapshot_78 rfl ?_
      refine v_aI h dX3_takesSnapshot_80 (fun x22 h => ?_)
      refine v_iconst dX3_takesSnapshot_81 ?_
      obtain ⟨b82, er, ka, h⟩ := cV_some h
      obtain ⟨_, s23, h1, h⟩ := cl_some h
      refine v_callV0 cok2 (As := [vi v1, vi x4, vi (iI 5), vi x20, vi x22, vi (iI 0)]) er ka (tX3_answers h1) (lw_V q1159 q1161 qs39 q161 q1162) rfl dsX3_answers ⟨Nat.le_of_ble_eq_true rfl, Nat.le_of_ble_eq_true rfl⟩ (Nat.le_of_ble_eq_true rfl) dX3_takesSnapshot_82 rfl ?_
      exact v_retV h dX3_takesSnapshot_85 rfl
  · rw [if_neg c] at h
    refine v_al0 dX3_takesSnapshot_27 ?_
    refine v_il1 dX3_takesSnapshot_28 ?_
    refine v_il3 dX3_takesSnapshot_29 ?_
    refine v_iconst dX3_takesSnapshot_30 ?_
    refine v_iconst dX3_takesSnapshot_31 ?_
    refine v_iconst dX3_takesSnapshot_32 ?_
    refine v_iconst dX3_takesSnapshot_33 ?_
    obtain ⟨b34, er, ka, h⟩ := cV_some h
    obtain ⟨_, s24, h1, h⟩ := cl_some h
    refine v_callV0 cok2 (As := [vi v1, vi x4, vi (iI 5), vi (iI 0), vi (iI 0), vi (iI 0)]) er ka (tX3_answers h1) (lw_V q1159 q1161 qs39 q161 q1162) rfl dsX3_answers ⟨Nat.le_of_ble_eq_true rfl, Nat.le_of_ble_eq_true rfl⟩ (Nat.le_of_ble_eq_true rfl) dX3_takesSnapshot_34 rfl ?_
    exact v_retV h dX3_takesSnapshot_37 rfl
theorem tX3_takesSnapshot {E : EE} {l : Launch} {v0 : Option Nat} {v1 : Int32} {σ : Mem} {z : Unit × Mem} (h : sX3_takesSnapshot v0 v1 σ = some z) : Mt E l mX3_takesSnapshot [vr v0, vi v1] σ (none, z.2) :=
  Mt.ofVL (by decide) (Nat.le_of_ble_eq_true rfl) (fun G hG => lX3_takesSnapshot h)
abbrev mX3_isLeadersOwn : MM := (yX3_isLeadersOwn, cX3_isLeadersOwn, 2, (Option.some Jvm.ClassFile.FieldType.boolean), 0, 0)
theorem dsX3_isLeadersOwn : DsOk yX3_isLeadersOwn 1 := ⟨by decide, by decide, by decide +kernel⟩
theorem lX3_isLeadersOwn {E : EE} {G : GG} {v0 : Option Nat} {v1 : Int32} {σ : Mem} {z : Int32 × Mem} (h : sX3_isLeadersOwn v0 v1 σ = some z) : V E mX3_isLeadersOwn G 0 [some (vr v0), some (vi v1)] [] σ (some (vi z.1), z.2) := by
  unfold sX3_isLeadersOwn at h
  refine v_al0 dX3_isLeadersOwn_0 ?_
  refine v_gR cok2 h dX3_isLeadersOwn_1 (by decide) q359 rfl (fun x1 h => ?_)
  refine v_il1 dX3_isLeadersOwn_4 ?_
  refine v_aR h (by decide) dX3_isLeadersOwn_5 (fun x2 h => ?_)
  refine v_gIN cok3 h dX3_isLeadersOwn_6 (by decide) q287 rfl (fun x3 h => ?_)
  refine v_iconst dX3_isLeadersOwn_9 ?_
  refine v_icmp_ne (tgt := 35) dX3_isLeadersOwn_10 (by decide) (fun c => ?_) (fun c => ?_)
  · rw [if_neg c] at h
    refine v_iconst dX3_isLeadersOwn_35 ?_
    exact v_retZ h dX3_isLeadersOwn_36 rfl
  · rw [if_pos c] at h
    refine v_al0 dX3_isLeadersOwn_13 ?_
    refine v_gR cok2 h dX3_isLeadersOwn_14 (by decide) q387 rfl (fun x4 h => ?_)
    refine v_iconst dX3_isLeadersOwn_17 ?_
    refine v_aI h dX3_isLeadersOwn_18 (fun x5 h => ?_)
    refine v_al0 dX3_isLeadersOwn_19 ?_
    refine v_gR cok2 h dX3_isLeadersOwn_20 (by decide) q359 rfl (fun x6 h => ?_)
    refine v_il1 dX3_isLeadersOwn_23 ?_
    refine v_aR h (by decide) dX3_isLeadersOwn_24 (fun x7 h => ?_)
    refine v_gIN cok3 h dX3_isLeadersOwn_25 (by decide) q269 rfl (fun x8 h => ?_)
    refine v_icmp_ne (tgt := 35) dX3_isLeadersOwn_28 (by decide) (fun c => ?_) (fun c => ?_)
    · rw [if_neg c] at h
      refine v_iconst dX3_isLeadersOwn_35 ?_
      exact v_retZ h dX3_isLeadersOwn_36 rfl
    · rw [if_pos c] at h
      refine v_iconst dX3_isLeadersOwn_31 ?_
      refine v_goto (tgt := 36) dX3_isLeadersOwn_32 (by decide) ?_
      exact v_retZ h dX3_isLeadersOwn_36 rfl
theorem tX3_isLeadersOwn {E : EE} {l : Launch} {v0 : Option Nat} {v1 : Int32} {σ : Mem} {z : Int32 × Mem} (h : sX3_isLeadersOwn v0 v1 σ = some z) : Mt E l mX3_isLeadersOwn [vr v0, vi v1] σ (some (vi z.1), z.2) :=
  Mt.ofVL (by decide) (Nat.le_of_ble_eq_true rfl) (fun G hG => lX3_isLeadersOwn h)
abbrev mX3_hears : MM := (yX3_hears, cX3_hears, 6, (Option.none : Option Jvm.ClassFile.FieldType), 94, 8631)
theorem dsX3_hears : DsOk yX3_hears 3 := ⟨by decide, by decide, by decide +kernel⟩
theorem lX3_hears {E : EE} {G : GG} {v0 : Option Nat} {v1 : Int32} {v2 : Int32} {v3 : Int32} {σ : Mem} {z : Unit × Mem} (h : sX3_hears v0 v1 v2 v3 σ = some z) : V E mX3_hears G 0 [some (vr v0), some (vi v1), some (vi v2), some (vi v3), none, none] [] σ (none, z.2) := by
  unfold sX3_hears at h
  refine v_al0 dX3_hears_0 ?_
  refine v_gR cok2 h dX3_hears_1 (by decide) q359 rfl (fun x1 h => ?_)
  refine v_il1 dX3_hears_4 ?_
  refine v_aR h (by decide) dX3_hears_5 (fun x2 h => ?_)
  refine v_astore (L' := [some (vr v0), some (vi v1), some (vi v2), some (vi v3), some (vr x2), none]) dX3_hears_6 (Nat.le_of_ble_eq_true rfl) (Nat.le_of_ble_eq_true rfl) rfl ?_
  refine v_al0 dX3_hears_8 ?_
  refine v_gR cok2 h dX3_hears_9 (by decide) q387 rfl (fun x3 h => ?_)
  refine v_iconst dX3_hears_12 ?_
  refine v_aI h dX3_hears_13 (fun x4 h => ?_)
  refine v_istore (L' := [some (vr v0), some (vi v1), some (vi v2), some (vi v3), some (vr x2), some (vi x4)]) dX3_hears_14 (Nat.le_of_ble_eq_true rfl) (Nat.le_of_ble_eq_true rfl) rfl ?_
  refine v_aload dX3_hears_16 rfl ?_
  refine v_gRN cok3 h dX3_hears_18 (by decide) q266 rfl (fun x5 h => ?_)
  refine v_iload dX3_hears_21 rfl ?_
  refine v_aload dX3_hears_23 rfl ?_
  refine v_gRN cok3 h dX3_hears_25 (by decide) q266 rfl (fun x6 h => ?_)
  refine v_iload dX3_hears_28 rfl ?_
  refine v_aI h dX3_hears_30 (fun x7 h => ?_)
  refine v_il3 dX3_hears_31 ?_
  refine v_mmax dX3_hears_32 q533 q534 q166 q535 (by decide) (by decide) (Nat.le_of_ble_eq_true rfl) ?_
  refine v_sI h dX3_hears_35 (fun s8 h => ?_)
  refine v_aload dX3_hears_36 rfl ?_
  refine v_gRN cok3 h dX3_hears_38 (by decide) q263 rfl (fun x9 h => ?_)
  refine v_iload dX3_hears_41 rfl ?_
  refine v_aload dX3_hears_43 rfl ?_
  refine v_gRN cok3 h dX3_hears_45 (by decide) q263 rfl (fun x10 h => ?_)
  refine v_iload dX3_hears_48 rfl ?_
  refine v_aI h dX3_hears_50 (fun x11 h => ?_)
  refine v_il2 dX3_hears_51 ?_
  refine v_mmax dX3_hears_52 q533 q534 q166 q535 (by decide) (by decide) (Nat.le_of_ble_eq_true rfl) ?_
  refine v_sI h dX3_hears_55 (fun s12 h => ?_)
  refine v_aload dX3_hears_56 rfl ?_
  refine v_gRN cok3 h dX3_hears_58 (by decide) q260 rfl (fun x13 h => ?_)
  refine v_iload dX3_hears_61 rfl ?_
  refine v_aload dX3_hears_63 rfl ?_
  refine v_gRN cok3 h dX3_hears_65 (by decide) q263 rfl (fun x14 h => ?_)
  refine v_iload dX3_hears_68 rfl ?_
  refine v_aI h dX3_hears_70 (fun x15 h => ?_)
  refine v_iconst dX3_hears_71 ?_
  refine v_iadd dX3_hears_72 ?_
  refine v_sI h dX3_hears_73 (fun s16 h => ?_)
  refine v_al0 dX3_hears_74 ?_
  refine v_il1 dX3_hears_75 ?_
  obtain ⟨b76, er, ka, h⟩ := cV_some h
  obtain ⟨_, s17, h1, h⟩ := cl_some h
  refine v_callV0 cok2 (As := [vi v1]) er ka (tX3_holds 4 h1) (lw_V q707 q708 q709 q161 q710) rfl dsX3_holds ⟨Nat.le_of_ble_eq_true rfl, Nat.le_of_ble_eq_true rfl⟩ (Nat.le_of_ble_eq_true rfl) dX3_hears_76 rfl ?_
  refine v_aload dX3_hears_79 rfl ?_
  refine v_gIN cok3 h dX3_hears_81 (by decide) q287 rfl (fun x18 h => ?_)
  refine v_iconst dX3_hears_84 ?_
  refine v_icmp_ne (tgt := 111) dX3_hears_85 (by decide) (fun c => ?_) (fun c => ?_)
  · rw [if_neg c] at h
    exact v_retV h dX3_hears_111 rfl
  · rw [if_pos c] at h
    refine v_aload dX3_hears_88 rfl ?_
    refine v_gRN cok3 h dX3_hears_90 (by decide) q260 rfl (fun x19 h => ?_)
    refine v_iload dX3_hears_93 rfl ?_
    refine v_aI h dX3_hears_95 (fun x20 h => ?_)
    refine v_aload dX3_hears_96 rfl ?_
    obtain ⟨b98, er, ka, h⟩ := cV_some h
    obtain ⟨x21, s22, h1, h⟩ := cl_some h
    refine v_callV1 cok3 (As := []) er ka (tX4_last h1) (lw_V q643 q644 q645 q162 q646) rfl dsX4_last ⟨Nat.le_of_ble_eq_true rfl, Nat.le_of_ble_eq_true rfl⟩ (Nat.le_of_ble_eq_true rfl) dX3_hears_98 rfl ?_
    refine v_icmp_gt (tgt := 111) dX3_hears_101 (by decide) (fun c => ?_) (fun c => ?_)
    · rw [if_pos c] at h
      exact v_retV h dX3_hears_111 rfl
    · rw [if_neg c] at h
      refine v_al0 dX3_hears_104 ?_
      refine v_il1 dX3_hears_105 ?_
      refine v_iload dX3_hears_106 rfl ?_
      obtain ⟨b108, er, ka, h⟩ := cV_some h
      obtain ⟨_, s23, h1, h⟩ := cl_some h
      refine v_callV0 cok2 (As := [vi v1, vi x4]) er ka (tX3_sendsOn h1) (lw_V q676 q678 qs2 q161 q679) rfl dsX3_sendsOn ⟨Nat.le_of_ble_eq_true rfl, Nat.le_of_ble_eq_true rfl⟩ (Nat.le_of_ble_eq_true rfl) dX3_hears_108 rfl ?_
      exact v_retV h dX3_hears_111 rfl
theorem tX3_hears {E : EE} {l : Launch} {v0 : Option Nat} {v1 : Int32} {v2 : Int32} {v3 : Int32} {σ : Mem} {z : Unit × Mem} (h : sX3_hears v0 v1 v2 v3 σ = some z) : Mt E l mX3_hears [vr v0, vi v1, vi v2, vi v3] σ (none, z.2) :=
  Mt.ofVL (by decide) (Nat.le_of_ble_eq_true rfl) (fun G hG => lX3_hears h)
abbrev mX3_isAnswered : MM := (yX3_isAnswered, cX3_isAnswered, 4, (Option.none : Option Jvm.ClassFile.FieldType), 95, 8656)
theorem dsX3_isAnswered : DsOk yX3_isAnswered 1 := ⟨by decide, by decide, by decide +kernel⟩
theorem lX3_isAnswered_147 {E : EE} {G : GG} {v0 : Option Nat} {v1 : Int32} {v2 : Option Nat} {σ : Mem} {z : Unit × Mem} (h : sX3_isAnswered_147 v0 v1 v2 σ = some z) : V E mX3_isAnswered G 147 [some (vr v0), some (vi v1), some (vr v2), none] [] σ (none, z.2) := by
  unfold sX3_isAnswered_147 at h
  refine v_al2 dX3_isAnswered_147 ?_
  refine v_gIN cok3 h dX3_isAnswered_148 (by decide) q287 rfl (fun x1 h => ?_)
  refine v_iconst dX3_isAnswered_151 ?_
  refine v_icmp_ne (tgt := 160) dX3_isAnswered_152 (by decide) (fun c => ?_) (fun c => ?_)
  · rw [if_neg c] at h
    exact v_retV h dX3_isAnswered_160 rfl
  · rw [if_pos c] at h
    refine v_al0 dX3_isAnswered_155 ?_
    refine v_il1 dX3_isAnswered_156 ?_
    obtain ⟨b157, er, ka, h⟩ := cV_some h
    obtain ⟨_, s2, h1, h⟩ := cl_some h
    refine v_callV0 cok2 (As := [vi v1]) er ka (tX3_answersReads h1) (lw_V q1205 q760 q761 q161 q762) rfl dsX3_answersReads ⟨Nat.le_of_ble_eq_true rfl, Nat.le_of_ble_eq_true rfl⟩ (Nat.le_of_ble_eq_true rfl) dX3_isAnswered_157 rfl ?_
    exact v_retV h dX3_isAnswered_160 rfl
theorem lX3_isAnswered {E : EE} {G : GG} {v0 : Option Nat} {v1 : Int32} {σ : Mem} {z : Unit × Mem} (h : sX3_isAnswered v0 v1 σ = some z) : V E mX3_isAnswered G 0 [some (vr v0), some (vi v1), none, none] [] σ (none, z.2) := by
  unfold sX3_isAnswered at h
  refine v_al0 dX3_isAnswered_0 ?_
  refine v_il1 dX3_isAnswered_1 ?_
  obtain ⟨b2, er, ka, h⟩ := cV_some h
  obtain ⟨x1, s2, h1, h⟩ := cl_some h
  refine v_callV1 cok2 (As := [vi v1]) er ka (tX3_isLeadersOwn h1) (lw_V q1197 q1199 qs46 q161 q1200) rfl dsX3_isLeadersOwn ⟨Nat.le_of_ble_eq_true rfl, Nat.le_of_ble_eq_true rfl⟩ (Nat.le_of_ble_eq_true rfl) dX3_isAnswered_2 rfl ?_
  refine v_if_ne (tgt := 9) dX3_isAnswered_5 (by decide) (fun c => ?_) (fun c => ?_)
  · rw [if_neg c] at h
    refine v_al0 dX3_isAnswered_9 ?_
    refine v_gR cok2 h dX3_isAnswered_10 (by decide) q359 rfl (fun x3 h => ?_)
    refine v_il1 dX3_isAnswered_13 ?_
    refine v_aR h (by decide) dX3_isAnswered_14 (fun x4 h => ?_)
    refine v_astore_n (L' := [some (vr v0), some (vi v1), some (vr x4), none]) dX3_isAnswered_15 (Nat.le_of_ble_eq_true rfl) (Nat.le_of_ble_eq_true rfl) rfl ?_
    refine v_al0 dX3_isAnswered_16 ?_
    refine v_gR cok2 h dX3_isAnswered_17 (by decide) q387 rfl (fun x5 h => ?_)
    refine v_iconst dX3_isAnswered_20 ?_
    refine v_aI h dX3_isAnswered_21 (fun x6 h => ?_)
    refine v_istore_n (L' := [some (vr v0), some (vi v1), some (vr x4), some (vi x6)]) dX3_isAnswered_22 (Nat.le_of_ble_eq_true rfl) (Nat.le_of_ble_eq_true rfl) rfl ?_
    refine v_al0 dX3_isAnswered_23 ?_
    refine v_gR cok2 h dX3_isAnswered_24 (by decide) q387 rfl (fun x7 h => ?_)
    refine v_iconst dX3_isAnswered_27 ?_
    refine v_aI h dX3_isAnswered_28 (fun x8 h => ?_)
    refine v_iconst dX3_isAnswered_29 ?_
    refine v_icmp_ne (tgt := 54) dX3_isAnswered_30 (by decide) (fun c => ?_) (fun c => ?_)
    · rw [if_neg c] at h
      refine v_al0 dX3_isAnswered_54 ?_
      refine v_gR cok2 h dX3_isAnswered_55 (by decide) q387 rfl (fun x9 h => ?_)
      refine v_iconst dX3_isAnswered_58 ?_
      refine v_aI h dX3_isAnswered_59 (fun x10 h => ?_)
      refine v_iconst dX3_isAnswered_60 ?_
      refine v_icmp_ne (tgt := 86) dX3_isAnswered_61 (by decide) (fun c => ?_) (fun c => ?_)
      · rw [if_neg c] at h
        refine v_al2 dX3_isAnswered_86 ?_
        refine v_gRN cok3 h dX3_isAnswered_87 (by decide) q266 rfl (fun x11 h => ?_)
        refine v_il3 dX3_isAnswered_90 ?_
        refine v_al2 dX3_isAnswered_91 ?_
        refine v_gRN cok3 h dX3_isAnswered_92 (by decide) q266 rfl (fun x12 h => ?_)
        refine v_il3 dX3_isAnswered_95 ?_
        refine v_aI h dX3_isAnswered_96 (fun x13 h => ?_)
        refine v_al0 dX3_isAnswered_97 ?_
        refine v_gR cok2 h dX3_isAnswered_98 (by decide) q387 rfl (fun x14 h => ?_)
        refine v_bipush dX3_isAnswered_101 rfl ?_
        refine v_aI h dX3_isAnswered_103 (fun x15 h => ?_)
        refine v_mmax dX3_isAnswered_104 q533 q534 q166 q535 (by decide) (by decide) (Nat.le_of_ble_eq_true rfl) ?_
        refine v_sI h dX3_isAnswered_107 (fun s16 h => ?_)
        refine v_al2 dX3_isAnswered_108 ?_
        refine v_gRN cok3 h dX3_isAnswered_109 (by decide) q260 rfl (fun x17 h => ?_)
        refine v_il3 dX3_isAnswered_112 ?_
        refine v_al2 dX3_isAnswered_113 ?_
        refine v_gRN cok3 h dX3_isAnswered_114 (by decide) q263 rfl (fun x18 h => ?_)
        refine v_il3 dX3_isAnswered_117 ?_
        refine v_aI h dX3_isAnswered_118 (fun x19 h => ?_)
        refine v_iconst dX3_isAnswered_119 ?_
        refine v_iadd dX3_isAnswered_120 ?_
        refine v_al2 dX3_isAnswered_121 ?_
        refine v_gRN cok3 h dX3_isAnswered_122 (by decide) q260 rfl (fun x20 h => ?_)
        refine v_il3 dX3_isAnswered_125 ?_
        refine v_aI h dX3_isAnswered_126 (fun x21 h => ?_)
        refine v_al0 dX3_isAnswered_127 ?_
        refine v_gR cok2 h dX3_isAnswered_128 (by decide) q387 rfl (fun x22 h => ?_)
        refine v_bipush dX3_isAnswered_131 rfl ?_
        refine v_aI h dX3_isAnswered_133 (fun x23 h => ?_)
        refine v_mmin dX3_isAnswered_134 q530 q531 q166 q532 (by decide) (by decide) (Nat.le_of_ble_eq_true rfl) ?_
        refine v_mmax dX3_isAnswered_137 q533 q534 q166 q535 (by decide) (by decide) (Nat.le_of_ble_eq_true rfl) ?_
        refine v_sI h dX3_isAnswered_140 (fun s24 h => ?_)
        refine v_al0 dX3_isAnswered_141 ?_
        refine v_il1 dX3_isAnswered_142 ?_
        refine v_il3 dX3_isAnswered_143 ?_
        obtain ⟨b144, er, ka, h⟩ := cV_some h
        obtain ⟨_, s25, h1, h⟩ := cl_some h
        refine v_callV0 cok2 (As := [vi v1, vi x6]) er ka (tX3_sendsOn h1) (lw_V q676 q678 qs2 q161 q679) rfl dsX3_sendsOn ⟨Nat.le_of_ble_eq_true rfl, Nat.le_of_ble_eq_true rfl⟩ (Nat.le_of_ble_eq_true rfl) dX3_isAnswered_144 rfl ?_
        exact v_weak (wss (wss (wss (wsn wse)))) (lX3_isAnswered_147 h)
      · rw [if_pos c] at h
        refine v_al0 dX3_isAnswered_64 ?_
        refine v_il1 dX3_isAnswered_65 ?_
        refine v_al0 dX3_isAnswered_66 ?_
        refine v_gR cok2 h dX3_isAnswered_67 (by decide) q387 rfl (fun x26 h => ?_)
        refine v_bipush dX3_isAnswered_70 rfl ?_
        refine v_aI h dX3_isAnswered_72 (fun x27 h => ?_)
        refine v_al0 dX3_isAnswered_73 ?_
        refine v_gR cok2 h dX3_isAnswered_74 (by decide) q387 rfl (fun x28 h => ?_)
        refine v_bipush dX3_isAnswered_77 rfl ?_
        refine v_aI h dX3_isAnswered_79 (fun x29 h => ?_)
        obtain ⟨b80, er, ka, h⟩ := cV_some h
        obtain ⟨_, s30, h1, h⟩ := cl_some h
        refine v_callV0 cok2 (As := [vi v1, vi x27, vi x29]) er ka (tX3_hears h1) (lw_V q1201 q1203 qs47 q161 q1204) rfl dsX3_hears ⟨Nat.le_of_ble_eq_true rfl, Nat.le_of_ble_eq_true rfl⟩ (Nat.le_of_ble_eq_true rfl) dX3_isAnswered_80 rfl ?_
        refine v_goto (tgt := 147) dX3_isAnswered_83 (by decide) ?_
        exact v_weak (wss (wss (wss (wsn wse)))) (lX3_isAnswered_147 h)
    · rw [if_pos c] at h
      refine v_al0 dX3_isAnswered_33 ?_
      refine v_il1 dX3_isAnswered_34 ?_
      refine v_al0 dX3_isAnswered_35 ?_
      refine v_gR cok2 h dX3_isAnswered_36 (by decide) q387 rfl (fun x31 h => ?_)
      refine v_iconst dX3_isAnswered_39 ?_
      refine v_aI h dX3_isAnswered_40 (fun x32 h => ?_)
      refine v_al0 dX3_isAnswered_41 ?_
      refine v_gR cok2 h dX3_isAnswered_42 (by decide) q387 rfl (fun x33 h => ?_)
      refine v_bipush dX3_isAnswered_45 rfl ?_
      refine v_aI h dX3_isAnswered_47 (fun x34 h => ?_)
      obtain ⟨b48, er, ka, h⟩ := cV_some h
      obtain ⟨_, s35, h1, h⟩ := cl_some h
      refine v_callV0 cok2 (As := [vi v1, vi x32, vi x34]) er ka (tX3_hears h1) (lw_V q1201 q1203 qs47 q161 q1204) rfl dsX3_hears ⟨Nat.le_of_ble_eq_true rfl, Nat.le_of_ble_eq_true rfl⟩ (Nat.le_of_ble_eq_true rfl) dX3_isAnswered_48 rfl ?_
      refine v_goto (tgt := 147) dX3_isAnswered_51 (by decide) ?_
      exact v_weak (wss (wss (wss (wsn wse)))) (lX3_isAnswered_147 h)
  · rw [if_pos c] at h
    exact v_retV h dX3_isAnswered_8 rfl
theorem tX3_isAnswered {E : EE} {l : Launch} {v0 : Option Nat} {v1 : Int32} {σ : Mem} {z : Unit × Mem} (h : sX3_isAnswered v0 v1 σ = some z) : Mt E l mX3_isAnswered [vr v0, vi v1] σ (none, z.2) :=
  Mt.ofVL (by decide) (Nat.le_of_ble_eq_true rfl) (fun G hG => lX3_isAnswered h)
abbrev mX3_isHanded : MM := (yX3_isHanded, cX3_isHanded, 3, (Option.none : Option Jvm.ClassFile.FieldType), 96, 8679)
theorem dsX3_isHanded : DsOk yX3_isHanded 0 := ⟨by decide, by decide, by decide +kernel⟩
theorem lX3_isHanded_35 {E : EE} {G : GG} {v0 : Option Nat} {σ : Mem} {z : Unit × Mem} (h : sX3_isHanded_35 v0 σ = some z) : V E mX3_isHanded G 35 [some (vr v0), none, none] [] σ (none, z.2) := by
  unfold sX3_isHanded_35 at h
  refine v_al0 dX3_isHanded_35 ?_
  obtain ⟨b36, er, ka, h⟩ := cV_some h
  obtain ⟨_, s1, h1, h⟩ := cl_some h
  refine v_callV0 cok2 (As := []) er ka (tX3_isLost h1) (lw_V q698 q700 qs5 q161 q701) rfl dsX3_isLost ⟨Nat.le_of_ble_eq_true rfl, Nat.le_of_ble_eq_true rfl⟩ (Nat.le_of_ble_eq_true rfl) dX3_isHanded_36 rfl ?_
  exact v_retV h dX3_isHanded_39 rfl
theorem lX3_isHanded_148 {E : EE} {G : GG} {v0 : Option Nat} {v1 : Int32} {σ : Mem} {z : Unit × Mem} (h : sX3_isHanded_148 v0 v1 σ = some z) : V E mX3_isHanded G 148 [some (vr v0), some (vi v1), none] [] σ (none, z.2) := by
  unfold sX3_isHanded_148 at h
  refine v_al0 dX3_isHanded_148 ?_
  refine v_il1 dX3_isHanded_149 ?_
  obtain ⟨b150, er, ka, h⟩ := cV_some h
  obtain ⟨_, s1, h1, h⟩ := cl_some h
  refine v_callV0 cok2 (As := [vi v1]) er ka (tX3_isAnswered h1) (lw_V q1193 q1195 qs45 q161 q1196) rfl dsX3_isAnswered ⟨Nat.le_of_ble_eq_true rfl, Nat.le_of_ble_eq_true rfl⟩ (Nat.le_of_ble_eq_true rfl) dX3_isHanded_150 rfl ?_
  exact v_retV h dX3_isHanded_153 rfl
theorem lX3_isHanded_74 {E : EE} {G : GG} {v0 : Option Nat} {v1 : Int32} {σ : Mem} {z : Unit × Mem} (h : sX3_isHanded_74 v0 v1 σ = some z) : V E mX3_isHanded G 74 [some (vr v0), some (vi v1), none] [] σ (none, z.2) := by
  unfold sX3_isHanded_74 at h
  refine v_al0 dX3_isHanded_74 ?_
  refine v_gR cok2 h dX3_isHanded_75 (by decide) q387 rfl (fun x1 h => ?_)
  refine v_iconst dX3_isHanded_78 ?_
  refine v_aI h dX3_isHanded_79 (fun x2 h => ?_)
  by_cases c0 : x2 = iI 0
  · rw [if_pos c0] at h
    refine v_tabIn (tgt := 116) dX3_isHanded_80 (by rw [c0]; decide) (by rw [c0]; decide) (by rw [c0]; rfl) (by decide) ?_
    refine v_al0 dX3_isHanded_116 ?_
    refine v_il1 dX3_isHanded_117 ?_
    obtain ⟨b118, er, ka, h⟩ := cV_some h
    obtain ⟨_, s3, h1, h⟩ := cl_some h
    refine v_callV0 cok2 (As := [vi v1]) er ka (tX3_votes h1) (lw_V q1151 q1153 qs38 q161 q1154) rfl dsX3_votes ⟨Nat.le_of_ble_eq_true rfl, Nat.le_of_ble_eq_true rfl⟩ (Nat.le_of_ble_eq_true rfl) dX3_isHanded_118 rfl ?_
    refine v_goto (tgt := 153) dX3_isHanded_121 (by decide) ?_
    exact v_retV h dX3_isHanded_153 rfl
  · rw [if_neg c0] at h
    by_cases c1 : x2 = iI 1
    · rw [if_pos c1] at h
      refine v_tabIn (tgt := 124) dX3_isHanded_80 (by rw [c1]; decide) (by rw [c1]; decide) (by rw [c1]; rfl) (by decide) ?_
      refine v_al0 dX3_isHanded_124 ?_
      refine v_il1 dX3_isHanded_125 ?_
      obtain ⟨b126, er, ka, h⟩ := cV_some h
      obtain ⟨_, s4, h1, h⟩ := cl_some h
      refine v_callV0 cok2 (As := [vi v1]) er ka (tX3_countsVote h1) (lw_V q1163 q1165 qs40 q161 q1166) rfl dsX3_countsVote ⟨Nat.le_of_ble_eq_true rfl, Nat.le_of_ble_eq_true rfl⟩ (Nat.le_of_ble_eq_true rfl) dX3_isHanded_126 rfl ?_
      refine v_goto (tgt := 153) dX3_isHanded_129 (by decide) ?_
      exact v_retV h dX3_isHanded_153 rfl
    · rw [if_neg c1] at h
      by_cases c2 : x2 = iI 2
      · rw [if_pos c2] at h
        refine v_tabIn (tgt := 132) dX3_isHanded_80 (by rw [c2]; decide) (by rw [c2]; decide) (by rw [c2]; rfl) (by decide) ?_
        refine v_al0 dX3_isHanded_132 ?_
        refine v_il1 dX3_isHanded_133 ?_
        obtain ⟨b134, er, ka, h⟩ := cV_some h
        obtain ⟨_, s5, h1, h⟩ := cl_some h
        refine v_callV0 cok2 (As := [vi v1]) er ka (tX3_takesEntries h1) (lw_V q1171 q1173 qs42 q161 q1174) rfl dsX3_takesEntries ⟨Nat.le_of_ble_eq_true rfl, Nat.le_of_ble_eq_true rfl⟩ (Nat.le_of_ble_eq_true rfl) dX3_isHanded_134 rfl ?_
        refine v_goto (tgt := 153) dX3_isHanded_137 (by decide) ?_
        exact v_retV h dX3_isHanded_153 rfl
      · rw [if_neg c2] at h
        by_cases c3 : x2 = iI 3
        · rw [if_pos c3] at h
          refine v_tabIn (tgt := 148) dX3_isHanded_80 (by rw [c3]; decide) (by rw [c3]; decide) (by rw [c3]; rfl) (by decide) ?_
          exact v_weak (wss (wss (wsn wse))) (lX3_isHanded_148 h)
        · rw [if_neg c3] at h
          by_cases c4 : x2 = iI 4
          · rw [if_pos c4] at h
            refine v_tabIn (tgt := 140) dX3_isHanded_80 (by rw [c4]; decide) (by rw [c4]; decide) (by rw [c4]; rfl) (by decide) ?_
            refine v_al0 dX3_isHanded_140 ?_
            refine v_il1 dX3_isHanded_141 ?_
            obtain ⟨b142, er, ka, h⟩ := cV_some h
            obtain ⟨_, s6, h1, h⟩ := cl_some h
            refine v_callV0 cok2 (As := [vi v1]) er ka (tX3_takesSnapshot h1) (lw_V q1188 q1190 qs44 q161 q1191) rfl dsX3_takesSnapshot ⟨Nat.le_of_ble_eq_true rfl, Nat.le_of_ble_eq_true rfl⟩ (Nat.le_of_ble_eq_true rfl) dX3_isHanded_142 rfl ?_
            refine v_goto (tgt := 153) dX3_isHanded_145 (by decide) ?_
            exact v_retV h dX3_isHanded_153 rfl
          · rw [if_neg c4] at h
            refine v_tabOut (tgt := 148) dX3_isHanded_80 (tab_out (fun j h1 h2 => ?_) (by decide) (by decide)) (by decide) ?_
            · rcases (show j = 0 ∨ j = 1 ∨ j = 2 ∨ j = 3 ∨ j = 4 by omega) with rfl | rfl | rfl | rfl | rfl
              · exact c0
              · exact c1
              · exact c2
              · exact c3
              · exact c4
            exact v_weak (wss (wss (wsn wse))) (lX3_isHanded_148 h)
theorem lX3_isHanded {E : EE} {G : GG} {v0 : Option Nat} {σ : Mem} {z : Unit × Mem} (h : sX3_isHanded v0 σ = some z) : V E mX3_isHanded G 0 [some (vr v0), none, none] [] σ (none, z.2) := by
  unfold sX3_isHanded at h
  refine v_al0 dX3_isHanded_0 ?_
  refine v_gR cok2 h dX3_isHanded_1 (by decide) q387 rfl (fun x1 h => ?_)
  refine v_iconst dX3_isHanded_4 ?_
  refine v_aI h dX3_isHanded_5 (fun x2 h => ?_)
  refine v_istore_n (L' := [some (vr v0), some (vi x2), none]) dX3_isHanded_6 (Nat.le_of_ble_eq_true rfl) (Nat.le_of_ble_eq_true rfl) rfl ?_
  refine v_al0 dX3_isHanded_7 ?_
  refine v_gR cok2 h dX3_isHanded_8 (by decide) q359 rfl (fun x3 h => ?_)
  refine v_il1 dX3_isHanded_11 ?_
  refine v_aR h (by decide) dX3_isHanded_12 (fun x4 h => ?_)
  refine v_astore_n (L' := [some (vr v0), some (vi x2), some (vr x4)]) dX3_isHanded_13 (Nat.le_of_ble_eq_true rfl) (Nat.le_of_ble_eq_true rfl) rfl ?_
  refine v_al2 dX3_isHanded_14 ?_
  refine v_gIN cok3 h dX3_isHanded_15 (by decide) q308 rfl (fun x5 h => ?_)
  refine v_if_eq (tgt := 35) dX3_isHanded_18 (by decide) (fun c => ?_) (fun c => ?_)
  · rw [if_pos c] at h
    exact v_weak (wss (wsn (wsn wse))) (lX3_isHanded_35 h)
  · rw [if_neg c] at h
    refine v_al0 dX3_isHanded_21 ?_
    refine v_il1 dX3_isHanded_22 ?_
    refine v_al0 dX3_isHanded_23 ?_
    refine v_gR cok2 h dX3_isHanded_24 (by decide) q387 rfl (fun x6 h => ?_)
    refine v_iconst dX3_isHanded_27 ?_
    refine v_aI h dX3_isHanded_28 (fun x7 h => ?_)
    obtain ⟨b29, er, ka, h⟩ := cV_some h
    obtain ⟨x8, s9, h1, h⟩ := cl_some h
    refine v_callV1 cok2 (As := [vi x2, vi x7]) er ka (tX3_areLinked h1) (lw_V q1147 q1149 qs37 q161 q1150) rfl dsX3_areLinked ⟨Nat.le_of_ble_eq_true rfl, Nat.le_of_ble_eq_true rfl⟩ (Nat.le_of_ble_eq_true rfl) dX3_isHanded_29 rfl ?_
    refine v_if_ne (tgt := 40) dX3_isHanded_32 (by decide) (fun c => ?_) (fun c => ?_)
    · rw [if_neg c] at h
      refine v_al0 dX3_isHanded_40 ?_
      refine v_gR cok2 h dX3_isHanded_41 (by decide) q387 rfl (fun x10 h => ?_)
      refine v_iconst dX3_isHanded_44 ?_
      refine v_aI h dX3_isHanded_45 (fun x11 h => ?_)
      refine v_al2 dX3_isHanded_46 ?_
      refine v_gIN cok3 h dX3_isHanded_47 (by decide) q269 rfl (fun x12 h => ?_)
      refine v_icmp_le (tgt := 74) dX3_isHanded_50 (by decide) (fun c => ?_) (fun c => ?_)
      · rw [if_pos c] at h
        exact v_weak (wss (wss (wsn wse))) (lX3_isHanded_74 h)
      · rw [if_neg c] at h
        refine v_al2 dX3_isHanded_53 ?_
        refine v_al0 dX3_isHanded_54 ?_
        refine v_gR cok2 h dX3_isHanded_55 (by decide) q387 rfl (fun x13 h => ?_)
        refine v_iconst dX3_isHanded_58 ?_
        refine v_aI h dX3_isHanded_59 (fun x14 h => ?_)
        refine v_pIN cok3 h dX3_isHanded_60 (by decide) q269 rfl rfl (fun s15 h => ?_)
        refine v_al2 dX3_isHanded_63 ?_
        refine v_iconst dX3_isHanded_64 ?_
        refine v_pIN cok3 h dX3_isHanded_65 (by decide) q272 rfl rfl (fun s16 h => ?_)
        refine v_al0 dX3_isHanded_68 ?_
        refine v_il1 dX3_isHanded_69 ?_
        refine v_iconst dX3_isHanded_70 ?_
        obtain ⟨b71, er, ka, h⟩ := cV_some h
        obtain ⟨_, s17, h1, h⟩ := cl_some h
        refine v_callV0 cok2 (As := [vi x2, vi (iI (-1))]) er ka (tX3_follows h1) (lw_V q741 q743 qs10 q161 q744) rfl dsX3_follows ⟨Nat.le_of_ble_eq_true rfl, Nat.le_of_ble_eq_true rfl⟩ (Nat.le_of_ble_eq_true rfl) dX3_isHanded_71 rfl ?_
        exact v_weak (wss (wss (wsn wse))) (lX3_isHanded_74 h)
    · rw [if_pos c] at h
      exact v_weak (wss (wsn (wsn wse))) (lX3_isHanded_35 h)
theorem tX3_isHanded {E : EE} {l : Launch} {v0 : Option Nat} {σ : Mem} {z : Unit × Mem} (h : sX3_isHanded v0 σ = some z) : Mt E l mX3_isHanded [vr v0] σ (none, z.2) :=
  Mt.ofVL (by decide) (Nat.le_of_ble_eq_true rfl) (fun G hG => lX3_isHanded h)
abbrev mX3_stands : MM := (yX3_stands, cX3_stands, 4, (Option.none : Option Jvm.ClassFile.FieldType), 95, 8654)
theorem dsX3_stands : DsOk yX3_stands 1 := ⟨by decide, by decide, by decide +kernel⟩
theorem lX3_stands_28 {E : EE} {G : GG} {v0 : Option Nat} {v1 : Int32} {σ : Mem} {z : Unit × Mem} (h : sX3_stands_28 v0 v1 σ = some z) : V E mX3_stands G 28 [some (vr v0), some (vi v1), none, none] [] σ (none, z.2) := by
  unfold sX3_stands_28 at h
  refine v_al0 dX3_stands_28 ?_
  refine v_il1 dX3_stands_29 ?_
  obtain ⟨b30, er, ka, h⟩ := cV_some h
  obtain ⟨_, s1, h1, h⟩ := cl_some h
  refine v_callV0 cok2 (As := [vi v1]) er ka (tX3_setsTimer h1) (lw_V q465 q466 q467 q161 q468) rfl dsX3_setsTimer ⟨Nat.le_of_ble_eq_true rfl, Nat.le_of_ble_eq_true rfl⟩ (Nat.le_of_ble_eq_true rfl) dX3_stands_30 rfl ?_
  exact v_retV h dX3_stands_33 rfl
theorem lX3_stands_141 {E : EE} {G : GG} {k90 : Option Nat → Int32 → Option Nat → Int32 → Mem → Option (Unit × Mem)} (hk90 : ∀ (v0 : Option Nat) (v1 : Int32) (v2 : Option Nat) (v3 : Int32) (s : Mem) (z : Unit × Mem), k90 v0 v1 v2 v3 s = some z → V E mX3_stands G 90 [some (vr v0), some (vi v1), some (vr v2), some (vi v3)] [] s (none, z.2)) {v0 : Option Nat} {v1 : Int32} {v2 : Option Nat} {v3 : Int32} {σ : Mem} {z : Unit × Mem} (h : sX3_stands_141 k90 v0 v1 v2 v3 σ = some z) : V E mX3_stands G 141 [some (vr v0), some (vi v1), some (vr v2), some (vi v3)] [] σ (none, z.2) := by
  unfold sX3_stands_141 at h
  refine v_iinc (L' := [some (vr v0), some (vi v1), some (vr v2), some (vi (v3 + iI 1))]) dX3_stands_141 (Nat.le_of_ble_eq_true rfl) rfl rfl ?_
  refine v_goto (tgt := 90) dX3_stands_144 (by decide) ?_
  exact v_weak (wss (wss (wss (wss wse)))) (hk90 _ _ _ _ _ _ h)
theorem lX3_stands_90b {E : EE} {G : GG} {k90 : Option Nat → Int32 → Option Nat → Int32 → Mem → Option (Unit × Mem)} (hk90 : ∀ (v0 : Option Nat) (v1 : Int32) (v2 : Option Nat) (v3 : Int32) (s : Mem) (z : Unit × Mem), k90 v0 v1 v2 v3 s = some z → V E mX3_stands G 90 [some (vr v0), some (vi v1), some (vr v2), some (vi v3)] [] s (none, z.2)) {v0 : Option Nat} {v1 : Int32} {v2 : Option Nat} {v3 : Int32} {σ : Mem} {z : Unit × Mem} (h : sX3_stands_90b k90 v0 v1 v2 v3 σ = some z) : V E mX3_stands G 90 [some (vr v0), some (vi v1), some (vr v2), some (vi v3)] [] σ (none, z.2) := by
  unfold sX3_stands_90b at h
  refine v_il3 dX3_stands_90 ?_
  refine v_bipush dX3_stands_91 rfl ?_
  refine v_icmp_ge (tgt := 147) dX3_stands_93 (by decide) (fun c => ?_) (fun c => ?_)
  · rw [if_pos c] at h
    exact v_retV h dX3_stands_147 rfl
  · rw [if_neg c] at h
    refine v_il3 dX3_stands_96 ?_
    refine v_il1 dX3_stands_97 ?_
    refine v_icmp_eq (tgt := 141) dX3_stands_98 (by decide) (fun c => ?_) (fun c => ?_)
    · rw [if_pos c] at h
      exact v_weak (wss (wss (wss (wss wse)))) (lX3_stands_141 hk90 h)
    · rw [if_neg c] at h
      refine v_al2 dX3_stands_101 ?_
      obtain ⟨b102, er, ka, h⟩ := cV_some h
      obtain ⟨x1, s2, h1, h⟩ := cl_some h
      refine v_callV1 cok3 (As := []) er ka (tX4_members h1) (lw_V q661 q662 q663 q162 q664) rfl dsX4_members ⟨Nat.le_of_ble_eq_true rfl, Nat.le_of_ble_eq_true rfl⟩ (Nat.le_of_ble_eq_true rfl) dX3_stands_102 rfl ?_
      refine v_il3 dX3_stands_105 ?_
      obtain ⟨x3, s4, h1, h⟩ := cl_some h
      refine v_callSN1 (As := [vi x1, vi v3]) (tX0_has h1) q673 q675 q674 q158 dsX0_has ⟨Nat.le_of_ble_eq_true rfl, Nat.le_of_ble_eq_true rfl⟩ (Nat.le_of_ble_eq_true rfl) dX3_stands_106 rfl ?_
      refine v_if_ne (tgt := 115) dX3_stands_109 (by decide) (fun c => ?_) (fun c => ?_)
      · rw [if_neg c] at h
        refine v_al0 dX3_stands_115 ?_
        refine v_il1 dX3_stands_116 ?_
        refine v_il3 dX3_stands_117 ?_
        refine v_iconst dX3_stands_118 ?_
        refine v_al2 dX3_stands_119 ?_
        obtain ⟨b120, er, ka, h⟩ := cV_some h
        obtain ⟨x5, s6, h1, h⟩ := cl_some h
        refine v_callV1 cok3 (As := []) er ka (tX4_last h1) (lw_V q643 q644 q645 q162 q646) rfl dsX4_last ⟨Nat.le_of_ble_eq_true rfl, Nat.le_of_ble_eq_true rfl⟩ (Nat.le_of_ble_eq_true rfl) dX3_stands_120 rfl ?_
        refine v_al2 dX3_stands_123 ?_
        refine v_al2 dX3_stands_124 ?_
        obtain ⟨b125, er, ka, h⟩ := cV_some h
        obtain ⟨x7, s8, h1, h⟩ := cl_some h
        refine v_callV1 cok3 (As := []) er ka (tX4_last h1) (lw_V q643 q644 q645 q162 q646) rfl dsX4_last ⟨Nat.le_of_ble_eq_true rfl, Nat.le_of_ble_eq_true rfl⟩ (Nat.le_of_ble_eq_true rfl) dX3_stands_125 rfl ?_
        obtain ⟨b128, er, ka, h⟩ := cV_some h
        obtain ⟨x9, s10, h1, h⟩ := cl_some h
        refine v_callV1 cok3 (As := [vi x7]) er ka (tX4_termAt h1) (lw_V q684 q624 q625 q162 q626) rfl dsX4_termAt ⟨Nat.le_of_ble_eq_true rfl, Nat.le_of_ble_eq_true rfl⟩ (Nat.le_of_ble_eq_true rfl) dX3_stands_128 rfl ?_
        refine v_iconst dX3_stands_131 ?_
        refine v_iconst dX3_stands_132 ?_
        obtain ⟨b133, er, ka, h⟩ := cV_some h
        obtain ⟨x11, s12, h1, h⟩ := cl_some h
        refine v_callV1 cok2 (As := [vi v1, vi v3, vi (iI 0), vi x5, vi x9, vi (iI 0), vi (iI 0)]) er ka (tX3_writes h1) (lw_V q680 q682 qs3 q161 q683) rfl dsX3_writes ⟨Nat.le_of_ble_eq_true rfl, Nat.le_of_ble_eq_true rfl⟩ (Nat.le_of_ble_eq_true rfl) dX3_stands_133 rfl ?_
        refine v_pop dX3_stands_136 ?_
        refine v_al0 dX3_stands_137 ?_
        obtain ⟨b138, er, ka, h⟩ := cV_some h
        obtain ⟨_, s13, h1, h⟩ := cl_some h
        refine v_callV0 cok2 (As := []) er ka (tX3_sends h1) (lw_V q685 q687 qs4 q161 q688) rfl dsX3_sends ⟨Nat.le_of_ble_eq_true rfl, Nat.le_of_ble_eq_true rfl⟩ (Nat.le_of_ble_eq_true rfl) dX3_stands_138 rfl ?_
        exact v_weak (wss (wss (wss (wss wse)))) (lX3_stands_141 hk90 h)
      · rw [if_pos c] at h
        refine v_goto (tgt := 141) dX3_stands_112 (by decide) ?_
        exact v_weak (wss (wss (wss (wss wse)))) (lX3_stands_141 hk90 h)
theorem lX3_stands_90 {E : EE} {G : GG} : ∀ (f : Nat) {v0 : Option Nat} {v1 : Int32} {v2 : Option Nat} {v3 : Int32} {σ : Mem} {z : Unit × Mem}, sX3_stands_90 f v0 v1 v2 v3 σ = some z → V E mX3_stands G 90 [some (vr v0), some (vi v1), some (vr v2), some (vi v3)] [] σ (none, z.2)
  | 0, _, _, _, _, _, _, h => by cases h
  | f + 1, _, _, _, _, _, _, h => lX3_stands_90b (fun _ _ _ _ _ _ h => lX3_stands_90 f h) h
theorem lX3_stands {E : EE} {G : GG} {v0 : Option Nat} {v1 : Int32} {σ : Mem} {z : Unit × Mem} (h : sX3_stands v0 v1 σ = some z) : V E mX3_stands G 0 [some (vr v0), some (vi v1), none, none] [] σ (none, z.2) := by
  unfold sX3_stands at h
  refine v_al0 dX3_stands_0 ?_
  refine v_gR cok2 h dX3_stands_1 (by decide) q359 rfl (fun x1 h => ?_)
  refine v_il1 dX3_stands_4 ?_
  refine v_aR h (by decide) dX3_stands_5 (fun x2 h => ?_)
  refine v_astore_n (L' := [some (vr v0), some (vi v1), some (vr x2), none]) dX3_stands_6 (Nat.le_of_ble_eq_true rfl) (Nat.le_of_ble_eq_true rfl) rfl ?_
  refine v_al2 dX3_stands_7 ?_
  obtain ⟨b8, er, ka, h⟩ := cV_some h
  obtain ⟨x3, s4, h1, h⟩ := cl_some h
  refine v_callV1 cok3 (As := []) er ka (tX4_members h1) (lw_V q661 q662 q663 q162 q664) rfl dsX4_members ⟨Nat.le_of_ble_eq_true rfl, Nat.le_of_ble_eq_true rfl⟩ (Nat.le_of_ble_eq_true rfl) dX3_stands_8 rfl ?_
  refine v_il1 dX3_stands_11 ?_
  obtain ⟨x5, s6, h1, h⟩ := cl_some h
  refine v_callSN1 (As := [vi x3, vi v1]) (tX0_has h1) q673 q675 q674 q158 dsX0_has ⟨Nat.le_of_ble_eq_true rfl, Nat.le_of_ble_eq_true rfl⟩ (Nat.le_of_ble_eq_true rfl) dX3_stands_12 rfl ?_
  refine v_if_eq (tgt := 28) dX3_stands_15 (by decide) (fun c => ?_) (fun c => ?_)
  · rw [if_pos c] at h
    exact v_weak (wss (wss (wsn (wsn wse)))) (lX3_stands_28 h)
  · rw [if_neg c] at h
    refine v_al2 dX3_stands_18 ?_
    refine v_gIN cok3 h dX3_stands_19 (by decide) q269 rfl (fun x7 h => ?_)
    refine v_sipush dX3_stands_22 rfl ?_
    refine v_icmp_ne (tgt := 34) dX3_stands_25 (by decide) (fun c => ?_) (fun c => ?_)
    · rw [if_neg c] at h
      refine v_al2 dX3_stands_34 ?_
      refine v_dup dX3_stands_35 ?_
      refine v_gIN cok3 h dX3_stands_36 (by decide) q269 rfl (fun x8 h => ?_)
      refine v_iconst dX3_stands_39 ?_
      refine v_iadd dX3_stands_40 ?_
      refine v_pIN cok3 h dX3_stands_41 (by decide) q269 rfl rfl (fun s9 h => ?_)
      refine v_al2 dX3_stands_44 ?_
      refine v_iconst dX3_stands_45 ?_
      refine v_pIN cok3 h dX3_stands_46 (by decide) q287 rfl rfl (fun s10 h => ?_)
      refine v_al2 dX3_stands_49 ?_
      refine v_il1 dX3_stands_50 ?_
      refine v_pIN cok3 h dX3_stands_51 (by decide) q272 rfl rfl (fun s11 h => ?_)
      refine v_al2 dX3_stands_54 ?_
      refine v_iconst dX3_stands_55 ?_
      refine v_il1 dX3_stands_56 ?_
      refine v_ishl dX3_stands_57 ?_
      refine v_pIN cok3 h dX3_stands_58 (by decide) q298 rfl rfl (fun s12 h => ?_)
      refine v_al2 dX3_stands_61 ?_
      refine v_iconst dX3_stands_62 ?_
      refine v_pIN cok3 h dX3_stands_63 (by decide) q295 rfl rfl (fun s13 h => ?_)
      refine v_al0 dX3_stands_66 ?_
      refine v_il1 dX3_stands_67 ?_
      obtain ⟨b68, er, ka, h⟩ := cV_some h
      obtain ⟨_, s14, h1, h⟩ := cl_some h
      refine v_callV0 cok2 (As := [vi v1]) er ka (tX3_setsTimer h1) (lw_V q465 q466 q467 q161 q468) rfl dsX3_setsTimer ⟨Nat.le_of_ble_eq_true rfl, Nat.le_of_ble_eq_true rfl⟩ (Nat.le_of_ble_eq_true rfl) dX3_stands_68 rfl ?_
      refine v_al2 dX3_stands_71 ?_
      refine v_al2 dX3_stands_72 ?_
      refine v_gIN cok3 h dX3_stands_73 (by decide) q298 rfl (fun x15 h => ?_)
      obtain ⟨b76, er, ka, h⟩ := cV_some h
      obtain ⟨x16, s17, h1, h⟩ := cl_some h
      refine v_callV1 cok3 (As := [vi x15]) er ka (tX4_isMajority h1) (lw_V q715 q716 q717 q162 q718) rfl dsX4_isMajority ⟨Nat.le_of_ble_eq_true rfl, Nat.le_of_ble_eq_true rfl⟩ (Nat.le_of_ble_eq_true rfl) dX3_stands_76 rfl ?_
      refine v_if_eq (tgt := 88) dX3_stands_79 (by decide) (fun c => ?_) (fun c => ?_)
      · rw [if_pos c] at h
        refine v_iconst dX3_stands_88 ?_
        refine v_istore_n (L' := [some (vr v0), some (vi v1), some (vr x2), some (vi (iI 0))]) dX3_stands_89 (Nat.le_of_ble_eq_true rfl) (Nat.le_of_ble_eq_true rfl) rfl ?_
        exact v_weak (wss (wss (wss (wss wse)))) (lX3_stands_90 FU h)
      · rw [if_neg c] at h
        refine v_al0 dX3_stands_82 ?_
        refine v_il1 dX3_stands_83 ?_
        obtain ⟨b84, er, ka, h⟩ := cV_some h
        obtain ⟨_, s18, h1, h⟩ := cl_some h
        refine v_callV0 cok2 (As := [vi v1]) er ka (tX3_leads h1) (lw_V q1167 q1169 qs41 q161 q1170) rfl dsX3_leads ⟨Nat.le_of_ble_eq_true rfl, Nat.le_of_ble_eq_true rfl⟩ (Nat.le_of_ble_eq_true rfl) dX3_stands_84 rfl ?_
        exact v_retV h dX3_stands_87 rfl
    · rw [if_pos c] at h
      exact v_weak (wss (wss (wsn (wsn wse)))) (lX3_stands_28 h)
theorem tX3_stands {E : EE} {l : Launch} {v0 : Option Nat} {v1 : Int32} {σ : Mem} {z : Unit × Mem} (h : sX3_stands v0 v1 σ = some z) : Mt E l mX3_stands [vr v0, vi v1] σ (none, z.2) :=
  Mt.ofVL (by decide) (Nat.le_of_ble_eq_true rfl) (fun G hG => lX3_stands h)
abbrev mX3_beats : MM := (yX3_beats, cX3_beats, 3, (Option.none : Option Jvm.ClassFile.FieldType), 96, 8677)
theorem dsX3_beats : DsOk yX3_beats 1 := ⟨by decide, by decide, by decide +kernel⟩
theorem lX3_beats {E : EE} {G : GG} {v0 : Option Nat} {v1 : Int32} {σ : Mem} {z : Unit × Mem} (h : sX3_beats v0 v1 σ = some z) : V E mX3_beats G 0 [some (vr v0), some (vi v1), none] [] σ (none, z.2) := by
  unfold sX3_beats at h
  refine v_al0 dX3_beats_0 ?_
  refine v_gR cok2 h dX3_beats_1 (by decide) q359 rfl (fun x1 h => ?_)
  refine v_il1 dX3_beats_4 ?_
  refine v_aR h (by decide) dX3_beats_5 (fun x2 h => ?_)
  refine v_astore_n (L' := [some (vr v0), some (vi v1), some (vr x2)]) dX3_beats_6 (Nat.le_of_ble_eq_true rfl) (Nat.le_of_ble_eq_true rfl) rfl ?_
  refine v_al2 dX3_beats_7 ?_
  refine v_gIN cok3 h dX3_beats_8 (by decide) q287 rfl (fun x3 h => ?_)
  refine v_iconst dX3_beats_11 ?_
  refine v_icmp_eq (tgt := 38) dX3_beats_12 (by decide) (fun c => ?_) (fun c => ?_)
  · rw [if_pos c] at h
    refine v_al2 dX3_beats_38 ?_
    refine v_dup dX3_beats_39 ?_
    refine v_gIN cok3 h dX3_beats_40 (by decide) q305 rfl (fun x4 h => ?_)
    refine v_iconst dX3_beats_43 ?_
    refine v_iadd dX3_beats_44 ?_
    refine v_pIN cok3 h dX3_beats_45 (by decide) q305 rfl rfl (fun s5 h => ?_)
    refine v_al2 dX3_beats_48 ?_
    refine v_gIN cok3 h dX3_beats_49 (by decide) q305 rfl (fun x6 h => ?_)
    refine v_iconst dX3_beats_52 ?_
    refine v_icmp_ge (tgt := 57) dX3_beats_53 (by decide) (fun c => ?_) (fun c => ?_)
    · rw [if_pos c] at h
      refine v_al2 dX3_beats_57 ?_
      refine v_iconst dX3_beats_58 ?_
      refine v_pIN cok3 h dX3_beats_59 (by decide) q305 rfl rfl (fun s7 h => ?_)
      refine v_al2 dX3_beats_62 ?_
      refine v_dup dX3_beats_63 ?_
      refine v_gIN cok3 h dX3_beats_64 (by decide) q301 rfl (fun x8 h => ?_)
      refine v_iconst dX3_beats_67 ?_
      refine v_iadd dX3_beats_68 ?_
      refine v_pIN cok3 h dX3_beats_69 (by decide) q301 rfl rfl (fun s9 h => ?_)
      refine v_al0 dX3_beats_72 ?_
      refine v_il1 dX3_beats_73 ?_
      obtain ⟨b74, er, ka, h⟩ := cV_some h
      obtain ⟨_, s10, h1, h⟩ := cl_some h
      refine v_callV0 cok2 (As := [vi v1]) er ka (tX3_sendsToAll h1) (lw_V q657 q658 q659 q161 q660) rfl dsX3_sendsToAll ⟨Nat.le_of_ble_eq_true rfl, Nat.le_of_ble_eq_true rfl⟩ (Nat.le_of_ble_eq_true rfl) dX3_beats_74 rfl ?_
      exact v_retV h dX3_beats_77 rfl
    · rw [if_neg c] at h
      exact v_retV h dX3_beats_56 rfl
  · rw [if_neg c] at h
    refine v_al2 dX3_beats_15 ?_
    refine v_dup dX3_beats_16 ?_
    refine v_gIN cok3 h dX3_beats_17 (by decide) q292 rfl (fun x11 h => ?_)
    refine v_iconst dX3_beats_20 ?_
    refine v_isub dX3_beats_21 ?_
    refine v_pIN cok3 h dX3_beats_22 (by decide) q292 rfl rfl (fun s12 h => ?_)
    refine v_al2 dX3_beats_25 ?_
    refine v_gIN cok3 h dX3_beats_26 (by decide) q292 rfl (fun x13 h => ?_)
    refine v_if_gt (tgt := 37) dX3_beats_29 (by decide) (fun c => ?_) (fun c => ?_)
    · rw [if_pos c] at h
      exact v_retV h dX3_beats_37 rfl
    · rw [if_neg c] at h
      refine v_al0 dX3_beats_32 ?_
      refine v_il1 dX3_beats_33 ?_
      obtain ⟨b34, er, ka, h⟩ := cV_some h
      obtain ⟨_, s14, h1, h⟩ := cl_some h
      refine v_callV0 cok2 (As := [vi v1]) er ka (tX3_stands h1) (lw_V q1210 q1212 qs49 q161 q1213) rfl dsX3_stands ⟨Nat.le_of_ble_eq_true rfl, Nat.le_of_ble_eq_true rfl⟩ (Nat.le_of_ble_eq_true rfl) dX3_beats_34 rfl ?_
      exact v_retV h dX3_beats_37 rfl
theorem tX3_beats {E : EE} {l : Launch} {v0 : Option Nat} {v1 : Int32} {σ : Mem} {z : Unit × Mem} (h : sX3_beats v0 v1 σ = some z) : Mt E l mX3_beats [vr v0, vi v1] σ (none, z.2) :=
  Mt.ofVL (by decide) (Nat.le_of_ble_eq_true rfl) (fun G hG => lX3_beats h)
abbrev mX3_tickGoes : MM := (yX3_tickGoes, cX3_tickGoes, 2, (Option.none : Option Jvm.ClassFile.FieldType), 97, 8701)
theorem dsX3_tickGoes : DsOk yX3_tickGoes 0 := ⟨by decide, by decide, by decide +kernel⟩
theorem lX3_tickGoes_49 {E : EE} {G : GG} {k26 : Option Nat → Int32 → Mem → Option (Unit × Mem)} (hk26 : ∀ (v0 : Option Nat) (v1 : Int32) (s : Mem) (z : Unit × Mem), k26 v0 v1 s = some z → V E mX3_tickGoes G 26 [some (vr v0), some (vi v1)] [] s (none, z.2)) {v0 : Option Nat} {v1 : Int32} {σ : Mem} {z : Unit × Mem} (h : sX3_tickGoes_49 k26 v0 v1 σ = some z) : V E mX3_tickGoes G 49 [some (vr v0), some (vi v1)] [] σ (none, z.2) := by
  unfold sX3_tickGoes_49 at h
  refine v_iinc (L' := [some (vr v0), some (vi (v1 + iI 1))]) dX3_tickGoes_49 (Nat.le_of_ble_eq_true rfl) rfl rfl ?_
  refine v_goto (tgt := 26) dX3_tickGoes_52 (by decide) ?_
  exact v_weak (wss (wss wse)) (hk26 _ _ _ _ h)
theorem lX3_tickGoes_26b {E : EE} {G : GG} {k26 : Option Nat → Int32 → Mem → Option (Unit × Mem)} (hk26 : ∀ (v0 : Option Nat) (v1 : Int32) (s : Mem) (z : Unit × Mem), k26 v0 v1 s = some z → V E mX3_tickGoes G 26 [some (vr v0), some (vi v1)] [] s (none, z.2)) {v0 : Option Nat} {v1 : Int32} {σ : Mem} {z : Unit × Mem} (h : sX3_tickGoes_26b k26 v0 v1 σ = some z) : V E mX3_tickGoes G 26 [some (vr v0), some (vi v1)] [] σ (none, z.2) := by
  unfold sX3_tickGoes_26b at h
  refine v_il1 dX3_tickGoes_26 ?_
  refine v_bipush dX3_tickGoes_27 rfl ?_
  refine v_icmp_ge (tgt := 55) dX3_tickGoes_29 (by decide) (fun c => ?_) (fun c => ?_)
  · rw [if_pos c] at h
    exact v_retV h dX3_tickGoes_55 rfl
  · rw [if_neg c] at h
    refine v_al0 dX3_tickGoes_32 ?_
    refine v_gR cok2 h dX3_tickGoes_33 (by decide) q359 rfl (fun x1 h => ?_)
    refine v_il1 dX3_tickGoes_36 ?_
    refine v_aR h (by decide) dX3_tickGoes_37 (fun x2 h => ?_)
    refine v_gIN cok3 h dX3_tickGoes_38 (by decide) q308 rfl (fun x3 h => ?_)
    refine v_if_eq (tgt := 49) dX3_tickGoes_41 (by decide) (fun c => ?_) (fun c => ?_)
    · rw [if_pos c] at h
      exact v_weak (wss (wss wse)) (lX3_tickGoes_49 hk26 h)
    · rw [if_neg c] at h
      refine v_al0 dX3_tickGoes_44 ?_
      refine v_il1 dX3_tickGoes_45 ?_
      obtain ⟨b46, er, ka, h⟩ := cV_some h
      obtain ⟨_, s4, h1, h⟩ := cl_some h
      refine v_callV0 cok2 (As := [vi v1]) er ka (tX3_beats h1) (lw_V q1206 q1208 qs48 q161 q1209) rfl dsX3_beats ⟨Nat.le_of_ble_eq_true rfl, Nat.le_of_ble_eq_true rfl⟩ (Nat.le_of_ble_eq_true rfl) dX3_tickGoes_46 rfl ?_
      exact v_weak (wss (wss wse)) (lX3_tickGoes_49 hk26 h)
theorem lX3_tickGoes_26 {E : EE} {G : GG} : ∀ (f : Nat) {v0 : Option Nat} {v1 : Int32} {σ : Mem} {z : Unit × Mem}, sX3_tickGoes_26 f v0 v1 σ = some z → V E mX3_tickGoes G 26 [some (vr v0), some (vi v1)] [] σ (none, z.2)
  | 0, _, _, _, _, h => by cases h
  | f + 1, _, _, _, _, h => lX3_tickGoes_26b (fun _ _ _ _ h => lX3_tickGoes_26 f h) h
theorem lX3_tickGoes_10b {E : EE} {G : GG} {k10 : Option Nat → Mem → Option (Unit × Mem)} (hk10 : ∀ (v0 : Option Nat) (s : Mem) (z : Unit × Mem), k10 v0 s = some z → V E mX3_tickGoes G 10 [some (vr v0), none] [] s (none, z.2)) {v0 : Option Nat} {σ : Mem} {z : Unit × Mem} (h : sX3_tickGoes_10b k10 v0 σ = some z) : V E mX3_tickGoes G 10 [some (vr v0), none] [] σ (none, z.2) := by
  unfold sX3_tickGoes_10b at h
  refine v_al0 dX3_tickGoes_10 ?_
  obtain ⟨b11, er, ka, h⟩ := cV_some h
  obtain ⟨x1, s2, h1, h⟩ := cl_some h
  refine v_callV1 cok2 (As := []) er ka (tX3_takesDue h1) (lw_V q1139 q1141 qs35 q161 q1142) rfl dsX3_takesDue ⟨Nat.le_of_ble_eq_true rfl, Nat.le_of_ble_eq_true rfl⟩ (Nat.le_of_ble_eq_true rfl) dX3_tickGoes_11 rfl ?_
  refine v_if_eq (tgt := 24) dX3_tickGoes_14 (by decide) (fun c => ?_) (fun c => ?_)
  · rw [if_pos c] at h
    refine v_iconst dX3_tickGoes_24 ?_
    refine v_istore_n (L' := [some (vr v0), some (vi (iI 0))]) dX3_tickGoes_25 (Nat.le_of_ble_eq_true rfl) (Nat.le_of_ble_eq_true rfl) rfl ?_
    exact v_weak (wss (wss wse)) (lX3_tickGoes_26 FU h)
  · rw [if_neg c] at h
    refine v_al0 dX3_tickGoes_17 ?_
    obtain ⟨b18, er, ka, h⟩ := cV_some h
    obtain ⟨_, s3, h1, h⟩ := cl_some h
    refine v_callV0 cok2 (As := []) er ka (tX3_isHanded h1) (lw_V q1143 q1145 qs36 q161 q1146) rfl dsX3_isHanded ⟨Nat.le_of_ble_eq_true rfl, Nat.le_of_ble_eq_true rfl⟩ (Nat.le_of_ble_eq_true rfl) dX3_tickGoes_18 rfl ?_
    refine v_goto (tgt := 10) dX3_tickGoes_21 (by decide) ?_
    exact v_weak (wss (wsn wse)) (hk10 _ _ _ h)
theorem lX3_tickGoes_10 {E : EE} {G : GG} : ∀ (f : Nat) {v0 : Option Nat} {σ : Mem} {z : Unit × Mem}, sX3_tickGoes_10 f v0 σ = some z → V E mX3_tickGoes G 10 [some (vr v0), none] [] σ (none, z.2)
  | 0, _, _, _, h => by cases h
  | f + 1, _, _, _, h => lX3_tickGoes_10b (fun _ _ _ h => lX3_tickGoes_10 f h) h
theorem lX3_tickGoes {E : EE} {G : GG} {v0 : Option Nat} {σ : Mem} {z : Unit × Mem} (h : sX3_tickGoes v0 σ = some z) : V E mX3_tickGoes G 0 [some (vr v0), none] [] σ (none, z.2) := by
  unfold sX3_tickGoes at h
  refine v_al0 dX3_tickGoes_0 ?_
  refine v_dup dX3_tickGoes_1 ?_
  refine v_gI cok2 h dX3_tickGoes_2 (by decide) q373 rfl (fun x1 h => ?_)
  refine v_iconst dX3_tickGoes_5 ?_
  refine v_iadd dX3_tickGoes_6 ?_
  refine v_pI cok2 h dX3_tickGoes_7 (by decide) q373 rfl rfl (fun s2 h => ?_)
  exact v_weak (wss (wsn wse)) (lX3_tickGoes_10 FU h)
theorem tX3_tickGoes {E : EE} {l : Launch} {v0 : Option Nat} {σ : Mem} {z : Unit × Mem} (h : sX3_tickGoes v0 σ = some z) : Mt E l mX3_tickGoes [vr v0] σ (none, z.2) :=
  Mt.ofVL (by decide) (Nat.le_of_ble_eq_true rfl) (fun G hG => lX3_tickGoes h)
abbrev mX3_goes : MM := (yX3_goes, cX3_goes, 3, (Option.some (Jvm.ClassFile.FieldType.object "TermLog$Cluster")), 98, 8722)
theorem dsX3_goes : DsOk yX3_goes 1 := ⟨by decide, by decide, by decide +kernel⟩
theorem lX3_goes_7b {E : EE} {G : GG} {k7 : Option Nat → Int32 → Int32 → Mem → Option (Option Nat × Mem)} (hk7 : ∀ (v0 : Option Nat) (v1 : Int32) (v2 : Int32) (s : Mem) (z : Option Nat × Mem), k7 v0 v1 v2 s = some z → V E mX3_goes G 7 [some (vr v0), some (vi v1), some (vi v2)] [] s (some (vr z.1), z.2)) {v0 : Option Nat} {v1 : Int32} {v2 : Int32} {σ : Mem} {z : Option Nat × Mem} (h : sX3_goes_7b k7 v0 v1 v2 σ = some z) : V E mX3_goes G 7 [some (vr v0), some (vi v1), some (vi v2)] [] σ (some (vr z.1), z.2) := by
  unfold sX3_goes_7b at h
  refine v_il2 dX3_goes_7 ?_
  refine v_il1 dX3_goes_8 ?_
  refine v_icmp_ge (tgt := 32) dX3_goes_9 (by decide) (fun c => ?_) (fun c => ?_)
  · rw [if_pos c] at h
    refine v_al0 dX3_goes_32 ?_
    exact v_retR h dX3_goes_33 rfl (Or.inl ⟨_, rfl⟩)
  · rw [if_neg c] at h
    refine v_al0 dX3_goes_12 ?_
    refine v_gI cok2 h dX3_goes_13 (by decide) q373 rfl (fun x1 h => ?_)
    refine v_sipush dX3_goes_16 rfl ?_
    refine v_icmp_ge (tgt := 32) dX3_goes_19 (by decide) (fun c => ?_) (fun c => ?_)
    · rw [if_pos c] at h
      refine v_al0 dX3_goes_32 ?_
      exact v_retR h dX3_goes_33 rfl (Or.inl ⟨_, rfl⟩)
    · rw [if_neg c] at h
      refine v_al0 dX3_goes_22 ?_
      obtain ⟨b23, er, ka, h⟩ := cV_some h
      obtain ⟨_, s2, h1, h⟩ := cl_some h
      refine v_callV0 cok2 (As := []) er ka (tX3_tickGoes h1) (lw_V q1135 q1136 q1137 q161 q1138) rfl dsX3_tickGoes ⟨Nat.le_of_ble_eq_true rfl, Nat.le_of_ble_eq_true rfl⟩ (Nat.le_of_ble_eq_true rfl) dX3_goes_23 rfl ?_
      refine v_iinc (L' := [some (vr v0), some (vi v1), some (vi (v2 + iI 1))]) dX3_goes_26 (Nat.le_of_ble_eq_true rfl) rfl rfl ?_
      refine v_goto (tgt := 7) dX3_goes_29 (by decide) ?_
      exact v_weak (wss (wss (wss wse))) (hk7 _ _ _ _ _ h)
theorem lX3_goes_7 {E : EE} {G : GG} : ∀ (f : Nat) {v0 : Option Nat} {v1 : Int32} {v2 : Int32} {σ : Mem} {z : Option Nat × Mem}, sX3_goes_7 f v0 v1 v2 σ = some z → V E mX3_goes G 7 [some (vr v0), some (vi v1), some (vi v2)] [] σ (some (vr z.1), z.2)
  | 0, _, _, _, _, _, h => by cases h
  | f + 1, _, _, _, _, _, h => lX3_goes_7b (fun _ _ _ _ _ h => lX3_goes_7 f h) h
theorem lX3_goes {E : EE} {G : GG} {v0 : Option Nat} {v1 : Int32} {σ : Mem} {z : Option Nat × Mem} (h : sX3_goes v0 v1 σ = some z) : V E mX3_goes G 0 [some (vr v0), some (vi v1), none] [] σ (some (vr z.1), z.2) := by
  unfold sX3_goes at h
  refine v_al0 dX3_goes_0 ?_
  refine v_iconst dX3_goes_1 ?_
  refine v_pI cok2 h dX3_goes_2 (by decide) q384 rfl rfl (fun s1 h => ?_)
  refine v_iconst dX3_goes_5 ?_
  refine v_istore_n (L' := [some (vr v0), some (vi v1), some (vi (iI 0))]) dX3_goes_6 (Nat.le_of_ble_eq_true rfl) (Nat.le_of_ble_eq_true rfl) rfl ?_
  exact v_weak (wss (wss (wss wse))) (lX3_goes_7 FU h)
theorem tX3_goes {E : EE} {l : Launch} {v0 : Option Nat} {v1 : Int32} {σ : Mem} {z : Option Nat × Mem} (h : sX3_goes v0 v1 σ = some z) : Mt E l mX3_goes [vr v0, vi v1] σ (some (vr z.1), z.2) :=
  Mt.ofVL (by decide) (Nat.le_of_ble_eq_true rfl) (fun G hG => lX3_goes h)
abbrev mX0_ticks : MM := (yX0_ticks, cX0_ticks, 2, (Option.some Jvm.ClassFile.FieldType.int), 99, 8744)
theorem dsX0_ticks : DsOk yX0_ticks 1 := ⟨by decide, by decide, by decide +kernel⟩
theorem lX0_ticks_32 {E : EE} {G : GG} {v0 : Option Nat} {v1 : Int32} {t0 : Option Nat} {t1 : Int32} {σ : Mem} {z : Int32 × Mem} (h : sX0_ticks_32 v0 v1 t0 t1 σ = some z) : V E mX0_ticks G 32 [some (vr v0), some (vi v1)] [vi t1, vr t0] σ (some (vi z.1), z.2) := by
  unfold sX0_ticks_32 at h
  refine v_pZ cok0 h dX0_ticks_32 (by decide) q548 rfl rfl (fun s1 h => ?_)
  refine v_al0 dX0_ticks_35 ?_
  refine v_gR cok0 h dX0_ticks_36 (by decide) q538 rfl (fun x2 h => ?_)
  refine v_il1 dX0_ticks_39 ?_
  obtain ⟨b40, er, ka, h⟩ := cV_some h
  obtain ⟨x3, s4, h1, h⟩ := cl_some h
  refine v_callV1 cok2 (As := [vi v1]) er ka (tX3_goes h1) (lw_V q1131 q1132 q1133 q161 q1134) rfl dsX3_goes ⟨Nat.le_of_ble_eq_true rfl, Nat.le_of_ble_eq_true rfl⟩ (Nat.le_of_ble_eq_true rfl) dX0_ticks_40 rfl ?_
  refine v_gIN cok2 h dX0_ticks_43 (by decide) q383 rfl (fun x5 h => ?_)
  exact v_retI h dX0_ticks_46 rfl
theorem lX0_ticks {E : EE} {G : GG} {v0 : Option Nat} {v1 : Int32} {σ : Mem} {z : Int32 × Mem} (h : sX0_ticks v0 v1 σ = some z) : V E mX0_ticks G 0 [some (vr v0), some (vi v1)] [] σ (some (vi z.1), z.2) := by
  unfold sX0_ticks at h
  refine v_il1 dX0_ticks_0 ?_
  refine v_iconst dX0_ticks_1 ?_
  refine v_sipush dX0_ticks_2 rfl ?_
  obtain ⟨x1, s2, h1, h⟩ := cl_some h
  refine v_callS1 (As := [vi v1, vi (iI 1), vi (iI 200)]) (tX0_within h1) (lw_S q572 q573 q158 q574) dsX0_within ⟨Nat.le_of_ble_eq_true rfl, Nat.le_of_ble_eq_true rfl⟩ (Nat.le_of_ble_eq_true rfl) dX0_ticks_5 rfl ?_
  refine v_if_ne (tgt := 13) dX0_ticks_8 (by decide) (fun c => ?_) (fun c => ?_)
  · rw [if_neg c] at h
    refine v_al0 dX0_ticks_13 ?_
    refine v_al0 dX0_ticks_14 ?_
    refine v_gR cok0 h dX0_ticks_15 (by decide) q538 rfl (fun x3 h => ?_)
    refine v_gIN cok2 h dX0_ticks_18 (by decide) q374 rfl (fun x4 h => ?_)
    refine v_sipush dX0_ticks_21 rfl ?_
    refine v_icmp_ge (tgt := 31) dX0_ticks_24 (by decide) (fun c => ?_) (fun c => ?_)
    · rw [if_pos c] at h
      refine v_iconst dX0_ticks_31 ?_
      exact v_weak (wss (wss wse)) (lX0_ticks_32 h)
    · rw [if_neg c] at h
      refine v_iconst dX0_ticks_27 ?_
      refine v_goto (tgt := 32) dX0_ticks_28 (by decide) ?_
      exact v_weak (wss (wss wse)) (lX0_ticks_32 h)
  · rw [if_pos c] at h
    refine v_iconst dX0_ticks_11 ?_
    exact v_retI h dX0_ticks_12 rfl
theorem tX0_ticks {E : EE} {l : Launch} {v0 : Option Nat} {v1 : Int32} {σ : Mem} {z : Int32 × Mem} (h : sX0_ticks v0 v1 σ = some z) : Mt E l mX0_ticks [vr v0, vi v1] σ (some (vi z.1), z.2) :=
  Mt.ofVL (by decide) (Nat.le_of_ble_eq_true rfl) (fun G hG => lX0_ticks h)
abbrev mX0_isTicked : MM := (yX0_isTicked, cX0_isTicked, 1, (Option.some Jvm.ClassFile.FieldType.boolean), 0, 0)
theorem dsX0_isTicked : DsOk yX0_isTicked 0 := ⟨by decide, by decide, by decide +kernel⟩
theorem lX0_isTicked {E : EE} {G : GG} {v0 : Option Nat} {σ : Mem} {z : Int32 × Mem} (h : sX0_isTicked v0 σ = some z) : V E mX0_isTicked G 0 [some (vr v0)] [] σ (some (vi z.1), z.2) := by
  unfold sX0_isTicked at h
  refine v_al0 dX0_isTicked_0 ?_
  refine v_gI cok0 h dX0_isTicked_1 (by decide) q548 rfl (fun x1 h => ?_)
  exact v_retZ h dX0_isTicked_4 rfl
theorem tX0_isTicked {E : EE} {l : Launch} {v0 : Option Nat} {σ : Mem} {z : Int32 × Mem} (h : sX0_isTicked v0 σ = some z) : Mt E l mX0_isTicked [vr v0] σ (some (vi z.1), z.2) :=
  Mt.ofVL (by decide) (Nat.le_of_ble_eq_true rfl) (fun G hG => lX0_isTicked h)
abbrev mX16_isDone : MM := (yX16_isDone, cX16_isDone, 4, (Option.some Jvm.ClassFile.FieldType.boolean), 100, 8765)
theorem dsX16_isDone : DsOk yX16_isDone 1 := ⟨by decide, by decide, by decide +kernel⟩
theorem lX16_isDone {E : EE} {G : GG} {v0 : Option Nat} {v1 : Int32} {σ : Mem} {z : Int32 × Mem} (h : sX16_isDone v0 v1 σ = some z) : V E mX16_isDone G 0 [some (vr v0), some (vi v1), none, none] [] σ (some (vi z.1), z.2) := by
  unfold sX16_isDone at h
  refine v_al0 dX16_isDone_0 ?_
  refine v_gR cok13 h dX16_isDone_1 (by decide) q1052 rfl (fun x1 h => ?_)
  refine v_il1 dX16_isDone_4 ?_
  refine v_aI h dX16_isDone_5 (fun x2 h => ?_)
  refine v_istore_n (L' := [some (vr v0), some (vi v1), some (vi x2), none]) dX16_isDone_6 (Nat.le_of_ble_eq_true rfl) (Nat.le_of_ble_eq_true rfl) rfl ?_
  refine v_al0 dX16_isDone_7 ?_
  refine v_gR cok13 h dX16_isDone_8 (by decide) q1053 rfl (fun x3 h => ?_)
  refine v_il1 dX16_isDone_11 ?_
  refine v_aI h dX16_isDone_12 (fun x4 h => ?_)
  refine v_istore_n (L' := [some (vr v0), some (vi v1), some (vi x2), some (vi x4)]) dX16_isDone_13 (Nat.le_of_ble_eq_true rfl) (Nat.le_of_ble_eq_true rfl) rfl ?_
  refine v_al0 dX16_isDone_14 ?_
  refine v_gR cok13 h dX16_isDone_15 (by decide) q1051 rfl (fun x5 h => ?_)
  refine v_il1 dX16_isDone_18 ?_
  refine v_aI h dX16_isDone_19 (fun x6 h => ?_)
  by_cases c0 : x6 = iI 46
  · rw [if_pos c0] at h
    refine v_look (tgt := 88) dX16_isDone_20 (by decide) (by rw [c0]; try rfl) (by decide) ?_
    refine v_al0 dX16_isDone_88 ?_
    refine v_gR cok13 h dX16_isDone_89 (by decide) q1060 rfl (fun x7 h => ?_)
    refine v_iconst dX16_isDone_92 ?_
    obtain ⟨b93, er, ka, h⟩ := cV_some h
    obtain ⟨x8, s9, h1, h⟩ := cl_some h
    refine v_callV1 cok0 (As := [vi (iI 1)]) er ka (tX0_ticks h1) (lw_V q1127 q1128 q1129 q158 q1130) rfl dsX0_ticks ⟨Nat.le_of_ble_eq_true rfl, Nat.le_of_ble_eq_true rfl⟩ (Nat.le_of_ble_eq_true rfl) dX16_isDone_93 rfl ?_
    refine v_if_lt (tgt := 113) dX16_isDone_96 (by decide) (fun c => ?_) (fun c => ?_)
    · rw [if_pos c] at h
      refine v_iconst dX16_isDone_113 ?_
      exact v_retZ h dX16_isDone_114 rfl
    · rw [if_neg c] at h
      refine v_al0 dX16_isDone_99 ?_
      refine v_gR cok13 h dX16_isDone_100 (by decide) q1060 rfl (fun x10 h => ?_)
      obtain ⟨b103, er, ka, h⟩ := cV_some h
      obtain ⟨x11, s12, h1, h⟩ := cl_some h
      refine v_callVN1 cok0 (As := []) er ka (tX0_isTicked h1) q1214 q1217 q1216 qs50 q158 dsX0_isTicked ⟨Nat.le_of_ble_eq_true rfl, Nat.le_of_ble_eq_true rfl⟩ (Nat.le_of_ble_eq_true rfl) dX16_isDone_103 rfl ?_
      refine v_if_eq (tgt := 113) dX16_isDone_106 (by decide) (fun c => ?_) (fun c => ?_)
      · rw [if_pos c] at h
        refine v_iconst dX16_isDone_113 ?_
        exact v_retZ h dX16_isDone_114 rfl
      · rw [if_neg c] at h
        refine v_iconst dX16_isDone_109 ?_
        refine v_goto (tgt := 114) dX16_isDone_110 (by decide) ?_
        exact v_retZ h dX16_isDone_114 rfl
  · rw [if_neg c0] at h
    by_cases c1 : x6 = iI 99
    · rw [if_pos c1] at h
      refine v_look (tgt := 133) dX16_isDone_20 (by decide) (by rw [c1]; try rfl) (by decide) ?_
      refine v_al0 dX16_isDone_133 ?_
      refine v_gR cok13 h dX16_isDone_134 (by decide) q1060 rfl (fun x13 h => ?_)
      refine v_il2 dX16_isDone_137 ?_
      obtain ⟨b138, er, ka, h⟩ := cV_some h
      obtain ⟨x14, s15, h1, h⟩ := cl_some h
      refine v_callV1 cok0 (As := [vi x2]) er ka (tX0_compact h1) (lw_V q1220 q600 q601 q158 q602) rfl dsX0_compact ⟨Nat.le_of_ble_eq_true rfl, Nat.le_of_ble_eq_true rfl⟩ (Nat.le_of_ble_eq_true rfl) dX16_isDone_138 rfl ?_
      exact v_retZ h dX16_isDone_141 rfl
    · rw [if_neg c1] at h
      by_cases c2 : x6 = iI 107
      · rw [if_pos c2] at h
        refine v_look (tgt := 115) dX16_isDone_20 (by decide) (by rw [c2]; try rfl) (by decide) ?_
        refine v_al0 dX16_isDone_115 ?_
        refine v_gR cok13 h dX16_isDone_116 (by decide) q1060 rfl (fun x16 h => ?_)
        refine v_il2 dX16_isDone_119 ?_
        obtain ⟨b120, er, ka, h⟩ := cV_some h
        obtain ⟨x17, s18, h1, h⟩ := cl_some h
        refine v_callV1 cok0 (As := [vi x2]) er ka (tX0_crash h1) (lw_V q1218 q576 q577 q158 q578) rfl dsX0_crash ⟨Nat.le_of_ble_eq_true rfl, Nat.le_of_ble_eq_true rfl⟩ (Nat.le_of_ble_eq_true rfl) dX16_isDone_120 rfl ?_
        exact v_retZ h dX16_isDone_123 rfl
      · rw [if_neg c2] at h
        by_cases c3 : x6 = iI 114
        · rw [if_pos c3] at h
          refine v_look (tgt := 166) dX16_isDone_20 (by decide) (by rw [c3]; try rfl) (by decide) ?_
          refine v_al0 dX16_isDone_166 ?_
          refine v_gR cok13 h dX16_isDone_167 (by decide) q1060 rfl (fun x19 h => ?_)
          refine v_il2 dX16_isDone_170 ?_
          refine v_il3 dX16_isDone_171 ?_
          obtain ⟨b172, er, ka, h⟩ := cV_some h
          obtain ⟨x20, s21, h1, h⟩ := cl_some h
          refine v_callV1 cok0 (As := [vi x2, vi x4]) er ka (tX0_ask h1) (lw_V q1222 q754 q755 q158 q756) rfl dsX0_ask ⟨Nat.le_of_ble_eq_true rfl, Nat.le_of_ble_eq_true rfl⟩ (Nat.le_of_ble_eq_true rfl) dX16_isDone_172 rfl ?_
          refine v_if_lt (tgt := 182) dX16_isDone_175 (by decide) (fun c => ?_) (fun c => ?_)
          · rw [if_pos c] at h
            refine v_iconst dX16_isDone_182 ?_
            exact v_retZ h dX16_isDone_183 rfl
          · rw [if_neg c] at h
            refine v_iconst dX16_isDone_178 ?_
            refine v_goto (tgt := 183) dX16_isDone_179 (by decide) ?_
            exact v_retZ h dX16_isDone_183 rfl
        · rw [if_neg c3] at h
          by_cases c4 : x6 = iI 117
          · rw [if_pos c4] at h
            refine v_look (tgt := 124) dX16_isDone_20 (by decide) (by rw [c4]; try rfl) (by decide) ?_
            refine v_al0 dX16_isDone_124 ?_
            refine v_gR cok13 h dX16_isDone_125 (by decide) q1060 rfl (fun x22 h => ?_)
            refine v_il2 dX16_isDone_128 ?_
            obtain ⟨b129, er, ka, h⟩ := cV_some h
            obtain ⟨x23, s24, h1, h⟩ := cl_some h
            refine v_callV1 cok0 (As := [vi x2]) er ka (tX0_comeUp h1) (lw_V q1219 q590 q591 q158 q592) rfl dsX0_comeUp ⟨Nat.le_of_ble_eq_true rfl, Nat.le_of_ble_eq_true rfl⟩ (Nat.le_of_ble_eq_true rfl) dX16_isDone_129 rfl ?_
            exact v_retZ h dX16_isDone_132 rfl
          · rw [if_neg c4] at h
            by_cases c5 : x6 = iI 119
            · rw [if_pos c5] at h
              refine v_look (tgt := 142) dX16_isDone_20 (by decide) (by rw [c5]; try rfl) (by decide) ?_
              refine v_al0 dX16_isDone_142 ?_
              refine v_gR cok13 h dX16_isDone_143 (by decide) q1060 rfl (fun x25 h => ?_)
              refine v_il2 dX16_isDone_146 ?_
              refine v_il3 dX16_isDone_147 ?_
              refine v_al0 dX16_isDone_148 ?_
              refine v_gR cok13 h dX16_isDone_149 (by decide) q1054 rfl (fun x26 h => ?_)
              refine v_il1 dX16_isDone_152 ?_
              refine v_aI h dX16_isDone_153 (fun x27 h => ?_)
              obtain ⟨b154, er, ka, h⟩ := cV_some h
              obtain ⟨x28, s29, h1, h⟩ := cl_some h
              refine v_callV1 cok0 (As := [vi x2, vi x4, vi x27]) er ka (tX0_write h1) (lw_V q1221 q632 q633 q158 q634) rfl dsX0_write ⟨Nat.le_of_ble_eq_true rfl, Nat.le_of_ble_eq_true rfl⟩ (Nat.le_of_ble_eq_true rfl) dX16_isDone_154 rfl ?_
              refine v_if_lt (tgt := 164) dX16_isDone_157 (by decide) (fun c => ?_) (fun c => ?_)
              · rw [if_pos c] at h
                refine v_iconst dX16_isDone_164 ?_
                exact v_retZ h dX16_isDone_165 rfl
              · rw [if_neg c] at h
                refine v_iconst dX16_isDone_160 ?_
                refine v_goto (tgt := 165) dX16_isDone_161 (by decide) ?_
                exact v_retZ h dX16_isDone_165 rfl
            · rw [if_neg c5] at h
              by_cases c6 : x6 = iI 120
              · rw [if_pos c6] at h
                refine v_look (tgt := 184) dX16_isDone_20 (by decide) (by rw [c6]; try rfl) (by decide) ?_
                refine v_al0 dX16_isDone_184 ?_
                refine v_gR cok13 h dX16_isDone_185 (by decide) q1060 rfl (fun x30 h => ?_)
                refine v_il2 dX16_isDone_188 ?_
                refine v_il3 dX16_isDone_189 ?_
                refine v_iconst dX16_isDone_190 ?_
                obtain ⟨b191, er, ka, h⟩ := cV_some h
                obtain ⟨x31, s32, h1, h⟩ := cl_some h
                refine v_callV1 cok0 (As := [vi x2, vi x4, vi (iI 1)]) er ka (tX0_cut h1) (lw_V q1223 q596 q597 q158 q598) rfl dsX0_cut ⟨Nat.le_of_ble_eq_true rfl, Nat.le_of_ble_eq_true rfl⟩ (Nat.le_of_ble_eq_true rfl) dX16_isDone_191 rfl ?_
                exact v_retZ h dX16_isDone_194 rfl
              · rw [if_neg c6] at h
                refine v_look (tgt := 195) dX16_isDone_20 (by decide) (look_out (by intro q hq; simp only [List.mem_cons, List.not_mem_nil, or_false] at hq; rcases hq with rfl | rfl | rfl | rfl | rfl | rfl | rfl <;> assumption) (by decide)) (by decide) ?_
                refine v_al0 dX16_isDone_195 ?_
                refine v_gR cok13 h dX16_isDone_196 (by decide) q1060 rfl (fun x33 h => ?_)
                refine v_il2 dX16_isDone_199 ?_
                refine v_il3 dX16_isDone_200 ?_
                refine v_iconst dX16_isDone_201 ?_
                obtain ⟨b202, er, ka, h⟩ := cV_some h
                obtain ⟨x34, s35, h1, h⟩ := cl_some h
                refine v_callV1 cok0 (As := [vi x2, vi x4, vi (iI 0)]) er ka (tX0_cut h1) (lw_V q1223 q596 q597 q158 q598) rfl dsX0_cut ⟨Nat.le_of_ble_eq_true rfl, Nat.le_of_ble_eq_true rfl⟩ (Nat.le_of_ble_eq_true rfl) dX16_isDone_202 rfl ?_
                exact v_retZ h dX16_isDone_205 rfl
theorem tX16_isDone {E : EE} {l : Launch} {v0 : Option Nat} {v1 : Int32} {σ : Mem} {z : Int32 × Mem} (h : sX16_isDone v0 v1 σ = some z) : Mt E l mX16_isDone [vr v0, vi v1] σ (some (vi z.1), z.2) :=
  Mt.ofVL (by decide) (Nat.le_of_ble_eq_true rfl) (fun G hG => lX16_isDone h)
abbrev mX0_plan : MM := (yX0_plan, cX0_plan, 6, (Option.some Jvm.ClassFile.FieldType.int), 101, 8788)
theorem dsX0_plan : DsOk yX0_plan 1 := ⟨by decide, by decide, by decide +kernel⟩
theorem lX0_plan_74 {E : EE} {G : GG} {k52 : Option Nat → Int32 → Int32 → Int32 → Mem → Option (Int32 × Mem)} (hk52 : ∀ (v2 : Option Nat) (v3 : Int32) (v4 : Int32) (v5 : Int32) (s : Mem) (z : Int32 × Mem), k52 v2 v3 v4 v5 s = some z → V E mX0_plan G 52 [none, none, some (vr v2), some (vi v3), some (vi v4), some (vi v5)] [] s (some (vi z.1), z.2)) {v2 : Option Nat} {v3 : Int32} {v5 : Int32} {t0 : Int32} {t1 : Int32} {σ : Mem} {z : Int32 × Mem} (h : sX0_plan_74 k52 v2 v3 v5 t0 t1 σ = some z) : V E mX0_plan G 74 [none, none, some (vr v2), some (vi v3), none, some (vi v5)] [vi t1, vi t0] σ (some (vi z.1), z.2) := by
  unfold sX0_plan_74 at h
  refine v_iadd dX0_plan_74 ?_
  refine v_istore (L' := [none, none, some (vr v2), some (vi v3), some (vi (t0 + t1)), some (vi v5)]) dX0_plan_75 (Nat.le_of_ble_eq_true rfl) (Nat.le_of_ble_eq_true rfl) rfl ?_
  refine v_iinc (L' := [none, none, some (vr v2), some (vi v3), some (vi (t0 + t1)), some (vi (v5 + iI 1))]) dX0_plan_77 (Nat.le_of_ble_eq_true rfl) rfl rfl ?_
  refine v_goto (tgt := 52) dX0_plan_80 (by decide) ?_
  exact v_weak (wsn (wsn (wss (wss (wss (wss wse)))))) (hk52 _ _ _ _ _ _ h)
theorem lX0_plan_52b {E : EE} {G : GG} {k52 : Option Nat → Int32 → Int32 → Int32 → Mem → Option (Int32 × Mem)} (hk52 : ∀ (v2 : Option Nat) (v3 : Int32) (v4 : Int32) (v5 : Int32) (s : Mem) (z : Int32 × Mem), k52 v2 v3 v4 v5 s = some z → V E mX0_plan G 52 [none, none, some (vr v2), some (vi v3), some (vi v4), some (vi v5)] [] s (some (vi z.1), z.2)) {v2 : Option Nat} {v3 : Int32} {v4 : Int32} {v5 : Int32} {σ : Mem} {z : Int32 × Mem} (h : sX0_plan_52b k52 v2 v3 v4 v5 σ = some z) : V E mX0_plan G 52 [none, none, some (vr v2), some (vi v3), some (vi v4), some (vi v5)] [] σ (some (vi z.1), z.2) := by
  unfold sX0_plan_52b at h
  refine v_iload dX0_plan_52 rfl ?_
  refine v_il3 dX0_plan_54 ?_
  refine v_icmp_ge (tgt := 83) dX0_plan_55 (by decide) (fun c => ?_) (fun c => ?_)
  · rw [if_pos c] at h
    refine v_iload dX0_plan_83 rfl ?_
    exact v_retI h dX0_plan_85 rfl
  · rw [if_neg c] at h
    refine v_iload dX0_plan_58 rfl ?_
    refine v_al2 dX0_plan_60 ?_
    refine v_iload dX0_plan_61 rfl ?_
    obtain ⟨b63, er, ka, h⟩ := cV_some h
    obtain ⟨x1, s2, h1, h⟩ := cl_some h
    refine v_callV1 cok13 (As := [vi v5]) er ka (tX16_isDone h1) (lw_V q1123 q1124 q1125 q181 q1126) rfl dsX16_isDone ⟨Nat.le_of_ble_eq_true rfl, Nat.le_of_ble_eq_true rfl⟩ (Nat.le_of_ble_eq_true rfl) dX0_plan_63 rfl ?_
    refine v_if_eq (tgt := 73) dX0_plan_66 (by decide) (fun c => ?_) (fun c => ?_)
    · rw [if_pos c] at h
      refine v_iconst dX0_plan_73 ?_
      exact v_weak (wsn (wsn (wss (wss (wsn (wss wse)))))) (lX0_plan_74 hk52 h)
    · rw [if_neg c] at h
      refine v_iconst dX0_plan_69 ?_
      refine v_goto (tgt := 74) dX0_plan_70 (by decide) ?_
      exact v_weak (wsn (wsn (wss (wss (wsn (wss wse)))))) (lX0_plan_74 hk52 h)
theorem lX0_plan_52 {E : EE} {G : GG} : ∀ (f : Nat) {v2 : Option Nat} {v3 : Int32} {v4 : Int32} {v5 : Int32} {σ : Mem} {z : Int32 × Mem}, sX0_plan_52 f v2 v3 v4 v5 σ = some z → V E mX0_plan G 52 [none, none, some (vr v2), some (vi v3), some (vi v4), some (vi v5)] [] σ (some (vi z.1), z.2)
  | 0, _, _, _, _, _, _, h => by cases h
  | f + 1, _, _, _, _, _, _, h => lX0_plan_52b (fun _ _ _ _ _ _ h => lX0_plan_52 f h) h
theorem lX0_plan {E : EE} {G : GG} {v0 : Option Nat} {v1 : Int32} {σ : Mem} {z : Int32 × Mem} (h : sX0_plan v0 v1 σ = some z) : V E mX0_plan G 0 [some (vr v0), some (vi v1), none, none, none, none] [] σ (some (vi z.1), z.2) := by
  unfold sX0_plan at h
  refine v_il1 dX0_plan_0 ?_
  refine v_iconst dX0_plan_1 ?_
  refine v_bipush dX0_plan_2 rfl ?_
  obtain ⟨x1, s2, h1, h⟩ := cl_some h
  refine v_callS1 (As := [vi v1, vi (iI 1), vi (iI 120)]) (tX0_within h1) (lw_S q572 q573 q158 q574) dsX0_within ⟨Nat.le_of_ble_eq_true rfl, Nat.le_of_ble_eq_true rfl⟩ (Nat.le_of_ble_eq_true rfl) dX0_plan_4 rfl ?_
  refine v_if_eq (tgt := 18) dX0_plan_7 (by decide) (fun c => ?_) (fun c => ?_)
  · rw [if_pos c] at h
    refine v_iconst dX0_plan_18 ?_
    exact v_retI h dX0_plan_19 rfl
  · rw [if_neg c] at h
    refine v_il1 dX0_plan_10 ?_
    refine v_al0 dX0_plan_11 ?_
    refine v_gI cok0 h dX0_plan_12 (by decide) q546 rfl (fun x3 h => ?_)
    refine v_icmp_le (tgt := 20) dX0_plan_15 (by decide) (fun c => ?_) (fun c => ?_)
    · rw [if_pos c] at h
      refine v_al0 dX0_plan_20 ?_
      refine v_iconst dX0_plan_21 ?_
      refine v_pI cok0 h dX0_plan_22 (by decide) q546 rfl rfl (fun s4 h => ?_)
      refine v_new cok13 h dX0_plan_25 q1044 (fun x5 s6 h => ?_)
      refine v_dup dX0_plan_28 ?_
      refine v_al0 dX0_plan_29 ?_
      refine v_il1 dX0_plan_30 ?_
      obtain ⟨b31, er, h⟩ := cI_some h
      obtain ⟨_, s7, h1, h⟩ := cl_some h
      refine v_cI er (As := [vr v0, vi v1]) (tX16_init h1) rfl q1046 q1048 q1047 q181 rfl dsX16_init ⟨Nat.le_of_ble_eq_true rfl, Nat.le_of_ble_eq_true rfl⟩ (Nat.le_of_ble_eq_true rfl) dX0_plan_31 rfl ?_
      refine v_astore_n (L' := [some (vr v0), some (vi v1), some (vr x5), none, none, none]) dX0_plan_34 (Nat.le_of_ble_eq_true rfl) (Nat.le_of_ble_eq_true rfl) rfl ?_
      refine v_al2 dX0_plan_35 ?_
      obtain ⟨b36, er, ka, h⟩ := cV_some h
      obtain ⟨x8, s9, h1, h⟩ := cl_some h
      refine v_callV1 cok13 (As := []) er ka (tX16_reads h1) (lw_V q1084 q1085 q1086 q181 q1087) rfl dsX16_reads ⟨Nat.le_of_ble_eq_true rfl, Nat.le_of_ble_eq_true rfl⟩ (Nat.le_of_ble_eq_true rfl) dX0_plan_36 rfl ?_
      refine v_istore_n (L' := [some (vr v0), some (vi v1), some (vr x5), some (vi x8), none, none]) dX0_plan_39 (Nat.le_of_ble_eq_true rfl) (Nat.le_of_ble_eq_true rfl) rfl ?_
      refine v_il3 dX0_plan_40 ?_
      refine v_if_ge (tgt := 46) dX0_plan_41 (by decide) (fun c => ?_) (fun c => ?_)
      · rw [if_pos c] at h
        refine v_iconst dX0_plan_46 ?_
        refine v_istore (L' := [some (vr v0), some (vi v1), some (vr x5), some (vi x8), some (vi (iI 0)), none]) dX0_plan_47 (Nat.le_of_ble_eq_true rfl) (Nat.le_of_ble_eq_true rfl) rfl ?_
        refine v_iconst dX0_plan_49 ?_
        refine v_istore (L' := [some (vr v0), some (vi v1), some (vr x5), some (vi x8), some (vi (iI 0)), some (vi (iI 0))]) dX0_plan_50 (Nat.le_of_ble_eq_true rfl) (Nat.le_of_ble_eq_true rfl) rfl ?_
        exact v_weak (wsn (wsn (wss (wss (wss (wss wse)))))) (lX0_plan_52 FU h)
      · rw [if_neg c] at h
        refine v_il3 dX0_plan_44 ?_
        exact v_retI h dX0_plan_45 rfl
    · rw [if_neg c] at h
      refine v_iconst dX0_plan_18 ?_
      exact v_retI h dX0_plan_19 rfl
theorem tX0_plan {E : EE} {l : Launch} {v0 : Option Nat} {v1 : Int32} {σ : Mem} {z : Int32 × Mem} (h : sX0_plan v0 v1 σ = some z) : Mt E l mX0_plan [vr v0, vi v1] σ (some (vi z.1), z.2) :=
  Mt.ofVL (by decide) (Nat.le_of_ble_eq_true rfl) (fun G hG => lX0_plan h)
abbrev mX3_takes : MM := (yX3_takes, cX3_takes, 3, (Option.some (Jvm.ClassFile.FieldType.object "TermLog$Cluster")), 1, 23)
theorem dsX3_takes : DsOk yX3_takes 1 := ⟨by decide, by decide, by decide +kernel⟩
theorem lX3_takes_131b {E : EE} {G : GG} {k131 : Option Nat → Option Nat → Int32 → Mem → Option (Option Nat × Mem)} (hk131 : ∀ (v0 : Option Nat) (v1 : Option Nat) (v2 : Int32) (s : Mem) (z : Option Nat × Mem), k131 v0 v1 v2 s = some z → V E mX3_takes G 131 [some (vr v0), some (vr v1), some (vi v2)] [] s (some (vr z.1), z.2)) {v0 : Option Nat} {v1 : Option Nat} {v2 : Int32} {σ : Mem} {z : Option Nat × Mem} (h : sX3_takes_131b k131 v0 v1 v2 σ = some z) : V E mX3_takes G 131 [some (vr v0), some (vr v1), some (vi v2)] [] σ (some (vr z.1), z.2) := by
  unfold sX3_takes_131b at h
  refine v_il2 dX3_takes_131 ?_
  refine v_al0 dX3_takes_132 ?_
  refine v_gI cok2 h dX3_takes_133 (by decide) q385 rfl (fun x1 h => ?_)
  refine v_icmp_ge (tgt := 161) dX3_takes_136 (by decide) (fun c => ?_) (fun c => ?_)
  · rw [if_pos c] at h
    refine v_al0 dX3_takes_161 ?_
    refine v_al1 dX3_takes_162 ?_
    refine v_gR cok2 h dX3_takes_163 (by decide) q369 rfl (fun x2 h => ?_)
    refine v_al0 dX3_takes_166 ?_
    refine v_gR cok2 h dX3_takes_167 (by decide) q369 rfl (fun x3 h => ?_)
    obtain ⟨b170, er, ka, h⟩ := cV_some h
    obtain ⟨_, s4, h1, h⟩ := cl_some h
    refine v_callV0 cok2 (As := [vr x2, vr x3]) er ka (tX3_copies h1) (lw_V q703 q705 qs6 q161 q706) rfl dsX3_copies ⟨Nat.le_of_ble_eq_true rfl, Nat.le_of_ble_eq_true rfl⟩ (Nat.le_of_ble_eq_true rfl) dX3_takes_170 rfl ?_
    refine v_al0 dX3_takes_173 ?_
    refine v_al1 dX3_takes_174 ?_
    refine v_gI cok2 h dX3_takes_175 (by decide) q373 rfl (fun x5 h => ?_)
    refine v_pI cok2 h dX3_takes_178 (by decide) q373 rfl rfl (fun s6 h => ?_)
    refine v_al0 dX3_takes_181 ?_
    refine v_al1 dX3_takes_182 ?_
    refine v_gI cok2 h dX3_takes_183 (by decide) q375 rfl (fun x7 h => ?_)
    refine v_pI cok2 h dX3_takes_186 (by decide) q375 rfl rfl (fun s8 h => ?_)
    refine v_al0 dX3_takes_189 ?_
    refine v_al1 dX3_takes_190 ?_
    refine v_gI cok2 h dX3_takes_191 (by decide) q377 rfl (fun x9 h => ?_)
    refine v_pI cok2 h dX3_takes_194 (by decide) q377 rfl rfl (fun s10 h => ?_)
    refine v_al0 dX3_takes_197 ?_
    refine v_al1 dX3_takes_198 ?_
    refine v_gI cok2 h dX3_takes_199 (by decide) q379 rfl (fun x11 h => ?_)
    refine v_pI cok2 h dX3_takes_202 (by decide) q379 rfl rfl (fun s12 h => ?_)
    refine v_al0 dX3_takes_205 ?_
    exact v_retR h dX3_takes_206 rfl (Or.inl ⟨_, rfl⟩)
  · rw [if_neg c] at h
    refine v_al0 dX3_takes_139 ?_
    refine v_al1 dX3_takes_140 ?_
    refine v_gR cok2 h dX3_takes_141 (by decide) q365 rfl (fun x13 h => ?_)
    refine v_il2 dX3_takes_144 ?_
    refine v_aR h (by decide) dX3_takes_145 (fun x14 h => ?_)
    refine v_al0 dX3_takes_146 ?_
    refine v_gR cok2 h dX3_takes_147 (by decide) q365 rfl (fun x15 h => ?_)
    refine v_il2 dX3_takes_150 ?_
    refine v_aR h (by decide) dX3_takes_151 (fun x16 h => ?_)
    obtain ⟨b152, er, ka, h⟩ := cV_some h
    obtain ⟨_, s17, h1, h⟩ := cl_some h
    refine v_callV0 cok2 (As := [vr x14, vr x16]) er ka (tX3_copies h1) (lw_V q703 q705 qs6 q161 q706) rfl dsX3_copies ⟨Nat.le_of_ble_eq_true rfl, Nat.le_of_ble_eq_true rfl⟩ (Nat.le_of_ble_eq_true rfl) dX3_takes_152 rfl ?_
    refine v_iinc (L' := [some (vr v0), some (vr v1), some (vi (v2 + iI 1))]) dX3_takes_155 (Nat.le_of_ble_eq_true rfl) rfl rfl ?_
    refine v_goto (tgt := 131) dX3_takes_158 (by decide) ?_
    exact v_weak (wss (wss (wss wse))) (hk131 _ _ _ _ _ h)
theorem lX3_takes_131 {E : EE} {G : GG} : ∀ (f : Nat) {v0 : Option Nat} {v1 : Option Nat} {v2 : Int32} {σ : Mem} {z : Option Nat × Mem}, sX3_takes_131 f v0 v1 v2 σ = some z → V E mX3_takes G 131 [some (vr v0), some (vr v1), some (vi v2)] [] σ (some (vr z.1), z.2)
  | 0, _, _, _, _, _, h => by cases h
  | f + 1, _, _, _, _, _, h => lX3_takes_131b (fun _ _ _ _ _ h => lX3_takes_131 f h) h
theorem lX3_takes_91b {E : EE} {G : GG} {k91 : Option Nat → Option Nat → Int32 → Mem → Option (Option Nat × Mem)} (hk91 : ∀ (v0 : Option Nat) (v1 : Option Nat) (v2 : Int32) (s : Mem) (z : Option Nat × Mem), k91 v0 v1 v2 s = some z → V E mX3_takes G 91 [some (vr v0), some (vr v1), some (vi v2)] [] s (some (vr z.1), z.2)) {v0 : Option Nat} {v1 : Option Nat} {v2 : Int32} {σ : Mem} {z : Option Nat × Mem} (h : sX3_takes_91b k91 v0 v1 v2 σ = some z) : V E mX3_takes G 91 [some (vr v0), some (vr v1), some (vi v2)] [] σ (some (vr z.1), z.2) := by
  unfold sX3_takes_91b at h
  refine v_il2 dX3_takes_91 ?_
  refine v_al0 dX3_takes_92 ?_
  refine v_gI cok2 h dX3_takes_93 (by decide) q381 rfl (fun x1 h => ?_)
  refine v_icmp_gt (tgt := 121) dX3_takes_96 (by decide) (fun c => ?_) (fun c => ?_)
  · rw [if_pos c] at h
    refine v_al0 dX3_takes_121 ?_
    refine v_al1 dX3_takes_122 ?_
    refine v_gI cok2 h dX3_takes_123 (by decide) q385 rfl (fun x2 h => ?_)
    refine v_pI cok2 h dX3_takes_126 (by decide) q385 rfl rfl (fun s3 h => ?_)
    refine v_iconst dX3_takes_129 ?_
    refine v_istore_n (L' := [some (vr v0), some (vr v1), some (vi (iI 0))]) dX3_takes_130 (Nat.le_of_ble_eq_true rfl) (Nat.le_of_ble_eq_true rfl) rfl ?_
    exact v_weak (wss (wss (wss wse))) (lX3_takes_131 FU h)
  · rw [if_neg c] at h
    refine v_al0 dX3_takes_99 ?_
    refine v_al1 dX3_takes_100 ?_
    refine v_gR cok2 h dX3_takes_101 (by decide) q363 rfl (fun x4 h => ?_)
    refine v_il2 dX3_takes_104 ?_
    refine v_aR h (by decide) dX3_takes_105 (fun x5 h => ?_)
    refine v_al0 dX3_takes_106 ?_
    refine v_gR cok2 h dX3_takes_107 (by decide) q363 rfl (fun x6 h => ?_)
    refine v_il2 dX3_takes_110 ?_
    refine v_aR h (by decide) dX3_takes_111 (fun x7 h => ?_)
    obtain ⟨b112, er, ka, h⟩ := cV_some h
    obtain ⟨_, s8, h1, h⟩ := cl_some h
    refine v_callV0 cok2 (As := [vr x5, vr x7]) er ka (tX3_copies h1) (lw_V q703 q705 qs6 q161 q706) rfl dsX3_copies ⟨Nat.le_of_ble_eq_true rfl, Nat.le_of_ble_eq_true rfl⟩ (Nat.le_of_ble_eq_true rfl) dX3_takes_112 rfl ?_
    refine v_iinc (L' := [some (vr v0), some (vr v1), some (vi (v2 + iI 1))]) dX3_takes_115 (Nat.le_of_ble_eq_true rfl) rfl rfl ?_
    refine v_goto (tgt := 91) dX3_takes_118 (by decide) ?_
    exact v_weak (wss (wss (wss wse))) (hk91 _ _ _ _ _ h)
theorem lX3_takes_91 {E : EE} {G : GG} : ∀ (f : Nat) {v0 : Option Nat} {v1 : Option Nat} {v2 : Int32} {σ : Mem} {z : Option Nat × Mem}, sX3_takes_91 f v0 v1 v2 σ = some z → V E mX3_takes G 91 [some (vr v0), some (vr v1), some (vi v2)] [] σ (some (vr z.1), z.2)
  | 0, _, _, _, _, _, h => by cases h
  | f + 1, _, _, _, _, _, h => lX3_takes_91b (fun _ _ _ _ _ h => lX3_takes_91 f h) h
theorem lX3_takes_51b {E : EE} {G : GG} {k51 : Option Nat → Option Nat → Int32 → Mem → Option (Option Nat × Mem)} (hk51 : ∀ (v0 : Option Nat) (v1 : Option Nat) (v2 : Int32) (s : Mem) (z : Option Nat × Mem), k51 v0 v1 v2 s = some z → V E mX3_takes G 51 [some (vr v0), some (vr v1), some (vi v2)] [] s (some (vr z.1), z.2)) {v0 : Option Nat} {v1 : Option Nat} {v2 : Int32} {σ : Mem} {z : Option Nat × Mem} (h : sX3_takes_51b k51 v0 v1 v2 σ = some z) : V E mX3_takes G 51 [some (vr v0), some (vr v1), some (vi v2)] [] σ (some (vr z.1), z.2) := by
  unfold sX3_takes_51b at h
  refine v_il2 dX3_takes_51 ?_
  refine v_al0 dX3_takes_52 ?_
  refine v_gI cok2 h dX3_takes_53 (by decide) q371 rfl (fun x1 h => ?_)
  refine v_icmp_ge (tgt := 81) dX3_takes_56 (by decide) (fun c => ?_) (fun c => ?_)
  · rw [if_pos c] at h
    refine v_al0 dX3_takes_81 ?_
    refine v_al1 dX3_takes_82 ?_
    refine v_gI cok2 h dX3_takes_83 (by decide) q381 rfl (fun x2 h => ?_)
    refine v_pI cok2 h dX3_takes_86 (by decide) q381 rfl rfl (fun s3 h => ?_)
    refine v_iconst dX3_takes_89 ?_
    refine v_istore_n (L' := [some (vr v0), some (vr v1), some (vi (iI 1))]) dX3_takes_90 (Nat.le_of_ble_eq_true rfl) (Nat.le_of_ble_eq_true rfl) rfl ?_
    exact v_weak (wss (wss (wss wse))) (lX3_takes_91 FU h)
  · rw [if_neg c] at h
    refine v_al0 dX3_takes_59 ?_
    refine v_al1 dX3_takes_60 ?_
    refine v_gR cok2 h dX3_takes_61 (by decide) q361 rfl (fun x4 h => ?_)
    refine v_il2 dX3_takes_64 ?_
    refine v_aR h (by decide) dX3_takes_65 (fun x5 h => ?_)
    refine v_al0 dX3_takes_66 ?_
    refine v_gR cok2 h dX3_takes_67 (by decide) q361 rfl (fun x6 h => ?_)
    refine v_il2 dX3_takes_70 ?_
    refine v_aR h (by decide) dX3_takes_71 (fun x7 h => ?_)
    obtain ⟨b72, er, ka, h⟩ := cV_some h
    obtain ⟨_, s8, h1, h⟩ := cl_some h
    refine v_callV0 cok2 (As := [vr x5, vr x7]) er ka (tX3_copies h1) (lw_V q703 q705 qs6 q161 q706) rfl dsX3_copies ⟨Nat.le_of_ble_eq_true rfl, Nat.le_of_ble_eq_true rfl⟩ (Nat.le_of_ble_eq_true rfl) dX3_takes_72 rfl ?_
    refine v_iinc (L' := [some (vr v0), some (vr v1), some (vi (v2 + iI 1))]) dX3_takes_75 (Nat.le_of_ble_eq_true rfl) rfl rfl ?_
    refine v_goto (tgt := 51) dX3_takes_78 (by decide) ?_
    exact v_weak (wss (wss (wss wse))) (hk51 _ _ _ _ _ h)
theorem lX3_takes_51 {E : EE} {G : GG} : ∀ (f : Nat) {v0 : Option Nat} {v1 : Option Nat} {v2 : Int32} {σ : Mem} {z : Option Nat × Mem}, sX3_takes_51 f v0 v1 v2 σ = some z → V E mX3_takes G 51 [some (vr v0), some (vr v1), some (vi v2)] [] σ (some (vr z.1), z.2)
  | 0, _, _, _, _, _, h => by cases h
  | f + 1, _, _, _, _, _, h => lX3_takes_51b (fun _ _ _ _ _ h => lX3_takes_51 f h) h
theorem lX3_takes_2b {E : EE} {G : GG} {k2 : Option Nat → Option Nat → Int32 → Mem → Option (Option Nat × Mem)} (hk2 : ∀ (v0 : Option Nat) (v1 : Option Nat) (v2 : Int32) (s : Mem) (z : Option Nat × Mem), k2 v0 v1 v2 s = some z → V E mX3_takes G 2 [some (vr v0), some (vr v1), some (vi v2)] [] s (some (vr z.1), z.2)) {v0 : Option Nat} {v1 : Option Nat} {v2 : Int32} {σ : Mem} {z : Option Nat × Mem} (h : sX3_takes_2b k2 v0 v1 v2 σ = some z) : V E mX3_takes G 2 [some (vr v0), some (vr v1), some (vi v2)] [] σ (some (vr z.1), z.2) := by
  unfold sX3_takes_2b at h
  refine v_il2 dX3_takes_2 ?_
  refine v_bipush dX3_takes_3 rfl ?_
  refine v_icmp_ge (tgt := 41) dX3_takes_5 (by decide) (fun c => ?_) (fun c => ?_)
  · rw [if_pos c] at h
    refine v_al0 dX3_takes_41 ?_
    refine v_al1 dX3_takes_42 ?_
    refine v_gI cok2 h dX3_takes_43 (by decide) q371 rfl (fun x1 h => ?_)
    refine v_pI cok2 h dX3_takes_46 (by decide) q371 rfl rfl (fun s2 h => ?_)
    refine v_iconst dX3_takes_49 ?_
    refine v_istore_n (L' := [some (vr v0), some (vr v1), some (vi (iI 0))]) dX3_takes_50 (Nat.le_of_ble_eq_true rfl) (Nat.le_of_ble_eq_true rfl) rfl ?_
    exact v_weak (wss (wss (wss wse))) (lX3_takes_51 FU h)
  · rw [if_neg c] at h
    refine v_al0 dX3_takes_8 ?_
    refine v_gR cok2 h dX3_takes_9 (by decide) q359 rfl (fun x3 h => ?_)
    refine v_il2 dX3_takes_12 ?_
    refine v_aR h (by decide) dX3_takes_13 (fun x4 h => ?_)
    refine v_al1 dX3_takes_14 ?_
    refine v_gR cok2 h dX3_takes_15 (by decide) q359 rfl (fun x5 h => ?_)
    refine v_il2 dX3_takes_18 ?_
    refine v_aR h (by decide) dX3_takes_19 (fun x6 h => ?_)
    obtain ⟨b20, er, ka, h⟩ := cV_some h
    obtain ⟨_, s7, h1, h⟩ := cl_some h
    refine v_callV0 cok3 (As := [vr x6]) er ka (tX4_takes h1) (lw_V q1233 q1234 q1235 q162 q1236) rfl dsX4_takes ⟨Nat.le_of_ble_eq_true rfl, Nat.le_of_ble_eq_true rfl⟩ (Nat.le_of_ble_eq_true rfl) dX3_takes_20 rfl ?_
    refine v_al0 dX3_takes_23 ?_
    refine v_gR cok2 h dX3_takes_24 (by decide) q367 rfl (fun x8 h => ?_)
    refine v_il2 dX3_takes_27 ?_
    refine v_al1 dX3_takes_28 ?_
    refine v_gR cok2 h dX3_takes_29 (by decide) q367 rfl (fun x9 h => ?_)
    refine v_il2 dX3_takes_32 ?_
    refine v_aI h dX3_takes_33 (fun x10 h => ?_)
    refine v_sI h dX3_takes_34 (fun s11 h => ?_)
    refine v_iinc (L' := [some (vr v0), some (vr v1), some (vi (v2 + iI 1))]) dX3_takes_35 (Nat.le_of_ble_eq_true rfl) rfl rfl ?_
    refine v_goto (tgt := 2) dX3_takes_38 (by decide) ?_
    exact v_weak (wss (wss (wss wse))) (hk2 _ _ _ _ _ h)
theorem lX3_takes_2 {E : EE} {G : GG} : ∀ (f : Nat) {v0 : Option Nat} {v1 : Option Nat} {v2 : Int32} {σ : Mem} {z : Option Nat × Mem}, sX3_takes_2 f v0 v1 v2 σ = some z → V E mX3_takes G 2 [some (vr v0), some (vr v1), some (vi v2)] [] σ (some (vr z.1), z.2)
  | 0, _, _, _, _, _, h => by cases h
  | f + 1, _, _, _, _, _, h => lX3_takes_2b (fun _ _ _ _ _ h => lX3_takes_2 f h) h
theorem lX3_takes {E : EE} {G : GG} {v0 : Option Nat} {v1 : Option Nat} {σ : Mem} {z : Option Nat × Mem} (h : sX3_takes v0 v1 σ = some z) : V E mX3_takes G 0 [some (vr v0), some (vr v1), none] [] σ (some (vr z.1), z.2) := by
  unfold sX3_takes at h
  refine v_iconst dX3_takes_0 ?_
  refine v_istore_n (L' := [some (vr v0), some (vr v1), some (vi (iI 0))]) dX3_takes_1 (Nat.le_of_ble_eq_true rfl) (Nat.le_of_ble_eq_true rfl) rfl ?_
  exact v_weak (wss (wss (wss wse))) (lX3_takes_2 FU h)
theorem tX3_takes {E : EE} {l : Launch} {v0 : Option Nat} {v1 : Option Nat} {σ : Mem} {z : Option Nat × Mem} (h : sX3_takes v0 v1 σ = some z) : Mt E l mX3_takes [vr v0, vr v1] σ (some (vr z.1), z.2) :=
  Mt.ofVL (by decide) (Nat.le_of_ble_eq_true rfl) (fun G hG => lX3_takes h)
abbrev mX3_leads_2 : MM := (yX3_leads_2, cX3_leads_2, 3, (Option.some Jvm.ClassFile.FieldType.int), 0, 0)
theorem dsX3_leads_2 : DsOk yX3_leads_2 0 := ⟨by decide, by decide, by decide +kernel⟩
theorem lX3_leads_2_65 {E : EE} {G : GG} {k5 : Option Nat → Int32 → Int32 → Mem → Option (Int32 × Mem)} (hk5 : ∀ (v0 : Option Nat) (v1 : Int32) (v2 : Int32) (s : Mem) (z : Int32 × Mem), k5 v0 v1 v2 s = some z → V E mX3_leads_2 G 5 [some (vr v0), some (vi v1), some (vi v2)] [] s (some (vi z.1), z.2)) {v0 : Option Nat} {v1 : Int32} {v2 : Int32} {σ : Mem} {z : Int32 × Mem} (h : sX3_leads_2_65 k5 v0 v1 v2 σ = some z) : V E mX3_leads_2 G 65 [some (vr v0), some (vi v1), some (vi v2)] [] σ (some (vi z.1), z.2) := by
  unfold sX3_leads_2_65 at h
  refine v_iinc (L' := [some (vr v0), some (vi v1), some (vi (v2 + iI 1))]) dX3_leads_2_65 (Nat.le_of_ble_eq_true rfl) rfl rfl ?_
  refine v_goto (tgt := 5) dX3_leads_2_68 (by decide) ?_
  exact v_weak (wss (wss (wss wse))) (hk5 _ _ _ _ _ h)
theorem lX3_leads_2_63 {E : EE} {G : GG} {k5 : Option Nat → Int32 → Int32 → Mem → Option (Int32 × Mem)} (hk5 : ∀ (v0 : Option Nat) (v1 : Int32) (v2 : Int32) (s : Mem) (z : Int32 × Mem), k5 v0 v1 v2 s = some z → V E mX3_leads_2 G 5 [some (vr v0), some (vi v1), some (vi v2)] [] s (some (vi z.1), z.2)) {v0 : Option Nat} {v2 : Int32} {σ : Mem} {z : Int32 × Mem} (h : sX3_leads_2_63 k5 v0 v2 σ = some z) : V E mX3_leads_2 G 63 [some (vr v0), none, some (vi v2)] [] σ (some (vi z.1), z.2) := by
  unfold sX3_leads_2_63 at h
  refine v_il2 dX3_leads_2_63 ?_
  refine v_istore_n (L' := [some (vr v0), some (vi v2), some (vi v2)]) dX3_leads_2_64 (Nat.le_of_ble_eq_true rfl) (Nat.le_of_ble_eq_true rfl) rfl ?_
  exact v_weak (wss (wss (wss wse))) (lX3_leads_2_65 hk5 h)
theorem lX3_leads_2_5b {E : EE} {G : GG} {k5 : Option Nat → Int32 → Int32 → Mem → Option (Int32 × Mem)} (hk5 : ∀ (v0 : Option Nat) (v1 : Int32) (v2 : Int32) (s : Mem) (z : Int32 × Mem), k5 v0 v1 v2 s = some z → V E mX3_leads_2 G 5 [some (vr v0), some (vi v1), some (vi v2)] [] s (some (vi z.1), z.2)) {v0 : Option Nat} {v1 : Int32} {v2 : Int32} {σ : Mem} {z : Int32 × Mem} (h : sX3_leads_2_5b k5 v0 v1 v2 σ = some z) : V E mX3_leads_2 G 5 [some (vr v0), some (vi v1), some (vi v2)] [] σ (some (vi z.1), z.2) := by
  unfold sX3_leads_2_5b at h
  refine v_il2 dX3_leads_2_5 ?_
  refine v_bipush dX3_leads_2_6 rfl ?_
  refine v_icmp_ge (tgt := 71) dX3_leads_2_8 (by decide) (fun c => ?_) (fun c => ?_)
  · rw [if_pos c] at h
    refine v_il1 dX3_leads_2_71 ?_
    exact v_retI h dX3_leads_2_72 rfl
  · rw [if_neg c] at h
    refine v_al0 dX3_leads_2_11 ?_
    refine v_gR cok2 h dX3_leads_2_12 (by decide) q359 rfl (fun x1 h => ?_)
    refine v_il2 dX3_leads_2_15 ?_
    refine v_aR h (by decide) dX3_leads_2_16 (fun x2 h => ?_)
    refine v_gIN cok3 h dX3_leads_2_17 (by decide) q308 rfl (fun x3 h => ?_)
    refine v_if_eq (tgt := 65) dX3_leads_2_20 (by decide) (fun c => ?_) (fun c => ?_)
    · rw [if_pos c] at h
      exact v_weak (wss (wss (wss wse))) (lX3_leads_2_65 hk5 h)
    · rw [if_neg c] at h
      refine v_al0 dX3_leads_2_23 ?_
      refine v_gR cok2 h dX3_leads_2_24 (by decide) q359 rfl (fun x4 h => ?_)
      refine v_il2 dX3_leads_2_27 ?_
      refine v_aR h (by decide) dX3_leads_2_28 (fun x5 h => ?_)
      refine v_gIN cok3 h dX3_leads_2_29 (by decide) q287 rfl (fun x6 h => ?_)
      refine v_iconst dX3_leads_2_32 ?_
      refine v_icmp_ne (tgt := 65) dX3_leads_2_33 (by decide) (fun c => ?_) (fun c => ?_)
      · rw [if_neg c] at h
        exact v_weak (wss (wss (wss wse))) (lX3_leads_2_65 hk5 h)
      · rw [if_pos c] at h
        refine v_il1 dX3_leads_2_36 ?_
        refine v_bipush dX3_leads_2_37 rfl ?_
        refine v_icmp_eq (tgt := 63) dX3_leads_2_39 (by decide) (fun c => ?_) (fun c => ?_)
        · rw [if_pos c] at h
          exact v_weak (wss (wsn (wss wse))) (lX3_leads_2_63 hk5 h)
        · rw [if_neg c] at h
          refine v_al0 dX3_leads_2_42 ?_
          refine v_gR cok2 h dX3_leads_2_43 (by decide) q359 rfl (fun x7 h => ?_)
          refine v_il2 dX3_leads_2_46 ?_
          refine v_aR h (by decide) dX3_leads_2_47 (fun x8 h => ?_)
          refine v_gIN cok3 h dX3_leads_2_48 (by decide) q269 rfl (fun x9 h => ?_)
          refine v_al0 dX3_leads_2_51 ?_
          refine v_gR cok2 h dX3_leads_2_52 (by decide) q359 rfl (fun x10 h => ?_)
          refine v_il1 dX3_leads_2_55 ?_
          refine v_aR h (by decide) dX3_leads_2_56 (fun x11 h => ?_)
          refine v_gIN cok3 h dX3_leads_2_57 (by decide) q269 rfl (fun x12 h => ?_)
          refine v_icmp_le (tgt := 65) dX3_leads_2_60 (by decide) (fun c => ?_) (fun c => ?_)
          · rw [if_pos c] at h
            exact v_weak (wss (wss (wss wse))) (lX3_leads_2_65 hk5 h)
          · rw [if_neg c] at h
            exact v_weak (wss (wsn (wss wse))) (lX3_leads_2_63 hk5 h)
theorem lX3_leads_2_5 {E : EE} {G : GG} : ∀ (f : Nat) {v0 : Option Nat} {v1 : Int32} {v2 : Int32} {σ : Mem} {z : Int32 × Mem}, sX3_leads_2_5 f v0 v1 v2 σ = some z → V E mX3_leads_2 G 5 [some (vr v0), some (vi v1), some (vi v2)] [] σ (some (vi z.1), z.2)
  | 0, _, _, _, _, _, h => by cases h
  | f + 1, _, _, _, _, _, h => lX3_leads_2_5b (fun _ _ _ _ _ h => lX3_leads_2_5 f h) h
theorem lX3_leads_2 {E : EE} {G : GG} {v0 : Option Nat} {σ : Mem} {z : Int32 × Mem} (h : sX3_leads_2 v0 σ = some z) : V E mX3_leads_2 G 0 [some (vr v0), none, none] [] σ (some (vi z.1), z.2) := by
  unfold sX3_leads_2 at h
  refine v_bipush dX3_leads_2_0 rfl ?_
  refine v_istore_n (L' := [some (vr v0), some (vi (iI (-2))), none]) dX3_leads_2_2 (Nat.le_of_ble_eq_true rfl) (Nat.le_of_ble_eq_true rfl) rfl ?_
  refine v_iconst dX3_leads_2_3 ?_
  refine v_istore_n (L' := [some (vr v0), some (vi (iI (-2))), some (vi (iI 0))]) dX3_leads_2_4 (Nat.le_of_ble_eq_true rfl) (Nat.le_of_ble_eq_true rfl) rfl ?_
  exact v_weak (wss (wss (wss wse))) (lX3_leads_2_5 FU h)
theorem tX3_leads_2 {E : EE} {l : Launch} {v0 : Option Nat} {σ : Mem} {z : Int32 × Mem} (h : sX3_leads_2 v0 σ = some z) : Mt E l mX3_leads_2 [vr v0] σ (some (vi z.1), z.2) :=
  Mt.ofVL (by decide) (Nat.le_of_ble_eq_true rfl) (fun G hG => lX3_leads_2 h)
abbrev mX0_tried : MM := (yX0_tried, cX0_tried, 3, (Option.some Jvm.ClassFile.FieldType.int), 99, 8744)
theorem dsX0_tried : DsOk yX0_tried 2 := ⟨by decide, by decide, by decide +kernel⟩
theorem lX0_tried_51 {E : EE} {G : GG} {v0 : Option Nat} {v1 : Int32} {v2 : Int32} {σ : Mem} {z : Int32 × Mem} (h : sX0_tried_51 v0 v1 v2 σ = some z) : V E mX0_tried G 51 [some (vr v0), some (vi v1), some (vi v2)] [] σ (some (vi z.1), z.2) := by
  unfold sX0_tried_51 at h
  refine v_al0 dX0_tried_51 ?_
  refine v_gR cok0 h dX0_tried_52 (by decide) q539 rfl (fun x1 h => ?_)
  refine v_al0 dX0_tried_55 ?_
  refine v_gR cok0 h dX0_tried_56 (by decide) q538 rfl (fun x2 h => ?_)
  obtain ⟨b59, er, ka, h⟩ := cV_some h
  obtain ⟨x3, s4, h1, h⟩ := cl_some h
  refine v_callV1 cok2 (As := [vr x2]) er ka (tX3_takes h1) (lw_V q1229 q1230 q1231 q161 q1232) rfl dsX3_takes ⟨Nat.le_of_ble_eq_true rfl, Nat.le_of_ble_eq_true rfl⟩ (Nat.le_of_ble_eq_true rfl) dX0_tried_59 rfl ?_
  refine v_il1 dX0_tried_62 ?_
  obtain ⟨b63, er, ka, h⟩ := cV_some h
  obtain ⟨x5, s6, h1, h⟩ := cl_some h
  refine v_callV1 cok2 (As := [vi v1]) er ka (tX3_goes h1) (lw_V q1131 q1132 q1133 q161 q1134) rfl dsX3_goes ⟨Nat.le_of_ble_eq_true rfl, Nat.le_of_ble_eq_true rfl⟩ (Nat.le_of_ble_eq_true rfl) dX0_tried_63 rfl ?_
  refine v_pop dX0_tried_66 ?_
  refine v_il2 dX0_tried_67 ?_
  by_cases c0 : v2 = iI 0
  · rw [if_pos c0] at h
    refine v_tabIn (tgt := 100) dX0_tried_68 (by rw [c0]; decide) (by rw [c0]; decide) (by rw [c0]; rfl) (by decide) ?_
    refine v_al0 dX0_tried_100 ?_
    refine v_gR cok0 h dX0_tried_101 (by decide) q539 rfl (fun x7 h => ?_)
    refine v_gIN cok2 h dX0_tried_104 (by decide) q383 rfl (fun x8 h => ?_)
    exact v_retI h dX0_tried_107 rfl
  · rw [if_neg c0] at h
    by_cases c1 : v2 = iI 1
    · rw [if_pos c1] at h
      refine v_tabIn (tgt := 108) dX0_tried_68 (by rw [c1]; decide) (by rw [c1]; decide) (by rw [c1]; rfl) (by decide) ?_
      refine v_al0 dX0_tried_108 ?_
      refine v_gR cok0 h dX0_tried_109 (by decide) q539 rfl (fun x9 h => ?_)
      obtain ⟨b112, er, ka, h⟩ := cV_some h
      obtain ⟨x10, s11, h1, h⟩ := cl_some h
      refine v_callV1 cok2 (As := []) er ka (tX3_leads_2 h1) (lw_V q1237 q1238 q1239 q161 q1240) rfl dsX3_leads_2 ⟨Nat.le_of_ble_eq_true rfl, Nat.le_of_ble_eq_true rfl⟩ (Nat.le_of_ble_eq_true rfl) dX0_tried_112 rfl ?_
      exact v_retI h dX0_tried_115 rfl
    · rw [if_neg c1] at h
      by_cases c2 : v2 = iI 2
      · rw [if_pos c2] at h
        refine v_tabIn (tgt := 116) dX0_tried_68 (by rw [c2]; decide) (by rw [c2]; decide) (by rw [c2]; rfl) (by decide) ?_
        refine v_al0 dX0_tried_116 ?_
        refine v_gR cok0 h dX0_tried_117 (by decide) q539 rfl (fun x12 h => ?_)
        refine v_gIN cok2 h dX0_tried_120 (by decide) q372 rfl (fun x13 h => ?_)
        exact v_retI h dX0_tried_123 rfl
      · rw [if_neg c2] at h
        by_cases c3 : v2 = iI 3
        · rw [if_pos c3] at h
          refine v_tabIn (tgt := 124) dX0_tried_68 (by rw [c3]; decide) (by rw [c3]; decide) (by rw [c3]; rfl) (by decide) ?_
          refine v_al0 dX0_tried_124 ?_
          refine v_gR cok0 h dX0_tried_125 (by decide) q539 rfl (fun x14 h => ?_)
          refine v_gIN cok2 h dX0_tried_128 (by decide) q378 rfl (fun x15 h => ?_)
          exact v_retI h dX0_tried_131 rfl
        · rw [if_neg c3] at h
          refine v_tabOut (tgt := 132) dX0_tried_68 (tab_out (fun j h1 h2 => ?_) (by decide) (by decide)) (by decide) ?_
          · rcases (show j = 0 ∨ j = 1 ∨ j = 2 ∨ j = 3 by omega) with rfl | rfl | rfl | rfl
            · exact c0
            · exact c1
            · exact c2
            · exact c3
          refine v_il2 dX0_tried_132 ?_
          refine v_bipush dX0_tried_133 rfl ?_
          refine v_icmp_ge (tgt := 156) dX0_tried_135 (by decide) (fun c => ?_) (fun c => ?_)
          · rw [if_pos c] at h
            refine v_il2 dX0_tried_156 ?_
            refine v_bipush dX0_tried_157 rfl ?_
            refine v_icmp_ge (tgt := 180) dX0_tried_159 (by decide) (fun c => ?_) (fun c => ?_)
            · rw [if_pos c] at h
              refine v_al0 dX0_tried_180 ?_
              refine v_gR cok0 h dX0_tried_181 (by decide) q539 rfl (fun x16 h => ?_)
              refine v_gRN cok2 h dX0_tried_184 (by decide) q360 rfl (fun x17 h => ?_)
              refine v_il2 dX0_tried_187 ?_
              refine v_bipush dX0_tried_188 rfl ?_
              refine v_isub dX0_tried_190 ?_
              refine v_aR h (by decide) dX0_tried_191 (fun x18 h => ?_)
              refine v_gIN cok3 h dX0_tried_192 (by decide) q286 rfl (fun x19 h => ?_)
              exact v_retI h dX0_tried_195 rfl
            · rw [if_neg c] at h
              refine v_al0 dX0_tried_162 ?_
              refine v_gR cok0 h dX0_tried_163 (by decide) q539 rfl (fun x20 h => ?_)
              refine v_gRN cok2 h dX0_tried_166 (by decide) q360 rfl (fun x21 h => ?_)
              refine v_il2 dX0_tried_169 ?_
              refine v_bipush dX0_tried_170 rfl ?_
              refine v_isub dX0_tried_172 ?_
              refine v_aR h (by decide) dX0_tried_173 (fun x22 h => ?_)
              refine v_gIN cok3 h dX0_tried_174 (by decide) q270 rfl (fun x23 h => ?_)
              refine v_goto (tgt := 195) dX0_tried_177 (by decide) ?_
              exact v_retI h dX0_tried_195 rfl
          · rw [if_neg c] at h
            refine v_al0 dX0_tried_138 ?_
            refine v_gR cok0 h dX0_tried_139 (by decide) q539 rfl (fun x24 h => ?_)
            refine v_gRN cok2 h dX0_tried_142 (by decide) q360 rfl (fun x25 h => ?_)
            refine v_il2 dX0_tried_145 ?_
            refine v_bipush dX0_tried_146 rfl ?_
            refine v_isub dX0_tried_148 ?_
            refine v_aR h (by decide) dX0_tried_149 (fun x26 h => ?_)
            refine v_gIN cok3 h dX0_tried_150 (by decide) q290 rfl (fun x27 h => ?_)
            refine v_goto (tgt := 195) dX0_tried_153 (by decide) ?_
            exact v_retI h dX0_tried_195 rfl
theorem lX0_tried {E : EE} {G : GG} {v0 : Option Nat} {v1 : Int32} {v2 : Int32} {σ : Mem} {z : Int32 × Mem} (h : sX0_tried v0 v1 v2 σ = some z) : V E mX0_tried G 0 [some (vr v0), some (vi v1), some (vi v2)] [] σ (some (vi z.1), z.2) := by
  unfold sX0_tried at h
  refine v_il1 dX0_tried_0 ?_
  refine v_iconst dX0_tried_1 ?_
  refine v_sipush dX0_tried_2 rfl ?_
  obtain ⟨x1, s2, h1, h⟩ := cl_some h
  refine v_callS1 (As := [vi v1, vi (iI 1), vi (iI 200)]) (tX0_within h1) (lw_S q572 q573 q158 q574) dsX0_within ⟨Nat.le_of_ble_eq_true rfl, Nat.le_of_ble_eq_true rfl⟩ (Nat.le_of_ble_eq_true rfl) dX0_tried_5 rfl ?_
  refine v_if_eq (tgt := 49) dX0_tried_8 (by decide) (fun c => ?_) (fun c => ?_)
  · rw [if_pos c] at h
    refine v_iconst dX0_tried_49 ?_
    exact v_retI h dX0_tried_50 rfl
  · rw [if_neg c] at h
    refine v_il2 dX0_tried_11 ?_
    refine v_iconst dX0_tried_12 ?_
    obtain ⟨x3, s4, h1, h⟩ := cl_some h
    refine v_callS1 (As := [vi v2, vi (iI 4)]) (tX0_in h1) (lw_S q582 q583 q158 q584) dsX0_in ⟨Nat.le_of_ble_eq_true rfl, Nat.le_of_ble_eq_true rfl⟩ (Nat.le_of_ble_eq_true rfl) dX0_tried_13 rfl ?_
    refine v_if_ne (tgt := 51) dX0_tried_16 (by decide) (fun c => ?_) (fun c => ?_)
    · rw [if_neg c] at h
      exact v_weak (wss (wss (wss wse))) (lX0_tried_51 h)
    · rw [if_pos c] at h
      refine v_il2 dX0_tried_19 ?_
      refine v_bipush dX0_tried_20 rfl ?_
      refine v_isub dX0_tried_22 ?_
      obtain ⟨x5, s6, h1, h⟩ := cl_some h
      refine v_callS1 (As := [vi (v2 - (iI 10))]) (tX0_isNode h1) (lw_S q579 q580 q158 q581) dsX0_isNode ⟨Nat.le_of_ble_eq_true rfl, Nat.le_of_ble_eq_true rfl⟩ (Nat.le_of_ble_eq_true rfl) dX0_tried_23 rfl ?_
      refine v_if_ne (tgt := 51) dX0_tried_26 (by decide) (fun c => ?_) (fun c => ?_)
      · rw [if_neg c] at h
        exact v_weak (wss (wss (wss wse))) (lX0_tried_51 h)
      · rw [if_pos c] at h
        refine v_il2 dX0_tried_29 ?_
        refine v_bipush dX0_tried_30 rfl ?_
        refine v_isub dX0_tried_32 ?_
        obtain ⟨x7, s8, h1, h⟩ := cl_some h
        refine v_callS1 (As := [vi (v2 - (iI 20))]) (tX0_isNode h1) (lw_S q579 q580 q158 q581) dsX0_isNode ⟨Nat.le_of_ble_eq_true rfl, Nat.le_of_ble_eq_true rfl⟩ (Nat.le_of_ble_eq_true rfl) dX0_tried_33 rfl ?_
        refine v_if_ne (tgt := 51) dX0_tried_36 (by decide) (fun c => ?_) (fun c => ?_)
        · rw [if_neg c] at h
          exact v_weak (wss (wss (wss wse))) (lX0_tried_51 h)
        · rw [if_pos c] at h
          refine v_il2 dX0_tried_39 ?_
          refine v_bipush dX0_tried_40 rfl ?_
          refine v_isub dX0_tried_42 ?_
          obtain ⟨x9, s10, h1, h⟩ := cl_some h
          refine v_callS1 (As := [vi (v2 - (iI 30))]) (tX0_isNode h1) (lw_S q579 q580 q158 q581) dsX0_isNode ⟨Nat.le_of_ble_eq_true rfl, Nat.le_of_ble_eq_true rfl⟩ (Nat.le_of_ble_eq_true rfl) dX0_tried_43 rfl ?_
          refine v_if_ne (tgt := 51) dX0_tried_46 (by decide) (fun c => ?_) (fun c => ?_)
          · rw [if_neg c] at h
            exact v_weak (wss (wss (wss wse))) (lX0_tried_51 h)
          · rw [if_pos c] at h
            refine v_iconst dX0_tried_49 ?_
            exact v_retI h dX0_tried_50 rfl
theorem tX0_tried {E : EE} {l : Launch} {v0 : Option Nat} {v1 : Int32} {v2 : Int32} {σ : Mem} {z : Int32 × Mem} (h : sX0_tried v0 v1 v2 σ = some z) : Mt E l mX0_tried [vr v0, vi v1, vi v2] σ (some (vi z.1), z.2) :=
  Mt.ofVL (by decide) (Nat.le_of_ble_eq_true rfl) (fun G hG => lX0_tried h)
abbrev mX0_orNone : MM := (yX0_orNone, cX0_orNone, 1, (Option.some Jvm.ClassFile.FieldType.int), 0, 0)
theorem dsX0_orNone : DsOk yX0_orNone 1 := ⟨by decide, by decide, by decide +kernel⟩
theorem lX0_orNone {E : EE} {G : GG} {v0 : Int32} {σ : Mem} {z : Int32 × Mem} (h : sX0_orNone v0 σ = some z) : V E mX0_orNone G 0 [some (vi v0)] [] σ (some (vi z.1), z.2) := by
  unfold sX0_orNone at h
  refine v_il0 dX0_orNone_0 ?_
  refine v_iconst dX0_orNone_1 ?_
  refine v_icmp_ne (tgt := 10) dX0_orNone_2 (by decide) (fun c => ?_) (fun c => ?_)
  · rw [if_neg c] at h
    refine v_il0 dX0_orNone_10 ?_
    exact v_retI h dX0_orNone_11 rfl
  · rw [if_pos c] at h
    refine v_bipush dX0_orNone_5 rfl ?_
    refine v_goto (tgt := 11) dX0_orNone_7 (by decide) ?_
    exact v_retI h dX0_orNone_11 rfl
theorem tX0_orNone {E : EE} {l : Launch} {v0 : Int32} {σ : Mem} {z : Int32 × Mem} (h : sX0_orNone v0 σ = some z) : Mt E l mX0_orNone [vi v0] σ (some (vi z.1), z.2) :=
  Mt.ofVL (by decide) (Nat.le_of_ble_eq_true rfl) (fun G hG => lX0_orNone h)
abbrev mX0_ofUp : MM := (yX0_ofUp, cX0_ofUp, 2, (Option.some Jvm.ClassFile.FieldType.int), 0, 0)
theorem dsX0_ofUp : DsOk yX0_ofUp 2 := ⟨by decide, by decide, by decide +kernel⟩
theorem lX0_ofUp {E : EE} {G : GG} {v0 : Option Nat} {v1 : Int32} {σ : Mem} {z : Int32 × Mem} (h : sX0_ofUp v0 v1 σ = some z) : V E mX0_ofUp G 0 [some (vr v0), some (vi v1)] [] σ (some (vi z.1), z.2) := by
  unfold sX0_ofUp at h
  refine v_al0 dX0_ofUp_0 ?_
  refine v_gIN cok3 h dX0_ofUp_1 (by decide) q307 rfl (fun x1 h => ?_)
  refine v_if_eq (tgt := 11) dX0_ofUp_4 (by decide) (fun c => ?_) (fun c => ?_)
  · rw [if_pos c] at h
    refine v_bipush dX0_ofUp_11 rfl ?_
    exact v_retI h dX0_ofUp_13 rfl
  · rw [if_neg c] at h
    refine v_il1 dX0_ofUp_7 ?_
    refine v_goto (tgt := 13) dX0_ofUp_8 (by decide) ?_
    exact v_retI h dX0_ofUp_13 rfl
theorem tX0_ofUp {E : EE} {l : Launch} {v0 : Option Nat} {v1 : Int32} {σ : Mem} {z : Int32 × Mem} (h : sX0_ofUp v0 v1 σ = some z) : Mt E l mX0_ofUp [vr v0, vi v1] σ (some (vi z.1), z.2) :=
  Mt.ofVL (by decide) (Nat.le_of_ble_eq_true rfl) (fun G hG => lX0_ofUp h)
abbrev mX0_nodeIs : MM := (yX0_nodeIs, cX0_nodeIs, 4, (Option.some Jvm.ClassFile.FieldType.int), 3, 63)
theorem dsX0_nodeIs : DsOk yX0_nodeIs 2 := ⟨by decide, by decide, by decide +kernel⟩
theorem lX0_nodeIs {E : EE} {G : GG} {v0 : Option Nat} {v1 : Int32} {v2 : Int32} {σ : Mem} {z : Int32 × Mem} (h : sX0_nodeIs v0 v1 v2 σ = some z) : V E mX0_nodeIs G 0 [some (vr v0), some (vi v1), some (vi v2), none] [] σ (some (vi z.1), z.2) := by
  unfold sX0_nodeIs at h
  refine v_il1 dX0_nodeIs_0 ?_
  obtain ⟨x1, s2, h1, h⟩ := cl_some h
  refine v_callS1 (As := [vi v1]) (tX0_isNode h1) (lw_S q579 q580 q158 q581) dsX0_isNode ⟨Nat.le_of_ble_eq_true rfl, Nat.le_of_ble_eq_true rfl⟩ (Nat.le_of_ble_eq_true rfl) dX0_nodeIs_1 rfl ?_
  refine v_if_ne (tgt := 9) dX0_nodeIs_4 (by decide) (fun c => ?_) (fun c => ?_)
  · rw [if_neg c] at h
    refine v_al0 dX0_nodeIs_9 ?_
    refine v_gR cok0 h dX0_nodeIs_10 (by decide) q538 rfl (fun x3 h => ?_)
    refine v_gRN cok2 h dX0_nodeIs_13 (by decide) q360 rfl (fun x4 h => ?_)
    refine v_il1 dX0_nodeIs_16 ?_
    refine v_aR h (by decide) dX0_nodeIs_17 (fun x5 h => ?_)
    refine v_astore_n (L' := [some (vr v0), some (vi v1), some (vi v2), some (vr x5)]) dX0_nodeIs_18 (Nat.le_of_ble_eq_true rfl) (Nat.le_of_ble_eq_true rfl) rfl ?_
    refine v_il2 dX0_nodeIs_19 ?_
    by_cases c0 : v2 = iI 0
    · rw [if_pos c0] at h
      refine v_tabIn (tgt := 92) dX0_nodeIs_20 (by rw [c0]; decide) (by rw [c0]; decide) (by rw [c0]; rfl) (by decide) ?_
      refine v_al3 dX0_nodeIs_92 ?_
      refine v_gIN cok3 h dX0_nodeIs_93 (by decide) q307 rfl (fun x6 h => ?_)
      refine v_if_eq (tgt := 103) dX0_nodeIs_96 (by decide) (fun c => ?_) (fun c => ?_)
      · rw [if_pos c] at h
        refine v_iconst dX0_nodeIs_103 ?_
        exact v_retI h dX0_nodeIs_104 rfl
      · rw [if_neg c] at h
        refine v_iconst dX0_nodeIs_99 ?_
        refine v_goto (tgt := 104) dX0_nodeIs_100 (by decide) ?_
        exact v_retI h dX0_nodeIs_104 rfl
    · rw [if_neg c0] at h
      by_cases c1 : v2 = iI 1
      · rw [if_pos c1] at h
        refine v_tabIn (tgt := 105) dX0_nodeIs_20 (by rw [c1]; decide) (by rw [c1]; decide) (by rw [c1]; rfl) (by decide) ?_
        refine v_al3 dX0_nodeIs_105 ?_
        refine v_gIN cok3 h dX0_nodeIs_106 (by decide) q270 rfl (fun x7 h => ?_)
        exact v_retI h dX0_nodeIs_109 rfl
      · rw [if_neg c1] at h
        by_cases c2 : v2 = iI 2
        · rw [if_pos c2] at h
          refine v_tabIn (tgt := 110) dX0_nodeIs_20 (by rw [c2]; decide) (by rw [c2]; decide) (by rw [c2]; rfl) (by decide) ?_
          refine v_al3 dX0_nodeIs_110 ?_
          refine v_gIN cok3 h dX0_nodeIs_111 (by decide) q273 rfl (fun x8 h => ?_)
          obtain ⟨x9, s10, h1, h⟩ := cl_some h
          refine v_callS1 (As := [vi x8]) (tX0_orNone h1) (lw_S q1245 q1246 q158 q1247) dsX0_orNone ⟨Nat.le_of_ble_eq_true rfl, Nat.le_of_ble_eq_true rfl⟩ (Nat.le_of_ble_eq_true rfl) dX0_nodeIs_114 rfl ?_
          exact v_retI h dX0_nodeIs_117 rfl
        · rw [if_neg c2] at h
          by_cases c3 : v2 = iI 3
          · rw [if_pos c3] at h
            refine v_tabIn (tgt := 118) dX0_nodeIs_20 (by rw [c3]; decide) (by rw [c3]; decide) (by rw [c3]; rfl) (by decide) ?_
            refine v_al3 dX0_nodeIs_118 ?_
            refine v_al3 dX0_nodeIs_119 ?_
            refine v_gIN cok3 h dX0_nodeIs_120 (by decide) q286 rfl (fun x11 h => ?_)
            obtain ⟨x12, s13, h1, h⟩ := cl_some h
            refine v_callS1 (As := [vr x5, vi x11]) (tX0_ofUp h1) (lw_S q1248 q1249 q158 q1250) dsX0_ofUp ⟨Nat.le_of_ble_eq_true rfl, Nat.le_of_ble_eq_true rfl⟩ (Nat.le_of_ble_eq_true rfl) dX0_nodeIs_123 rfl ?_
            exact v_retI h dX0_nodeIs_126 rfl
          · rw [if_neg c3] at h
            by_cases c4 : v2 = iI 4
            · rw [if_pos c4] at h
              refine v_tabIn (tgt := 127) dX0_nodeIs_20 (by rw [c4]; decide) (by rw [c4]; decide) (by rw [c4]; rfl) (by decide) ?_
              refine v_al3 dX0_nodeIs_127 ?_
              obtain ⟨b128, er, ka, h⟩ := cV_some h
              obtain ⟨x14, s15, h1, h⟩ := cl_some h
              refine v_callV1 cok3 (As := []) er ka (tX4_last h1) (lw_V q1251 q644 q645 q162 q646) rfl dsX4_last ⟨Nat.le_of_ble_eq_true rfl, Nat.le_of_ble_eq_true rfl⟩ (Nat.le_of_ble_eq_true rfl) dX0_nodeIs_128 rfl ?_
              exact v_retI h dX0_nodeIs_131 rfl
            · rw [if_neg c4] at h
              by_cases c5 : v2 = iI 5
              · rw [if_pos c5] at h
                refine v_tabIn (tgt := 132) dX0_nodeIs_20 (by rw [c5]; decide) (by rw [c5]; decide) (by rw [c5]; rfl) (by decide) ?_
                refine v_al3 dX0_nodeIs_132 ?_
                refine v_al3 dX0_nodeIs_133 ?_
                refine v_gIN cok3 h dX0_nodeIs_134 (by decide) q290 rfl (fun x16 h => ?_)
                obtain ⟨x17, s18, h1, h⟩ := cl_some h
                refine v_callS1 (As := [vr x5, vi x16]) (tX0_ofUp h1) (lw_S q1248 q1249 q158 q1250) dsX0_ofUp ⟨Nat.le_of_ble_eq_true rfl, Nat.le_of_ble_eq_true rfl⟩ (Nat.le_of_ble_eq_true rfl) dX0_nodeIs_137 rfl ?_
                exact v_retI h dX0_nodeIs_140 rfl
              · rw [if_neg c5] at h
                by_cases c6 : v2 = iI 6
                · rw [if_pos c6] at h
                  refine v_tabIn (tgt := 141) dX0_nodeIs_20 (by rw [c6]; decide) (by rw [c6]; decide) (by rw [c6]; rfl) (by decide) ?_
                  refine v_al3 dX0_nodeIs_141 ?_
                  refine v_gIN cok3 h dX0_nodeIs_142 (by decide) q276 rfl (fun x19 h => ?_)
                  exact v_retI h dX0_nodeIs_145 rfl
                · rw [if_neg c6] at h
                  by_cases c7 : v2 = iI 7
                  · rw [if_pos c7] at h
                    refine v_tabIn (tgt := 146) dX0_nodeIs_20 (by rw [c7]; decide) (by rw [c7]; decide) (by rw [c7]; rfl) (by decide) ?_
                    refine v_al3 dX0_nodeIs_146 ?_
                    refine v_al3 dX0_nodeIs_147 ?_
                    refine v_gIN cok3 h dX0_nodeIs_148 (by decide) q293 rfl (fun x20 h => ?_)
                    obtain ⟨x21, s22, h1, h⟩ := cl_some h
                    refine v_callS1 (As := [vr x5, vi x20]) (tX0_ofUp h1) (lw_S q1248 q1249 q158 q1250) dsX0_ofUp ⟨Nat.le_of_ble_eq_true rfl, Nat.le_of_ble_eq_true rfl⟩ (Nat.le_of_ble_eq_true rfl) dX0_nodeIs_151 rfl ?_
                    exact v_retI h dX0_nodeIs_154 rfl
                  · rw [if_neg c7] at h
                    by_cases c8 : v2 = iI 8
                    · rw [if_pos c8] at h
                      refine v_tabIn (tgt := 155) dX0_nodeIs_20 (by rw [c8]; decide) (by rw [c8]; decide) (by rw [c8]; rfl) (by decide) ?_
                      refine v_al3 dX0_nodeIs_155 ?_
                      obtain ⟨b156, er, ka, h⟩ := cV_some h
                      obtain ⟨x23, s24, h1, h⟩ := cl_some h
                      refine v_callV1 cok3 (As := []) er ka (tX4_olds h1) (lw_V q752 q666 q667 q162 q668) rfl dsX4_olds ⟨Nat.le_of_ble_eq_true rfl, Nat.le_of_ble_eq_true rfl⟩ (Nat.le_of_ble_eq_true rfl) dX0_nodeIs_156 rfl ?_
                      exact v_retI h dX0_nodeIs_159 rfl
                    · rw [if_neg c8] at h
                      by_cases c9 : v2 = iI 9
                      · rw [if_pos c9] at h
                        refine v_tabIn (tgt := 160) dX0_nodeIs_20 (by rw [c9]; decide) (by rw [c9]; decide) (by rw [c9]; rfl) (by decide) ?_
                        refine v_al3 dX0_nodeIs_160 ?_
                        obtain ⟨b161, er, ka, h⟩ := cV_some h
                        obtain ⟨x25, s26, h1, h⟩ := cl_some h
                        refine v_callV1 cok3 (As := []) er ka (tX4_news h1) (lw_V q750 q670 q671 q162 q672) rfl dsX4_news ⟨Nat.le_of_ble_eq_true rfl, Nat.le_of_ble_eq_true rfl⟩ (Nat.le_of_ble_eq_true rfl) dX0_nodeIs_161 rfl ?_
                        exact v_retI h dX0_nodeIs_164 rfl
                      · rw [if_neg c9] at h
                        by_cases c10 : v2 = iI 10
                        · rw [if_pos c10] at h
                          refine v_tabIn (tgt := 165) dX0_nodeIs_20 (by rw [c10]; decide) (by rw [c10]; decide) (by rw [c10]; rfl) (by decide) ?_
                          refine v_al3 dX0_nodeIs_165 ?_
                          refine v_al3 dX0_nodeIs_166 ?_
                          refine v_gIN cok3 h dX0_nodeIs_167 (by decide) q296 rfl (fun x27 h => ?_)
                          obtain ⟨x28, s29, h1, h⟩ := cl_some h
                          refine v_callS1 (As := [vi x27]) (tX0_orNone h1) (lw_S q1245 q1246 q158 q1247) dsX0_orNone ⟨Nat.le_of_ble_eq_true rfl, Nat.le_of_ble_eq_true rfl⟩ (Nat.le_of_ble_eq_true rfl) dX0_nodeIs_170 rfl ?_
                          obtain ⟨x30, s31, h1, h⟩ := cl_some h
                          refine v_callS1 (As := [vr x5, vi x28]) (tX0_ofUp h1) (lw_S q1248 q1249 q158 q1250) dsX0_ofUp ⟨Nat.le_of_ble_eq_true rfl, Nat.le_of_ble_eq_true rfl⟩ (Nat.le_of_ble_eq_true rfl) dX0_nodeIs_173 rfl ?_
                          exact v_retI h dX0_nodeIs_176 rfl
                        · rw [if_neg c10] at h
                          by_cases c11 : v2 = iI 11
                          · rw [if_pos c11] at h
                            refine v_tabIn (tgt := 177) dX0_nodeIs_20 (by rw [c11]; decide) (by rw [c11]; decide) (by rw [c11]; rfl) (by decide) ?_
                            refine v_al3 dX0_nodeIs_177 ?_
                            refine v_al3 dX0_nodeIs_178 ?_
                            refine v_gIN cok3 h dX0_nodeIs_179 (by decide) q299 rfl (fun x32 h => ?_)
                            obtain ⟨x33, s34, h1, h⟩ := cl_some h
                            refine v_callS1 (As := [vr x5, vi x32]) (tX0_ofUp h1) (lw_S q1248 q1249 q158 q1250) dsX0_ofUp ⟨Nat.le_of_ble_eq_true rfl, Nat.le_of_ble_eq_true rfl⟩ (Nat.le_of_ble_eq_true rfl) dX0_nodeIs_182 rfl ?_
                            exact v_retI h dX0_nodeIs_185 rfl
                          · rw [if_neg c11] at h
                            by_cases c12 : v2 = iI 12
                            · rw [if_pos c12] at h
                              refine v_tabIn (tgt := 186) dX0_nodeIs_20 (by rw [c12]; decide) (by rw [c12]; decide) (by rw [c12]; rfl) (by decide) ?_
                              refine v_al3 dX0_nodeIs_186 ?_
                              refine v_al3 dX0_nodeIs_187 ?_
                              refine v_gIN cok3 h dX0_nodeIs_188 (by decide) q302 rfl (fun x35 h => ?_)
                              obtain ⟨x36, s37, h1, h⟩ := cl_some h
                              refine v_callS1 (As := [vr x5, vi x35]) (tX0_ofUp h1) (lw_S q1248 q1249 q158 q1250) dsX0_ofUp ⟨Nat.le_of_ble_eq_true rfl, Nat.le_of_ble_eq_true rfl⟩ (Nat.le_of_ble_eq_true rfl) dX0_nodeIs_191 rfl ?_
                              exact v_retI h dX0_nodeIs_194 rfl
                            · rw [if_neg c12] at h
                              by_cases c13 : v2 = iI 13
                              · rw [if_pos c13] at h
                                refine v_tabIn (tgt := 195) dX0_nodeIs_20 (by rw [c13]; decide) (by rw [c13]; decide) (by rw [c13]; rfl) (by decide) ?_
                                refine v_al3 dX0_nodeIs_195 ?_
                                refine v_al3 dX0_nodeIs_196 ?_
                                obtain ⟨b197, er, ka, h⟩ := cV_some h
                                obtain ⟨x38, s39, h1, h⟩ := cl_some h
                                refine v_callV1 cok3 (As := []) er ka (tX4_last h1) (lw_V q1251 q644 q645 q162 q646) rfl dsX4_last ⟨Nat.le_of_ble_eq_true rfl, Nat.le_of_ble_eq_true rfl⟩ (Nat.le_of_ble_eq_true rfl) dX0_nodeIs_197 rfl ?_
                                obtain ⟨b200, er, ka, h⟩ := cV_some h
                                obtain ⟨x40, s41, h1, h⟩ := cl_some h
                                refine v_callV1 cok3 (As := [vi x38]) er ka (tX4_termAt h1) (lw_V q757 q624 q625 q162 q626) rfl dsX4_termAt ⟨Nat.le_of_ble_eq_true rfl, Nat.le_of_ble_eq_true rfl⟩ (Nat.le_of_ble_eq_true rfl) dX0_nodeIs_200 rfl ?_
                                exact v_retI h dX0_nodeIs_203 rfl
                              · rw [if_neg c13] at h
                                refine v_tabOut (tgt := 204) dX0_nodeIs_20 (tab_out (fun j h1 h2 => ?_) (by decide) (by decide)) (by decide) ?_
                                · rcases (show j = 0 ∨ j = 1 ∨ j = 2 ∨ j = 3 ∨ j = 4 ∨ j = 5 ∨ j = 6 ∨ j = 7 ∨ j = 8 ∨ j = 9 ∨ j = 10 ∨ j = 11 ∨ j = 12 ∨ j = 13 by omega) with rfl | rfl | rfl | rfl | rfl | rfl | rfl | rfl | rfl | rfl | rfl | rfl | rfl | rfl
                                  · exact c0
                                  · exact c1
                                  · exact c2
                                  · exact c3
                                  · exact c4
                                  · exact c5
                                  · exact c6
                                  · exact c7
                                  · exact c8
                                  · exact c9
                                  · exact c10
                                  · exact c11
                                  · exact c12
                                  · exact c13
                                refine v_iconst dX0_nodeIs_204 ?_
                                exact v_retI h dX0_nodeIs_205 rfl
  · rw [if_pos c] at h
    refine v_iconst dX0_nodeIs_7 ?_
    exact v_retI h dX0_nodeIs_8 rfl
theorem tX0_nodeIs {E : EE} {l : Launch} {v0 : Option Nat} {v1 : Int32} {v2 : Int32} {σ : Mem} {z : Int32 × Mem} (h : sX0_nodeIs v0 v1 v2 σ = some z) : Mt E l mX0_nodeIs [vr v0, vi v1, vi v2] σ (some (vi z.1), z.2) :=
  Mt.ofVL (by decide) (Nat.le_of_ble_eq_true rfl) (fun G hG => lX0_nodeIs h)
abbrev mX0_partOf : MM := (yX0_partOf, cX0_partOf, 4, (Option.some Jvm.ClassFile.FieldType.int), 0, 0)
theorem dsX0_partOf : DsOk yX0_partOf 3 := ⟨by decide, by decide, by decide +kernel⟩
theorem lX0_partOf {E : EE} {G : GG} {v0 : Option Nat} {v1 : Int32} {v2 : Int32} {σ : Mem} {z : Int32 × Mem} (h : sX0_partOf v0 v1 v2 σ = some z) : V E mX0_partOf G 0 [some (vr v0), some (vi v1), some (vi v2), none] [] σ (some (vi z.1), z.2) := by
  unfold sX0_partOf at h
  refine v_il1 dX0_partOf_0 ?_
  refine v_al0 dX0_partOf_1 ?_
  refine v_gIN cok3 h dX0_partOf_2 (by decide) q276 rfl (fun x1 h => ?_)
  refine v_isub dX0_partOf_5 ?_
  refine v_iconst dX0_partOf_6 ?_
  refine v_isub dX0_partOf_7 ?_
  refine v_istore_n (L' := [some (vr v0), some (vi v1), some (vi v2), some (vi ((v1 - x1) - (iI 1)))]) dX0_partOf_8 (Nat.le_of_ble_eq_true rfl) (Nat.le_of_ble_eq_true rfl) rfl ?_
  refine v_il2 dX0_partOf_9 ?_
  refine v_if_ne (tgt := 22) dX0_partOf_10 (by decide) (fun c => ?_) (fun c => ?_)
  · rw [if_neg c] at h
    refine v_il2 dX0_partOf_22 ?_
    refine v_iconst dX0_partOf_23 ?_
    refine v_icmp_ne (tgt := 36) dX0_partOf_24 (by decide) (fun c => ?_) (fun c => ?_)
    · rw [if_neg c] at h
      refine v_il2 dX0_partOf_36 ?_
      refine v_iconst dX0_partOf_37 ?_
      refine v_icmp_ne (tgt := 50) dX0_partOf_38 (by decide) (fun c => ?_) (fun c => ?_)
      · rw [if_neg c] at h
        refine v_al0 dX0_partOf_50 ?_
        refine v_gRN cok3 h dX0_partOf_51 (by decide) q252 rfl (fun x2 h => ?_)
        refine v_il3 dX0_partOf_54 ?_
        refine v_aI h dX0_partOf_55 (fun x3 h => ?_)
        exact v_retI h dX0_partOf_56 rfl
      · rw [if_pos c] at h
        refine v_al0 dX0_partOf_41 ?_
        refine v_gRN cok3 h dX0_partOf_42 (by decide) q249 rfl (fun x4 h => ?_)
        refine v_il3 dX0_partOf_45 ?_
        refine v_aI h dX0_partOf_46 (fun x5 h => ?_)
        refine v_goto (tgt := 56) dX0_partOf_47 (by decide) ?_
        exact v_retI h dX0_partOf_56 rfl
    · rw [if_pos c] at h
      refine v_al0 dX0_partOf_27 ?_
      refine v_gRN cok3 h dX0_partOf_28 (by decide) q246 rfl (fun x6 h => ?_)
      refine v_il3 dX0_partOf_31 ?_
      refine v_aI h dX0_partOf_32 (fun x7 h => ?_)
      refine v_goto (tgt := 56) dX0_partOf_33 (by decide) ?_
      exact v_retI h dX0_partOf_56 rfl
  · rw [if_pos c] at h
    refine v_al0 dX0_partOf_13 ?_
    refine v_gRN cok3 h dX0_partOf_14 (by decide) q243 rfl (fun x8 h => ?_)
    refine v_il3 dX0_partOf_17 ?_
    refine v_aI h dX0_partOf_18 (fun x9 h => ?_)
    refine v_goto (tgt := 56) dX0_partOf_19 (by decide) ?_
    exact v_retI h dX0_partOf_56 rfl
theorem tX0_partOf {E : EE} {l : Launch} {v0 : Option Nat} {v1 : Int32} {v2 : Int32} {σ : Mem} {z : Int32 × Mem} (h : sX0_partOf v0 v1 v2 σ = some z) : Mt E l mX0_partOf [vr v0, vi v1, vi v2] σ (some (vi z.1), z.2) :=
  Mt.ofVL (by decide) (Nat.le_of_ble_eq_true rfl) (fun G hG => lX0_partOf h)
abbrev mX0_entryAt : MM := (yX0_entryAt, cX0_entryAt, 5, (Option.some Jvm.ClassFile.FieldType.int), 2, 41)
theorem dsX0_entryAt : DsOk yX0_entryAt 3 := ⟨by decide, by decide, by decide +kernel⟩
theorem lX0_entryAt {E : EE} {G : GG} {v0 : Option Nat} {v1 : Int32} {v2 : Int32} {v3 : Int32} {σ : Mem} {z : Int32 × Mem} (h : sX0_entryAt v0 v1 v2 v3 σ = some z) : V E mX0_entryAt G 0 [some (vr v0), some (vi v1), some (vi v2), some (vi v3), none] [] σ (some (vi z.1), z.2) := by
  unfold sX0_entryAt at h
  refine v_il1 dX0_entryAt_0 ?_
  obtain ⟨x1, s2, h1, h⟩ := cl_some h
  refine v_callS1 (As := [vi v1]) (tX0_isNode h1) (lw_S q579 q580 q158 q581) dsX0_isNode ⟨Nat.le_of_ble_eq_true rfl, Nat.le_of_ble_eq_true rfl⟩ (Nat.le_of_ble_eq_true rfl) dX0_entryAt_1 rfl ?_
  refine v_if_eq (tgt := 26) dX0_entryAt_4 (by decide) (fun c => ?_) (fun c => ?_)
  · rw [if_pos c] at h
    refine v_iconst dX0_entryAt_26 ?_
    exact v_retI h dX0_entryAt_27 rfl
  · rw [if_neg c] at h
    refine v_il2 dX0_entryAt_7 ?_
    refine v_iconst dX0_entryAt_8 ?_
    refine v_sipush dX0_entryAt_9 rfl ?_
    obtain ⟨x3, s4, h1, h⟩ := cl_some h
    refine v_callS1 (As := [vi v2, vi (iI 1), vi (iI 999)]) (tX0_within h1) (lw_S q572 q573 q158 q574) dsX0_within ⟨Nat.le_of_ble_eq_true rfl, Nat.le_of_ble_eq_true rfl⟩ (Nat.le_of_ble_eq_true rfl) dX0_entryAt_12 rfl ?_
    refine v_if_eq (tgt := 26) dX0_entryAt_15 (by decide) (fun c => ?_) (fun c => ?_)
    · rw [if_pos c] at h
      refine v_iconst dX0_entryAt_26 ?_
      exact v_retI h dX0_entryAt_27 rfl
    · rw [if_neg c] at h
      refine v_il3 dX0_entryAt_18 ?_
      refine v_iconst dX0_entryAt_19 ?_
      obtain ⟨x5, s6, h1, h⟩ := cl_some h
      refine v_callS1 (As := [vi v3, vi (iI 4)]) (tX0_in h1) (lw_S q582 q583 q158 q584) dsX0_in ⟨Nat.le_of_ble_eq_true rfl, Nat.le_of_ble_eq_true rfl⟩ (Nat.le_of_ble_eq_true rfl) dX0_entryAt_20 rfl ?_
      refine v_if_ne (tgt := 28) dX0_entryAt_23 (by decide) (fun c => ?_) (fun c => ?_)
      · rw [if_neg c] at h
        refine v_al0 dX0_entryAt_28 ?_
        refine v_gR cok0 h dX0_entryAt_29 (by decide) q538 rfl (fun x7 h => ?_)
        refine v_gRN cok2 h dX0_entryAt_32 (by decide) q360 rfl (fun x8 h => ?_)
        refine v_il1 dX0_entryAt_35 ?_
        refine v_aR h (by decide) dX0_entryAt_36 (fun x9 h => ?_)
        refine v_astore (L' := [some (vr v0), some (vi v1), some (vi v2), some (vi v3), some (vr x9)]) dX0_entryAt_37 (Nat.le_of_ble_eq_true rfl) (Nat.le_of_ble_eq_true rfl) rfl ?_
        refine v_aload dX0_entryAt_39 rfl ?_
        refine v_il2 dX0_entryAt_41 ?_
        obtain ⟨b42, er, ka, h⟩ := cV_some h
        obtain ⟨x10, s11, h1, h⟩ := cl_some h
        refine v_callV1 cok3 (As := [vi v2]) er ka (tX4_hasEntry h1) (lw_V q1256 q1185 q1186 q162 q1187) rfl dsX4_hasEntry ⟨Nat.le_of_ble_eq_true rfl, Nat.le_of_ble_eq_true rfl⟩ (Nat.le_of_ble_eq_true rfl) dX0_entryAt_42 rfl ?_
        refine v_if_eq (tgt := 58) dX0_entryAt_45 (by decide) (fun c => ?_) (fun c => ?_)
        · rw [if_pos c] at h
          refine v_bipush dX0_entryAt_58 rfl ?_
          exact v_retI h dX0_entryAt_60 rfl
        · rw [if_neg c] at h
          refine v_aload dX0_entryAt_48 rfl ?_
          refine v_il2 dX0_entryAt_50 ?_
          refine v_il3 dX0_entryAt_51 ?_
          obtain ⟨x12, s13, h1, h⟩ := cl_some h
          refine v_callS1 (As := [vr x9, vi v2, vi v3]) (tX0_partOf h1) (lw_S q1257 q1258 q158 q1259) dsX0_partOf ⟨Nat.le_of_ble_eq_true rfl, Nat.le_of_ble_eq_true rfl⟩ (Nat.le_of_ble_eq_true rfl) dX0_entryAt_52 rfl ?_
          refine v_goto (tgt := 60) dX0_entryAt_55 (by decide) ?_
          exact v_retI h dX0_entryAt_60 rfl
      · rw [if_pos c] at h
        refine v_iconst dX0_entryAt_26 ?_
        exact v_retI h dX0_entryAt_27 rfl
theorem tX0_entryAt {E : EE} {l : Launch} {v0 : Option Nat} {v1 : Int32} {v2 : Int32} {v3 : Int32} {σ : Mem} {z : Int32 × Mem} (h : sX0_entryAt v0 v1 v2 v3 σ = some z) : Mt E l mX0_entryAt [vr v0, vi v1, vi v2, vi v3] σ (some (vi z.1), z.2) :=
  Mt.ofVL (by decide) (Nat.le_of_ble_eq_true rfl) (fun G hG => lX0_entryAt h)
abbrev mX0_keyOf : MM := (yX0_keyOf, cX0_keyOf, 4, (Option.some Jvm.ClassFile.FieldType.int), 2, 41)
theorem dsX0_keyOf : DsOk yX0_keyOf 2 := ⟨by decide, by decide, by decide +kernel⟩
theorem lX0_keyOf_30 {E : EE} {G : GG} {v0 : Option Nat} {v1 : Int32} {v2 : Int32} {σ : Mem} {z : Int32 × Mem} (h : sX0_keyOf_30 v0 v1 v2 σ = some z) : V E mX0_keyOf G 30 [some (vr v0), some (vi v1), some (vi v2), none] [] σ (some (vi z.1), z.2) := by
  unfold sX0_keyOf_30 at h
  refine v_al0 dX0_keyOf_30 ?_
  refine v_gR cok0 h dX0_keyOf_31 (by decide) q538 rfl (fun x1 h => ?_)
  refine v_gRN cok2 h dX0_keyOf_34 (by decide) q360 rfl (fun x2 h => ?_)
  refine v_il1 dX0_keyOf_37 ?_
  refine v_aR h (by decide) dX0_keyOf_38 (fun x3 h => ?_)
  refine v_astore_n (L' := [some (vr v0), some (vi v1), some (vi v2), some (vr x3)]) dX0_keyOf_39 (Nat.le_of_ble_eq_true rfl) (Nat.le_of_ble_eq_true rfl) rfl ?_
  refine v_il2 dX0_keyOf_40 ?_
  refine v_bipush dX0_keyOf_41 rfl ?_
  refine v_icmp_lt (tgt := 58) dX0_keyOf_43 (by decide) (fun c => ?_) (fun c => ?_)
  · rw [if_pos c] at h
    refine v_al3 dX0_keyOf_58 ?_
    refine v_al3 dX0_keyOf_59 ?_
    refine v_gRN cok3 h dX0_keyOf_60 (by decide) q255 rfl (fun x4 h => ?_)
    refine v_il2 dX0_keyOf_63 ?_
    refine v_aI h dX0_keyOf_64 (fun x5 h => ?_)
    obtain ⟨x6, s7, h1, h⟩ := cl_some h
    refine v_callS1 (As := [vr x3, vi x5]) (tX0_ofUp h1) (lw_S q1248 q1249 q158 q1250) dsX0_ofUp ⟨Nat.le_of_ble_eq_true rfl, Nat.le_of_ble_eq_true rfl⟩ (Nat.le_of_ble_eq_true rfl) dX0_keyOf_65 rfl ?_
    exact v_retI h dX0_keyOf_68 rfl
  · rw [if_neg c] at h
    refine v_al3 dX0_keyOf_46 ?_
    refine v_gRN cok3 h dX0_keyOf_47 (by decide) q258 rfl (fun x8 h => ?_)
    refine v_il2 dX0_keyOf_50 ?_
    refine v_bipush dX0_keyOf_51 rfl ?_
    refine v_isub dX0_keyOf_53 ?_
    refine v_aI h dX0_keyOf_54 (fun x9 h => ?_)
    refine v_goto (tgt := 68) dX0_keyOf_55 (by decide) ?_
    exact v_retI h dX0_keyOf_68 rfl
theorem lX0_keyOf {E : EE} {G : GG} {v0 : Option Nat} {v1 : Int32} {v2 : Int32} {σ : Mem} {z : Int32 × Mem} (h : sX0_keyOf v0 v1 v2 σ = some z) : V E mX0_keyOf G 0 [some (vr v0), some (vi v1), some (vi v2), none] [] σ (some (vi z.1), z.2) := by
  unfold sX0_keyOf at h
  refine v_il1 dX0_keyOf_0 ?_
  obtain ⟨x1, s2, h1, h⟩ := cl_some h
  refine v_callS1 (As := [vi v1]) (tX0_isNode h1) (lw_S q579 q580 q158 q581) dsX0_isNode ⟨Nat.le_of_ble_eq_true rfl, Nat.le_of_ble_eq_true rfl⟩ (Nat.le_of_ble_eq_true rfl) dX0_keyOf_1 rfl ?_
  refine v_if_eq (tgt := 28) dX0_keyOf_4 (by decide) (fun c => ?_) (fun c => ?_)
  · rw [if_pos c] at h
    refine v_iconst dX0_keyOf_28 ?_
    exact v_retI h dX0_keyOf_29 rfl
  · rw [if_neg c] at h
    refine v_il2 dX0_keyOf_7 ?_
    refine v_bipush dX0_keyOf_8 rfl ?_
    obtain ⟨x3, s4, h1, h⟩ := cl_some h
    refine v_callS1 (As := [vi v2, vi (iI 8)]) (tX0_in h1) (lw_S q582 q583 q158 q584) dsX0_in ⟨Nat.le_of_ble_eq_true rfl, Nat.le_of_ble_eq_true rfl⟩ (Nat.le_of_ble_eq_true rfl) dX0_keyOf_10 rfl ?_
    refine v_if_ne (tgt := 30) dX0_keyOf_13 (by decide) (fun c => ?_) (fun c => ?_)
    · rw [if_neg c] at h
      exact v_weak (wss (wss (wss (wsn wse)))) (lX0_keyOf_30 h)
    · rw [if_pos c] at h
      refine v_il2 dX0_keyOf_16 ?_
      refine v_bipush dX0_keyOf_17 rfl ?_
      refine v_isub dX0_keyOf_19 ?_
      refine v_bipush dX0_keyOf_20 rfl ?_
      obtain ⟨x5, s6, h1, h⟩ := cl_some h
      refine v_callS1 (As := [vi (v2 - (iI 10)), vi (iI 8)]) (tX0_in h1) (lw_S q582 q583 q158 q584) dsX0_in ⟨Nat.le_of_ble_eq_true rfl, Nat.le_of_ble_eq_true rfl⟩ (Nat.le_of_ble_eq_true rfl) dX0_keyOf_22 rfl ?_
      refine v_if_ne (tgt := 30) dX0_keyOf_25 (by decide) (fun c => ?_) (fun c => ?_)
      · rw [if_neg c] at h
        exact v_weak (wss (wss (wss (wsn wse)))) (lX0_keyOf_30 h)
      · rw [if_pos c] at h
        refine v_iconst dX0_keyOf_28 ?_
        exact v_retI h dX0_keyOf_29 rfl
theorem tX0_keyOf {E : EE} {l : Launch} {v0 : Option Nat} {v1 : Int32} {v2 : Int32} {σ : Mem} {z : Int32 × Mem} (h : sX0_keyOf v0 v1 v2 σ = some z) : Mt E l mX0_keyOf [vr v0, vi v1, vi v2] σ (some (vi z.1), z.2) :=
  Mt.ofVL (by decide) (Nat.le_of_ble_eq_true rfl) (fun G hG => lX0_keyOf h)
abbrev mX0_about : MM := (yX0_about, cX0_about, 5, (Option.some Jvm.ClassFile.FieldType.int), 2, 41)
theorem dsX0_about : DsOk yX0_about 3 := ⟨by decide, by decide, by decide +kernel⟩
theorem lX0_about {E : EE} {G : GG} {v0 : Option Nat} {v1 : Int32} {v2 : Int32} {v3 : Int32} {σ : Mem} {z : Int32 × Mem} (h : sX0_about v0 v1 v2 v3 σ = some z) : V E mX0_about G 0 [some (vr v0), some (vi v1), some (vi v2), some (vi v3), none] [] σ (some (vi z.1), z.2) := by
  unfold sX0_about at h
  refine v_il1 dX0_about_0 ?_
  obtain ⟨x1, s2, h1, h⟩ := cl_some h
  refine v_callS1 (As := [vi v1]) (tX0_isNode h1) (lw_S q579 q580 q158 q581) dsX0_isNode ⟨Nat.le_of_ble_eq_true rfl, Nat.le_of_ble_eq_true rfl⟩ (Nat.le_of_ble_eq_true rfl) dX0_about_1 rfl ?_
  refine v_if_eq (tgt := 22) dX0_about_4 (by decide) (fun c => ?_) (fun c => ?_)
  · rw [if_pos c] at h
    refine v_iconst dX0_about_22 ?_
    exact v_retI h dX0_about_23 rfl
  · rw [if_neg c] at h
    refine v_il2 dX0_about_7 ?_
    obtain ⟨x3, s4, h1, h⟩ := cl_some h
    refine v_callS1 (As := [vi v2]) (tX0_isNode h1) (lw_S q579 q580 q158 q581) dsX0_isNode ⟨Nat.le_of_ble_eq_true rfl, Nat.le_of_ble_eq_true rfl⟩ (Nat.le_of_ble_eq_true rfl) dX0_about_8 rfl ?_
    refine v_if_eq (tgt := 22) dX0_about_11 (by decide) (fun c => ?_) (fun c => ?_)
    · rw [if_pos c] at h
      refine v_iconst dX0_about_22 ?_
      exact v_retI h dX0_about_23 rfl
    · rw [if_neg c] at h
      refine v_il3 dX0_about_14 ?_
      refine v_iconst dX0_about_15 ?_
      obtain ⟨x5, s6, h1, h⟩ := cl_some h
      refine v_callS1 (As := [vi v3, vi (iI 3)]) (tX0_in h1) (lw_S q582 q583 q158 q584) dsX0_in ⟨Nat.le_of_ble_eq_true rfl, Nat.le_of_ble_eq_true rfl⟩ (Nat.le_of_ble_eq_true rfl) dX0_about_16 rfl ?_
      refine v_if_ne (tgt := 24) dX0_about_19 (by decide) (fun c => ?_) (fun c => ?_)
      · rw [if_neg c] at h
        refine v_al0 dX0_about_24 ?_
        refine v_gR cok0 h dX0_about_25 (by decide) q538 rfl (fun x7 h => ?_)
        refine v_il1 dX0_about_28 ?_
        obtain ⟨b29, er, ka, h⟩ := cV_some h
        obtain ⟨x8, s9, h1, h⟩ := cl_some h
        refine v_callV1 cok2 (As := [vi v1]) er ka (tX3_isLeader h1) (lw_V q635 q636 q637 q161 q638) rfl dsX3_isLeader ⟨Nat.le_of_ble_eq_true rfl, Nat.le_of_ble_eq_true rfl⟩ (Nat.le_of_ble_eq_true rfl) dX0_about_29 rfl ?_
        refine v_if_ne (tgt := 38) dX0_about_32 (by decide) (fun c => ?_) (fun c => ?_)
        · rw [if_neg c] at h
          refine v_al0 dX0_about_38 ?_
          refine v_gR cok0 h dX0_about_39 (by decide) q538 rfl (fun x10 h => ?_)
          refine v_gRN cok2 h dX0_about_42 (by decide) q360 rfl (fun x11 h => ?_)
          refine v_il1 dX0_about_45 ?_
          refine v_aR h (by decide) dX0_about_46 (fun x12 h => ?_)
          refine v_astore (L' := [some (vr v0), some (vi v1), some (vi v2), some (vi v3), some (vr x12)]) dX0_about_47 (Nat.le_of_ble_eq_true rfl) (Nat.le_of_ble_eq_true rfl) rfl ?_
          refine v_il3 dX0_about_49 ?_
          refine v_if_ne (tgt := 63) dX0_about_50 (by decide) (fun c => ?_) (fun c => ?_)
          · rw [if_neg c] at h
            refine v_il3 dX0_about_63 ?_
            refine v_iconst dX0_about_64 ?_
            refine v_icmp_ne (tgt := 78) dX0_about_65 (by decide) (fun c => ?_) (fun c => ?_)
            · rw [if_neg c] at h
              refine v_aload dX0_about_78 rfl ?_
              refine v_gRN cok3 h dX0_about_80 (by decide) q267 rfl (fun x13 h => ?_)
              refine v_il2 dX0_about_83 ?_
              refine v_aI h dX0_about_84 (fun x14 h => ?_)
              exact v_retI h dX0_about_85 rfl
            · rw [if_pos c] at h
              refine v_aload dX0_about_68 rfl ?_
              refine v_gRN cok3 h dX0_about_70 (by decide) q264 rfl (fun x15 h => ?_)
              refine v_il2 dX0_about_73 ?_
              refine v_aI h dX0_about_74 (fun x16 h => ?_)
              refine v_goto (tgt := 85) dX0_about_75 (by decide) ?_
              exact v_retI h dX0_about_85 rfl
          · rw [if_pos c] at h
            refine v_aload dX0_about_53 rfl ?_
            refine v_gRN cok3 h dX0_about_55 (by decide) q261 rfl (fun x17 h => ?_)
            refine v_il2 dX0_about_58 ?_
            refine v_aI h dX0_about_59 (fun x18 h => ?_)
            refine v_goto (tgt := 85) dX0_about_60 (by decide) ?_
            exact v_retI h dX0_about_85 rfl
        · rw [if_pos c] at h
          refine v_bipush dX0_about_35 rfl ?_
          exact v_retI h dX0_about_37 rfl
      · rw [if_pos c] at h
        refine v_iconst dX0_about_22 ?_
        exact v_retI h dX0_about_23 rfl
theorem tX0_about {E : EE} {l : Launch} {v0 : Option Nat} {v1 : Int32} {v2 : Int32} {v3 : Int32} {σ : Mem} {z : Int32 × Mem} (h : sX0_about v0 v1 v2 v3 σ = some z) : Mt E l mX0_about [vr v0, vi v1, vi v2, vi v3] σ (some (vi z.1), z.2) :=
  Mt.ofVL (by decide) (Nat.le_of_ble_eq_true rfl) (fun G hG => lX0_about h)
abbrev mX0_message : MM := (yX0_message, cX0_message, 3, (Option.some Jvm.ClassFile.FieldType.int), 1, 21)
theorem dsX0_message : DsOk yX0_message 2 := ⟨by decide, by decide, by decide +kernel⟩
theorem lX0_message {E : EE} {G : GG} {v0 : Option Nat} {v1 : Int32} {v2 : Int32} {σ : Mem} {z : Int32 × Mem} (h : sX0_message v0 v1 v2 σ = some z) : V E mX0_message G 0 [some (vr v0), some (vi v1), some (vi v2)] [] σ (some (vi z.1), z.2) := by
  unfold sX0_message at h
  refine v_il1 dX0_message_0 ?_
  refine v_if_lt (tgt := 13) dX0_message_1 (by decide) (fun c => ?_) (fun c => ?_)
  · rw [if_pos c] at h
    refine v_iconst dX0_message_13 ?_
    exact v_retI h dX0_message_14 rfl
  · rw [if_neg c] at h
    refine v_il2 dX0_message_4 ?_
    refine v_bipush dX0_message_5 rfl ?_
    obtain ⟨x1, s2, h1, h⟩ := cl_some h
    refine v_callS1 (As := [vi v2, vi (iI 6)]) (tX0_in h1) (lw_S q582 q583 q158 q584) dsX0_in ⟨Nat.le_of_ble_eq_true rfl, Nat.le_of_ble_eq_true rfl⟩ (Nat.le_of_ble_eq_true rfl) dX0_message_7 rfl ?_
    refine v_if_ne (tgt := 15) dX0_message_10 (by decide) (fun c => ?_) (fun c => ?_)
    · rw [if_neg c] at h
      refine v_il1 dX0_message_15 ?_
      refine v_al0 dX0_message_16 ?_
      refine v_gR cok0 h dX0_message_17 (by decide) q538 rfl (fun x3 h => ?_)
      refine v_gIN cok2 h dX0_message_20 (by decide) q372 rfl (fun x4 h => ?_)
      refine v_icmp_lt (tgt := 29) dX0_message_23 (by decide) (fun c => ?_) (fun c => ?_)
      · rw [if_pos c] at h
        refine v_al0 dX0_message_29 ?_
        refine v_gR cok0 h dX0_message_30 (by decide) q538 rfl (fun x5 h => ?_)
        refine v_gRN cok2 h dX0_message_33 (by decide) q362 rfl (fun x6 h => ?_)
        refine v_il1 dX0_message_36 ?_
        refine v_aR h (by decide) dX0_message_37 (fun x7 h => ?_)
        refine v_il2 dX0_message_38 ?_
        refine v_iconst dX0_message_39 ?_
        refine v_icmp_ge (tgt := 47) dX0_message_40 (by decide) (fun c => ?_) (fun c => ?_)
        · rw [if_pos c] at h
          refine v_bipush dX0_message_47 rfl ?_
          refine v_aI h dX0_message_49 (fun x8 h => ?_)
          exact v_retI h dX0_message_50 rfl
        · rw [if_neg c] at h
          refine v_il2 dX0_message_43 ?_
          refine v_goto (tgt := 49) dX0_message_44 (by decide) ?_
          refine v_aI h dX0_message_49 (fun x9 h => ?_)
          exact v_retI h dX0_message_50 rfl
      · rw [if_neg c] at h
        refine v_bipush dX0_message_26 rfl ?_
        exact v_retI h dX0_message_28 rfl
    · rw [if_pos c] at h
      refine v_iconst dX0_message_13 ?_
      exact v_retI h dX0_message_14 rfl
theorem tX0_message {E : EE} {l : Launch} {v0 : Option Nat} {v1 : Int32} {v2 : Int32} {σ : Mem} {z : Int32 × Mem} (h : sX0_message v0 v1 v2 σ = some z) : Mt E l mX0_message [vr v0, vi v1, vi v2] σ (some (vi z.1), z.2) :=
  Mt.ofVL (by decide) (Nat.le_of_ble_eq_true rfl) (fun G hG => lX0_message h)
abbrev mX0_leaderNow : MM := (yX0_leaderNow, cX0_leaderNow, 1, (Option.some Jvm.ClassFile.FieldType.int), 1, 22)
theorem dsX0_leaderNow : DsOk yX0_leaderNow 0 := ⟨by decide, by decide, by decide +kernel⟩
theorem lX0_leaderNow {E : EE} {G : GG} {v0 : Option Nat} {σ : Mem} {z : Int32 × Mem} (h : sX0_leaderNow v0 σ = some z) : V E mX0_leaderNow G 0 [some (vr v0)] [] σ (some (vi z.1), z.2) := by
  unfold sX0_leaderNow at h
  refine v_al0 dX0_leaderNow_0 ?_
  refine v_gR cok0 h dX0_leaderNow_1 (by decide) q538 rfl (fun x1 h => ?_)
  obtain ⟨b4, er, ka, h⟩ := cV_some h
  obtain ⟨x2, s3, h1, h⟩ := cl_some h
  refine v_callV1 cok2 (As := []) er ka (tX3_leads_2 h1) (lw_V q1237 q1238 q1239 q161 q1240) rfl dsX3_leads_2 ⟨Nat.le_of_ble_eq_true rfl, Nat.le_of_ble_eq_true rfl⟩ (Nat.le_of_ble_eq_true rfl) dX0_leaderNow_4 rfl ?_
  exact v_retI h dX0_leaderNow_7 rfl
theorem tX0_leaderNow {E : EE} {l : Launch} {v0 : Option Nat} {σ : Mem} {z : Int32 × Mem} (h : sX0_leaderNow v0 σ = some z) : Mt E l mX0_leaderNow [vr v0] σ (some (vi z.1), z.2) :=
  Mt.ofVL (by decide) (Nat.le_of_ble_eq_true rfl) (fun G hG => lX0_leaderNow h)
abbrev mX0_heldAt : MM := (yX0_heldAt, cX0_heldAt, 3, (Option.some Jvm.ClassFile.FieldType.int), 1, 22)
theorem dsX0_heldAt : DsOk yX0_heldAt 2 := ⟨by decide, by decide, by decide +kernel⟩
theorem lX0_heldAt {E : EE} {G : GG} {v0 : Option Nat} {v1 : Int32} {v2 : Int32} {σ : Mem} {z : Int32 × Mem} (h : sX0_heldAt v0 v1 v2 σ = some z) : V E mX0_heldAt G 0 [some (vr v0), some (vi v1), some (vi v2)] [] σ (some (vi z.1), z.2) := by
  unfold sX0_heldAt at h
  refine v_il1 dX0_heldAt_0 ?_
  refine v_iconst dX0_heldAt_1 ?_
  refine v_sipush dX0_heldAt_2 rfl ?_
  obtain ⟨x1, s2, h1, h⟩ := cl_some h
  refine v_callS1 (As := [vi v1, vi (iI 1), vi (iI 9999)]) (tX0_within h1) (lw_S q572 q573 q158 q574) dsX0_within ⟨Nat.le_of_ble_eq_true rfl, Nat.le_of_ble_eq_true rfl⟩ (Nat.le_of_ble_eq_true rfl) dX0_heldAt_5 rfl ?_
  refine v_if_eq (tgt := 19) dX0_heldAt_8 (by decide) (fun c => ?_) (fun c => ?_)
  · rw [if_pos c] at h
    refine v_iconst dX0_heldAt_19 ?_
    exact v_retI h dX0_heldAt_20 rfl
  · rw [if_neg c] at h
    refine v_il2 dX0_heldAt_11 ?_
    refine v_iconst dX0_heldAt_12 ?_
    obtain ⟨x3, s4, h1, h⟩ := cl_some h
    refine v_callS1 (As := [vi v2, vi (iI 4)]) (tX0_in h1) (lw_S q582 q583 q158 q584) dsX0_in ⟨Nat.le_of_ble_eq_true rfl, Nat.le_of_ble_eq_true rfl⟩ (Nat.le_of_ble_eq_true rfl) dX0_heldAt_13 rfl ?_
    refine v_if_ne (tgt := 21) dX0_heldAt_16 (by decide) (fun c => ?_) (fun c => ?_)
    · rw [if_neg c] at h
      refine v_il1 dX0_heldAt_21 ?_
      refine v_al0 dX0_heldAt_22 ?_
      refine v_gR cok0 h dX0_heldAt_23 (by decide) q538 rfl (fun x5 h => ?_)
      refine v_gIN cok2 h dX0_heldAt_26 (by decide) q382 rfl (fun x6 h => ?_)
      refine v_icmp_le (tgt := 37) dX0_heldAt_29 (by decide) (fun c => ?_) (fun c => ?_)
      · rw [if_pos c] at h
        refine v_al0 dX0_heldAt_37 ?_
        refine v_gR cok0 h dX0_heldAt_38 (by decide) q538 rfl (fun x7 h => ?_)
        refine v_gRN cok2 h dX0_heldAt_41 (by decide) q364 rfl (fun x8 h => ?_)
        refine v_il1 dX0_heldAt_44 ?_
        refine v_aR h (by decide) dX0_heldAt_45 (fun x9 h => ?_)
        refine v_il2 dX0_heldAt_46 ?_
        refine v_aI h dX0_heldAt_47 (fun x10 h => ?_)
        exact v_retI h dX0_heldAt_48 rfl
      · rw [if_neg c] at h
        refine v_bipush dX0_heldAt_32 rfl ?_
        refine v_goto (tgt := 48) dX0_heldAt_34 (by decide) ?_
        exact v_retI h dX0_heldAt_48 rfl
    · rw [if_pos c] at h
      refine v_iconst dX0_heldAt_19 ?_
      exact v_retI h dX0_heldAt_20 rfl
theorem tX0_heldAt {E : EE} {l : Launch} {v0 : Option Nat} {v1 : Int32} {v2 : Int32} {σ : Mem} {z : Int32 × Mem} (h : sX0_heldAt v0 v1 v2 σ = some z) : Mt E l mX0_heldAt [vr v0, vi v1, vi v2] σ (some (vi z.1), z.2) :=
  Mt.ofVL (by decide) (Nat.le_of_ble_eq_true rfl) (fun G hG => lX0_heldAt h)
abbrev mX0_readIs : MM := (yX0_readIs, cX0_readIs, 4, (Option.some Jvm.ClassFile.FieldType.int), 1, 21)
theorem dsX0_readIs : DsOk yX0_readIs 2 := ⟨by decide, by decide, by decide +kernel⟩
theorem lX0_readIs {E : EE} {G : GG} {v0 : Option Nat} {v1 : Int32} {v2 : Int32} {σ : Mem} {z : Int32 × Mem} (h : sX0_readIs v0 v1 v2 σ = some z) : V E mX0_readIs G 0 [some (vr v0), some (vi v1), some (vi v2), none] [] σ (some (vi z.1), z.2) := by
  unfold sX0_readIs at h
  refine v_il1 dX0_readIs_0 ?_
  refine v_al0 dX0_readIs_1 ?_
  refine v_gR cok0 h dX0_readIs_2 (by decide) q538 rfl (fun x1 h => ?_)
  refine v_gIN cok2 h dX0_readIs_5 (by decide) q386 rfl (fun x2 h => ?_)
  obtain ⟨x3, s4, h1, h⟩ := cl_some h
  refine v_callS1 (As := [vi v1, vi x2]) (tX0_in h1) (lw_S q582 q583 q158 q584) dsX0_in ⟨Nat.le_of_ble_eq_true rfl, Nat.le_of_ble_eq_true rfl⟩ (Nat.le_of_ble_eq_true rfl) dX0_readIs_8 rfl ?_
  refine v_if_ne (tgt := 16) dX0_readIs_11 (by decide) (fun c => ?_) (fun c => ?_)
  · rw [if_neg c] at h
    refine v_al0 dX0_readIs_16 ?_
    refine v_gR cok0 h dX0_readIs_17 (by decide) q538 rfl (fun x5 h => ?_)
    refine v_gRN cok2 h dX0_readIs_20 (by decide) q366 rfl (fun x6 h => ?_)
    refine v_il1 dX0_readIs_23 ?_
    refine v_aR h (by decide) dX0_readIs_24 (fun x7 h => ?_)
    refine v_astore_n (L' := [some (vr v0), some (vi v1), some (vi v2), some (vr x7)]) dX0_readIs_25 (Nat.le_of_ble_eq_true rfl) (Nat.le_of_ble_eq_true rfl) rfl ?_
    refine v_il2 dX0_readIs_26 ?_
    by_cases c0 : v2 = iI 0
    · rw [if_pos c0] at h
      refine v_tabIn (tgt := 56) dX0_readIs_27 (by rw [c0]; decide) (by rw [c0]; decide) (by rw [c0]; rfl) (by decide) ?_
      refine v_al3 dX0_readIs_56 ?_
      refine v_iconst dX0_readIs_57 ?_
      refine v_aI h dX0_readIs_58 (fun x8 h => ?_)
      exact v_retI h dX0_readIs_59 rfl
    · rw [if_neg c0] at h
      by_cases c1 : v2 = iI 1
      · rw [if_pos c1] at h
        refine v_tabIn (tgt := 60) dX0_readIs_27 (by rw [c1]; decide) (by rw [c1]; decide) (by rw [c1]; rfl) (by decide) ?_
        refine v_al3 dX0_readIs_60 ?_
        refine v_iconst dX0_readIs_61 ?_
        refine v_aI h dX0_readIs_62 (fun x9 h => ?_)
        exact v_retI h dX0_readIs_63 rfl
      · rw [if_neg c1] at h
        by_cases c2 : v2 = iI 2
        · rw [if_pos c2] at h
          refine v_tabIn (tgt := 64) dX0_readIs_27 (by rw [c2]; decide) (by rw [c2]; decide) (by rw [c2]; rfl) (by decide) ?_
          refine v_al3 dX0_readIs_64 ?_
          refine v_iconst dX0_readIs_65 ?_
          refine v_aI h dX0_readIs_66 (fun x10 h => ?_)
          exact v_retI h dX0_readIs_67 rfl
        · rw [if_neg c2] at h
          by_cases c3 : v2 = iI 3
          · rw [if_pos c3] at h
            refine v_tabIn (tgt := 68) dX0_readIs_27 (by rw [c3]; decide) (by rw [c3]; decide) (by rw [c3]; rfl) (by decide) ?_
            refine v_al3 dX0_readIs_68 ?_
            refine v_iconst dX0_readIs_69 ?_
            refine v_aI h dX0_readIs_70 (fun x11 h => ?_)
            exact v_retI h dX0_readIs_71 rfl
          · rw [if_neg c3] at h
            refine v_tabOut (tgt := 72) dX0_readIs_27 (tab_out (fun j h1 h2 => ?_) (by decide) (by decide)) (by decide) ?_
            · rcases (show j = 0 ∨ j = 1 ∨ j = 2 ∨ j = 3 by omega) with rfl | rfl | rfl | rfl
              · exact c0
              · exact c1
              · exact c2
              · exact c3
            refine v_iconst dX0_readIs_72 ?_
            exact v_retI h dX0_readIs_73 rfl
  · rw [if_pos c] at h
    refine v_iconst dX0_readIs_14 ?_
    exact v_retI h dX0_readIs_15 rfl
theorem tX0_readIs {E : EE} {l : Launch} {v0 : Option Nat} {v1 : Int32} {v2 : Int32} {σ : Mem} {z : Int32 × Mem} (h : sX0_readIs v0 v1 v2 σ = some z) : Mt E l mX0_readIs [vr v0, vi v1, vi v2] σ (some (vi z.1), z.2) :=
  Mt.ofVL (by decide) (Nat.le_of_ble_eq_true rfl) (fun G hG => lX0_readIs h)
abbrev mX0_areMatched : MM := (yX0_areMatched, cX0_areMatched, 4, (Option.some Jvm.ClassFile.FieldType.boolean), 2, 43)
theorem dsX0_areMatched : DsOk yX0_areMatched 2 := ⟨by decide, by decide, by decide +kernel⟩
theorem lX0_areMatched_69 {E : EE} {G : GG} {k16 : Option Nat → Option Nat → Int32 → Int32 → Mem → Option (Int32 × Mem)} (hk16 : ∀ (v0 : Option Nat) (v1 : Option Nat) (v2 : Int32) (v3 : Int32) (s : Mem) (z : Int32 × Mem), k16 v0 v1 v2 v3 s = some z → V E mX0_areMatched G 16 [some (vr v0), some (vr v1), some (vi v2), some (vi v3)] [] s (some (vi z.1), z.2)) {v0 : Option Nat} {v1 : Option Nat} {v2 : Int32} {v3 : Int32} {σ : Mem} {z : Int32 × Mem} (h : sX0_areMatched_69 k16 v0 v1 v2 v3 σ = some z) : V E mX0_areMatched G 69 [some (vr v0), some (vr v1), some (vi v2), some (vi v3)] [] σ (some (vi z.1), z.2) := by
  unfold sX0_areMatched_69 at h
  refine v_iinc (L' := [some (vr v0), some (vr v1), some (vi v2), some (vi (v3 + iI 1))]) dX0_areMatched_69 (Nat.le_of_ble_eq_true rfl) rfl rfl ?_
  refine v_goto (tgt := 16) dX0_areMatched_72 (by decide) ?_
  exact v_weak (wss (wss (wss (wss wse)))) (hk16 _ _ _ _ _ _ h)
theorem lX0_areMatched_49 {E : EE} {G : GG} {k16 : Option Nat → Option Nat → Int32 → Int32 → Mem → Option (Int32 × Mem)} (hk16 : ∀ (v0 : Option Nat) (v1 : Option Nat) (v2 : Int32) (v3 : Int32) (s : Mem) (z : Int32 × Mem), k16 v0 v1 v2 v3 s = some z → V E mX0_areMatched G 16 [some (vr v0), some (vr v1), some (vi v2), some (vi v3)] [] s (some (vi z.1), z.2)) {v0 : Option Nat} {v1 : Option Nat} {v3 : Int32} {t0 : Int32} {σ : Mem} {z : Int32 × Mem} (h : sX0_areMatched_49 k16 v0 v1 v3 t0 σ = some z) : V E mX0_areMatched G 49 [some (vr v0), some (vr v1), none, some (vi v3)] [vi t0] σ (some (vi z.1), z.2) := by
  unfold sX0_areMatched_49 at h
  refine v_istore_n (L' := [some (vr v0), some (vr v1), some (vi t0), some (vi v3)]) dX0_areMatched_49 (Nat.le_of_ble_eq_true rfl) (Nat.le_of_ble_eq_true rfl) rfl ?_
  refine v_al0 dX0_areMatched_50 ?_
  refine v_il3 dX0_areMatched_51 ?_
  obtain ⟨b52, er, ka, h⟩ := cV_some h
  obtain ⟨x1, s2, h1, h⟩ := cl_some h
  refine v_callV1 cok3 (As := [vi v3]) er ka (tX4_termAt h1) (lw_V q757 q624 q625 q162 q626) rfl dsX4_termAt ⟨Nat.le_of_ble_eq_true rfl, Nat.le_of_ble_eq_true rfl⟩ (Nat.le_of_ble_eq_true rfl) dX0_areMatched_52 rfl ?_
  refine v_al1 dX0_areMatched_55 ?_
  refine v_il3 dX0_areMatched_56 ?_
  obtain ⟨b57, er, ka, h⟩ := cV_some h
  obtain ⟨x3, s4, h1, h⟩ := cl_some h
  refine v_callV1 cok3 (As := [vi v3]) er ka (tX4_termAt h1) (lw_V q757 q624 q625 q162 q626) rfl dsX4_termAt ⟨Nat.le_of_ble_eq_true rfl, Nat.le_of_ble_eq_true rfl⟩ (Nat.le_of_ble_eq_true rfl) dX0_areMatched_57 rfl ?_
  refine v_icmp_ne (tgt := 69) dX0_areMatched_60 (by decide) (fun c => ?_) (fun c => ?_)
  · rw [if_neg c] at h
    exact v_weak (wss (wss (wss (wss wse)))) (lX0_areMatched_69 hk16 h)
  · rw [if_pos c] at h
    refine v_il2 dX0_areMatched_63 ?_
    refine v_if_ne (tgt := 69) dX0_areMatched_64 (by decide) (fun c => ?_) (fun c => ?_)
    · rw [if_neg c] at h
      exact v_weak (wss (wss (wss (wss wse)))) (lX0_areMatched_69 hk16 h)
    · rw [if_pos c] at h
      refine v_iconst dX0_areMatched_67 ?_
      exact v_retZ h dX0_areMatched_68 rfl
theorem lX0_areMatched_48 {E : EE} {G : GG} {k16 : Option Nat → Option Nat → Int32 → Int32 → Mem → Option (Int32 × Mem)} (hk16 : ∀ (v0 : Option Nat) (v1 : Option Nat) (v2 : Int32) (v3 : Int32) (s : Mem) (z : Int32 × Mem), k16 v0 v1 v2 v3 s = some z → V E mX0_areMatched G 16 [some (vr v0), some (vr v1), some (vi v2), some (vi v3)] [] s (some (vi z.1), z.2)) {v0 : Option Nat} {v1 : Option Nat} {v3 : Int32} {σ : Mem} {z : Int32 × Mem} (h : sX0_areMatched_48 k16 v0 v1 v3 σ = some z) : V E mX0_areMatched G 48 [some (vr v0), some (vr v1), none, some (vi v3)] [] σ (some (vi z.1), z.2) := by
  unfold sX0_areMatched_48 at h
  refine v_iconst dX0_areMatched_48 ?_
  exact v_weak (wss (wss (wsn (wss wse)))) (lX0_areMatched_49 hk16 h)
theorem lX0_areMatched_16b {E : EE} {G : GG} {k16 : Option Nat → Option Nat → Int32 → Int32 → Mem → Option (Int32 × Mem)} (hk16 : ∀ (v0 : Option Nat) (v1 : Option Nat) (v2 : Int32) (v3 : Int32) (s : Mem) (z : Int32 × Mem), k16 v0 v1 v2 v3 s = some z → V E mX0_areMatched G 16 [some (vr v0), some (vr v1), some (vi v2), some (vi v3)] [] s (some (vi z.1), z.2)) {v0 : Option Nat} {v1 : Option Nat} {v2 : Int32} {v3 : Int32} {σ : Mem} {z : Int32 × Mem} (h : sX0_areMatched_16b k16 v0 v1 v2 v3 σ = some z) : V E mX0_areMatched G 16 [some (vr v0), some (vr v1), some (vi v2), some (vi v3)] [] σ (some (vi z.1), z.2) := by
  unfold sX0_areMatched_16b at h
  refine v_il3 dX0_areMatched_16 ?_
  refine v_al0 dX0_areMatched_17 ?_
  obtain ⟨b18, er, ka, h⟩ := cV_some h
  obtain ⟨x1, s2, h1, h⟩ := cl_some h
  refine v_callV1 cok3 (As := []) er ka (tX4_last h1) (lw_V q1251 q644 q645 q162 q646) rfl dsX4_last ⟨Nat.le_of_ble_eq_true rfl, Nat.le_of_ble_eq_true rfl⟩ (Nat.le_of_ble_eq_true rfl) dX0_areMatched_18 rfl ?_
  refine v_al1 dX0_areMatched_21 ?_
  obtain ⟨b22, er, ka, h⟩ := cV_some h
  obtain ⟨x3, s4, h1, h⟩ := cl_some h
  refine v_callV1 cok3 (As := []) er ka (tX4_last h1) (lw_V q1251 q644 q645 q162 q646) rfl dsX4_last ⟨Nat.le_of_ble_eq_true rfl, Nat.le_of_ble_eq_true rfl⟩ (Nat.le_of_ble_eq_true rfl) dX0_areMatched_22 rfl ?_
  refine v_mmin dX0_areMatched_25 q696 q531 q166 q532 (by decide) (by decide) (Nat.le_of_ble_eq_true rfl) ?_
  refine v_icmp_gt (tgt := 75) dX0_areMatched_28 (by decide) (fun c => ?_) (fun c => ?_)
  · rw [if_pos c] at h
    refine v_iconst dX0_areMatched_75 ?_
    exact v_retZ h dX0_areMatched_76 rfl
  · rw [if_neg c] at h
    refine v_il2 dX0_areMatched_31 ?_
    refine v_if_eq (tgt := 48) dX0_areMatched_32 (by decide) (fun c => ?_) (fun c => ?_)
    · rw [if_pos c] at h
      exact v_weak (wss (wss (wsn (wss wse)))) (lX0_areMatched_48 hk16 h)
    · rw [if_neg c] at h
      refine v_al0 dX0_areMatched_35 ?_
      refine v_al1 dX0_areMatched_36 ?_
      refine v_il3 dX0_areMatched_37 ?_
      obtain ⟨b38, er, ka, h⟩ := cV_some h
      obtain ⟨x5, s6, h1, h⟩ := cl_some h
      refine v_callV1 cok3 (As := [vr v1, vi v3]) er ka (tX4_isAlike h1) (lw_V q1291 q1292 q1293 q162 q1294) rfl dsX4_isAlike ⟨Nat.le_of_ble_eq_true rfl, Nat.le_of_ble_eq_true rfl⟩ (Nat.le_of_ble_eq_true rfl) dX0_areMatched_38 rfl ?_
      refine v_if_eq (tgt := 48) dX0_areMatched_41 (by decide) (fun c => ?_) (fun c => ?_)
      · rw [if_pos c] at h
        exact v_weak (wss (wss (wsn (wss wse)))) (lX0_areMatched_48 hk16 h)
      · rw [if_neg c] at h
        refine v_iconst dX0_areMatched_44 ?_
        refine v_goto (tgt := 49) dX0_areMatched_45 (by decide) ?_
        exact v_weak (wss (wss (wsn (wss wse)))) (lX0_areMatched_49 hk16 h)
theorem lX0_areMatched_16 {E : EE} {G : GG} : ∀ (f : Nat) {v0 : Option Nat} {v1 : Option Nat} {v2 : Int32} {v3 : Int32} {σ : Mem} {z : Int32 × Mem}, sX0_areMatched_16 f v0 v1 v2 v3 σ = some z → V E mX0_areMatched G 16 [some (vr v0), some (vr v1), some (vi v2), some (vi v3)] [] σ (some (vi z.1), z.2)
  | 0, _, _, _, _, _, _, h => by cases h
  | f + 1, _, _, _, _, _, _, h => lX0_areMatched_16b (fun _ _ _ _ _ _ h => lX0_areMatched_16 f h) h
theorem lX0_areMatched {E : EE} {G : GG} {v0 : Option Nat} {v1 : Option Nat} {σ : Mem} {z : Int32 × Mem} (h : sX0_areMatched v0 v1 σ = some z) : V E mX0_areMatched G 0 [some (vr v0), some (vr v1), none, none] [] σ (some (vi z.1), z.2) := by
  unfold sX0_areMatched at h
  refine v_iconst dX0_areMatched_0 ?_
  refine v_istore_n (L' := [some (vr v0), some (vr v1), some (vi (iI 1)), none]) dX0_areMatched_1 (Nat.le_of_ble_eq_true rfl) (Nat.le_of_ble_eq_true rfl) rfl ?_
  refine v_al0 dX0_areMatched_2 ?_
  refine v_gIN cok3 h dX0_areMatched_3 (by decide) q276 rfl (fun x1 h => ?_)
  refine v_al1 dX0_areMatched_6 ?_
  refine v_gIN cok3 h dX0_areMatched_7 (by decide) q276 rfl (fun x2 h => ?_)
  refine v_mmax dX0_areMatched_10 q697 q534 q166 q535 (by decide) (by decide) (Nat.le_of_ble_eq_true rfl) ?_
  refine v_iconst dX0_areMatched_13 ?_
  refine v_iadd dX0_areMatched_14 ?_
  refine v_istore_n (L' := [some (vr v0), some (vr v1), some (vi (iI 1)), some (vi ((mxi x1 x2) + (iI 1)))]) dX0_areMatched_15 (Nat.le_of_ble_eq_true rfl) (Nat.le_of_ble_eq_true rfl) rfl ?_
  exact v_weak (wss (wss (wss (wss wse)))) (lX0_areMatched_16 FU h)
theorem tX0_areMatched {E : EE} {l : Launch} {v0 : Option Nat} {v1 : Option Nat} {σ : Mem} {z : Int32 × Mem} (h : sX0_areMatched v0 v1 σ = some z) : Mt E l mX0_areMatched [vr v0, vr v1] σ (some (vi z.1), z.2) :=
  Mt.ofVL (by decide) (Nat.le_of_ble_eq_true rfl) (fun G hG => lX0_areMatched h)
abbrev mX0_areAlike : MM := (yX0_areAlike, cX0_areAlike, 3, (Option.some Jvm.ClassFile.FieldType.boolean), 0, 0)
theorem dsX0_areAlike : DsOk yX0_areAlike 2 := ⟨by decide, by decide, by decide +kernel⟩
theorem lX0_areAlike_29b {E : EE} {G : GG} {k29 : Option Nat → Option Nat → Int32 → Mem → Option (Int32 × Mem)} (hk29 : ∀ (v0 : Option Nat) (v1 : Option Nat) (v2 : Int32) (s : Mem) (z : Int32 × Mem), k29 v0 v1 v2 s = some z → V E mX0_areAlike G 29 [some (vr v0), some (vr v1), some (vi v2)] [] s (some (vi z.1), z.2)) {v0 : Option Nat} {v1 : Option Nat} {v2 : Int32} {σ : Mem} {z : Int32 × Mem} (h : sX0_areAlike_29b k29 v0 v1 v2 σ = some z) : V E mX0_areAlike G 29 [some (vr v0), some (vr v1), some (vi v2)] [] σ (some (vi z.1), z.2) := by
  unfold sX0_areAlike_29b at h
  refine v_il2 dX0_areAlike_29 ?_
  refine v_bipush dX0_areAlike_30 rfl ?_
  refine v_icmp_ge (tgt := 58) dX0_areAlike_32 (by decide) (fun c => ?_) (fun c => ?_)
  · rw [if_pos c] at h
    refine v_iconst dX0_areAlike_58 ?_
    exact v_retZ h dX0_areAlike_59 rfl
  · rw [if_neg c] at h
    refine v_al0 dX0_areAlike_35 ?_
    refine v_gRN cok3 h dX0_areAlike_36 (by decide) q255 rfl (fun x1 h => ?_)
    refine v_il2 dX0_areAlike_39 ?_
    refine v_aI h dX0_areAlike_40 (fun x2 h => ?_)
    refine v_al1 dX0_areAlike_41 ?_
    refine v_gRN cok3 h dX0_areAlike_42 (by decide) q255 rfl (fun x3 h => ?_)
    refine v_il2 dX0_areAlike_45 ?_
    refine v_aI h dX0_areAlike_46 (fun x4 h => ?_)
    refine v_icmp_eq (tgt := 52) dX0_areAlike_47 (by decide) (fun c => ?_) (fun c => ?_)
    · rw [if_pos c] at h
      refine v_iinc (L' := [some (vr v0), some (vr v1), some (vi (v2 + iI 1))]) dX0_areAlike_52 (Nat.le_of_ble_eq_true rfl) rfl rfl ?_
      refine v_goto (tgt := 29) dX0_areAlike_55 (by decide) ?_
      exact v_weak (wss (wss (wss wse))) (hk29 _ _ _ _ _ h)
    · rw [if_neg c] at h
      refine v_iconst dX0_areAlike_50 ?_
      exact v_retZ h dX0_areAlike_51 rfl
theorem lX0_areAlike_29 {E : EE} {G : GG} : ∀ (f : Nat) {v0 : Option Nat} {v1 : Option Nat} {v2 : Int32} {σ : Mem} {z : Int32 × Mem}, sX0_areAlike_29 f v0 v1 v2 σ = some z → V E mX0_areAlike G 29 [some (vr v0), some (vr v1), some (vi v2)] [] σ (some (vi z.1), z.2)
  | 0, _, _, _, _, _, h => by cases h
  | f + 1, _, _, _, _, _, h => lX0_areAlike_29b (fun _ _ _ _ _ h => lX0_areAlike_29 f h) h
theorem lX0_areAlike {E : EE} {G : GG} {v0 : Option Nat} {v1 : Option Nat} {σ : Mem} {z : Int32 × Mem} (h : sX0_areAlike v0 v1 σ = some z) : V E mX0_areAlike G 0 [some (vr v0), some (vr v1), none] [] σ (some (vi z.1), z.2) := by
  unfold sX0_areAlike at h
  refine v_al0 dX0_areAlike_0 ?_
  refine v_gIN cok3 h dX0_areAlike_1 (by decide) q307 rfl (fun x1 h => ?_)
  refine v_if_eq (tgt := 25) dX0_areAlike_4 (by decide) (fun c => ?_) (fun c => ?_)
  · rw [if_pos c] at h
    refine v_iconst dX0_areAlike_25 ?_
    exact v_retZ h dX0_areAlike_26 rfl
  · rw [if_neg c] at h
    refine v_al1 dX0_areAlike_7 ?_
    refine v_gIN cok3 h dX0_areAlike_8 (by decide) q307 rfl (fun x2 h => ?_)
    refine v_if_eq (tgt := 25) dX0_areAlike_11 (by decide) (fun c => ?_) (fun c => ?_)
    · rw [if_pos c] at h
      refine v_iconst dX0_areAlike_25 ?_
      exact v_retZ h dX0_areAlike_26 rfl
    · rw [if_neg c] at h
      refine v_al0 dX0_areAlike_14 ?_
      refine v_gIN cok3 h dX0_areAlike_15 (by decide) q290 rfl (fun x3 h => ?_)
      refine v_al1 dX0_areAlike_18 ?_
      refine v_gIN cok3 h dX0_areAlike_19 (by decide) q290 rfl (fun x4 h => ?_)
      refine v_icmp_eq (tgt := 27) dX0_areAlike_22 (by decide) (fun c => ?_) (fun c => ?_)
      · rw [if_pos c] at h
        refine v_iconst dX0_areAlike_27 ?_
        refine v_istore_n (L' := [some (vr v0), some (vr v1), some (vi (iI 0))]) dX0_areAlike_28 (Nat.le_of_ble_eq_true rfl) (Nat.le_of_ble_eq_true rfl) rfl ?_
        exact v_weak (wss (wss (wss wse))) (lX0_areAlike_29 FU h)
      · rw [if_neg c] at h
        refine v_iconst dX0_areAlike_25 ?_
        exact v_retZ h dX0_areAlike_26 rfl
theorem tX0_areAlike {E : EE} {l : Launch} {v0 : Option Nat} {v1 : Option Nat} {σ : Mem} {z : Int32 × Mem} (h : sX0_areAlike v0 v1 σ = some z) : Mt E l mX0_areAlike [vr v0, vr v1] σ (some (vi z.1), z.2) :=
  Mt.ofVL (by decide) (Nat.le_of_ble_eq_true rfl) (fun G hG => lX0_areAlike h)
abbrev mX0_broken : MM := (yX0_broken, cX0_broken, 5, (Option.some Jvm.ClassFile.FieldType.int), 3, 66)
theorem dsX0_broken : DsOk yX0_broken 1 := ⟨by decide, by decide, by decide +kernel⟩
theorem lX0_broken_105 {E : EE} {G : GG} {k26 : Option Nat → Int32 → Int32 → Int32 → Mem → Option (Int32 × Mem)} {k35 : Option Nat → Int32 → Int32 → Int32 → Int32 → Mem → Option (Int32 × Mem)} (hk26 : ∀ (v0 : Option Nat) (v1 : Int32) (v2 : Int32) (v3 : Int32) (s : Mem) (z : Int32 × Mem), k26 v0 v1 v2 v3 s = some z → V E mX0_broken G 26 [some (vr v0), some (vi v1), some (vi v2), some (vi v3), none] [] s (some (vi z.1), z.2)) (hk35 : ∀ (v0 : Option Nat) (v1 : Int32) (v2 : Int32) (v3 : Int32) (v4 : Int32) (s : Mem) (z : Int32 × Mem), k35 v0 v1 v2 v3 v4 s = some z → V E mX0_broken G 35 [some (vr v0), some (vi v1), some (vi v2), some (vi v3), some (vi v4)] [] s (some (vi z.1), z.2)) {v0 : Option Nat} {v1 : Int32} {v3 : Int32} {v4 : Int32} {t0 : Int32} {t1 : Int32} {σ : Mem} {z : Int32 × Mem} (h : sX0_broken_105 k26 k35 v0 v1 v3 v4 t0 t1 σ = some z) : V E mX0_broken G 105 [some (vr v0), some (vi v1), none, some (vi v3), some (vi v4)] [vi t1, vi t0] σ (some (vi z.1), z.2) := by
  unfold sX0_broken_105 at h
  refine v_iadd dX0_broken_105 ?_
  refine v_istore_n (L' := [some (vr v0), some (vi v1), some (vi (t0 + t1)), some (vi v3), some (vi v4)]) dX0_broken_106 (Nat.le_of_ble_eq_true rfl) (Nat.le_of_ble_eq_true rfl) rfl ?_
  refine v_iinc (L' := [some (vr v0), some (vi v1), some (vi (t0 + t1)), some (vi v3), some (vi (v4 + iI 1))]) dX0_broken_107 (Nat.le_of_ble_eq_true rfl) rfl rfl ?_
  refine v_goto (tgt := 35) dX0_broken_110 (by decide) ?_
  exact v_weak (wss (wss (wss (wss (wss wse))))) (hk35 _ _ _ _ _ _ _ h)
theorem lX0_broken_104 {E : EE} {G : GG} {k26 : Option Nat → Int32 → Int32 → Int32 → Mem → Option (Int32 × Mem)} {k35 : Option Nat → Int32 → Int32 → Int32 → Int32 → Mem → Option (Int32 × Mem)} (hk26 : ∀ (v0 : Option Nat) (v1 : Int32) (v2 : Int32) (v3 : Int32) (s : Mem) (z : Int32 × Mem), k26 v0 v1 v2 v3 s = some z → V E mX0_broken G 26 [some (vr v0), some (vi v1), some (vi v2), some (vi v3), none] [] s (some (vi z.1), z.2)) (hk35 : ∀ (v0 : Option Nat) (v1 : Int32) (v2 : Int32) (v3 : Int32) (v4 : Int32) (s : Mem) (z : Int32 × Mem), k35 v0 v1 v2 v3 v4 s = some z → V E mX0_broken G 35 [some (vr v0), some (vi v1), some (vi v2), some (vi v3), some (vi v4)] [] s (some (vi z.1), z.2)) {v0 : Option Nat} {v1 : Int32} {v3 : Int32} {v4 : Int32} {t0 : Int32} {σ : Mem} {z : Int32 × Mem} (h : sX0_broken_104 k26 k35 v0 v1 v3 v4 t0 σ = some z) : V E mX0_broken G 104 [some (vr v0), some (vi v1), none, some (vi v3), some (vi v4)] [vi t0] σ (some (vi z.1), z.2) := by
  unfold sX0_broken_104 at h
  refine v_iconst dX0_broken_104 ?_
  exact v_weak (wss (wss (wsn (wss (wss wse))))) (lX0_broken_105 hk26 hk35 h)
theorem lX0_broken_100 {E : EE} {G : GG} {k26 : Option Nat → Int32 → Int32 → Int32 → Mem → Option (Int32 × Mem)} {k35 : Option Nat → Int32 → Int32 → Int32 → Int32 → Mem → Option (Int32 × Mem)} (hk26 : ∀ (v0 : Option Nat) (v1 : Int32) (v2 : Int32) (v3 : Int32) (s : Mem) (z : Int32 × Mem), k26 v0 v1 v2 v3 s = some z → V E mX0_broken G 26 [some (vr v0), some (vi v1), some (vi v2), some (vi v3), none] [] s (some (vi z.1), z.2)) (hk35 : ∀ (v0 : Option Nat) (v1 : Int32) (v2 : Int32) (v3 : Int32) (v4 : Int32) (s : Mem) (z : Int32 × Mem), k35 v0 v1 v2 v3 v4 s = some z → V E mX0_broken G 35 [some (vr v0), some (vi v1), some (vi v2), some (vi v3), some (vi v4)] [] s (some (vi z.1), z.2)) {v0 : Option Nat} {v1 : Int32} {v3 : Int32} {v4 : Int32} {t0 : Int32} {σ : Mem} {z : Int32 × Mem} (h : sX0_broken_100 k26 k35 v0 v1 v3 v4 t0 σ = some z) : V E mX0_broken G 100 [some (vr v0), some (vi v1), none, some (vi v3), some (vi v4)] [vi t0] σ (some (vi z.1), z.2) := by
  unfold sX0_broken_100 at h
  refine v_iconst dX0_broken_100 ?_
  refine v_goto (tgt := 105) dX0_broken_101 (by decide) ?_
  exact v_weak (wss (wss (wsn (wss (wss wse))))) (lX0_broken_105 hk26 hk35 h)
theorem lX0_broken_35b {E : EE} {G : GG} {k26 : Option Nat → Int32 → Int32 → Int32 → Mem → Option (Int32 × Mem)} {k35 : Option Nat → Int32 → Int32 → Int32 → Int32 → Mem → Option (Int32 × Mem)} (hk26 : ∀ (v0 : Option Nat) (v1 : Int32) (v2 : Int32) (v3 : Int32) (s : Mem) (z : Int32 × Mem), k26 v0 v1 v2 v3 s = some z → V E mX0_broken G 26 [some (vr v0), some (vi v1), some (vi v2), some (vi v3), none] [] s (some (vi z.1), z.2)) (hk35 : ∀ (v0 : Option Nat) (v1 : Int32) (v2 : Int32) (v3 : Int32) (v4 : Int32) (s : Mem) (z : Int32 × Mem), k35 v0 v1 v2 v3 v4 s = some z → V E mX0_broken G 35 [some (vr v0), some (vi v1), some (vi v2), some (vi v3), some (vi v4)] [] s (some (vi z.1), z.2)) {v0 : Option Nat} {v1 : Int32} {v2 : Int32} {v3 : Int32} {v4 : Int32} {σ : Mem} {z : Int32 × Mem} (h : sX0_broken_35b k26 k35 v0 v1 v2 v3 v4 σ = some z) : V E mX0_broken G 35 [some (vr v0), some (vi v1), some (vi v2), some (vi v3), some (vi v4)] [] σ (some (vi z.1), z.2) := by
  unfold sX0_broken_35b at h
  refine v_iload dX0_broken_35 rfl ?_
  refine v_il3 dX0_broken_37 ?_
  refine v_icmp_ge (tgt := 113) dX0_broken_38 (by decide) (fun c => ?_) (fun c => ?_)
  · rw [if_pos c] at h
    refine v_iinc (L' := [some (vr v0), some (vi v1), some (vi v2), some (vi (v3 + iI 1)), some (vi v4)]) dX0_broken_113 (Nat.le_of_ble_eq_true rfl) rfl rfl ?_
    refine v_goto (tgt := 26) dX0_broken_116 (by decide) ?_
    exact v_weak (wss (wss (wss (wss (wsn wse))))) (hk26 _ _ _ _ _ _ h)
  · rw [if_neg c] at h
    refine v_il2 dX0_broken_41 ?_
    refine v_il1 dX0_broken_42 ?_
    refine v_iconst dX0_broken_43 ?_
    refine v_icmp_ne (tgt := 75) dX0_broken_44 (by decide) (fun c => ?_) (fun c => ?_)
    · rw [if_neg c] at h
      refine v_al0 dX0_broken_75 ?_
      refine v_gR cok0 h dX0_broken_76 (by decide) q538 rfl (fun x1 h => ?_)
      refine v_gRN cok2 h dX0_broken_79 (by decide) q360 rfl (fun x2 h => ?_)
      refine v_il3 dX0_broken_82 ?_
      refine v_aR h (by decide) dX0_broken_83 (fun x3 h => ?_)
      refine v_al0 dX0_broken_84 ?_
      refine v_gR cok0 h dX0_broken_85 (by decide) q538 rfl (fun x4 h => ?_)
      refine v_gRN cok2 h dX0_broken_88 (by decide) q360 rfl (fun x5 h => ?_)
      refine v_iload dX0_broken_91 rfl ?_
      refine v_aR h (by decide) dX0_broken_93 (fun x6 h => ?_)
      obtain ⟨x7, s8, h1, h⟩ := cl_some h
      refine v_callS1 (As := [vr x3, vr x6]) (tX0_areAlike h1) (lw_S q1295 q1296 q158 q1297) dsX0_areAlike ⟨Nat.le_of_ble_eq_true rfl, Nat.le_of_ble_eq_true rfl⟩ (Nat.le_of_ble_eq_true rfl) dX0_broken_94 rfl ?_
      refine v_if_eq (tgt := 104) dX0_broken_97 (by decide) (fun c => ?_) (fun c => ?_)
      · rw [if_pos c] at h
        exact v_weak (wss (wss (wsn (wss (wss wse))))) (lX0_broken_104 hk26 hk35 h)
      · rw [if_neg c] at h
        exact v_weak (wss (wss (wsn (wss (wss wse))))) (lX0_broken_100 hk26 hk35 h)
    · rw [if_pos c] at h
      refine v_al0 dX0_broken_47 ?_
      refine v_gR cok0 h dX0_broken_48 (by decide) q538 rfl (fun x9 h => ?_)
      refine v_gRN cok2 h dX0_broken_51 (by decide) q360 rfl (fun x10 h => ?_)
      refine v_il3 dX0_broken_54 ?_
      refine v_aR h (by decide) dX0_broken_55 (fun x11 h => ?_)
      refine v_al0 dX0_broken_56 ?_
      refine v_gR cok0 h dX0_broken_57 (by decide) q538 rfl (fun x12 h => ?_)
      refine v_gRN cok2 h dX0_broken_60 (by decide) q360 rfl (fun x13 h => ?_)
      refine v_iload dX0_broken_63 rfl ?_
      refine v_aR h (by decide) dX0_broken_65 (fun x14 h => ?_)
      obtain ⟨x15, s16, h1, h⟩ := cl_some h
      refine v_callS1 (As := [vr x11, vr x14]) (tX0_areMatched h1) (lw_S q1288 q1289 q158 q1290) dsX0_areMatched ⟨Nat.le_of_ble_eq_true rfl, Nat.le_of_ble_eq_true rfl⟩ (Nat.le_of_ble_eq_true rfl) dX0_broken_66 rfl ?_
      refine v_if_eq (tgt := 104) dX0_broken_69 (by decide) (fun c => ?_) (fun c => ?_)
      · rw [if_pos c] at h
        exact v_weak (wss (wss (wsn (wss (wss wse))))) (lX0_broken_104 hk26 hk35 h)
      · rw [if_neg c] at h
        refine v_goto (tgt := 100) dX0_broken_72 (by decide) ?_
        exact v_weak (wss (wss (wsn (wss (wss wse))))) (lX0_broken_100 hk26 hk35 h)
theorem lX0_broken_35 {E : EE} {G : GG} {k26 : Option Nat → Int32 → Int32 → Int32 → Mem → Option (Int32 × Mem)} (hk26 : ∀ (v0 : Option Nat) (v1 : Int32) (v2 : Int32) (v3 : Int32) (s : Mem) (z : Int32 × Mem), k26 v0 v1 v2 v3 s = some z → V E mX0_broken G 26 [some (vr v0), some (vi v1), some (vi v2), some (vi v3), none] [] s (some (vi z.1), z.2)) : ∀ (f : Nat) {v0 : Option Nat} {v1 : Int32} {v2 : Int32} {v3 : Int32} {v4 : Int32} {σ : Mem} {z : Int32 × Mem}, sX0_broken_35 k26 f v0 v1 v2 v3 v4 σ = some z → V E mX0_broken G 35 [some (vr v0), some (vi v1), some (vi v2), some (vi v3), some (vi v4)] [] σ (some (vi z.1), z.2)
  | 0, _, _, _, _, _, _, _, h => by cases h
  | f + 1, _, _, _, _, _, _, _, h => lX0_broken_35b hk26 (fun _ _ _ _ _ _ _ h => lX0_broken_35 hk26 f h) h
theorem lX0_broken_26b {E : EE} {G : GG} {k26 : Option Nat → Int32 → Int32 → Int32 → Mem → Option (Int32 × Mem)} (hk26 : ∀ (v0 : Option Nat) (v1 : Int32) (v2 : Int32) (v3 : Int32) (s : Mem) (z : Int32 × Mem), k26 v0 v1 v2 v3 s = some z → V E mX0_broken G 26 [some (vr v0), some (vi v1), some (vi v2), some (vi v3), none] [] s (some (vi z.1), z.2)) {v0 : Option Nat} {v1 : Int32} {v2 : Int32} {v3 : Int32} {σ : Mem} {z : Int32 × Mem} (h : sX0_broken_26b k26 v0 v1 v2 v3 σ = some z) : V E mX0_broken G 26 [some (vr v0), some (vi v1), some (vi v2), some (vi v3), none] [] σ (some (vi z.1), z.2) := by
  unfold sX0_broken_26b at h
  refine v_il3 dX0_broken_26 ?_
  refine v_bipush dX0_broken_27 rfl ?_
  refine v_icmp_ge (tgt := 119) dX0_broken_29 (by decide) (fun c => ?_) (fun c => ?_)
  · rw [if_pos c] at h
    refine v_il2 dX0_broken_119 ?_
    exact v_retI h dX0_broken_120 rfl
  · rw [if_neg c] at h
    refine v_iconst dX0_broken_32 ?_
    refine v_istore (L' := [some (vr v0), some (vi v1), some (vi v2), some (vi v3), some (vi (iI 0))]) dX0_broken_33 (Nat.le_of_ble_eq_true rfl) (Nat.le_of_ble_eq_true rfl) rfl ?_
    exact v_weak (wss (wss (wss (wss (wss wse))))) (lX0_broken_35 hk26 FU h)
theorem lX0_broken_26 {E : EE} {G : GG} : ∀ (f : Nat) {v0 : Option Nat} {v1 : Int32} {v2 : Int32} {v3 : Int32} {σ : Mem} {z : Int32 × Mem}, sX0_broken_26 f v0 v1 v2 v3 σ = some z → V E mX0_broken G 26 [some (vr v0), some (vi v1), some (vi v2), some (vi v3), none] [] σ (some (vi z.1), z.2)
  | 0, _, _, _, _, _, _, h => by cases h
  | f + 1, _, _, _, _, _, _, h => lX0_broken_26b (fun _ _ _ _ _ _ h => lX0_broken_26 f h) h
theorem lX0_broken {E : EE} {G : GG} {v0 : Option Nat} {v1 : Int32} {σ : Mem} {z : Int32 × Mem} (h : sX0_broken v0 v1 σ = some z) : V E mX0_broken G 0 [some (vr v0), some (vi v1), none, none, none] [] σ (some (vi z.1), z.2) := by
  unfold sX0_broken at h
  refine v_il1 dX0_broken_0 ?_
  refine v_iconst dX0_broken_1 ?_
  obtain ⟨x1, s2, h1, h⟩ := cl_some h
  refine v_callS1 (As := [vi v1, vi (iI 3)]) (tX0_in h1) (lw_S q582 q583 q158 q584) dsX0_in ⟨Nat.le_of_ble_eq_true rfl, Nat.le_of_ble_eq_true rfl⟩ (Nat.le_of_ble_eq_true rfl) dX0_broken_2 rfl ?_
  refine v_if_ne (tgt := 10) dX0_broken_5 (by decide) (fun c => ?_) (fun c => ?_)
  · rw [if_neg c] at h
    refine v_il1 dX0_broken_10 ?_
    refine v_if_ne (tgt := 22) dX0_broken_11 (by decide) (fun c => ?_) (fun c => ?_)
    · rw [if_neg c] at h
      refine v_iconst dX0_broken_22 ?_
      refine v_istore_n (L' := [some (vr v0), some (vi v1), some (vi (iI 0)), none, none]) dX0_broken_23 (Nat.le_of_ble_eq_true rfl) (Nat.le_of_ble_eq_true rfl) rfl ?_
      refine v_iconst dX0_broken_24 ?_
      refine v_istore_n (L' := [some (vr v0), some (vi v1), some (vi (iI 0)), some (vi (iI 0)), none]) dX0_broken_25 (Nat.le_of_ble_eq_true rfl) (Nat.le_of_ble_eq_true rfl) rfl ?_
      exact v_weak (wss (wss (wss (wss (wsn wse))))) (lX0_broken_26 FU h)
    · rw [if_pos c] at h
      refine v_al0 dX0_broken_14 ?_
      refine v_gR cok0 h dX0_broken_15 (by decide) q538 rfl (fun x3 h => ?_)
      refine v_gIN cok2 h dX0_broken_18 (by decide) q378 rfl (fun x4 h => ?_)
      exact v_retI h dX0_broken_21 rfl
  · rw [if_pos c] at h
    refine v_iconst dX0_broken_8 ?_
    exact v_retI h dX0_broken_9 rfl
theorem tX0_broken {E : EE} {l : Launch} {v0 : Option Nat} {v1 : Int32} {σ : Mem} {z : Int32 × Mem} (h : sX0_broken v0 v1 σ = some z) : Mt E l mX0_broken [vr v0, vi v1] σ (some (vi z.1), z.2) :=
  Mt.ofVL (by decide) (Nat.le_of_ble_eq_true rfl) (fun G hG => lX0_broken h)
abbrev mX0_wouldGrant : MM := (yX0_wouldGrant, cX0_wouldGrant, 6, (Option.some Jvm.ClassFile.FieldType.boolean), 2, 43)
theorem dsX0_wouldGrant : DsOk yX0_wouldGrant 2 := ⟨by decide, by decide, by decide +kernel⟩
theorem lX0_wouldGrant_99 {E : EE} {G : GG} {v3 : Option Nat} {v4 : Option Nat} {t0 : Int32} {σ : Mem} {z : Int32 × Mem} (h : sX0_wouldGrant_99 v3 v4 t0 σ = some z) : V E mX0_wouldGrant G 99 [none, none, none, some (vr v3), some (vr v4), none] [vi t0] σ (some (vi z.1), z.2) := by
  unfold sX0_wouldGrant_99 at h
  refine v_istore (L' := [none, none, none, some (vr v3), some (vr v4), some (vi t0)]) dX0_wouldGrant_99 (Nat.le_of_ble_eq_true rfl) (Nat.le_of_ble_eq_true rfl) rfl ?_
  refine v_iload dX0_wouldGrant_101 rfl ?_
  refine v_if_eq (tgt := 130) dX0_wouldGrant_103 (by decide) (fun c => ?_) (fun c => ?_)
  · rw [if_pos c] at h
    refine v_iconst dX0_wouldGrant_130 ?_
    exact v_retZ h dX0_wouldGrant_131 rfl
  · rw [if_neg c] at h
    refine v_aload dX0_wouldGrant_106 rfl ?_
    refine v_al3 dX0_wouldGrant_108 ?_
    refine v_al3 dX0_wouldGrant_109 ?_
    obtain ⟨b110, er, ka, h⟩ := cV_some h
    obtain ⟨x1, s2, h1, h⟩ := cl_some h
    refine v_callV1 cok3 (As := []) er ka (tX4_last h1) (lw_V q1251 q644 q645 q162 q646) rfl dsX4_last ⟨Nat.le_of_ble_eq_true rfl, Nat.le_of_ble_eq_true rfl⟩ (Nat.le_of_ble_eq_true rfl) dX0_wouldGrant_110 rfl ?_
    obtain ⟨b113, er, ka, h⟩ := cV_some h
    obtain ⟨x3, s4, h1, h⟩ := cl_some h
    refine v_callV1 cok3 (As := [vi x1]) er ka (tX4_termAt h1) (lw_V q757 q624 q625 q162 q626) rfl dsX4_termAt ⟨Nat.le_of_ble_eq_true rfl, Nat.le_of_ble_eq_true rfl⟩ (Nat.le_of_ble_eq_true rfl) dX0_wouldGrant_113 rfl ?_
    refine v_al3 dX0_wouldGrant_116 ?_
    obtain ⟨b117, er, ka, h⟩ := cV_some h
    obtain ⟨x5, s6, h1, h⟩ := cl_some h
    refine v_callV1 cok3 (As := []) er ka (tX4_last h1) (lw_V q1251 q644 q645 q162 q646) rfl dsX4_last ⟨Nat.le_of_ble_eq_true rfl, Nat.le_of_ble_eq_true rfl⟩ (Nat.le_of_ble_eq_true rfl) dX0_wouldGrant_117 rfl ?_
    obtain ⟨b120, er, ka, h⟩ := cV_some h
    obtain ⟨x7, s8, h1, h⟩ := cl_some h
    refine v_callV1 cok3 (As := [vi x3, vi x5]) er ka (tX4_isNoLess h1) (lw_V q1309 q1156 q1157 q162 q1158) rfl dsX4_isNoLess ⟨Nat.le_of_ble_eq_true rfl, Nat.le_of_ble_eq_true rfl⟩ (Nat.le_of_ble_eq_true rfl) dX0_wouldGrant_120 rfl ?_
    refine v_if_eq (tgt := 130) dX0_wouldGrant_123 (by decide) (fun c => ?_) (fun c => ?_)
    · rw [if_pos c] at h
      refine v_iconst dX0_wouldGrant_130 ?_
      exact v_retZ h dX0_wouldGrant_131 rfl
    · rw [if_neg c] at h
      refine v_iconst dX0_wouldGrant_126 ?_
      refine v_goto (tgt := 131) dX0_wouldGrant_127 (by decide) ?_
      exact v_retZ h dX0_wouldGrant_131 rfl
theorem lX0_wouldGrant_94 {E : EE} {G : GG} {v3 : Option Nat} {v4 : Option Nat} {σ : Mem} {z : Int32 × Mem} (h : sX0_wouldGrant_94 v3 v4 σ = some z) : V E mX0_wouldGrant G 94 [none, none, none, some (vr v3), some (vr v4), none] [] σ (some (vi z.1), z.2) := by
  unfold sX0_wouldGrant_94 at h
  refine v_iconst dX0_wouldGrant_94 ?_
  refine v_goto (tgt := 99) dX0_wouldGrant_95 (by decide) ?_
  exact v_weak (wsn (wsn (wsn (wss (wss (wsn wse)))))) (lX0_wouldGrant_99 h)
theorem lX0_wouldGrant {E : EE} {G : GG} {v0 : Option Nat} {v1 : Int32} {v2 : Int32} {σ : Mem} {z : Int32 × Mem} (h : sX0_wouldGrant v0 v1 v2 σ = some z) : V E mX0_wouldGrant G 0 [some (vr v0), some (vi v1), some (vi v2), none, none, none] [] σ (some (vi z.1), z.2) := by
  unfold sX0_wouldGrant at h
  refine v_al0 dX0_wouldGrant_0 ?_
  refine v_gR cok0 h dX0_wouldGrant_1 (by decide) q538 rfl (fun x1 h => ?_)
  refine v_gRN cok2 h dX0_wouldGrant_4 (by decide) q360 rfl (fun x2 h => ?_)
  refine v_il2 dX0_wouldGrant_7 ?_
  refine v_aR h (by decide) dX0_wouldGrant_8 (fun x3 h => ?_)
  refine v_astore_n (L' := [some (vr v0), some (vi v1), some (vi v2), some (vr x3), none, none]) dX0_wouldGrant_9 (Nat.le_of_ble_eq_true rfl) (Nat.le_of_ble_eq_true rfl) rfl ?_
  refine v_al0 dX0_wouldGrant_10 ?_
  refine v_gR cok0 h dX0_wouldGrant_11 (by decide) q538 rfl (fun x4 h => ?_)
  refine v_gRN cok2 h dX0_wouldGrant_14 (by decide) q360 rfl (fun x5 h => ?_)
  refine v_il1 dX0_wouldGrant_17 ?_
  refine v_aR h (by decide) dX0_wouldGrant_18 (fun x6 h => ?_)
  refine v_astore (L' := [some (vr v0), some (vi v1), some (vi v2), some (vr x3), some (vr x6), none]) dX0_wouldGrant_19 (Nat.le_of_ble_eq_true rfl) (Nat.le_of_ble_eq_true rfl) rfl ?_
  refine v_il1 dX0_wouldGrant_21 ?_
  refine v_il2 dX0_wouldGrant_22 ?_
  refine v_icmp_ne (tgt := 28) dX0_wouldGrant_23 (by decide) (fun c => ?_) (fun c => ?_)
  · rw [if_neg c] at h
    refine v_aload dX0_wouldGrant_28 rfl ?_
    refine v_gIN cok3 h dX0_wouldGrant_30 (by decide) q307 rfl (fun x7 h => ?_)
    refine v_if_eq (tgt := 62) dX0_wouldGrant_33 (by decide) (fun c => ?_) (fun c => ?_)
    · rw [if_pos c] at h
      refine v_iconst dX0_wouldGrant_62 ?_
      exact v_retZ h dX0_wouldGrant_63 rfl
    · rw [if_neg c] at h
      refine v_al0 dX0_wouldGrant_36 ?_
      refine v_gR cok0 h dX0_wouldGrant_37 (by decide) q538 rfl (fun x8 h => ?_)
      refine v_il1 dX0_wouldGrant_40 ?_
      refine v_il2 dX0_wouldGrant_41 ?_
      obtain ⟨b42, er, ka, h⟩ := cV_some h
      obtain ⟨x9, s10, h1, h⟩ := cl_some h
      refine v_callVN1 cok2 (As := [vi v1, vi v2]) er ka (tX3_areLinked h1) q1308 q1150 q1149 qs37 q161 dsX3_areLinked ⟨Nat.le_of_ble_eq_true rfl, Nat.le_of_ble_eq_true rfl⟩ (Nat.le_of_ble_eq_true rfl) dX0_wouldGrant_42 rfl ?_
      refine v_if_eq (tgt := 62) dX0_wouldGrant_45 (by decide) (fun c => ?_) (fun c => ?_)
      · rw [if_pos c] at h
        refine v_iconst dX0_wouldGrant_62 ?_
        exact v_retZ h dX0_wouldGrant_63 rfl
      · rw [if_neg c] at h
        refine v_aload dX0_wouldGrant_48 rfl ?_
        refine v_gIN cok3 h dX0_wouldGrant_50 (by decide) q270 rfl (fun x11 h => ?_)
        refine v_al3 dX0_wouldGrant_53 ?_
        refine v_gIN cok3 h dX0_wouldGrant_54 (by decide) q270 rfl (fun x12 h => ?_)
        refine v_iconst dX0_wouldGrant_57 ?_
        refine v_iadd dX0_wouldGrant_58 ?_
        refine v_icmp_le (tgt := 64) dX0_wouldGrant_59 (by decide) (fun c => ?_) (fun c => ?_)
        · rw [if_pos c] at h
          refine v_aload dX0_wouldGrant_64 rfl ?_
          refine v_gIN cok3 h dX0_wouldGrant_66 (by decide) q270 rfl (fun x13 h => ?_)
          refine v_al3 dX0_wouldGrant_69 ?_
          refine v_gIN cok3 h dX0_wouldGrant_70 (by decide) q270 rfl (fun x14 h => ?_)
          refine v_icmp_le (tgt := 94) dX0_wouldGrant_73 (by decide) (fun c => ?_) (fun c => ?_)
          · rw [if_pos c] at h
            exact v_weak (wsn (wsn (wsn (wss (wss (wsn wse)))))) (lX0_wouldGrant_94 h)
          · rw [if_neg c] at h
            refine v_aload dX0_wouldGrant_76 rfl ?_
            refine v_gIN cok3 h dX0_wouldGrant_78 (by decide) q273 rfl (fun x15 h => ?_)
            refine v_iconst dX0_wouldGrant_81 ?_
            refine v_icmp_eq (tgt := 94) dX0_wouldGrant_82 (by decide) (fun c => ?_) (fun c => ?_)
            · rw [if_pos c] at h
              exact v_weak (wsn (wsn (wsn (wss (wss (wsn wse)))))) (lX0_wouldGrant_94 h)
            · rw [if_neg c] at h
              refine v_aload dX0_wouldGrant_85 rfl ?_
              refine v_gIN cok3 h dX0_wouldGrant_87 (by decide) q273 rfl (fun x16 h => ?_)
              refine v_il2 dX0_wouldGrant_90 ?_
              refine v_icmp_ne (tgt := 98) dX0_wouldGrant_91 (by decide) (fun c => ?_) (fun c => ?_)
              · rw [if_neg c] at h
                refine v_iconst dX0_wouldGrant_98 ?_
                exact v_weak (wsn (wsn (wsn (wss (wss (wsn wse)))))) (lX0_wouldGrant_99 h)
              · rw [if_pos c] at h
                exact v_weak (wsn (wsn (wsn (wss (wss (wsn wse)))))) (lX0_wouldGrant_94 h)
        · rw [if_neg c] at h
          refine v_iconst dX0_wouldGrant_62 ?_
          exact v_retZ h dX0_wouldGrant_63 rfl
  · rw [if_pos c] at h
    refine v_iconst dX0_wouldGrant_26 ?_
    exact v_retZ h dX0_wouldGrant_27 rfl
theorem tX0_wouldGrant {E : EE} {l : Launch} {v0 : Option Nat} {v1 : Int32} {v2 : Int32} {σ : Mem} {z : Int32 × Mem} (h : sX0_wouldGrant v0 v1 v2 σ = some z) : Mt E l mX0_wouldGrant [vr v0, vi v1, vi v2] σ (some (vi z.1), z.2) :=
  Mt.ofVL (by decide) (Nat.le_of_ble_eq_true rfl) (fun G hG => lX0_wouldGrant h)
abbrev mX0_couldWin : MM := (yX0_couldWin, cX0_couldWin, 6, (Option.some Jvm.ClassFile.FieldType.int), 4, 84)
theorem dsX0_couldWin : DsOk yX0_couldWin 2 := ⟨by decide, by decide, by decide +kernel⟩
theorem lX0_couldWin_93 {E : EE} {G : GG} {k54 : Option Nat → Int32 → Int32 → Option Nat → Int32 → Int32 → Mem → Option (Int32 × Mem)} (hk54 : ∀ (v0 : Option Nat) (v1 : Int32) (v2 : Int32) (v3 : Option Nat) (v4 : Int32) (v5 : Int32) (s : Mem) (z : Int32 × Mem), k54 v0 v1 v2 v3 v4 v5 s = some z → V E mX0_couldWin G 54 [some (vr v0), some (vi v1), some (vi v2), some (vr v3), some (vi v4), some (vi v5)] [] s (some (vi z.1), z.2)) {v0 : Option Nat} {v1 : Int32} {v2 : Int32} {v3 : Option Nat} {v5 : Int32} {t0 : Int32} {t1 : Int32} {σ : Mem} {z : Int32 × Mem} (h : sX0_couldWin_93 k54 v0 v1 v2 v3 v5 t0 t1 σ = some z) : V E mX0_couldWin G 93 [some (vr v0), some (vi v1), some (vi v2), some (vr v3), none, some (vi v5)] [vi t1, vi t0] σ (some (vi z.1), z.2) := by
  unfold sX0_couldWin_93 at h
  refine v_ior dX0_couldWin_93 ?_
  refine v_istore (L' := [some (vr v0), some (vi v1), some (vi v2), some (vr v3), some (vi (t0 ||| t1)), some (vi v5)]) dX0_couldWin_94 (Nat.le_of_ble_eq_true rfl) (Nat.le_of_ble_eq_true rfl) rfl ?_
  refine v_iinc (L' := [some (vr v0), some (vi v1), some (vi v2), some (vr v3), some (vi (t0 ||| t1)), some (vi (v5 + iI 1))]) dX0_couldWin_96 (Nat.le_of_ble_eq_true rfl) rfl rfl ?_
  refine v_goto (tgt := 54) dX0_couldWin_99 (by decide) ?_
  exact v_weak (wss (wss (wss (wss (wss (wss wse)))))) (hk54 _ _ _ _ _ _ _ _ h)
theorem lX0_couldWin_92 {E : EE} {G : GG} {k54 : Option Nat → Int32 → Int32 → Option Nat → Int32 → Int32 → Mem → Option (Int32 × Mem)} (hk54 : ∀ (v0 : Option Nat) (v1 : Int32) (v2 : Int32) (v3 : Option Nat) (v4 : Int32) (v5 : Int32) (s : Mem) (z : Int32 × Mem), k54 v0 v1 v2 v3 v4 v5 s = some z → V E mX0_couldWin G 54 [some (vr v0), some (vi v1), some (vi v2), some (vr v3), some (vi v4), some (vi v5)] [] s (some (vi z.1), z.2)) {v0 : Option Nat} {v1 : Int32} {v2 : Int32} {v3 : Option Nat} {v5 : Int32} {t0 : Int32} {σ : Mem} {z : Int32 × Mem} (h : sX0_couldWin_92 k54 v0 v1 v2 v3 v5 t0 σ = some z) : V E mX0_couldWin G 92 [some (vr v0), some (vi v1), some (vi v2), some (vr v3), none, some (vi v5)] [vi t0] σ (some (vi z.1), z.2) := by
  unfold sX0_couldWin_92 at h
  refine v_iconst dX0_couldWin_92 ?_
  exact v_weak (wss (wss (wss (wss (wsn (wss wse)))))) (lX0_couldWin_93 hk54 h)
theorem lX0_couldWin_54b {E : EE} {G : GG} {k54 : Option Nat → Int32 → Int32 → Option Nat → Int32 → Int32 → Mem → Option (Int32 × Mem)} (hk54 : ∀ (v0 : Option Nat) (v1 : Int32) (v2 : Int32) (v3 : Option Nat) (v4 : Int32) (v5 : Int32) (s : Mem) (z : Int32 × Mem), k54 v0 v1 v2 v3 v4 v5 s = some z → V E mX0_couldWin G 54 [some (vr v0), some (vi v1), some (vi v2), some (vr v3), some (vi v4), some (vi v5)] [] s (some (vi z.1), z.2)) {v0 : Option Nat} {v1 : Int32} {v2 : Int32} {v3 : Option Nat} {v4 : Int32} {v5 : Int32} {σ : Mem} {z : Int32 × Mem} (h : sX0_couldWin_54b k54 v0 v1 v2 v3 v4 v5 σ = some z) : V E mX0_couldWin G 54 [some (vr v0), some (vi v1), some (vi v2), some (vr v3), some (vi v4), some (vi v5)] [] σ (some (vi z.1), z.2) := by
  unfold sX0_couldWin_54b at h
  refine v_iload dX0_couldWin_54 rfl ?_
  refine v_bipush dX0_couldWin_56 rfl ?_
  refine v_icmp_ge (tgt := 102) dX0_couldWin_58 (by decide) (fun c => ?_) (fun c => ?_)
  · rw [if_pos c] at h
    refine v_il2 dX0_couldWin_102 ?_
    refine v_iconst dX0_couldWin_103 ?_
    refine v_icmp_ne (tgt := 112) dX0_couldWin_104 (by decide) (fun c => ?_) (fun c => ?_)
    · rw [if_neg c] at h
      refine v_al3 dX0_couldWin_112 ?_
      refine v_iload dX0_couldWin_113 rfl ?_
      obtain ⟨b115, er, ka, h⟩ := cV_some h
      obtain ⟨x1, s2, h1, h⟩ := cl_some h
      refine v_callV1 cok3 (As := [vi v4]) er ka (tX4_isMajority h1) (lw_V q1310 q716 q717 q162 q718) rfl dsX4_isMajority ⟨Nat.le_of_ble_eq_true rfl, Nat.le_of_ble_eq_true rfl⟩ (Nat.le_of_ble_eq_true rfl) dX0_couldWin_115 rfl ?_
      refine v_if_eq (tgt := 125) dX0_couldWin_118 (by decide) (fun c => ?_) (fun c => ?_)
      · rw [if_pos c] at h
        refine v_iconst dX0_couldWin_125 ?_
        exact v_retI h dX0_couldWin_126 rfl
      · rw [if_neg c] at h
        refine v_iconst dX0_couldWin_121 ?_
        refine v_goto (tgt := 126) dX0_couldWin_122 (by decide) ?_
        exact v_retI h dX0_couldWin_126 rfl
    · rw [if_pos c] at h
      refine v_iload dX0_couldWin_107 rfl ?_
      refine v_goto (tgt := 126) dX0_couldWin_109 (by decide) ?_
      exact v_retI h dX0_couldWin_126 rfl
  · rw [if_neg c] at h
    refine v_iload dX0_couldWin_61 rfl ?_
    refine v_al3 dX0_couldWin_63 ?_
    obtain ⟨b64, er, ka, h⟩ := cV_some h
    obtain ⟨x3, s4, h1, h⟩ := cl_some h
    refine v_callV1 cok3 (As := []) er ka (tX4_members h1) (lw_V q1302 q662 q663 q162 q664) rfl dsX4_members ⟨Nat.le_of_ble_eq_true rfl, Nat.le_of_ble_eq_true rfl⟩ (Nat.le_of_ble_eq_true rfl) dX0_couldWin_64 rfl ?_
    refine v_iload dX0_couldWin_67 rfl ?_
    obtain ⟨x5, s6, h1, h⟩ := cl_some h
    refine v_callS1 (As := [vi x3, vi v5]) (tX0_has h1) (lw_S q1303 q674 q158 q675) dsX0_has ⟨Nat.le_of_ble_eq_true rfl, Nat.le_of_ble_eq_true rfl⟩ (Nat.le_of_ble_eq_true rfl) dX0_couldWin_69 rfl ?_
    refine v_if_eq (tgt := 92) dX0_couldWin_72 (by decide) (fun c => ?_) (fun c => ?_)
    · rw [if_pos c] at h
      exact v_weak (wss (wss (wss (wss (wsn (wss wse)))))) (lX0_couldWin_92 hk54 h)
    · rw [if_neg c] at h
      refine v_al0 dX0_couldWin_75 ?_
      refine v_iload dX0_couldWin_76 rfl ?_
      refine v_il1 dX0_couldWin_78 ?_
      obtain ⟨b79, er, ka, h⟩ := cV_some h
      obtain ⟨x7, s8, h1, h⟩ := cl_some h
      refine v_callV1 cok0 (As := [vi v5, vi v1]) er ka (tX0_wouldGrant h1) (lw_V q1304 q1306 qs51 q158 q1307) rfl dsX0_wouldGrant ⟨Nat.le_of_ble_eq_true rfl, Nat.le_of_ble_eq_true rfl⟩ (Nat.le_of_ble_eq_true rfl) dX0_couldWin_79 rfl ?_
      refine v_if_eq (tgt := 92) dX0_couldWin_82 (by decide) (fun c => ?_) (fun c => ?_)
      · rw [if_pos c] at h
        exact v_weak (wss (wss (wss (wss (wsn (wss wse)))))) (lX0_couldWin_92 hk54 h)
      · rw [if_neg c] at h
        refine v_iconst dX0_couldWin_85 ?_
        refine v_iload dX0_couldWin_86 rfl ?_
        refine v_ishl dX0_couldWin_88 ?_
        refine v_goto (tgt := 93) dX0_couldWin_89 (by decide) ?_
        exact v_weak (wss (wss (wss (wss (wsn (wss wse)))))) (lX0_couldWin_93 hk54 h)
theorem lX0_couldWin_54 {E : EE} {G : GG} : ∀ (f : Nat) {v0 : Option Nat} {v1 : Int32} {v2 : Int32} {v3 : Option Nat} {v4 : Int32} {v5 : Int32} {σ : Mem} {z : Int32 × Mem}, sX0_couldWin_54 f v0 v1 v2 v3 v4 v5 σ = some z → V E mX0_couldWin G 54 [some (vr v0), some (vi v1), some (vi v2), some (vr v3), some (vi v4), some (vi v5)] [] σ (some (vi z.1), z.2)
  | 0, _, _, _, _, _, _, _, _, h => by cases h
  | f + 1, _, _, _, _, _, _, _, _, h => lX0_couldWin_54b (fun _ _ _ _ _ _ _ _ h => lX0_couldWin_54 f h) h
theorem lX0_couldWin {E : EE} {G : GG} {v0 : Option Nat} {v1 : Int32} {v2 : Int32} {σ : Mem} {z : Int32 × Mem} (h : sX0_couldWin v0 v1 v2 σ = some z) : V E mX0_couldWin G 0 [some (vr v0), some (vi v1), some (vi v2), none, none, none] [] σ (some (vi z.1), z.2) := by
  unfold sX0_couldWin at h
  refine v_il1 dX0_couldWin_0 ?_
  obtain ⟨x1, s2, h1, h⟩ := cl_some h
  refine v_callS1 (As := [vi v1]) (tX0_isNode h1) (lw_S q579 q580 q158 q581) dsX0_isNode ⟨Nat.le_of_ble_eq_true rfl, Nat.le_of_ble_eq_true rfl⟩ (Nat.le_of_ble_eq_true rfl) dX0_couldWin_1 rfl ?_
  refine v_if_eq (tgt := 15) dX0_couldWin_4 (by decide) (fun c => ?_) (fun c => ?_)
  · rw [if_pos c] at h
    refine v_iconst dX0_couldWin_15 ?_
    exact v_retI h dX0_couldWin_16 rfl
  · rw [if_neg c] at h
    refine v_il2 dX0_couldWin_7 ?_
    refine v_iconst dX0_couldWin_8 ?_
    obtain ⟨x3, s4, h1, h⟩ := cl_some h
    refine v_callS1 (As := [vi v2, vi (iI 2)]) (tX0_in h1) (lw_S q582 q583 q158 q584) dsX0_in ⟨Nat.le_of_ble_eq_true rfl, Nat.le_of_ble_eq_true rfl⟩ (Nat.le_of_ble_eq_true rfl) dX0_couldWin_9 rfl ?_
    refine v_if_ne (tgt := 17) dX0_couldWin_12 (by decide) (fun c => ?_) (fun c => ?_)
    · rw [if_neg c] at h
      refine v_al0 dX0_couldWin_17 ?_
      refine v_gR cok0 h dX0_couldWin_18 (by decide) q538 rfl (fun x5 h => ?_)
      refine v_gRN cok2 h dX0_couldWin_21 (by decide) q360 rfl (fun x6 h => ?_)
      refine v_il1 dX0_couldWin_24 ?_
      refine v_aR h (by decide) dX0_couldWin_25 (fun x7 h => ?_)
      refine v_astore_n (L' := [some (vr v0), some (vi v1), some (vi v2), some (vr x7), none, none]) dX0_couldWin_26 (Nat.le_of_ble_eq_true rfl) (Nat.le_of_ble_eq_true rfl) rfl ?_
      refine v_al3 dX0_couldWin_27 ?_
      refine v_gIN cok3 h dX0_couldWin_28 (by decide) q307 rfl (fun x8 h => ?_)
      refine v_if_eq (tgt := 45) dX0_couldWin_31 (by decide) (fun c => ?_) (fun c => ?_)
      · rw [if_pos c] at h
        refine v_bipush dX0_couldWin_45 rfl ?_
        exact v_retI h dX0_couldWin_47 rfl
      · rw [if_neg c] at h
        refine v_al3 dX0_couldWin_34 ?_
        obtain ⟨b35, er, ka, h⟩ := cV_some h
        obtain ⟨x9, s10, h1, h⟩ := cl_some h
        refine v_callV1 cok3 (As := []) er ka (tX4_members h1) (lw_V q1302 q662 q663 q162 q664) rfl dsX4_members ⟨Nat.le_of_ble_eq_true rfl, Nat.le_of_ble_eq_true rfl⟩ (Nat.le_of_ble_eq_true rfl) dX0_couldWin_35 rfl ?_
        refine v_il1 dX0_couldWin_38 ?_
        obtain ⟨x11, s12, h1, h⟩ := cl_some h
        refine v_callS1 (As := [vi x9, vi v1]) (tX0_has h1) (lw_S q1303 q674 q158 q675) dsX0_has ⟨Nat.le_of_ble_eq_true rfl, Nat.le_of_ble_eq_true rfl⟩ (Nat.le_of_ble_eq_true rfl) dX0_couldWin_39 rfl ?_
        refine v_if_ne (tgt := 48) dX0_couldWin_42 (by decide) (fun c => ?_) (fun c => ?_)
        · rw [if_neg c] at h
          refine v_iconst dX0_couldWin_48 ?_
          refine v_istore (L' := [some (vr v0), some (vi v1), some (vi v2), some (vr x7), some (vi (iI 0)), none]) dX0_couldWin_49 (Nat.le_of_ble_eq_true rfl) (Nat.le_of_ble_eq_true rfl) rfl ?_
          refine v_iconst dX0_couldWin_51 ?_
          refine v_istore (L' := [some (vr v0), some (vi v1), some (vi v2), some (vr x7), some (vi (iI 0)), some (vi (iI 0))]) dX0_couldWin_52 (Nat.le_of_ble_eq_true rfl) (Nat.le_of_ble_eq_true rfl) rfl ?_
          exact v_weak (wss (wss (wss (wss (wss (wss wse)))))) (lX0_couldWin_54 FU h)
        · rw [if_pos c] at h
          refine v_bipush dX0_couldWin_45 rfl ?_
          exact v_retI h dX0_couldWin_47 rfl
    · rw [if_pos c] at h
      refine v_iconst dX0_couldWin_15 ?_
      exact v_retI h dX0_couldWin_16 rfl
theorem tX0_couldWin {E : EE} {l : Launch} {v0 : Option Nat} {v1 : Int32} {v2 : Int32} {σ : Mem} {z : Int32 × Mem} (h : sX0_couldWin v0 v1 v2 σ = some z) : Mt E l mX0_couldWin [vr v0, vi v1, vi v2] σ (some (vi z.1), z.2) :=
  Mt.ofVL (by decide) (Nat.le_of_ble_eq_true rfl) (fun G hG => lX0_couldWin h)
abbrev mX0_majority : MM := (yX0_majority, cX0_majority, 3, (Option.some Jvm.ClassFile.FieldType.int), 4, 84)
theorem dsX0_majority : DsOk yX0_majority 2 := ⟨by decide, by decide, by decide +kernel⟩
theorem lX0_majority {E : EE} {G : GG} {v0 : Option Nat} {v1 : Int32} {v2 : Int32} {σ : Mem} {z : Int32 × Mem} (h : sX0_majority v0 v1 v2 σ = some z) : V E mX0_majority G 0 [some (vr v0), some (vi v1), some (vi v2)] [] σ (some (vi z.1), z.2) := by
  unfold sX0_majority at h
  refine v_il1 dX0_majority_0 ?_
  obtain ⟨x1, s2, h1, h⟩ := cl_some h
  refine v_callS1 (As := [vi v1]) (tX0_isNode h1) (lw_S q579 q580 q158 q581) dsX0_isNode ⟨Nat.le_of_ble_eq_true rfl, Nat.le_of_ble_eq_true rfl⟩ (Nat.le_of_ble_eq_true rfl) dX0_majority_1 rfl ?_
  refine v_if_eq (tgt := 17) dX0_majority_4 (by decide) (fun c => ?_) (fun c => ?_)
  · rw [if_pos c] at h
    refine v_iconst dX0_majority_17 ?_
    exact v_retI h dX0_majority_18 rfl
  · rw [if_neg c] at h
    refine v_il2 dX0_majority_7 ?_
    refine v_sipush dX0_majority_8 rfl ?_
    obtain ⟨x3, s4, h1, h⟩ := cl_some h
    refine v_callS1 (As := [vi v2, vi (iI 128)]) (tX0_in h1) (lw_S q582 q583 q158 q584) dsX0_in ⟨Nat.le_of_ble_eq_true rfl, Nat.le_of_ble_eq_true rfl⟩ (Nat.le_of_ble_eq_true rfl) dX0_majority_11 rfl ?_
    refine v_if_ne (tgt := 19) dX0_majority_14 (by decide) (fun c => ?_) (fun c => ?_)
    · rw [if_neg c] at h
      refine v_al0 dX0_majority_19 ?_
      refine v_gR cok0 h dX0_majority_20 (by decide) q538 rfl (fun x5 h => ?_)
      refine v_gRN cok2 h dX0_majority_23 (by decide) q360 rfl (fun x6 h => ?_)
      refine v_il1 dX0_majority_26 ?_
      refine v_aR h (by decide) dX0_majority_27 (fun x7 h => ?_)
      refine v_il2 dX0_majority_28 ?_
      obtain ⟨b29, er, ka, h⟩ := cV_some h
      obtain ⟨x8, s9, h1, h⟩ := cl_some h
      refine v_callV1 cok3 (As := [vi v2]) er ka (tX4_isMajority h1) (lw_V q1310 q716 q717 q162 q718) rfl dsX4_isMajority ⟨Nat.le_of_ble_eq_true rfl, Nat.le_of_ble_eq_true rfl⟩ (Nat.le_of_ble_eq_true rfl) dX0_majority_29 rfl ?_
      refine v_if_eq (tgt := 39) dX0_majority_32 (by decide) (fun c => ?_) (fun c => ?_)
      · rw [if_pos c] at h
        refine v_iconst dX0_majority_39 ?_
        exact v_retI h dX0_majority_40 rfl
      · rw [if_neg c] at h
        refine v_iconst dX0_majority_35 ?_
        refine v_goto (tgt := 40) dX0_majority_36 (by decide) ?_
        exact v_retI h dX0_majority_40 rfl
    · rw [if_pos c] at h
      refine v_iconst dX0_majority_17 ?_
      exact v_retI h dX0_majority_18 rfl
theorem tX0_majority {E : EE} {l : Launch} {v0 : Option Nat} {v1 : Int32} {v2 : Int32} {σ : Mem} {z : Int32 × Mem} (h : sX0_majority v0 v1 v2 σ = some z) : Mt E l mX0_majority [vr v0, vi v1, vi v2] σ (some (vi z.1), z.2) :=
  Mt.ofVL (by decide) (Nat.le_of_ble_eq_true rfl) (fun G hG => lX0_majority h)
abbrev mX3_haveAllHeld : MM := (yX3_haveAllHeld, cX3_haveAllHeld, 5, (Option.some Jvm.ClassFile.FieldType.boolean), 0, 0)
theorem dsX3_haveAllHeld : DsOk yX3_haveAllHeld 0 := ⟨by decide, by decide, by decide +kernel⟩
theorem lX3_haveAllHeld_42 {E : EE} {G : GG} {k10 : Option Nat → Option Nat → Int32 → Int32 → Mem → Option (Int32 × Mem)} (hk10 : ∀ (v0 : Option Nat) (v1 : Option Nat) (v2 : Int32) (v3 : Int32) (s : Mem) (z : Int32 × Mem), k10 v0 v1 v2 v3 s = some z → V E mX3_haveAllHeld G 10 [some (vr v0), some (vr v1), some (vi v2), some (vi v3), none] [] s (some (vi z.1), z.2)) {v0 : Option Nat} {v1 : Option Nat} {v2 : Int32} {v3 : Int32} {σ : Mem} {z : Int32 × Mem} (h : sX3_haveAllHeld_42 k10 v0 v1 v2 v3 σ = some z) : V E mX3_haveAllHeld G 42 [some (vr v0), some (vr v1), some (vi v2), some (vi v3), none] [] σ (some (vi z.1), z.2) := by
  unfold sX3_haveAllHeld_42 at h
  refine v_iinc (L' := [some (vr v0), some (vr v1), some (vi v2), some (vi (v3 + iI 1)), none]) dX3_haveAllHeld_42 (Nat.le_of_ble_eq_true rfl) rfl rfl ?_
  refine v_goto (tgt := 10) dX3_haveAllHeld_45 (by decide) ?_
  exact v_weak (wss (wss (wss (wss (wsn wse))))) (hk10 _ _ _ _ _ _ h)
theorem lX3_haveAllHeld_10b {E : EE} {G : GG} {k10 : Option Nat → Option Nat → Int32 → Int32 → Mem → Option (Int32 × Mem)} (hk10 : ∀ (v0 : Option Nat) (v1 : Option Nat) (v2 : Int32) (v3 : Int32) (s : Mem) (z : Int32 × Mem), k10 v0 v1 v2 v3 s = some z → V E mX3_haveAllHeld G 10 [some (vr v0), some (vr v1), some (vi v2), some (vi v3), none] [] s (some (vi z.1), z.2)) {v0 : Option Nat} {v1 : Option Nat} {v2 : Int32} {v3 : Int32} {σ : Mem} {z : Int32 × Mem} (h : sX3_haveAllHeld_10b k10 v0 v1 v2 v3 σ = some z) : V E mX3_haveAllHeld G 10 [some (vr v0), some (vr v1), some (vi v2), some (vi v3), none] [] σ (some (vi z.1), z.2) := by
  unfold sX3_haveAllHeld_10b at h
  refine v_il3 dX3_haveAllHeld_10 ?_
  refine v_il2 dX3_haveAllHeld_11 ?_
  refine v_icmp_ge (tgt := 48) dX3_haveAllHeld_12 (by decide) (fun c => ?_) (fun c => ?_)
  · rw [if_pos c] at h
    refine v_iconst dX3_haveAllHeld_48 ?_
    exact v_retZ h dX3_haveAllHeld_49 rfl
  · rw [if_neg c] at h
    refine v_al1 dX3_haveAllHeld_15 ?_
    refine v_il3 dX3_haveAllHeld_16 ?_
    refine v_aR h (by decide) dX3_haveAllHeld_17 (fun x1 h => ?_)
    refine v_astore (L' := [some (vr v0), some (vr v1), some (vi v2), some (vi v3), some (vr x1)]) dX3_haveAllHeld_18 (Nat.le_of_ble_eq_true rfl) (Nat.le_of_ble_eq_true rfl) rfl ?_
    refine v_aload dX3_haveAllHeld_20 rfl ?_
    refine v_gIN cok3 h dX3_haveAllHeld_22 (by decide) q308 rfl (fun x2 h => ?_)
    refine v_if_eq (tgt := 42) dX3_haveAllHeld_25 (by decide) (fun c => ?_) (fun c => ?_)
    · rw [if_pos c] at h
      exact v_weak (wss (wss (wss (wss (wsn wse))))) (lX3_haveAllHeld_42 hk10 h)
    · rw [if_neg c] at h
      refine v_aload dX3_haveAllHeld_28 rfl ?_
      refine v_gIN cok3 h dX3_haveAllHeld_30 (by decide) q289 rfl (fun x3 h => ?_)
      refine v_al0 dX3_haveAllHeld_33 ?_
      refine v_gI cok2 h dX3_haveAllHeld_34 (by decide) q381 rfl (fun x4 h => ?_)
      refine v_icmp_ge (tgt := 42) dX3_haveAllHeld_37 (by decide) (fun c => ?_) (fun c => ?_)
      · rw [if_pos c] at h
        exact v_weak (wss (wss (wss (wss (wsn wse))))) (lX3_haveAllHeld_42 hk10 h)
      · rw [if_neg c] at h
        refine v_iconst dX3_haveAllHeld_40 ?_
        exact v_retZ h dX3_haveAllHeld_41 rfl
theorem lX3_haveAllHeld_10 {E : EE} {G : GG} : ∀ (f : Nat) {v0 : Option Nat} {v1 : Option Nat} {v2 : Int32} {v3 : Int32} {σ : Mem} {z : Int32 × Mem}, sX3_haveAllHeld_10 f v0 v1 v2 v3 σ = some z → V E mX3_haveAllHeld G 10 [some (vr v0), some (vr v1), some (vi v2), some (vi v3), none] [] σ (some (vi z.1), z.2)
  | 0, _, _, _, _, _, _, h => by cases h
  | f + 1, _, _, _, _, _, _, h => lX3_haveAllHeld_10b (fun _ _ _ _ _ _ h => lX3_haveAllHeld_10 f h) h
theorem lX3_haveAllHeld {E : EE} {G : GG} {v0 : Option Nat} {σ : Mem} {z : Int32 × Mem} (h : sX3_haveAllHeld v0 σ = some z) : V E mX3_haveAllHeld G 0 [some (vr v0), none, none, none, none] [] σ (some (vi z.1), z.2) := by
  unfold sX3_haveAllHeld at h
  refine v_al0 dX3_haveAllHeld_0 ?_
  refine v_gR cok2 h dX3_haveAllHeld_1 (by decide) q359 rfl (fun x1 h => ?_)
  refine v_astore_n (L' := [some (vr v0), some (vr x1), none, none, none]) dX3_haveAllHeld_4 (Nat.le_of_ble_eq_true rfl) (Nat.le_of_ble_eq_true rfl) rfl ?_
  refine v_al1 dX3_haveAllHeld_5 ?_
  refine v_aLr h (by decide) dX3_haveAllHeld_6 (fun x2 h => ?_)
  refine v_istore_n (L' := [some (vr v0), some (vr x1), some (vi x2), none, none]) dX3_haveAllHeld_7 (Nat.le_of_ble_eq_true rfl) (Nat.le_of_ble_eq_true rfl) rfl ?_
  refine v_iconst dX3_haveAllHeld_8 ?_
  refine v_istore_n (L' := [some (vr v0), some (vr x1), some (vi x2), some (vi (iI 0)), none]) dX3_haveAllHeld_9 (Nat.le_of_ble_eq_true rfl) (Nat.le_of_ble_eq_true rfl) rfl ?_
  exact v_weak (wss (wss (wss (wss (wsn wse))))) (lX3_haveAllHeld_10 FU h)
theorem tX3_haveAllHeld {E : EE} {l : Launch} {v0 : Option Nat} {σ : Mem} {z : Int32 × Mem} (h : sX3_haveAllHeld v0 σ = some z) : Mt E l mX3_haveAllHeld [vr v0] σ (some (vi z.1), z.2) :=
  Mt.ofVL (by decide) (Nat.le_of_ble_eq_true rfl) (fun G hG => lX3_haveAllHeld h)
abbrev mX0_till : MM := (yX0_till, cX0_till, 5, (Option.some Jvm.ClassFile.FieldType.int), 98, 8722)
theorem dsX0_till : DsOk yX0_till 2 := ⟨by decide, by decide, by decide +kernel⟩
theorem lX0_till_101 {E : EE} {G : GG} {k35 : Option Nat → Int32 → Int32 → Int32 → Mem → Option (Int32 × Mem)} (hk35 : ∀ (v0 : Option Nat) (v1 : Int32) (v2 : Int32) (v3 : Int32) (s : Mem) (z : Int32 × Mem), k35 v0 v1 v2 v3 s = some z → V E mX0_till G 35 [some (vr v0), some (vi v1), some (vi v2), some (vi v3), none] [] s (some (vi z.1), z.2)) {v0 : Option Nat} {v1 : Int32} {v2 : Int32} {v3 : Int32} {t0 : Int32} {σ : Mem} {z : Int32 × Mem} (h : sX0_till_101 k35 v0 v1 v2 v3 t0 σ = some z) : V E mX0_till G 101 [some (vr v0), some (vi v1), some (vi v2), some (vi v3), none] [vi t0] σ (some (vi z.1), z.2) := by
  unfold sX0_till_101 at h
  refine v_istore (L' := [some (vr v0), some (vi v1), some (vi v2), some (vi v3), some (vi t0)]) dX0_till_101 (Nat.le_of_ble_eq_true rfl) (Nat.le_of_ble_eq_true rfl) rfl ?_
  refine v_iload dX0_till_103 rfl ?_
  refine v_if_eq (tgt := 110) dX0_till_105 (by decide) (fun c => ?_) (fun c => ?_)
  · rw [if_pos c] at h
    refine v_il3 dX0_till_110 ?_
    refine v_il1 dX0_till_111 ?_
    refine v_icmp_eq (tgt := 128) dX0_till_112 (by decide) (fun c => ?_) (fun c => ?_)
    · rw [if_pos c] at h
      refine v_bipush dX0_till_128 rfl ?_
      exact v_retI h dX0_till_130 rfl
    · rw [if_neg c] at h
      refine v_al0 dX0_till_115 ?_
      refine v_gR cok0 h dX0_till_116 (by decide) q539 rfl (fun x1 h => ?_)
      refine v_gIN cok2 h dX0_till_119 (by decide) q374 rfl (fun x2 h => ?_)
      refine v_sipush dX0_till_122 rfl ?_
      refine v_icmp_ne (tgt := 131) dX0_till_125 (by decide) (fun c => ?_) (fun c => ?_)
      · rw [if_neg c] at h
        refine v_al0 dX0_till_131 ?_
        refine v_gR cok0 h dX0_till_132 (by decide) q539 rfl (fun x3 h => ?_)
        obtain ⟨b135, er, ka, h⟩ := cV_some h
        obtain ⟨_, s4, h1, h⟩ := cl_some h
        refine v_callV0 cok2 (As := []) er ka (tX3_tickGoes h1) (lw_V q1323 q1136 q1137 q161 q1138) rfl dsX3_tickGoes ⟨Nat.le_of_ble_eq_true rfl, Nat.le_of_ble_eq_true rfl⟩ (Nat.le_of_ble_eq_true rfl) dX0_till_135 rfl ?_
        refine v_iinc (L' := [some (vr v0), some (vi v1), some (vi v2), some (vi (v3 + iI 1)), some (vi t0)]) dX0_till_138 (Nat.le_of_ble_eq_true rfl) rfl rfl ?_
        refine v_goto (tgt := 35) dX0_till_141 (by decide) ?_
        exact v_weak (wss (wss (wss (wss (wsn wse))))) (hk35 _ _ _ _ _ _ h)
      · rw [if_pos c] at h
        refine v_bipush dX0_till_128 rfl ?_
        exact v_retI h dX0_till_130 rfl
  · rw [if_neg c] at h
    refine v_il3 dX0_till_108 ?_
    exact v_retI h dX0_till_109 rfl
theorem lX0_till_35b {E : EE} {G : GG} {k35 : Option Nat → Int32 → Int32 → Int32 → Mem → Option (Int32 × Mem)} (hk35 : ∀ (v0 : Option Nat) (v1 : Int32) (v2 : Int32) (v3 : Int32) (s : Mem) (z : Int32 × Mem), k35 v0 v1 v2 v3 s = some z → V E mX0_till G 35 [some (vr v0), some (vi v1), some (vi v2), some (vi v3), none] [] s (some (vi z.1), z.2)) {v0 : Option Nat} {v1 : Int32} {v2 : Int32} {v3 : Int32} {σ : Mem} {z : Int32 × Mem} (h : sX0_till_35b k35 v0 v1 v2 v3 σ = some z) : V E mX0_till G 35 [some (vr v0), some (vi v1), some (vi v2), some (vi v3), none] [] σ (some (vi z.1), z.2) := by
  unfold sX0_till_35b at h
  refine v_il3 dX0_till_35 ?_
  refine v_il1 dX0_till_36 ?_
  refine v_icmp_gt (tgt := 144) dX0_till_37 (by decide) (fun c => ?_) (fun c => ?_)
  · rw [if_pos c] at h
    refine v_bipush dX0_till_144 rfl ?_
    exact v_retI h dX0_till_146 rfl
  · rw [if_neg c] at h
    refine v_il2 dX0_till_40 ?_
    refine v_if_ne (tgt := 64) dX0_till_41 (by decide) (fun c => ?_) (fun c => ?_)
    · rw [if_neg c] at h
      refine v_il2 dX0_till_64 ?_
      refine v_iconst dX0_till_65 ?_
      refine v_icmp_ne (tgt := 94) dX0_till_66 (by decide) (fun c => ?_) (fun c => ?_)
      · rw [if_neg c] at h
        refine v_al0 dX0_till_94 ?_
        refine v_gR cok0 h dX0_till_95 (by decide) q539 rfl (fun x1 h => ?_)
        obtain ⟨b98, er, ka, h⟩ := cV_some h
        obtain ⟨x2, s3, h1, h⟩ := cl_some h
        refine v_callV1 cok2 (As := []) er ka (tX3_haveAllHeld h1) (lw_V q1319 q1320 q1321 q161 q1322) rfl dsX3_haveAllHeld ⟨Nat.le_of_ble_eq_true rfl, Nat.le_of_ble_eq_true rfl⟩ (Nat.le_of_ble_eq_true rfl) dX0_till_98 rfl ?_
        exact v_weak (wss (wss (wss (wss (wsn wse))))) (lX0_till_101 hk35 h)
      · rw [if_pos c] at h
        refine v_al0 dX0_till_69 ?_
        refine v_gR cok0 h dX0_till_70 (by decide) q539 rfl (fun x4 h => ?_)
        refine v_gIN cok2 h dX0_till_73 (by decide) q382 rfl (fun x5 h => ?_)
        refine v_al0 dX0_till_76 ?_
        refine v_gR cok0 h dX0_till_77 (by decide) q538 rfl (fun x6 h => ?_)
        refine v_gIN cok2 h dX0_till_80 (by decide) q382 rfl (fun x7 h => ?_)
        refine v_icmp_le (tgt := 90) dX0_till_83 (by decide) (fun c => ?_) (fun c => ?_)
        · rw [if_pos c] at h
          refine v_iconst dX0_till_90 ?_
          refine v_goto (tgt := 101) dX0_till_91 (by decide) ?_
          exact v_weak (wss (wss (wss (wss (wsn wse))))) (lX0_till_101 hk35 h)
        · rw [if_neg c] at h
          refine v_iconst dX0_till_86 ?_
          refine v_goto (tgt := 101) dX0_till_87 (by decide) ?_
          exact v_weak (wss (wss (wss (wss (wsn wse))))) (lX0_till_101 hk35 h)
    · rw [if_pos c] at h
      refine v_al0 dX0_till_44 ?_
      refine v_gR cok0 h dX0_till_45 (by decide) q539 rfl (fun x8 h => ?_)
      obtain ⟨b48, er, ka, h⟩ := cV_some h
      obtain ⟨x9, s10, h1, h⟩ := cl_some h
      refine v_callV1 cok2 (As := []) er ka (tX3_leads_2 h1) (lw_V q1237 q1238 q1239 q161 q1240) rfl dsX3_leads_2 ⟨Nat.le_of_ble_eq_true rfl, Nat.le_of_ble_eq_true rfl⟩ (Nat.le_of_ble_eq_true rfl) dX0_till_48 rfl ?_
      refine v_bipush dX0_till_51 rfl ?_
      refine v_icmp_eq (tgt := 60) dX0_till_53 (by decide) (fun c => ?_) (fun c => ?_)
      · rw [if_pos c] at h
        refine v_iconst dX0_till_60 ?_
        refine v_goto (tgt := 101) dX0_till_61 (by decide) ?_
        exact v_weak (wss (wss (wss (wss (wsn wse))))) (lX0_till_101 hk35 h)
      · rw [if_neg c] at h
        refine v_iconst dX0_till_56 ?_
        refine v_goto (tgt := 101) dX0_till_57 (by decide) ?_
        exact v_weak (wss (wss (wss (wss (wsn wse))))) (lX0_till_101 hk35 h)
theorem lX0_till_35 {E : EE} {G : GG} : ∀ (f : Nat) {v0 : Option Nat} {v1 : Int32} {v2 : Int32} {v3 : Int32} {σ : Mem} {z : Int32 × Mem}, sX0_till_35 f v0 v1 v2 v3 σ = some z → V E mX0_till G 35 [some (vr v0), some (vi v1), some (vi v2), some (vi v3), none] [] σ (some (vi z.1), z.2)
  | 0, _, _, _, _, _, _, h => by cases h
  | f + 1, _, _, _, _, _, _, h => lX0_till_35b (fun _ _ _ _ _ _ h => lX0_till_35 f h) h
theorem lX0_till {E : EE} {G : GG} {v0 : Option Nat} {v1 : Int32} {v2 : Int32} {σ : Mem} {z : Int32 × Mem} (h : sX0_till v0 v1 v2 σ = some z) : V E mX0_till G 0 [some (vr v0), some (vi v1), some (vi v2), none, none] [] σ (some (vi z.1), z.2) := by
  unfold sX0_till at h
  refine v_il1 dX0_till_0 ?_
  refine v_iconst dX0_till_1 ?_
  refine v_sipush dX0_till_2 rfl ?_
  obtain ⟨x1, s2, h1, h⟩ := cl_some h
  refine v_callS1 (As := [vi v1, vi (iI 1), vi (iI 200)]) (tX0_within h1) (lw_S q572 q573 q158 q574) dsX0_within ⟨Nat.le_of_ble_eq_true rfl, Nat.le_of_ble_eq_true rfl⟩ (Nat.le_of_ble_eq_true rfl) dX0_till_5 rfl ?_
  refine v_if_eq (tgt := 19) dX0_till_8 (by decide) (fun c => ?_) (fun c => ?_)
  · rw [if_pos c] at h
    refine v_iconst dX0_till_19 ?_
    exact v_retI h dX0_till_20 rfl
  · rw [if_neg c] at h
    refine v_il2 dX0_till_11 ?_
    refine v_iconst dX0_till_12 ?_
    obtain ⟨x3, s4, h1, h⟩ := cl_some h
    refine v_callS1 (As := [vi v2, vi (iI 3)]) (tX0_in h1) (lw_S q582 q583 q158 q584) dsX0_in ⟨Nat.le_of_ble_eq_true rfl, Nat.le_of_ble_eq_true rfl⟩ (Nat.le_of_ble_eq_true rfl) dX0_till_13 rfl ?_
    refine v_if_ne (tgt := 21) dX0_till_16 (by decide) (fun c => ?_) (fun c => ?_)
    · rw [if_neg c] at h
      refine v_al0 dX0_till_21 ?_
      refine v_gR cok0 h dX0_till_22 (by decide) q539 rfl (fun x5 h => ?_)
      refine v_al0 dX0_till_25 ?_
      refine v_gR cok0 h dX0_till_26 (by decide) q538 rfl (fun x6 h => ?_)
      obtain ⟨b29, er, ka, h⟩ := cV_some h
      obtain ⟨x7, s8, h1, h⟩ := cl_some h
      refine v_callV1 cok2 (As := [vr x6]) er ka (tX3_takes h1) (lw_V q1229 q1230 q1231 q161 q1232) rfl dsX3_takes ⟨Nat.le_of_ble_eq_true rfl, Nat.le_of_ble_eq_true rfl⟩ (Nat.le_of_ble_eq_true rfl) dX0_till_29 rfl ?_
      refine v_pop dX0_till_32 ?_
      refine v_iconst dX0_till_33 ?_
      refine v_istore_n (L' := [some (vr v0), some (vi v1), some (vi v2), some (vi (iI 0)), none]) dX0_till_34 (Nat.le_of_ble_eq_true rfl) (Nat.le_of_ble_eq_true rfl) rfl ?_
      exact v_weak (wss (wss (wss (wss (wsn wse))))) (lX0_till_35 FU h)
    · rw [if_pos c] at h
      refine v_iconst dX0_till_19 ?_
      exact v_retI h dX0_till_20 rfl
theorem tX0_till {E : EE} {l : Launch} {v0 : Option Nat} {v1 : Int32} {v2 : Int32} {σ : Mem} {z : Int32 × Mem} (h : sX0_till v0 v1 v2 σ = some z) : Mt E l mX0_till [vr v0, vi v1, vi v2] σ (some (vi z.1), z.2) :=
  Mt.ofVL (by decide) (Nat.le_of_ble_eq_true rfl) (fun G hG => lX0_till h)
abbrev mX0_seed : MM := (yX0_seed, cX0_seed, 2, (Option.some Jvm.ClassFile.FieldType.boolean), 1, 21)
theorem dsX0_seed : DsOk yX0_seed 1 := ⟨by decide, by decide, by decide +kernel⟩
theorem lX0_seed {E : EE} {G : GG} {v0 : Option Nat} {v1 : Int32} {σ : Mem} {z : Int32 × Mem} (h : sX0_seed v0 v1 σ = some z) : V E mX0_seed G 0 [some (vr v0), some (vi v1)] [] σ (some (vi z.1), z.2) := by
  unfold sX0_seed at h
  refine v_il1 dX0_seed_0 ?_
  refine v_ldcwI (n := 65536) dX0_seed_1 q1328 rfl ?_
  obtain ⟨x1, s2, h1, h⟩ := cl_some h
  refine v_callS1 (As := [vi v1, vi (iI 65536)]) (tX0_in h1) (lw_S q582 q583 q158 q584) dsX0_in ⟨Nat.le_of_ble_eq_true rfl, Nat.le_of_ble_eq_true rfl⟩ (Nat.le_of_ble_eq_true rfl) dX0_seed_4 rfl ?_
  refine v_if_ne (tgt := 12) dX0_seed_7 (by decide) (fun c => ?_) (fun c => ?_)
  · rw [if_neg c] at h
    refine v_al0 dX0_seed_12 ?_
    refine v_gR cok0 h dX0_seed_13 (by decide) q538 rfl (fun x3 h => ?_)
    refine v_il1 dX0_seed_16 ?_
    refine v_pIN cok2 h dX0_seed_17 (by decide) q376 rfl rfl (fun s4 h => ?_)
    refine v_iconst dX0_seed_20 ?_
    exact v_retZ h dX0_seed_21 rfl
  · rw [if_pos c] at h
    refine v_iconst dX0_seed_10 ?_
    exact v_retZ h dX0_seed_11 rfl
theorem tX0_seed {E : EE} {l : Launch} {v0 : Option Nat} {v1 : Int32} {σ : Mem} {z : Int32 × Mem} (h : sX0_seed v0 v1 σ = some z) : Mt E l mX0_seed [vr v0, vi v1] σ (some (vi z.1), z.2) :=
  Mt.ofVL (by decide) (Nat.le_of_ble_eq_true rfl) (fun G hG => lX0_seed h)
abbrev mX0_keep : MM := (yX0_keep, cX0_keep, 1, (Option.some Jvm.ClassFile.FieldType.int), 2, 45)
theorem dsX0_keep : DsOk yX0_keep 0 := ⟨by decide, by decide, by decide +kernel⟩
theorem lX0_keep {E : EE} {G : GG} {v0 : Option Nat} {σ : Mem} {z : Int32 × Mem} (h : sX0_keep v0 σ = some z) : V E mX0_keep G 0 [some (vr v0)] [] σ (some (vi z.1), z.2) := by
  unfold sX0_keep at h
  refine v_al0 dX0_keep_0 ?_
  refine v_iconst dX0_keep_1 ?_
  refine v_pZ cok0 h dX0_keep_2 (by decide) q547 rfl rfl (fun s1 h => ?_)
  refine v_al0 dX0_keep_5 ?_
  refine v_gR cok0 h dX0_keep_6 (by decide) q540 rfl (fun x2 h => ?_)
  refine v_al0 dX0_keep_9 ?_
  refine v_gR cok0 h dX0_keep_10 (by decide) q538 rfl (fun x3 h => ?_)
  obtain ⟨b13, er, ka, h⟩ := cV_some h
  obtain ⟨x4, s5, h1, h⟩ := cl_some h
  refine v_callV1 cok2 (As := [vr x3]) er ka (tX3_takes h1) (lw_V q1229 q1230 q1231 q161 q1232) rfl dsX3_takes ⟨Nat.le_of_ble_eq_true rfl, Nat.le_of_ble_eq_true rfl⟩ (Nat.le_of_ble_eq_true rfl) dX0_keep_13 rfl ?_
  refine v_pop dX0_keep_16 ?_
  refine v_al0 dX0_keep_17 ?_
  refine v_gR cok0 h dX0_keep_18 (by decide) q538 rfl (fun x6 h => ?_)
  refine v_gIN cok2 h dX0_keep_21 (by decide) q374 rfl (fun x7 h => ?_)
  exact v_retI h dX0_keep_24 rfl
theorem tX0_keep {E : EE} {l : Launch} {v0 : Option Nat} {σ : Mem} {z : Int32 × Mem} (h : sX0_keep v0 σ = some z) : Mt E l mX0_keep [vr v0] σ (some (vi z.1), z.2) :=
  Mt.ofVL (by decide) (Nat.le_of_ble_eq_true rfl) (fun G hG => lX0_keep h)
abbrev mX0_undo : MM := (yX0_undo, cX0_undo, 1, (Option.some Jvm.ClassFile.FieldType.boolean), 2, 45)
theorem dsX0_undo : DsOk yX0_undo 0 := ⟨by decide, by decide, by decide +kernel⟩
theorem lX0_undo {E : EE} {G : GG} {v0 : Option Nat} {σ : Mem} {z : Int32 × Mem} (h : sX0_undo v0 σ = some z) : V E mX0_undo G 0 [some (vr v0)] [] σ (some (vi z.1), z.2) := by
  unfold sX0_undo at h
  refine v_al0 dX0_undo_0 ?_
  refine v_gI cok0 h dX0_undo_1 (by decide) q547 rfl (fun x1 h => ?_)
  refine v_if_ne (tgt := 9) dX0_undo_4 (by decide) (fun c => ?_) (fun c => ?_)
  · rw [if_neg c] at h
    refine v_al0 dX0_undo_9 ?_
    refine v_gR cok0 h dX0_undo_10 (by decide) q538 rfl (fun x2 h => ?_)
    refine v_al0 dX0_undo_13 ?_
    refine v_gR cok0 h dX0_undo_14 (by decide) q540 rfl (fun x3 h => ?_)
    obtain ⟨b17, er, ka, h⟩ := cV_some h
    obtain ⟨x4, s5, h1, h⟩ := cl_some h
    refine v_callV1 cok2 (As := [vr x3]) er ka (tX3_takes h1) (lw_V q1229 q1230 q1231 q161 q1232) rfl dsX3_takes ⟨Nat.le_of_ble_eq_true rfl, Nat.le_of_ble_eq_true rfl⟩ (Nat.le_of_ble_eq_true rfl) dX0_undo_17 rfl ?_
    refine v_pop dX0_undo_20 ?_
    refine v_iconst dX0_undo_21 ?_
    exact v_retZ h dX0_undo_22 rfl
  · rw [if_pos c] at h
    refine v_iconst dX0_undo_7 ?_
    exact v_retZ h dX0_undo_8 rfl
theorem tX0_undo {E : EE} {l : Launch} {v0 : Option Nat} {σ : Mem} {z : Int32 × Mem} (h : sX0_undo v0 σ = some z) : Mt E l mX0_undo [vr v0] σ (some (vi z.1), z.2) :=
  Mt.ofVL (by decide) (Nat.le_of_ble_eq_true rfl) (fun G hG => lX0_undo h)
abbrev mX0_farthest : MM := (yX0_farthest, cX0_farthest, 3, (Option.some Jvm.ClassFile.FieldType.int), 0, 0)
theorem dsX0_farthest : DsOk yX0_farthest 0 := ⟨by decide, by decide, by decide +kernel⟩
theorem lX0_farthest_59 {E : EE} {G : GG} {k4 : Option Nat → Int32 → Int32 → Mem → Option (Int32 × Mem)} (hk4 : ∀ (v0 : Option Nat) (v1 : Int32) (v2 : Int32) (s : Mem) (z : Int32 × Mem), k4 v0 v1 v2 s = some z → V E mX0_farthest G 4 [some (vr v0), some (vi v1), some (vi v2)] [] s (some (vi z.1), z.2)) {v0 : Option Nat} {v1 : Int32} {v2 : Int32} {σ : Mem} {z : Int32 × Mem} (h : sX0_farthest_59 k4 v0 v1 v2 σ = some z) : V E mX0_farthest G 59 [some (vr v0), some (vi v1), some (vi v2)] [] σ (some (vi z.1), z.2) := by
  unfold sX0_farthest_59 at h
  refine v_iinc (L' := [some (vr v0), some (vi v1), some (vi (v2 + iI 1))]) dX0_farthest_59 (Nat.le_of_ble_eq_true rfl) rfl rfl ?_
  refine v_goto (tgt := 4) dX0_farthest_62 (by decide) ?_
  exact v_weak (wss (wss (wss wse))) (hk4 _ _ _ _ _ h)
theorem lX0_farthest_57 {E : EE} {G : GG} {k4 : Option Nat → Int32 → Int32 → Mem → Option (Int32 × Mem)} (hk4 : ∀ (v0 : Option Nat) (v1 : Int32) (v2 : Int32) (s : Mem) (z : Int32 × Mem), k4 v0 v1 v2 s = some z → V E mX0_farthest G 4 [some (vr v0), some (vi v1), some (vi v2)] [] s (some (vi z.1), z.2)) {v0 : Option Nat} {v2 : Int32} {σ : Mem} {z : Int32 × Mem} (h : sX0_farthest_57 k4 v0 v2 σ = some z) : V E mX0_farthest G 57 [some (vr v0), none, some (vi v2)] [] σ (some (vi z.1), z.2) := by
  unfold sX0_farthest_57 at h
  refine v_il2 dX0_farthest_57 ?_
  refine v_istore_n (L' := [some (vr v0), some (vi v2), some (vi v2)]) dX0_farthest_58 (Nat.le_of_ble_eq_true rfl) (Nat.le_of_ble_eq_true rfl) rfl ?_
  exact v_weak (wss (wss (wss wse))) (lX0_farthest_59 hk4 h)
theorem lX0_farthest_4b {E : EE} {G : GG} {k4 : Option Nat → Int32 → Int32 → Mem → Option (Int32 × Mem)} (hk4 : ∀ (v0 : Option Nat) (v1 : Int32) (v2 : Int32) (s : Mem) (z : Int32 × Mem), k4 v0 v1 v2 s = some z → V E mX0_farthest G 4 [some (vr v0), some (vi v1), some (vi v2)] [] s (some (vi z.1), z.2)) {v0 : Option Nat} {v1 : Int32} {v2 : Int32} {σ : Mem} {z : Int32 × Mem} (h : sX0_farthest_4b k4 v0 v1 v2 σ = some z) : V E mX0_farthest G 4 [some (vr v0), some (vi v1), some (vi v2)] [] σ (some (vi z.1), z.2) := by
  unfold sX0_farthest_4b at h
  refine v_il2 dX0_farthest_4 ?_
  refine v_bipush dX0_farthest_5 rfl ?_
  refine v_icmp_ge (tgt := 65) dX0_farthest_7 (by decide) (fun c => ?_) (fun c => ?_)
  · rw [if_pos c] at h
    refine v_il1 dX0_farthest_65 ?_
    exact v_retI h dX0_farthest_66 rfl
  · rw [if_neg c] at h
    refine v_al0 dX0_farthest_10 ?_
    refine v_gR cok0 h dX0_farthest_11 (by decide) q538 rfl (fun x1 h => ?_)
    refine v_gRN cok2 h dX0_farthest_14 (by decide) q360 rfl (fun x2 h => ?_)
    refine v_il2 dX0_farthest_17 ?_
    refine v_aR h (by decide) dX0_farthest_18 (fun x3 h => ?_)
    refine v_gIN cok3 h dX0_farthest_19 (by decide) q307 rfl (fun x4 h => ?_)
    refine v_if_eq (tgt := 59) dX0_farthest_22 (by decide) (fun c => ?_) (fun c => ?_)
    · rw [if_pos c] at h
      exact v_weak (wss (wss (wss wse))) (lX0_farthest_59 hk4 h)
    · rw [if_neg c] at h
      refine v_il1 dX0_farthest_25 ?_
      refine v_iconst dX0_farthest_26 ?_
      refine v_icmp_eq (tgt := 57) dX0_farthest_27 (by decide) (fun c => ?_) (fun c => ?_)
      · rw [if_pos c] at h
        exact v_weak (wss (wsn (wss wse))) (lX0_farthest_57 hk4 h)
      · rw [if_neg c] at h
        refine v_al0 dX0_farthest_30 ?_
        refine v_gR cok0 h dX0_farthest_31 (by decide) q538 rfl (fun x5 h => ?_)
        refine v_gRN cok2 h dX0_farthest_34 (by decide) q360 rfl (fun x6 h => ?_)
        refine v_il2 dX0_farthest_37 ?_
        refine v_aR h (by decide) dX0_farthest_38 (fun x7 h => ?_)
        refine v_gIN cok3 h dX0_farthest_39 (by decide) q290 rfl (fun x8 h => ?_)
        refine v_al0 dX0_farthest_42 ?_
        refine v_gR cok0 h dX0_farthest_43 (by decide) q538 rfl (fun x9 h => ?_)
        refine v_gRN cok2 h dX0_farthest_46 (by decide) q360 rfl (fun x10 h => ?_)
        refine v_il1 dX0_farthest_49 ?_
        refine v_aR h (by decide) dX0_farthest_50 (fun x11 h => ?_)
        refine v_gIN cok3 h dX0_farthest_51 (by decide) q290 rfl (fun x12 h => ?_)
        refine v_icmp_le (tgt := 59) dX0_farthest_54 (by decide) (fun c => ?_) (fun c => ?_)
        · rw [if_pos c] at h
          exact v_weak (wss (wss (wss wse))) (lX0_farthest_59 hk4 h)
        · rw [if_neg c] at h
          exact v_weak (wss (wsn (wss wse))) (lX0_farthest_57 hk4 h)
theorem lX0_farthest_4 {E : EE} {G : GG} : ∀ (f : Nat) {v0 : Option Nat} {v1 : Int32} {v2 : Int32} {σ : Mem} {z : Int32 × Mem}, sX0_farthest_4 f v0 v1 v2 σ = some z → V E mX0_farthest G 4 [some (vr v0), some (vi v1), some (vi v2)] [] σ (some (vi z.1), z.2)
  | 0, _, _, _, _, _, h => by cases h
  | f + 1, _, _, _, _, _, h => lX0_farthest_4b (fun _ _ _ _ _ h => lX0_farthest_4 f h) h
theorem lX0_farthest {E : EE} {G : GG} {v0 : Option Nat} {σ : Mem} {z : Int32 × Mem} (h : sX0_farthest v0 σ = some z) : V E mX0_farthest G 0 [some (vr v0), none, none] [] σ (some (vi z.1), z.2) := by
  unfold sX0_farthest at h
  refine v_iconst dX0_farthest_0 ?_
  refine v_istore_n (L' := [some (vr v0), some (vi (iI (-1))), none]) dX0_farthest_1 (Nat.le_of_ble_eq_true rfl) (Nat.le_of_ble_eq_true rfl) rfl ?_
  refine v_iconst dX0_farthest_2 ?_
  refine v_istore_n (L' := [some (vr v0), some (vi (iI (-1))), some (vi (iI 0))]) dX0_farthest_3 (Nat.le_of_ble_eq_true rfl) (Nat.le_of_ble_eq_true rfl) rfl ?_
  exact v_weak (wss (wss (wss wse))) (lX0_farthest_4 FU h)
theorem tX0_farthest {E : EE} {l : Launch} {v0 : Option Nat} {σ : Mem} {z : Int32 × Mem} (h : sX0_farthest v0 σ = some z) : Mt E l mX0_farthest [vr v0] σ (some (vi z.1), z.2) :=
  Mt.ofVL (by decide) (Nat.le_of_ble_eq_true rfl) (fun G hG => lX0_farthest h)
abbrev mX0_fed : MM := (yX0_fed, cX0_fed, 2, (Option.some Jvm.ClassFile.FieldType.int), 0, 0)
theorem dsX0_fed : DsOk yX0_fed 1 := ⟨by decide, by decide, by decide +kernel⟩
theorem lX0_fed {E : EE} {G : GG} {v0 : Option Nat} {v1 : Int32} {σ : Mem} {z : Int32 × Mem} (h : sX0_fed v0 v1 σ = some z) : V E mX0_fed G 0 [some (vr v0), some (vi v1)] [] σ (some (vi z.1), z.2) := by
  unfold sX0_fed at h
  refine v_al0 dX0_fed_0 ?_
  refine v_gR cok0 h dX0_fed_1 (by decide) q543 rfl (fun x1 h => ?_)
  refine v_il1 dX0_fed_4 ?_
  refine v_aB h dX0_fed_5 (fun x2 h => ?_)
  refine v_sipush dX0_fed_6 rfl ?_
  refine v_iand dX0_fed_9 ?_
  exact v_retI h dX0_fed_10 rfl
theorem tX0_fed {E : EE} {l : Launch} {v0 : Option Nat} {v1 : Int32} {σ : Mem} {z : Int32 × Mem} (h : sX0_fed v0 v1 σ = some z) : Mt E l mX0_fed [vr v0, vi v1] σ (some (vi z.1), z.2) :=
  Mt.ofVL (by decide) (Nat.le_of_ble_eq_true rfl) (fun G hG => lX0_fed h)
abbrev mX0_check : MM := (yX0_check, cX0_check, 4, (Option.some Jvm.ClassFile.FieldType.int), 1, 22)
theorem dsX0_check : DsOk yX0_check 1 := ⟨by decide, by decide, by decide +kernel⟩
theorem lX0_check_68 {E : EE} {G : GG} {k33 : Option Nat → Int32 → Int32 → Int32 → Mem → Option (Int32 × Mem)} (hk33 : ∀ (v0 : Option Nat) (v1 : Int32) (v2 : Int32) (v3 : Int32) (s : Mem) (z : Int32 × Mem), k33 v0 v1 v2 v3 s = some z → V E mX0_check G 33 [some (vr v0), some (vi v1), some (vi v2), some (vi v3)] [] s (some (vi z.1), z.2)) {v0 : Option Nat} {v1 : Int32} {v2 : Int32} {v3 : Int32} {t0 : Int32} {t1 : Int32} {σ : Mem} {z : Int32 × Mem} (h : sX0_check_68 k33 v0 v1 v2 v3 t0 t1 σ = some z) : V E mX0_check G 68 [some (vr v0), some (vi v1), some (vi v2), some (vi v3)] [vi t1, vi t0] σ (some (vi z.1), z.2) := by
  unfold sX0_check_68 at h
  refine v_icmp_eq (tgt := 73) dX0_check_68 (by decide) (fun c => ?_) (fun c => ?_)
  · rw [if_pos c] at h
    refine v_iinc (L' := [some (vr v0), some (vi v1), some (vi v2), some (vi (v3 + iI 1))]) dX0_check_73 (Nat.le_of_ble_eq_true rfl) rfl rfl ?_
    refine v_goto (tgt := 33) dX0_check_76 (by decide) ?_
    exact v_weak (wss (wss (wss (wss wse)))) (hk33 _ _ _ _ _ _ h)
  · rw [if_neg c] at h
    refine v_il3 dX0_check_71 ?_
    exact v_retI h dX0_check_72 rfl
theorem lX0_check_33b {E : EE} {G : GG} {k33 : Option Nat → Int32 → Int32 → Int32 → Mem → Option (Int32 × Mem)} (hk33 : ∀ (v0 : Option Nat) (v1 : Int32) (v2 : Int32) (v3 : Int32) (s : Mem) (z : Int32 × Mem), k33 v0 v1 v2 v3 s = some z → V E mX0_check G 33 [some (vr v0), some (vi v1), some (vi v2), some (vi v3)] [] s (some (vi z.1), z.2)) {v0 : Option Nat} {v1 : Int32} {v2 : Int32} {v3 : Int32} {σ : Mem} {z : Int32 × Mem} (h : sX0_check_33b k33 v0 v1 v2 v3 σ = some z) : V E mX0_check G 33 [some (vr v0), some (vi v1), some (vi v2), some (vi v3)] [] σ (some (vi z.1), z.2) := by
  unfold sX0_check_33b at h
  refine v_il3 dX0_check_33 ?_
  refine v_il1 dX0_check_34 ?_
  refine v_icmp_ge (tgt := 79) dX0_check_35 (by decide) (fun c => ?_) (fun c => ?_)
  · rw [if_pos c] at h
    refine v_iconst dX0_check_79 ?_
    exact v_retI h dX0_check_80 rfl
  · rw [if_neg c] at h
    refine v_al0 dX0_check_38 ?_
    refine v_il3 dX0_check_39 ?_
    obtain ⟨b40, er, ka, h⟩ := cV_some h
    obtain ⟨x1, s2, h1, h⟩ := cl_some h
    refine v_callV1 cok0 (As := [vi v3]) er ka (tX0_fed h1) (lw_V q1345 q1347 qs53 q158 q1348) rfl dsX0_fed ⟨Nat.le_of_ble_eq_true rfl, Nat.le_of_ble_eq_true rfl⟩ (Nat.le_of_ble_eq_true rfl) dX0_check_40 rfl ?_
    refine v_il2 dX0_check_43 ?_
    refine v_iconst dX0_check_44 ?_
    refine v_icmp_ne (tgt := 54) dX0_check_45 (by decide) (fun c => ?_) (fun c => ?_)
    · rw [if_neg c] at h
      refine v_al0 dX0_check_54 ?_
      refine v_gR cok0 h dX0_check_55 (by decide) q538 rfl (fun x3 h => ?_)
      refine v_gRN cok2 h dX0_check_58 (by decide) q360 rfl (fun x4 h => ?_)
      refine v_il2 dX0_check_61 ?_
      refine v_aR h (by decide) dX0_check_62 (fun x5 h => ?_)
      refine v_gRN cok3 h dX0_check_63 (by decide) q255 rfl (fun x6 h => ?_)
      refine v_il3 dX0_check_66 ?_
      refine v_aI h dX0_check_67 (fun x7 h => ?_)
      exact v_weak (wss (wss (wss (wss wse)))) (lX0_check_68 hk33 h)
    · rw [if_pos c] at h
      refine v_sipush dX0_check_48 rfl ?_
      refine v_goto (tgt := 68) dX0_check_51 (by decide) ?_
      exact v_weak (wss (wss (wss (wss wse)))) (lX0_check_68 hk33 h)
theorem lX0_check_33 {E : EE} {G : GG} : ∀ (f : Nat) {v0 : Option Nat} {v1 : Int32} {v2 : Int32} {v3 : Int32} {σ : Mem} {z : Int32 × Mem}, sX0_check_33 f v0 v1 v2 v3 σ = some z → V E mX0_check G 33 [some (vr v0), some (vi v1), some (vi v2), some (vi v3)] [] σ (some (vi z.1), z.2)
  | 0, _, _, _, _, _, _, h => by cases h
  | f + 1, _, _, _, _, _, _, h => lX0_check_33b (fun _ _ _ _ _ _ h => lX0_check_33 f h) h
theorem lX0_check {E : EE} {G : GG} {v0 : Option Nat} {v1 : Int32} {σ : Mem} {z : Int32 × Mem} (h : sX0_check v0 v1 σ = some z) : V E mX0_check G 0 [some (vr v0), some (vi v1), none, none] [] σ (some (vi z.1), z.2) := by
  unfold sX0_check at h
  refine v_il1 dX0_check_0 ?_
  refine v_iconst dX0_check_1 ?_
  refine v_bipush dX0_check_2 rfl ?_
  obtain ⟨x1, s2, h1, h⟩ := cl_some h
  refine v_callS1 (As := [vi v1, vi (iI 0), vi (iI 8)]) (tX0_within h1) (lw_S q572 q573 q158 q574) dsX0_within ⟨Nat.le_of_ble_eq_true rfl, Nat.le_of_ble_eq_true rfl⟩ (Nat.le_of_ble_eq_true rfl) dX0_check_4 rfl ?_
  refine v_if_eq (tgt := 18) dX0_check_7 (by decide) (fun c => ?_) (fun c => ?_)
  · rw [if_pos c] at h
    refine v_bipush dX0_check_18 rfl ?_
    exact v_retI h dX0_check_20 rfl
  · rw [if_neg c] at h
    refine v_il1 dX0_check_10 ?_
    refine v_al0 dX0_check_11 ?_
    refine v_gI cok0 h dX0_check_12 (by decide) q546 rfl (fun x3 h => ?_)
    refine v_icmp_le (tgt := 21) dX0_check_15 (by decide) (fun c => ?_) (fun c => ?_)
    · rw [if_pos c] at h
      refine v_al0 dX0_check_21 ?_
      refine v_iconst dX0_check_22 ?_
      refine v_pI cok0 h dX0_check_23 (by decide) q546 rfl rfl (fun s4 h => ?_)
      refine v_al0 dX0_check_26 ?_
      obtain ⟨b27, er, ka, h⟩ := cV_some h
      obtain ⟨x5, s6, h1, h⟩ := cl_some h
      refine v_callV1 cok0 (As := []) er ka (tX0_farthest h1) (lw_V q1341 q1343 qs52 q158 q1344) rfl dsX0_farthest ⟨Nat.le_of_ble_eq_true rfl, Nat.le_of_ble_eq_true rfl⟩ (Nat.le_of_ble_eq_true rfl) dX0_check_27 rfl ?_
      refine v_istore_n (L' := [some (vr v0), some (vi v1), some (vi x5), none]) dX0_check_30 (Nat.le_of_ble_eq_true rfl) (Nat.le_of_ble_eq_true rfl) rfl ?_
      refine v_iconst dX0_check_31 ?_
      refine v_istore_n (L' := [some (vr v0), some (vi v1), some (vi x5), some (vi (iI 0))]) dX0_check_32 (Nat.le_of_ble_eq_true rfl) (Nat.le_of_ble_eq_true rfl) rfl ?_
      exact v_weak (wss (wss (wss (wss wse)))) (lX0_check_33 FU h)
    · rw [if_neg c] at h
      refine v_bipush dX0_check_18 rfl ?_
      exact v_retI h dX0_check_20 rfl
theorem tX0_check {E : EE} {l : Launch} {v0 : Option Nat} {v1 : Int32} {σ : Mem} {z : Int32 × Mem} (h : sX0_check v0 v1 σ = some z) : Mt E l mX0_check [vr v0, vi v1] σ (some (vi z.1), z.2) :=
  Mt.ofVL (by decide) (Nat.le_of_ble_eq_true rfl) (fun G hG => lX0_check h)
abbrev mX0_ups : MM := (yX0_ups, cX0_ups, 3, (Option.some Jvm.ClassFile.FieldType.int), 0, 0)
theorem dsX0_ups : DsOk yX0_ups 0 := ⟨by decide, by decide, by decide +kernel⟩
theorem lX0_ups_33 {E : EE} {G : GG} {k4 : Option Nat → Int32 → Int32 → Mem → Option (Int32 × Mem)} (hk4 : ∀ (v0 : Option Nat) (v1 : Int32) (v2 : Int32) (s : Mem) (z : Int32 × Mem), k4 v0 v1 v2 s = some z → V E mX0_ups G 4 [some (vr v0), some (vi v1), some (vi v2)] [] s (some (vi z.1), z.2)) {v0 : Option Nat} {v2 : Int32} {t0 : Int32} {t1 : Int32} {σ : Mem} {z : Int32 × Mem} (h : sX0_ups_33 k4 v0 v2 t0 t1 σ = some z) : V E mX0_ups G 33 [some (vr v0), none, some (vi v2)] [vi t1, vi t0] σ (some (vi z.1), z.2) := by
  unfold sX0_ups_33 at h
  refine v_ior dX0_ups_33 ?_
  refine v_istore_n (L' := [some (vr v0), some (vi (t0 ||| t1)), some (vi v2)]) dX0_ups_34 (Nat.le_of_ble_eq_true rfl) (Nat.le_of_ble_eq_true rfl) rfl ?_
  refine v_iinc (L' := [some (vr v0), some (vi (t0 ||| t1)), some (vi (v2 + iI 1))]) dX0_ups_35 (Nat.le_of_ble_eq_true rfl) rfl rfl ?_
  refine v_goto (tgt := 4) dX0_ups_38 (by decide) ?_
  exact v_weak (wss (wss (wss wse))) (hk4 _ _ _ _ _ h)
theorem lX0_ups_4b {E : EE} {G : GG} {k4 : Option Nat → Int32 → Int32 → Mem → Option (Int32 × Mem)} (hk4 : ∀ (v0 : Option Nat) (v1 : Int32) (v2 : Int32) (s : Mem) (z : Int32 × Mem), k4 v0 v1 v2 s = some z → V E mX0_ups G 4 [some (vr v0), some (vi v1), some (vi v2)] [] s (some (vi z.1), z.2)) {v0 : Option Nat} {v1 : Int32} {v2 : Int32} {σ : Mem} {z : Int32 × Mem} (h : sX0_ups_4b k4 v0 v1 v2 σ = some z) : V E mX0_ups G 4 [some (vr v0), some (vi v1), some (vi v2)] [] σ (some (vi z.1), z.2) := by
  unfold sX0_ups_4b at h
  refine v_il2 dX0_ups_4 ?_
  refine v_bipush dX0_ups_5 rfl ?_
  refine v_icmp_ge (tgt := 41) dX0_ups_7 (by decide) (fun c => ?_) (fun c => ?_)
  · rw [if_pos c] at h
    refine v_il1 dX0_ups_41 ?_
    exact v_retI h dX0_ups_42 rfl
  · rw [if_neg c] at h
    refine v_il1 dX0_ups_10 ?_
    refine v_al0 dX0_ups_11 ?_
    refine v_gR cok0 h dX0_ups_12 (by decide) q538 rfl (fun x1 h => ?_)
    refine v_gRN cok2 h dX0_ups_15 (by decide) q360 rfl (fun x2 h => ?_)
    refine v_il2 dX0_ups_18 ?_
    refine v_aR h (by decide) dX0_ups_19 (fun x3 h => ?_)
    refine v_gIN cok3 h dX0_ups_20 (by decide) q307 rfl (fun x4 h => ?_)
    refine v_if_eq (tgt := 32) dX0_ups_23 (by decide) (fun c => ?_) (fun c => ?_)
    · rw [if_pos c] at h
      refine v_iconst dX0_ups_32 ?_
      exact v_weak (wss (wsn (wss wse))) (lX0_ups_33 hk4 h)
    · rw [if_neg c] at h
      refine v_iconst dX0_ups_26 ?_
      refine v_il2 dX0_ups_27 ?_
      refine v_ishl dX0_ups_28 ?_
      refine v_goto (tgt := 33) dX0_ups_29 (by decide) ?_
      exact v_weak (wss (wsn (wss wse))) (lX0_ups_33 hk4 h)
theorem lX0_ups_4 {E : EE} {G : GG} : ∀ (f : Nat) {v0 : Option Nat} {v1 : Int32} {v2 : Int32} {σ : Mem} {z : Int32 × Mem}, sX0_ups_4 f v0 v1 v2 σ = some z → V E mX0_ups G 4 [some (vr v0), some (vi v1), some (vi v2)] [] σ (some (vi z.1), z.2)
  | 0, _, _, _, _, _, h => by cases h
  | f + 1, _, _, _, _, _, h => lX0_ups_4b (fun _ _ _ _ _ h => lX0_ups_4 f h) h
theorem lX0_ups {E : EE} {G : GG} {v0 : Option Nat} {σ : Mem} {z : Int32 × Mem} (h : sX0_ups v0 σ = some z) : V E mX0_ups G 0 [some (vr v0), none, none] [] σ (some (vi z.1), z.2) := by
  unfold sX0_ups at h
  refine v_iconst dX0_ups_0 ?_
  refine v_istore_n (L' := [some (vr v0), some (vi (iI 0)), none]) dX0_ups_1 (Nat.le_of_ble_eq_true rfl) (Nat.le_of_ble_eq_true rfl) rfl ?_
  refine v_iconst dX0_ups_2 ?_
  refine v_istore_n (L' := [some (vr v0), some (vi (iI 0)), some (vi (iI 0))]) dX0_ups_3 (Nat.le_of_ble_eq_true rfl) (Nat.le_of_ble_eq_true rfl) rfl ?_
  exact v_weak (wss (wss (wss wse))) (lX0_ups_4 FU h)
theorem tX0_ups {E : EE} {l : Launch} {v0 : Option Nat} {σ : Mem} {z : Int32 × Mem} (h : sX0_ups v0 σ = some z) : Mt E l mX0_ups [vr v0] σ (some (vi z.1), z.2) :=
  Mt.ofVL (by decide) (Nat.le_of_ble_eq_true rfl) (fun G hG => lX0_ups h)
abbrev mX0_cutLinks : MM := (yX0_cutLinks, cX0_cutLinks, 6, (Option.some Jvm.ClassFile.FieldType.int), 1, 20)
theorem dsX0_cutLinks : DsOk yX0_cutLinks 0 := ⟨by decide, by decide, by decide +kernel⟩
theorem lX0_cutLinks_16b {E : EE} {G : GG} {k16 : Int32 → Option Nat → Int32 → Int32 → Mem → Option (Int32 × Mem)} (hk16 : ∀ (v1 : Int32) (v2 : Option Nat) (v3 : Int32) (v4 : Int32) (s : Mem) (z : Int32 × Mem), k16 v1 v2 v3 v4 s = some z → V E mX0_cutLinks G 16 [none, some (vi v1), some (vr v2), some (vi v3), some (vi v4), none] [] s (some (vi z.1), z.2)) {v1 : Int32} {v2 : Option Nat} {v3 : Int32} {v4 : Int32} {σ : Mem} {z : Int32 × Mem} (h : sX0_cutLinks_16b k16 v1 v2 v3 v4 σ = some z) : V E mX0_cutLinks G 16 [none, some (vi v1), some (vr v2), some (vi v3), some (vi v4), none] [] σ (some (vi z.1), z.2) := by
  unfold sX0_cutLinks_16b at h
  refine v_iload dX0_cutLinks_16 rfl ?_
  refine v_il3 dX0_cutLinks_18 ?_
  refine v_icmp_ge (tgt := 42) dX0_cutLinks_19 (by decide) (fun c => ?_) (fun c => ?_)
  · rw [if_pos c] at h
    refine v_il1 dX0_cutLinks_42 ?_
    refine v_iconst dX0_cutLinks_43 ?_
    obtain ⟨hne, h⟩ := dv_some h
    refine v_idiv dX0_cutLinks_44 hne ?_
    generalize v1 / (iI 2) = x1 at h ⊢
    exact v_retI h dX0_cutLinks_45 rfl
  · rw [if_neg c] at h
    refine v_al2 dX0_cutLinks_22 ?_
    refine v_iload dX0_cutLinks_23 rfl ?_
    refine v_aI h dX0_cutLinks_25 (fun x2 h => ?_)
    refine v_istore (L' := [none, some (vi v1), some (vr v2), some (vi v3), some (vi v4), some (vi x2)]) dX0_cutLinks_26 (Nat.le_of_ble_eq_true rfl) (Nat.le_of_ble_eq_true rfl) rfl ?_
    refine v_il1 dX0_cutLinks_28 ?_
    refine v_iload dX0_cutLinks_29 rfl ?_
    obtain ⟨x3, s4, h1, h⟩ := cl_some h
    refine v_callS1 (As := [vi x2]) (tJ1_bitCount h1) (lw_S q1361 q723 q168 q724) dsJ1_bitCount ⟨Nat.le_of_ble_eq_true rfl, Nat.le_of_ble_eq_true rfl⟩ (Nat.le_of_ble_eq_true rfl) dX0_cutLinks_31 rfl ?_
    refine v_iadd dX0_cutLinks_34 ?_
    refine v_istore_n (L' := [none, some (vi (v1 + x3)), some (vr v2), some (vi v3), some (vi v4), some (vi x2)]) dX0_cutLinks_35 (Nat.le_of_ble_eq_true rfl) (Nat.le_of_ble_eq_true rfl) rfl ?_
    refine v_iinc (L' := [none, some (vi (v1 + x3)), some (vr v2), some (vi v3), some (vi (v4 + iI 1)), some (vi x2)]) dX0_cutLinks_36 (Nat.le_of_ble_eq_true rfl) rfl rfl ?_
    refine v_goto (tgt := 16) dX0_cutLinks_39 (by decide) ?_
    exact v_weak (wsn (wss (wss (wss (wss (wsn wse)))))) (hk16 _ _ _ _ _ _ h)
theorem lX0_cutLinks_16 {E : EE} {G : GG} : ∀ (f : Nat) {v1 : Int32} {v2 : Option Nat} {v3 : Int32} {v4 : Int32} {σ : Mem} {z : Int32 × Mem}, sX0_cutLinks_16 f v1 v2 v3 v4 σ = some z → V E mX0_cutLinks G 16 [none, some (vi v1), some (vr v2), some (vi v3), some (vi v4), none] [] σ (some (vi z.1), z.2)
  | 0, _, _, _, _, _, _, h => by cases h
  | f + 1, _, _, _, _, _, _, h => lX0_cutLinks_16b (fun _ _ _ _ _ _ h => lX0_cutLinks_16 f h) h
theorem lX0_cutLinks {E : EE} {G : GG} {v0 : Option Nat} {σ : Mem} {z : Int32 × Mem} (h : sX0_cutLinks v0 σ = some z) : V E mX0_cutLinks G 0 [some (vr v0), none, none, none, none, none] [] σ (some (vi z.1), z.2) := by
  unfold sX0_cutLinks at h
  refine v_iconst dX0_cutLinks_0 ?_
  refine v_istore_n (L' := [some (vr v0), some (vi (iI 0)), none, none, none, none]) dX0_cutLinks_1 (Nat.le_of_ble_eq_true rfl) (Nat.le_of_ble_eq_true rfl) rfl ?_
  refine v_al0 dX0_cutLinks_2 ?_
  refine v_gR cok0 h dX0_cutLinks_3 (by decide) q538 rfl (fun x1 h => ?_)
  refine v_gRN cok2 h dX0_cutLinks_6 (by decide) q368 rfl (fun x2 h => ?_)
  refine v_astore_n (L' := [some (vr v0), some (vi (iI 0)), some (vr x2), none, none, none]) dX0_cutLinks_9 (Nat.le_of_ble_eq_true rfl) (Nat.le_of_ble_eq_true rfl) rfl ?_
  refine v_al2 dX0_cutLinks_10 ?_
  refine v_aLi h (by decide) dX0_cutLinks_11 (fun x3 h => ?_)
  refine v_istore_n (L' := [some (vr v0), some (vi (iI 0)), some (vr x2), some (vi x3), none, none]) dX0_cutLinks_12 (Nat.le_of_ble_eq_true rfl) (Nat.le_of_ble_eq_true rfl) rfl ?_
  refine v_iconst dX0_cutLinks_13 ?_
  refine v_istore (L' := [some (vr v0), some (vi (iI 0)), some (vr x2), some (vi x3), some (vi (iI 0)), none]) dX0_cutLinks_14 (Nat.le_of_ble_eq_true rfl) (Nat.le_of_ble_eq_true rfl) rfl ?_
  exact v_weak (wsn (wss (wss (wss (wss (wsn wse)))))) (lX0_cutLinks_16 FU h)
theorem tX0_cutLinks {E : EE} {l : Launch} {v0 : Option Nat} {σ : Mem} {z : Int32 × Mem} (h : sX0_cutLinks v0 σ = some z) : Mt E l mX0_cutLinks [vr v0] σ (some (vi z.1), z.2) :=
  Mt.ofVL (by decide) (Nat.le_of_ble_eq_true rfl) (fun G hG => lX0_cutLinks h)
abbrev mX0_count : MM := (yX0_count, cX0_count, 2, (Option.some Jvm.ClassFile.FieldType.int), 2, 45)
theorem dsX0_count : DsOk yX0_count 1 := ⟨by decide, by decide, by decide +kernel⟩
theorem lX0_count {E : EE} {G : GG} {v0 : Option Nat} {v1 : Int32} {σ : Mem} {z : Int32 × Mem} (h : sX0_count v0 v1 σ = some z) : V E mX0_count G 0 [some (vr v0), some (vi v1)] [] σ (some (vi z.1), z.2) := by
  unfold sX0_count at h
  refine v_il1 dX0_count_0 ?_
  by_cases c0 : v1 = iI 0
  · rw [if_pos c0] at h
    refine v_tabIn (tgt := 56) dX0_count_1 (by rw [c0]; decide) (by rw [c0]; decide) (by rw [c0]; rfl) (by decide) ?_
    refine v_al0 dX0_count_56 ?_
    refine v_gR cok0 h dX0_count_57 (by decide) q538 rfl (fun x1 h => ?_)
    refine v_gIN cok2 h dX0_count_60 (by decide) q374 rfl (fun x2 h => ?_)
    exact v_retI h dX0_count_63 rfl
  · rw [if_neg c0] at h
    by_cases c1 : v1 = iI 1
    · rw [if_pos c1] at h
      refine v_tabIn (tgt := 64) dX0_count_1 (by rw [c1]; decide) (by rw [c1]; decide) (by rw [c1]; rfl) (by decide) ?_
      refine v_al0 dX0_count_64 ?_
      obtain ⟨b65, er, ka, h⟩ := cV_some h
      obtain ⟨x3, s4, h1, h⟩ := cl_some h
      refine v_callV1 cok0 (As := []) er ka (tX0_ups h1) (lw_V q1353 q1355 qs54 q158 q1356) rfl dsX0_ups ⟨Nat.le_of_ble_eq_true rfl, Nat.le_of_ble_eq_true rfl⟩ (Nat.le_of_ble_eq_true rfl) dX0_count_65 rfl ?_
      exact v_retI h dX0_count_68 rfl
    · rw [if_neg c1] at h
      by_cases c2 : v1 = iI 2
      · rw [if_pos c2] at h
        refine v_tabIn (tgt := 69) dX0_count_1 (by rw [c2]; decide) (by rw [c2]; decide) (by rw [c2]; rfl) (by decide) ?_
        refine v_al0 dX0_count_69 ?_
        refine v_gR cok0 h dX0_count_70 (by decide) q538 rfl (fun x5 h => ?_)
        refine v_gIN cok2 h dX0_count_73 (by decide) q372 rfl (fun x6 h => ?_)
        exact v_retI h dX0_count_76 rfl
      · rw [if_neg c2] at h
        by_cases c3 : v1 = iI 3
        · rw [if_pos c3] at h
          refine v_tabIn (tgt := 77) dX0_count_1 (by rw [c3]; decide) (by rw [c3]; decide) (by rw [c3]; rfl) (by decide) ?_
          refine v_al0 dX0_count_77 ?_
          refine v_gR cok0 h dX0_count_78 (by decide) q538 rfl (fun x7 h => ?_)
          refine v_gIN cok2 h dX0_count_81 (by decide) q382 rfl (fun x8 h => ?_)
          exact v_retI h dX0_count_84 rfl
        · rw [if_neg c3] at h
          by_cases c4 : v1 = iI 4
          · rw [if_pos c4] at h
            refine v_tabIn (tgt := 85) dX0_count_1 (by rw [c4]; decide) (by rw [c4]; decide) (by rw [c4]; rfl) (by decide) ?_
            refine v_al0 dX0_count_85 ?_
            refine v_gR cok0 h dX0_count_86 (by decide) q545 rfl (fun x9 h => ?_)
            refine v_gIN cok4 h dX0_count_89 (by decide) q442 rfl (fun x10 h => ?_)
            exact v_retI h dX0_count_92 rfl
          · rw [if_neg c4] at h
            by_cases c5 : v1 = iI 5
            · rw [if_pos c5] at h
              refine v_tabIn (tgt := 93) dX0_count_1 (by rw [c5]; decide) (by rw [c5]; decide) (by rw [c5]; rfl) (by decide) ?_
              refine v_al0 dX0_count_93 ?_
              refine v_gI cok0 h dX0_count_94 (by decide) q546 rfl (fun x11 h => ?_)
              exact v_retI h dX0_count_97 rfl
            · rw [if_neg c5] at h
              by_cases c6 : v1 = iI 6
              · rw [if_pos c6] at h
                refine v_tabIn (tgt := 98) dX0_count_1 (by rw [c6]; decide) (by rw [c6]; decide) (by rw [c6]; rfl) (by decide) ?_
                refine v_al0 dX0_count_98 ?_
                refine v_gR cok0 h dX0_count_99 (by decide) q538 rfl (fun x12 h => ?_)
                refine v_gIN cok2 h dX0_count_102 (by decide) q376 rfl (fun x13 h => ?_)
                exact v_retI h dX0_count_105 rfl
              · rw [if_neg c6] at h
                by_cases c7 : v1 = iI 7
                · rw [if_pos c7] at h
                  refine v_tabIn (tgt := 106) dX0_count_1 (by rw [c7]; decide) (by rw [c7]; decide) (by rw [c7]; rfl) (by decide) ?_
                  refine v_al0 dX0_count_106 ?_
                  refine v_gR cok0 h dX0_count_107 (by decide) q538 rfl (fun x14 h => ?_)
                  refine v_gIN cok2 h dX0_count_110 (by decide) q386 rfl (fun x15 h => ?_)
                  exact v_retI h dX0_count_113 rfl
                · rw [if_neg c7] at h
                  by_cases c8 : v1 = iI 8
                  · rw [if_pos c8] at h
                    refine v_tabIn (tgt := 114) dX0_count_1 (by rw [c8]; decide) (by rw [c8]; decide) (by rw [c8]; rfl) (by decide) ?_
                    refine v_al0 dX0_count_114 ?_
                    refine v_gR cok0 h dX0_count_115 (by decide) q538 rfl (fun x16 h => ?_)
                    refine v_gIN cok2 h dX0_count_118 (by decide) q380 rfl (fun x17 h => ?_)
                    exact v_retI h dX0_count_121 rfl
                  · rw [if_neg c8] at h
                    by_cases c9 : v1 = iI 9
                    · rw [if_pos c9] at h
                      refine v_tabIn (tgt := 122) dX0_count_1 (by rw [c9]; decide) (by rw [c9]; decide) (by rw [c9]; rfl) (by decide) ?_
                      refine v_al0 dX0_count_122 ?_
                      obtain ⟨b123, er, ka, h⟩ := cV_some h
                      obtain ⟨x18, s19, h1, h⟩ := cl_some h
                      refine v_callV1 cok0 (As := []) er ka (tX0_cutLinks h1) (lw_V q1357 q1359 qs55 q158 q1360) rfl dsX0_cutLinks ⟨Nat.le_of_ble_eq_true rfl, Nat.le_of_ble_eq_true rfl⟩ (Nat.le_of_ble_eq_true rfl) dX0_count_123 rfl ?_
                      exact v_retI h dX0_count_126 rfl
                    · rw [if_neg c9] at h
                      refine v_tabOut (tgt := 127) dX0_count_1 (tab_out (fun j h1 h2 => ?_) (by decide) (by decide)) (by decide) ?_
                      · rcases (show j = 0 ∨ j = 1 ∨ j = 2 ∨ j = 3 ∨ j = 4 ∨ j = 5 ∨ j = 6 ∨ j = 7 ∨ j = 8 ∨ j = 9 by omega) with rfl | rfl | rfl | rfl | rfl | rfl | rfl | rfl | rfl | rfl
                        · exact c0
                        · exact c1
                        · exact c2
                        · exact c3
                        · exact c4
                        · exact c5
                        · exact c6
                        · exact c7
                        · exact c8
                        · exact c9
                      refine v_iconst dX0_count_127 ?_
                      exact v_retI h dX0_count_128 rfl
theorem tX0_count {E : EE} {l : Launch} {v0 : Option Nat} {v1 : Int32} {σ : Mem} {z : Int32 × Mem} (h : sX0_count v0 v1 σ = some z) : Mt E l mX0_count [vr v0, vi v1] σ (some (vi z.1), z.2) :=
  Mt.ofVL (by decide) (Nat.le_of_ble_eq_true rfl) (fun G hG => lX0_count h)
