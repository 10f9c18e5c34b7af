set_option maxRecDepth 100000
abbrev mX8_sets : MM := (yX8_sets, cX8_sets, 4, (Option.none : Option Jvm.ClassFile.FieldType), 0, 0)
theorem dsX8_sets : DsOk yX8_sets 3 := ⟨by decide, by decide, by decide +kernel⟩
theorem lX8_sets {E : EE} {G : GG} {v0 : Option Nat} {v1 : Int32} {v2 : Int32} {v3 : Int32} {σ : Mem} {z : Unit × Mem} (h : sX8_sets v0 v1 v2 v3 σ = some z) : V E mX8_sets G 0 [some (vr v0), some (vi v1), some (vi v2), some (vi v3)] [] σ (none, z.2) := by
  unfold sX8_sets at h
  refine v_al0 dX8_sets_0 ?_
  refine v_gR cok6 h dX8_sets_1 (by decide) q1401 rfl (fun x1 h => ?_)
  refine v_sipush dX8_sets_4 rfl ?_
  refine v_il1 dX8_sets_7 ?_
  refine v_imul dX8_sets_8 ?_
  refine v_il2 dX8_sets_9 ?_
  refine v_iadd dX8_sets_10 ?_
  refine v_il3 dX8_sets_11 ?_
  refine v_sI h dX8_sets_12 (fun s2 h => ?_)
  exact v_retV h dX8_sets_13 rfl
theorem tX8_sets {E : EE} {l : Launch} {v0 : Option Nat} {v1 : Int32} {v2 : Int32} {v3 : Int32} {σ : Mem} {z : Unit × Mem} (h : sX8_sets v0 v1 v2 v3 σ = some z) : Mt E l mX8_sets [vr v0, vi v1, vi v2, vi v3] σ (none, z.2) :=
  Mt.ofVL (by decide) (Nat.le_of_ble_eq_true rfl) (fun G hG => lX8_sets h)
abbrev mX8_the : MM := (yX8_the, cX8_the, 3, (Option.some Jvm.ClassFile.FieldType.int), 0, 0)
theorem dsX8_the : DsOk yX8_the 2 := ⟨by decide, by decide, by decide +kernel⟩
theorem lX8_the {E : EE} {G : GG} {v0 : Option Nat} {v1 : Int32} {v2 : Int32} {σ : Mem} {z : Int32 × Mem} (h : sX8_the v0 v1 v2 σ = some z) : V E mX8_the G 0 [some (vr v0), some (vi v1), some (vi v2)] [] σ (some (vi z.1), z.2) := by
  unfold sX8_the at h
  refine v_al0 dX8_the_0 ?_
  refine v_gR cok6 h dX8_the_1 (by decide) q1401 rfl (fun x1 h => ?_)
  refine v_sipush dX8_the_4 rfl ?_
  refine v_il1 dX8_the_7 ?_
  refine v_imul dX8_the_8 ?_
  refine v_il2 dX8_the_9 ?_
  refine v_iadd dX8_the_10 ?_
  refine v_aI h dX8_the_11 (fun x2 h => ?_)
  exact v_retI h dX8_the_12 rfl
theorem tX8_the {E : EE} {l : Launch} {v0 : Option Nat} {v1 : Int32} {v2 : Int32} {σ : Mem} {z : Int32 × Mem} (h : sX8_the v0 v1 v2 σ = some z) : Mt E l mX8_the [vr v0, vi v1, vi v2] σ (some (vi z.1), z.2) :=
  Mt.ofVL (by decide) (Nat.le_of_ble_eq_true rfl) (fun G hG => lX8_the h)
abbrev mX8_feels : MM := (yX8_feels, cX8_feels, 4, (Option.some Jvm.ClassFile.FieldType.int), 1, 22)
theorem dsX8_feels : DsOk yX8_feels 3 := ⟨by decide, by decide, by decide +kernel⟩
theorem lX8_feels {E : EE} {G : GG} {v0 : Option Nat} {v1 : Int32} {v2 : Int32} {v3 : Int32} {σ : Mem} {z : Int32 × Mem} (h : sX8_feels v0 v1 v2 v3 σ = some z) : V E mX8_feels G 0 [some (vr v0), some (vi v1), some (vi v2), some (vi v3)] [] σ (some (vi z.1), z.2) := by
  unfold sX8_feels at h
  refine v_al0 dX8_feels_0 ?_
  refine v_gR cok6 h dX8_feels_1 (by decide) q1401 rfl (fun x1 h => ?_)
  refine v_sipush dX8_feels_4 rfl ?_
  refine v_sipush dX8_feels_7 rfl ?_
  refine v_al0 dX8_feels_10 ?_
  refine v_gR cok6 h dX8_feels_11 (by decide) q1401 rfl (fun x2 h => ?_)
  refine v_sipush dX8_feels_14 rfl ?_
  refine v_aI h dX8_feels_17 (fun x3 h => ?_)
  refine v_imul dX8_feels_18 ?_
  refine v_sipush dX8_feels_19 rfl ?_
  refine v_iadd dX8_feels_22 ?_
  refine v_ldcwI (n := 65536) dX8_feels_23 q1384 rfl ?_
  obtain ⟨hne, h⟩ := rm_some h
  refine v_irem dX8_feels_26 hne ?_
  generalize (((iI 25173) * x3) + (iI 13849)) - (((iI 25173) * x3) + (iI 13849)) / (iI 65536) * (iI 65536) = x4 at h ⊢
  refine v_sI h dX8_feels_27 (fun s5 h => ?_)
  refine v_al0 dX8_feels_28 ?_
  refine v_gR cok6 h dX8_feels_29 (by decide) q1429 rfl (fun x6 h => ?_)
  refine v_iconst dX8_feels_32 ?_
  refine v_il1 dX8_feels_33 ?_
  refine v_sI h dX8_feels_34 (fun s7 h => ?_)
  refine v_al0 dX8_feels_35 ?_
  refine v_gR cok6 h dX8_feels_36 (by decide) q1429 rfl (fun x8 h => ?_)
  refine v_iconst dX8_feels_39 ?_
  refine v_il2 dX8_feels_40 ?_
  refine v_sI h dX8_feels_41 (fun s9 h => ?_)
  refine v_al0 dX8_feels_42 ?_
  refine v_gR cok6 h dX8_feels_43 (by decide) q1429 rfl (fun x10 h => ?_)
  refine v_iconst dX8_feels_46 ?_
  refine v_il3 dX8_feels_47 ?_
  refine v_sI h dX8_feels_48 (fun s11 h => ?_)
  refine v_al0 dX8_feels_49 ?_
  refine v_gR cok6 h dX8_feels_50 (by decide) q1429 rfl (fun x12 h => ?_)
  refine v_iconst dX8_feels_53 ?_
  refine v_al0 dX8_feels_54 ?_
  refine v_il1 dX8_feels_55 ?_
  refine v_iconst dX8_feels_56 ?_
  obtain ⟨b57, er, ka, h⟩ := cV_some h
  obtain ⟨x13, s14, h1, h⟩ := cl_some h
  refine v_callV1 cok6 (As := [vi v1, vi (iI 1)]) er ka (tX8_the h1) (lw_V q1385 q1387 qs60 q167 q1388) rfl dsX8_the ⟨Nat.le_of_ble_eq_true rfl, Nat.le_of_ble_eq_true rfl⟩ (Nat.le_of_ble_eq_true rfl) dX8_feels_57 rfl ?_
  refine v_bipush dX8_feels_60 rfl ?_
  obtain ⟨hne, h⟩ := rm_some h
  refine v_irem dX8_feels_62 hne ?_
  generalize x13 - x13 / (iI 100) * (iI 100) = x15 at h ⊢
  refine v_sI h dX8_feels_63 (fun s16 h => ?_)
  refine v_al0 dX8_feels_64 ?_
  refine v_gR cok6 h dX8_feels_65 (by decide) q1429 rfl (fun x17 h => ?_)
  refine v_iconst dX8_feels_68 ?_
  refine v_al0 dX8_feels_69 ?_
  refine v_gR cok6 h dX8_feels_70 (by decide) q1401 rfl (fun x18 h => ?_)
  refine v_sipush dX8_feels_73 rfl ?_
  refine v_aI h dX8_feels_76 (fun x19 h => ?_)
  refine v_sI h dX8_feels_77 (fun s20 h => ?_)
  refine v_al0 dX8_feels_78 ?_
  refine v_gR cok6 h dX8_feels_79 (by decide) q1429 rfl (fun x21 h => ?_)
  refine v_iconst dX8_feels_82 ?_
  refine v_al0 dX8_feels_83 ?_
  refine v_gR cok6 h dX8_feels_84 (by decide) q1401 rfl (fun x22 h => ?_)
  refine v_sipush dX8_feels_87 rfl ?_
  refine v_aI h dX8_feels_90 (fun x23 h => ?_)
  refine v_bipush dX8_feels_91 rfl ?_
  obtain ⟨hne, h⟩ := rm_some h
  refine v_irem dX8_feels_93 hne ?_
  generalize x23 - x23 / (iI 100) * (iI 100) = x24 at h ⊢
  refine v_sI h dX8_feels_94 (fun s25 h => ?_)
  refine v_al0 dX8_feels_95 ?_
  refine v_gR cok6 h dX8_feels_96 (by decide) q1429 rfl (fun x26 h => ?_)
  refine v_bipush dX8_feels_99 rfl ?_
  refine v_al0 dX8_feels_101 ?_
  refine v_gR cok6 h dX8_feels_102 (by decide) q1401 rfl (fun x27 h => ?_)
  refine v_sipush dX8_feels_105 rfl ?_
  refine v_aI h dX8_feels_108 (fun x28 h => ?_)
  refine v_bipush dX8_feels_109 rfl ?_
  obtain ⟨hne, h⟩ := rm_some h
  refine v_irem dX8_feels_111 hne ?_
  generalize x28 - x28 / (iI 10) * (iI 10) = x29 at h ⊢
  refine v_sI h dX8_feels_112 (fun s30 h => ?_)
  refine v_al0 dX8_feels_113 ?_
  refine v_gR cok6 h dX8_feels_114 (by decide) q1429 rfl (fun x31 h => ?_)
  refine v_bipush dX8_feels_117 rfl ?_
  refine v_aI h dX8_feels_119 (fun x32 h => ?_)
  exact v_retI h dX8_feels_120 rfl
theorem tX8_feels {E : EE} {l : Launch} {v0 : Option Nat} {v1 : Int32} {v2 : Int32} {v3 : Int32} {σ : Mem} {z : Int32 × Mem} (h : sX8_feels v0 v1 v2 v3 σ = some z) : Mt E l mX8_feels [vr v0, vi v1, vi v2, vi v3] σ (some (vi z.1), z.2) :=
  Mt.ofVL (by decide) (Nat.le_of_ble_eq_true rfl) (fun G hG => lX8_feels h)
abbrev mX8_reckon : MM := (yX8_reckon, cX8_reckon, 3, (Option.some Jvm.ClassFile.FieldType.int), 0, 0)
theorem dsX8_reckon : DsOk yX8_reckon 3 := ⟨by decide, by decide, by decide +kernel⟩
theorem lX8_reckon {E : EE} {G : GG} {v0 : Int32} {v1 : Int32} {v2 : Int32} {σ : Mem} {z : Int32 × Mem} (h : sX8_reckon v0 v1 v2 σ = some z) : V E mX8_reckon G 0 [some (vi v0), some (vi v1), some (vi v2)] [] σ (some (vi z.1), z.2) := by
  unfold sX8_reckon at h
  refine v_il0 dX8_reckon_0 ?_
  by_cases c0 : v0 = iI 2
  · rw [if_pos c0] at h
    refine v_tabIn (tgt := 44) dX8_reckon_1 (by rw [c0]; decide) (by rw [c0]; decide) (by rw [c0]; rfl) (by decide) ?_
    refine v_il1 dX8_reckon_44 ?_
    refine v_il2 dX8_reckon_45 ?_
    refine v_iadd dX8_reckon_46 ?_
    exact v_retI h dX8_reckon_47 rfl
  · rw [if_neg c0] at h
    by_cases c1 : v0 = iI 3
    · rw [if_pos c1] at h
      refine v_tabIn (tgt := 48) dX8_reckon_1 (by rw [c1]; decide) (by rw [c1]; decide) (by rw [c1]; rfl) (by decide) ?_
      refine v_il1 dX8_reckon_48 ?_
      refine v_il2 dX8_reckon_49 ?_
      refine v_isub dX8_reckon_50 ?_
      exact v_retI h dX8_reckon_51 rfl
    · rw [if_neg c1] at h
      by_cases c2 : v0 = iI 4
      · rw [if_pos c2] at h
        refine v_tabIn (tgt := 52) dX8_reckon_1 (by rw [c2]; decide) (by rw [c2]; decide) (by rw [c2]; rfl) (by decide) ?_
        refine v_il1 dX8_reckon_52 ?_
        refine v_il2 dX8_reckon_53 ?_
        refine v_imul dX8_reckon_54 ?_
        exact v_retI h dX8_reckon_55 rfl
      · rw [if_neg c2] at h
        by_cases c3 : v0 = iI 5
        · rw [if_pos c3] at h
          refine v_tabIn (tgt := 56) dX8_reckon_1 (by rw [c3]; decide) (by rw [c3]; decide) (by rw [c3]; rfl) (by decide) ?_
          refine v_il1 dX8_reckon_56 ?_
          refine v_il2 dX8_reckon_57 ?_
          obtain ⟨hne, h⟩ := dv_some h
          refine v_idiv dX8_reckon_58 hne ?_
          generalize v1 / v2 = x1 at h ⊢
          exact v_retI h dX8_reckon_59 rfl
        · rw [if_neg c3] at h
          by_cases c4 : v0 = iI 6
          · rw [if_pos c4] at h
            refine v_tabIn (tgt := 60) dX8_reckon_1 (by rw [c4]; decide) (by rw [c4]; decide) (by rw [c4]; rfl) (by decide) ?_
            refine v_il1 dX8_reckon_60 ?_
            refine v_il2 dX8_reckon_61 ?_
            obtain ⟨hne, h⟩ := rm_some h
            refine v_irem dX8_reckon_62 hne ?_
            generalize v1 - v1 / v2 * v2 = x2 at h ⊢
            exact v_retI h dX8_reckon_63 rfl
          · rw [if_neg c4] at h
            by_cases c5 : v0 = iI 7
            · rw [if_pos c5] at h
              refine v_tabIn (tgt := 64) dX8_reckon_1 (by rw [c5]; decide) (by rw [c5]; decide) (by rw [c5]; rfl) (by decide) ?_
              refine v_il1 dX8_reckon_64 ?_
              refine v_il2 dX8_reckon_65 ?_
              refine v_icmp_ge (tgt := 73) dX8_reckon_66 (by decide) (fun c => ?_) (fun c => ?_)
              · rw [if_pos c] at h
                refine v_iconst dX8_reckon_73 ?_
                exact v_retI h dX8_reckon_74 rfl
              · rw [if_neg c] at h
                refine v_iconst dX8_reckon_69 ?_
                refine v_goto (tgt := 74) dX8_reckon_70 (by decide) ?_
                exact v_retI h dX8_reckon_74 rfl
            · rw [if_neg c5] at h
              by_cases c6 : v0 = iI 8
              · rw [if_pos c6] at h
                refine v_tabIn (tgt := 75) dX8_reckon_1 (by rw [c6]; decide) (by rw [c6]; decide) (by rw [c6]; rfl) (by decide) ?_
                refine v_il1 dX8_reckon_75 ?_
                refine v_il2 dX8_reckon_76 ?_
                refine v_icmp_le (tgt := 84) dX8_reckon_77 (by decide) (fun c => ?_) (fun c => ?_)
                · rw [if_pos c] at h
                  refine v_iconst dX8_reckon_84 ?_
                  exact v_retI h dX8_reckon_85 rfl
                · rw [if_neg c] at h
                  refine v_iconst dX8_reckon_80 ?_
                  refine v_goto (tgt := 85) dX8_reckon_81 (by decide) ?_
                  exact v_retI h dX8_reckon_85 rfl
              · rw [if_neg c6] at h
                refine v_tabOut (tgt := 86) dX8_reckon_1 (tab_out (fun j h1 h2 => ?_) (by decide) (by decide)) (by decide) ?_
                · rcases (show j = 2 ∨ j = 3 ∨ j = 4 ∨ j = 5 ∨ j = 6 ∨ j = 7 ∨ j = 8 by omega) with rfl | rfl | rfl | rfl | rfl | rfl | rfl
                  · exact c0
                  · exact c1
                  · exact c2
                  · exact c3
                  · exact c4
                  · exact c5
                  · exact c6
                refine v_il1 dX8_reckon_86 ?_
                refine v_il2 dX8_reckon_87 ?_
                refine v_icmp_ne (tgt := 95) dX8_reckon_88 (by decide) (fun c => ?_) (fun c => ?_)
                · rw [if_neg c] at h
                  refine v_iconst dX8_reckon_95 ?_
                  exact v_retI h dX8_reckon_96 rfl
                · rw [if_pos c] at h
                  refine v_iconst dX8_reckon_91 ?_
                  refine v_goto (tgt := 96) dX8_reckon_92 (by decide) ?_
                  exact v_retI h dX8_reckon_96 rfl
theorem tX8_reckon {E : EE} {l : Launch} {v0 : Int32} {v1 : Int32} {v2 : Int32} {σ : Mem} {z : Int32 × Mem} (h : sX8_reckon v0 v1 v2 σ = some z) : Mt E l mX8_reckon [vi v0, vi v1, vi v2] σ (some (vi z.1), z.2) :=
  Mt.ofVL (by decide) (Nat.le_of_ble_eq_true rfl) (fun G hG => lX8_reckon h)
abbrev mX8_reckonsTo : MM := (yX8_reckonsTo, cX8_reckonsTo, 8, (Option.some Jvm.ClassFile.FieldType.int), 1, 22)
theorem dsX8_reckonsTo : DsOk yX8_reckonsTo 2 := ⟨by decide, by decide, by decide +kernel⟩
theorem lX8_reckonsTo_230 {E : EE} {G : GG} {k16 : Option Nat → Int32 → Int32 → Int32 → Int32 → Mem → Option (Int32 × Mem)} (hk16 : ∀ (v0 : Option Nat) (v2 : Int32) (v3 : Int32) (v4 : Int32) (v5 : Int32) (s : Mem) (z : Int32 × Mem), k16 v0 v2 v3 v4 v5 s = some z → V E mX8_reckonsTo G 16 [some (vr v0), none, some (vi v2), some (vi v3), some (vi v4), some (vi v5), none, none] [] s (some (vi z.1), z.2)) {v0 : Option Nat} {v2 : Int32} {v3 : Int32} {v4 : Int32} {v5 : Int32} {σ : Mem} {z : Int32 × Mem} (h : sX8_reckonsTo_230 k16 v0 v2 v3 v4 v5 σ = some z) : V E mX8_reckonsTo G 230 [some (vr v0), none, some (vi v2), some (vi v3), some (vi v4), some (vi v5), none, none] [] σ (some (vi z.1), z.2) := by
  unfold sX8_reckonsTo_230 at h
  refine v_goto (tgt := 16) dX8_reckonsTo_230 (by decide) ?_
  exact v_weak (wss (wsn (wss (wss (wss (wss (wsn (wsn wse)))))))) (hk16 _ _ _ _ _ _ _ h)
theorem lX8_reckonsTo_85 {E : EE} {G : GG} {k16 : Option Nat → Int32 → Int32 → Int32 → Int32 → Mem → Option (Int32 × Mem)} (hk16 : ∀ (v0 : Option Nat) (v2 : Int32) (v3 : Int32) (v4 : Int32) (v5 : Int32) (s : Mem) (z : Int32 × Mem), k16 v0 v2 v3 v4 v5 s = some z → V E mX8_reckonsTo G 16 [some (vr v0), none, some (vi v2), some (vi v3), some (vi v4), some (vi v5), none, none] [] s (some (vi z.1), z.2)) {v0 : Option Nat} {v2 : Int32} {v3 : Int32} {v4 : Int32} {v5 : Int32} {t0 : Option Nat} {t1 : Int32} {t2 : Int32} {σ : Mem} {z : Int32 × Mem} (h : sX8_reckonsTo_85 k16 v0 v2 v3 v4 v5 t0 t1 t2 σ = some z) : V E mX8_reckonsTo G 85 [some (vr v0), none, some (vi v2), some (vi v3), some (vi v4), some (vi v5), none, none] [vi t2, vi t1, vr t0] σ (some (vi z.1), z.2) := by
  unfold sX8_reckonsTo_85 at h
  refine v_sI h dX8_reckonsTo_85 (fun s1 h => ?_)
  refine v_il3 dX8_reckonsTo_86 ?_
  refine v_iconst dX8_reckonsTo_87 ?_
  refine v_iadd dX8_reckonsTo_88 ?_
  refine v_istore_n (L' := [some (vr v0), none, some (vi v2), some (vi (v3 + (iI 1))), some (vi v4), some (vi v5), none, none]) dX8_reckonsTo_89 (Nat.le_of_ble_eq_true rfl) (Nat.le_of_ble_eq_true rfl) rfl ?_
  refine v_goto (tgt := 230) dX8_reckonsTo_90 (by decide) ?_
  exact v_weak (wss (wsn (wss (wss (wss (wss (wsn (wsn wse)))))))) (lX8_reckonsTo_230 hk16 h)
theorem lX8_reckonsTo_63 {E : EE} {G : GG} {k16 : Option Nat → Int32 → Int32 → Int32 → Int32 → Mem → Option (Int32 × Mem)} (hk16 : ∀ (v0 : Option Nat) (v2 : Int32) (v3 : Int32) (v4 : Int32) (v5 : Int32) (s : Mem) (z : Int32 × Mem), k16 v0 v2 v3 v4 v5 s = some z → V E mX8_reckonsTo G 16 [some (vr v0), none, some (vi v2), some (vi v3), some (vi v4), some (vi v5), none, none] [] s (some (vi z.1), z.2)) {v0 : Option Nat} {v2 : Int32} {v3 : Int32} {v4 : Int32} {v5 : Int32} {v6 : Int32} {v7 : Int32} {σ : Mem} {z : Int32 × Mem} (h : sX8_reckonsTo_63 k16 v0 v2 v3 v4 v5 v6 v7 σ = some z) : V E mX8_reckonsTo G 63 [some (vr v0), none, some (vi v2), some (vi v3), some (vi v4), some (vi v5), some (vi v6), some (vi v7)] [] σ (some (vi z.1), z.2) := by
  unfold sX8_reckonsTo_63 at h
  refine v_al0 dX8_reckonsTo_63 ?_
  refine v_gR cok6 h dX8_reckonsTo_64 (by decide) q1428 rfl (fun x1 h => ?_)
  refine v_il3 dX8_reckonsTo_67 ?_
  refine v_iload dX8_reckonsTo_68 rfl ?_
  refine v_if_ne (tgt := 78) dX8_reckonsTo_70 (by decide) (fun c => ?_) (fun c => ?_)
  · rw [if_neg c] at h
    refine v_al0 dX8_reckonsTo_78 ?_
    refine v_gR cok6 h dX8_reckonsTo_79 (by decide) q1429 rfl (fun x2 h => ?_)
    refine v_iload dX8_reckonsTo_82 rfl ?_
    refine v_aI h dX8_reckonsTo_84 (fun x3 h => ?_)
    exact v_weak (wss (wsn (wss (wss (wss (wss (wsn (wsn wse)))))))) (lX8_reckonsTo_85 hk16 h)
  · rw [if_pos c] at h
    refine v_iload dX8_reckonsTo_73 rfl ?_
    refine v_goto (tgt := 85) dX8_reckonsTo_75 (by decide) ?_
    exact v_weak (wss (wsn (wss (wss (wss (wss (wsn (wsn wse)))))))) (lX8_reckonsTo_85 hk16 h)
theorem lX8_reckonsTo_155 {E : EE} {G : GG} {k16 : Option Nat → Int32 → Int32 → Int32 → Int32 → Mem → Option (Int32 × Mem)} (hk16 : ∀ (v0 : Option Nat) (v2 : Int32) (v3 : Int32) (v4 : Int32) (v5 : Int32) (s : Mem) (z : Int32 × Mem), k16 v0 v2 v3 v4 v5 s = some z → V E mX8_reckonsTo G 16 [some (vr v0), none, some (vi v2), some (vi v3), some (vi v4), some (vi v5), none, none] [] s (some (vi z.1), z.2)) {v0 : Option Nat} {v2 : Int32} {v3 : Int32} {v4 : Int32} {v5 : Int32} {v7 : Int32} {t0 : Int32} {t1 : Int32} {σ : Mem} {z : Int32 × Mem} (h : sX8_reckonsTo_155 k16 v0 v2 v3 v4 v5 v7 t0 t1 σ = some z) : V E mX8_reckonsTo G 155 [some (vr v0), none, some (vi v2), some (vi v3), some (vi v4), some (vi v5), none, some (vi v7)] [vi t1, vi t0] σ (some (vi z.1), z.2) := by
  unfold sX8_reckonsTo_155 at h
  refine v_icmp_ne (tgt := 168) dX8_reckonsTo_155 (by decide) (fun c => ?_) (fun c => ?_)
  · rw [if_neg c] at h
    refine v_il3 dX8_reckonsTo_168 ?_
    refine v_iconst dX8_reckonsTo_169 ?_
    refine v_isub dX8_reckonsTo_170 ?_
    refine v_istore_n (L' := [some (vr v0), none, some (vi v2), some (vi (v3 - (iI 1))), some (vi v4), some (vi v5), none, some (vi v7)]) dX8_reckonsTo_171 (Nat.le_of_ble_eq_true rfl) (Nat.le_of_ble_eq_true rfl) rfl ?_
    refine v_goto (tgt := 230) dX8_reckonsTo_172 (by decide) ?_
    exact v_weak (wss (wsn (wss (wss (wss (wss (wsn (wsn wse)))))))) (lX8_reckonsTo_230 hk16 h)
  · rw [if_pos c] at h
    refine v_iload dX8_reckonsTo_158 rfl ?_
    refine v_iload dX8_reckonsTo_160 rfl ?_
    refine v_iadd dX8_reckonsTo_162 ?_
    refine v_istore (L' := [some (vr v0), none, some (vi v2), some (vi v3), some (vi v4), some (vi (v4 + v7)), none, some (vi v7)]) dX8_reckonsTo_163 (Nat.le_of_ble_eq_true rfl) (Nat.le_of_ble_eq_true rfl) rfl ?_
    refine v_goto (tgt := 230) dX8_reckonsTo_165 (by decide) ?_
    exact v_weak (wss (wsn (wss (wss (wss (wss (wsn (wsn wse)))))))) (lX8_reckonsTo_230 hk16 h)
theorem lX8_reckonsTo_135 {E : EE} {G : GG} {k16 : Option Nat → Int32 → Int32 → Int32 → Int32 → Mem → Option (Int32 × Mem)} (hk16 : ∀ (v0 : Option Nat) (v2 : Int32) (v3 : Int32) (v4 : Int32) (v5 : Int32) (s : Mem) (z : Int32 × Mem), k16 v0 v2 v3 v4 v5 s = some z → V E mX8_reckonsTo G 16 [some (vr v0), none, some (vi v2), some (vi v3), some (vi v4), some (vi v5), none, none] [] s (some (vi z.1), z.2)) {v0 : Option Nat} {v2 : Int32} {v3 : Int32} {v4 : Int32} {v5 : Int32} {v6 : Int32} {v7 : Int32} {σ : Mem} {z : Int32 × Mem} (h : sX8_reckonsTo_135 k16 v0 v2 v3 v4 v5 v6 v7 σ = some z) : V E mX8_reckonsTo G 135 [some (vr v0), none, some (vi v2), some (vi v3), some (vi v4), some (vi v5), some (vi v6), some (vi v7)] [] σ (some (vi z.1), z.2) := by
  unfold sX8_reckonsTo_135 at h
  refine v_al0 dX8_reckonsTo_135 ?_
  refine v_gR cok6 h dX8_reckonsTo_136 (by decide) q1428 rfl (fun x1 h => ?_)
  refine v_il3 dX8_reckonsTo_139 ?_
  refine v_iconst dX8_reckonsTo_140 ?_
  refine v_isub dX8_reckonsTo_141 ?_
  refine v_aI h dX8_reckonsTo_142 (fun x2 h => ?_)
  refine v_iload dX8_reckonsTo_143 rfl ?_
  refine v_bipush dX8_reckonsTo_145 rfl ?_
  refine v_icmp_ne (tgt := 154) dX8_reckonsTo_147 (by decide) (fun c => ?_) (fun c => ?_)
  · rw [if_neg c] at h
    refine v_iconst dX8_reckonsTo_154 ?_
    exact v_weak (wss (wsn (wss (wss (wss (wss (wsn (wss wse)))))))) (lX8_reckonsTo_155 hk16 h)
  · rw [if_pos c] at h
    refine v_iconst dX8_reckonsTo_150 ?_
    refine v_goto (tgt := 155) dX8_reckonsTo_151 (by decide) ?_
    exact v_weak (wss (wsn (wss (wss (wss (wss (wsn (wss wse)))))))) (lX8_reckonsTo_155 hk16 h)
theorem lX8_reckonsTo_203 {E : EE} {G : GG} {k16 : Option Nat → Int32 → Int32 → Int32 → Int32 → Mem → Option (Int32 × Mem)} (hk16 : ∀ (v0 : Option Nat) (v2 : Int32) (v3 : Int32) (v4 : Int32) (v5 : Int32) (s : Mem) (z : Int32 × Mem), k16 v0 v2 v3 v4 v5 s = some z → V E mX8_reckonsTo G 16 [some (vr v0), none, some (vi v2), some (vi v3), some (vi v4), some (vi v5), none, none] [] s (some (vi z.1), z.2)) {v0 : Option Nat} {v2 : Int32} {v3 : Int32} {v4 : Int32} {v5 : Int32} {v6 : Int32} {σ : Mem} {z : Int32 × Mem} (h : sX8_reckonsTo_203 k16 v0 v2 v3 v4 v5 v6 σ = some z) : V E mX8_reckonsTo G 203 [some (vr v0), none, some (vi v2), some (vi v3), some (vi v4), some (vi v5), some (vi v6), none] [] σ (some (vi z.1), z.2) := by
  unfold sX8_reckonsTo_203 at h
  refine v_al0 dX8_reckonsTo_203 ?_
  refine v_gR cok6 h dX8_reckonsTo_204 (by decide) q1428 rfl (fun x1 h => ?_)
  refine v_il3 dX8_reckonsTo_207 ?_
  refine v_iconst dX8_reckonsTo_208 ?_
  refine v_isub dX8_reckonsTo_209 ?_
  refine v_iload dX8_reckonsTo_210 rfl ?_
  refine v_al0 dX8_reckonsTo_212 ?_
  refine v_gR cok6 h dX8_reckonsTo_213 (by decide) q1428 rfl (fun x2 h => ?_)
  refine v_il3 dX8_reckonsTo_216 ?_
  refine v_iconst dX8_reckonsTo_217 ?_
  refine v_isub dX8_reckonsTo_218 ?_
  refine v_aI h dX8_reckonsTo_219 (fun x3 h => ?_)
  refine v_al0 dX8_reckonsTo_220 ?_
  refine v_gR cok6 h dX8_reckonsTo_221 (by decide) q1428 rfl (fun x4 h => ?_)
  refine v_il3 dX8_reckonsTo_224 ?_
  refine v_aI h dX8_reckonsTo_225 (fun x5 h => ?_)
  obtain ⟨x6, s7, h1, h⟩ := cl_some h
  refine v_callS1 (As := [vi v6, vi x3, vi x5]) (tX8_reckon h1) (lw_S q1398 q1399 q167 q1400) dsX8_reckon ⟨Nat.le_of_ble_eq_true rfl, Nat.le_of_ble_eq_true rfl⟩ (Nat.le_of_ble_eq_true rfl) dX8_reckonsTo_226 rfl ?_
  refine v_sI h dX8_reckonsTo_229 (fun s8 h => ?_)
  exact v_weak (wss (wsn (wss (wss (wss (wss (wsn (wsn wse)))))))) (lX8_reckonsTo_230 hk16 h)
theorem lX8_reckonsTo_192 {E : EE} {G : GG} {k16 : Option Nat → Int32 → Int32 → Int32 → Int32 → Mem → Option (Int32 × Mem)} (hk16 : ∀ (v0 : Option Nat) (v2 : Int32) (v3 : Int32) (v4 : Int32) (v5 : Int32) (s : Mem) (z : Int32 × Mem), k16 v0 v2 v3 v4 v5 s = some z → V E mX8_reckonsTo G 16 [some (vr v0), none, some (vi v2), some (vi v3), some (vi v4), some (vi v5), none, none] [] s (some (vi z.1), z.2)) {v0 : Option Nat} {v2 : Int32} {v3 : Int32} {v4 : Int32} {v5 : Int32} {v6 : Int32} {σ : Mem} {z : Int32 × Mem} (h : sX8_reckonsTo_192 k16 v0 v2 v3 v4 v5 v6 σ = some z) : V E mX8_reckonsTo G 192 [some (vr v0), none, some (vi v2), some (vi v3), some (vi v4), some (vi v5), some (vi v6), none] [] σ (some (vi z.1), z.2) := by
  unfold sX8_reckonsTo_192 at h
  refine v_al0 dX8_reckonsTo_192 ?_
  refine v_gR cok6 h dX8_reckonsTo_193 (by decide) q1428 rfl (fun x1 h => ?_)
  refine v_il3 dX8_reckonsTo_196 ?_
  refine v_aI h dX8_reckonsTo_197 (fun x2 h => ?_)
  refine v_if_ne (tgt := 203) dX8_reckonsTo_198 (by decide) (fun c => ?_) (fun c => ?_)
  · rw [if_neg c] at h
    exact v_weak (wss (wsn (wss (wss (wss (wss (wss (wsn wse)))))))) (lX8_reckonsTo_203 hk16 h)
  · rw [if_pos c] at h
    refine v_iconst dX8_reckonsTo_201 ?_
    exact v_retI h dX8_reckonsTo_202 rfl
theorem lX8_reckonsTo_16b {E : EE} {G : GG} {k16 : Option Nat → Int32 → Int32 → Int32 → Int32 → Mem → Option (Int32 × Mem)} (hk16 : ∀ (v0 : Option Nat) (v2 : Int32) (v3 : Int32) (v4 : Int32) (v5 : Int32) (s : Mem) (z : Int32 × Mem), k16 v0 v2 v3 v4 v5 s = some z → V E mX8_reckonsTo G 16 [some (vr v0), none, some (vi v2), some (vi v3), some (vi v4), some (vi v5), none, none] [] s (some (vi z.1), z.2)) {v0 : Option Nat} {v2 : Int32} {v3 : Int32} {v4 : Int32} {v5 : Int32} {σ : Mem} {z : Int32 × Mem} (h : sX8_reckonsTo_16b k16 v0 v2 v3 v4 v5 σ = some z) : V E mX8_reckonsTo G 16 [some (vr v0), none, some (vi v2), some (vi v3), some (vi v4), some (vi v5), none, none] [] σ (some (vi z.1), z.2) := by
  unfold sX8_reckonsTo_16b at h
  refine v_iload dX8_reckonsTo_16 rfl ?_
  refine v_il2 dX8_reckonsTo_18 ?_
  refine v_icmp_ge (tgt := 233) dX8_reckonsTo_19 (by decide) (fun c => ?_) (fun c => ?_)
  · rw [if_pos c] at h
    refine v_al0 dX8_reckonsTo_233 ?_
    refine v_gR cok6 h dX8_reckonsTo_234 (by decide) q1428 rfl (fun x1 h => ?_)
    refine v_iconst dX8_reckonsTo_237 ?_
    refine v_aI h dX8_reckonsTo_238 (fun x2 h => ?_)
    exact v_retI h dX8_reckonsTo_239 rfl
  · rw [if_neg c] at h
    refine v_al0 dX8_reckonsTo_22 ?_
    refine v_gR cok6 h dX8_reckonsTo_23 (by decide) q1423 rfl (fun x3 h => ?_)
    refine v_iload dX8_reckonsTo_26 rfl ?_
    refine v_aI h dX8_reckonsTo_28 (fun x4 h => ?_)
    refine v_ldcI (n := 1048576) dX8_reckonsTo_29 q1397 rfl ?_
    obtain ⟨hne, h⟩ := dv_some h
    refine v_idiv dX8_reckonsTo_31 hne ?_
    generalize x4 / (iI 1048576) = x5 at h ⊢
    refine v_istore (L' := [some (vr v0), none, some (vi v2), some (vi v3), some (vi v4), some (vi v5), some (vi x5), none]) dX8_reckonsTo_32 (Nat.le_of_ble_eq_true rfl) (Nat.le_of_ble_eq_true rfl) rfl ?_
    refine v_al0 dX8_reckonsTo_34 ?_
    refine v_gR cok6 h dX8_reckonsTo_35 (by decide) q1423 rfl (fun x6 h => ?_)
    refine v_iload dX8_reckonsTo_38 rfl ?_
    refine v_aI h dX8_reckonsTo_40 (fun x7 h => ?_)
    refine v_ldcI (n := 1048576) dX8_reckonsTo_41 q1397 rfl ?_
    obtain ⟨hne, h⟩ := rm_some h
    refine v_irem dX8_reckonsTo_43 hne ?_
    generalize x7 - x7 / (iI 1048576) * (iI 1048576) = x8 at h ⊢
    refine v_istore (L' := [some (vr v0), none, some (vi v2), some (vi v3), some (vi v4), some (vi v5), some (vi x5), some (vi x8)]) dX8_reckonsTo_44 (Nat.le_of_ble_eq_true rfl) (Nat.le_of_ble_eq_true rfl) rfl ?_
    refine v_iload dX8_reckonsTo_46 rfl ?_
    refine v_iconst dX8_reckonsTo_48 ?_
    refine v_iadd dX8_reckonsTo_49 ?_
    refine v_istore (L' := [some (vr v0), none, some (vi v2), some (vi v3), some (vi v4), some (vi (v5 + (iI 1))), some (vi x5), some (vi x8)]) dX8_reckonsTo_50 (Nat.le_of_ble_eq_true rfl) (Nat.le_of_ble_eq_true rfl) rfl ?_
    refine v_iload dX8_reckonsTo_52 rfl ?_
    refine v_if_eq (tgt := 63) dX8_reckonsTo_54 (by decide) (fun c => ?_) (fun c => ?_)
    · rw [if_pos c] at h
      exact v_weak (wss (wsn (wss (wss (wss (wss (wss (wss wse)))))))) (lX8_reckonsTo_63 hk16 h)
    · rw [if_neg c] at h
      refine v_iload dX8_reckonsTo_57 rfl ?_
      refine v_iconst dX8_reckonsTo_59 ?_
      refine v_icmp_ne (tgt := 93) dX8_reckonsTo_60 (by decide) (fun c => ?_) (fun c => ?_)
      · rw [if_neg c] at h
        refine v_iload dX8_reckonsTo_93 rfl ?_
        refine v_bipush dX8_reckonsTo_95 rfl ?_
        refine v_icmp_ne (tgt := 121) dX8_reckonsTo_97 (by decide) (fun c => ?_) (fun c => ?_)
        · rw [if_neg c] at h
          refine v_iload dX8_reckonsTo_121 rfl ?_
          refine v_bipush dX8_reckonsTo_123 rfl ?_
          refine v_icmp_eq (tgt := 135) dX8_reckonsTo_125 (by decide) (fun c => ?_) (fun c => ?_)
          · rw [if_pos c] at h
            exact v_weak (wss (wsn (wss (wss (wss (wss (wss (wss wse)))))))) (lX8_reckonsTo_135 hk16 h)
          · rw [if_neg c] at h
            refine v_iload dX8_reckonsTo_128 rfl ?_
            refine v_bipush dX8_reckonsTo_130 rfl ?_
            refine v_icmp_ne (tgt := 175) dX8_reckonsTo_132 (by decide) (fun c => ?_) (fun c => ?_)
            · rw [if_neg c] at h
              refine v_il3 dX8_reckonsTo_175 ?_
              refine v_iconst dX8_reckonsTo_176 ?_
              refine v_isub dX8_reckonsTo_177 ?_
              refine v_istore_n (L' := [some (vr v0), none, some (vi v2), some (vi (v3 - (iI 1))), some (vi v4), some (vi (v5 + (iI 1))), some (vi x5), some (vi x8)]) dX8_reckonsTo_178 (Nat.le_of_ble_eq_true rfl) (Nat.le_of_ble_eq_true rfl) rfl ?_
              refine v_iload dX8_reckonsTo_179 rfl ?_
              refine v_iconst dX8_reckonsTo_181 ?_
              refine v_icmp_eq (tgt := 192) dX8_reckonsTo_182 (by decide) (fun c => ?_) (fun c => ?_)
              · rw [if_pos c] at h
                exact v_weak (wss (wsn (wss (wss (wss (wss (wss (wsn wse)))))))) (lX8_reckonsTo_192 hk16 h)
              · rw [if_neg c] at h
                refine v_iload dX8_reckonsTo_185 rfl ?_
                refine v_bipush dX8_reckonsTo_187 rfl ?_
                refine v_icmp_ne (tgt := 203) dX8_reckonsTo_189 (by decide) (fun c => ?_) (fun c => ?_)
                · rw [if_neg c] at h
                  exact v_weak (wss (wsn (wss (wss (wss (wss (wss (wsn wse)))))))) (lX8_reckonsTo_203 hk16 h)
                · rw [if_pos c] at h
                  exact v_weak (wss (wsn (wss (wss (wss (wss (wss (wsn wse)))))))) (lX8_reckonsTo_192 hk16 h)
            · rw [if_pos c] at h
              exact v_weak (wss (wsn (wss (wss (wss (wss (wss (wss wse)))))))) (lX8_reckonsTo_135 hk16 h)
        · rw [if_pos c] at h
          refine v_al0 dX8_reckonsTo_100 ?_
          refine v_gR cok6 h dX8_reckonsTo_101 (by decide) q1428 rfl (fun x9 h => ?_)
          refine v_il3 dX8_reckonsTo_104 ?_
          refine v_iconst dX8_reckonsTo_105 ?_
          refine v_isub dX8_reckonsTo_106 ?_
          refine v_iconst dX8_reckonsTo_107 ?_
          refine v_al0 dX8_reckonsTo_108 ?_
          refine v_gR cok6 h dX8_reckonsTo_109 (by decide) q1428 rfl (fun x10 h => ?_)
          refine v_il3 dX8_reckonsTo_112 ?_
          refine v_iconst dX8_reckonsTo_113 ?_
          refine v_isub dX8_reckonsTo_114 ?_
          refine v_aI h dX8_reckonsTo_115 (fun x11 h => ?_)
          refine v_isub dX8_reckonsTo_116 ?_
          refine v_sI h dX8_reckonsTo_117 (fun s12 h => ?_)
          refine v_goto (tgt := 230) dX8_reckonsTo_118 (by decide) ?_
          exact v_weak (wss (wsn (wss (wss (wss (wss (wsn (wsn wse)))))))) (lX8_reckonsTo_230 hk16 h)
      · rw [if_pos c] at h
        exact v_weak (wss (wsn (wss (wss (wss (wss (wss (wss wse)))))))) (lX8_reckonsTo_63 hk16 h)
theorem lX8_reckonsTo_16 {E : EE} {G : GG} : ∀ (f : Nat) {v0 : Option Nat} {v2 : Int32} {v3 : Int32} {v4 : Int32} {v5 : Int32} {σ : Mem} {z : Int32 × Mem}, sX8_reckonsTo_16 f v0 v2 v3 v4 v5 σ = some z → V E mX8_reckonsTo G 16 [some (vr v0), none, some (vi v2), some (vi v3), some (vi v4), some (vi v5), none, none] [] σ (some (vi z.1), z.2)
  | 0, _, _, _, _, _, _, _, h => by cases h
  | f + 1, _, _, _, _, _, _, _, h => lX8_reckonsTo_16b (fun _ _ _ _ _ _ _ h => lX8_reckonsTo_16 f h) h
theorem lX8_reckonsTo {E : EE} {G : GG} {v0 : Option Nat} {v1 : Int32} {v2 : Int32} {σ : Mem} {z : Int32 × Mem} (h : sX8_reckonsTo v0 v1 v2 σ = some z) : V E mX8_reckonsTo G 0 [some (vr v0), some (vi v1), some (vi v2), none, none, none, none, none] [] σ (some (vi z.1), z.2) := by
  unfold sX8_reckonsTo at h
  refine v_iconst dX8_reckonsTo_0 ?_
  refine v_istore_n (L' := [some (vr v0), some (vi v1), some (vi v2), some (vi (iI 0)), none, none, none, none]) dX8_reckonsTo_1 (Nat.le_of_ble_eq_true rfl) (Nat.le_of_ble_eq_true rfl) rfl ?_
  refine v_sipush dX8_reckonsTo_2 rfl ?_
  refine v_il1 dX8_reckonsTo_5 ?_
  refine v_sipush dX8_reckonsTo_6 rfl ?_
  obtain ⟨hne, h⟩ := dv_some h
  refine v_idiv dX8_reckonsTo_9 hne ?_
  generalize v1 / (iI 260) = x1 at h ⊢
  refine v_imul dX8_reckonsTo_10 ?_
  refine v_istore (L' := [some (vr v0), some (vi v1), some (vi v2), some (vi (iI 0)), some (vi ((iI 260) * x1)), none, none, none]) dX8_reckonsTo_11 (Nat.le_of_ble_eq_true rfl) (Nat.le_of_ble_eq_true rfl) rfl ?_
  refine v_il1 dX8_reckonsTo_13 ?_
  refine v_istore (L' := [some (vr v0), some (vi v1), some (vi v2), some (vi (iI 0)), some (vi ((iI 260) * x1)), some (vi v1), none, none]) dX8_reckonsTo_14 (Nat.le_of_ble_eq_true rfl) (Nat.le_of_ble_eq_true rfl) rfl ?_
  exact v_weak (wss (wsn (wss (wss (wss (wss (wsn (wsn wse)))))))) (lX8_reckonsTo_16 FU h)
theorem tX8_reckonsTo {E : EE} {l : Launch} {v0 : Option Nat} {v1 : Int32} {v2 : Int32} {σ : Mem} {z : Int32 × Mem} (h : sX8_reckonsTo v0 v1 v2 σ = some z) : Mt E l mX8_reckonsTo [vr v0, vi v1, vi v2] σ (some (vi z.1), z.2) :=
  Mt.ofVL (by decide) (Nat.le_of_ble_eq_true rfl) (fun G hG => lX8_reckonsTo h)
abbrev mX8_byLaw : MM := (yX8_byLaw, cX8_byLaw, 7, (Option.some Jvm.ClassFile.FieldType.int), 2, 49)
theorem dsX8_byLaw : DsOk yX8_byLaw 4 := ⟨by decide, by decide, by decide +kernel⟩
theorem lX8_byLaw_91 {E : EE} {G : GG} {k3 : Option Nat → Int32 → Int32 → Int32 → Int32 → Int32 → Mem → Option (Int32 × Mem)} (hk3 : ∀ (v0 : Option Nat) (v1 : Int32) (v2 : Int32) (v3 : Int32) (v4 : Int32) (v5 : Int32) (s : Mem) (z : Int32 × Mem), k3 v0 v1 v2 v3 v4 v5 s = some z → V E mX8_byLaw G 3 [some (vr v0), some (vi v1), some (vi v2), some (vi v3), some (vi v4), some (vi v5), none] [] s (some (vi z.1), z.2)) {v0 : Option Nat} {v1 : Int32} {v2 : Int32} {v3 : Int32} {v4 : Int32} {v5 : Int32} {σ : Mem} {z : Int32 × Mem} (h : sX8_byLaw_91 k3 v0 v1 v2 v3 v4 v5 σ = some z) : V E mX8_byLaw G 91 [some (vr v0), some (vi v1), some (vi v2), some (vi v3), some (vi v4), some (vi v5), none] [] σ (some (vi z.1), z.2) := by
  unfold sX8_byLaw_91 at h
  refine v_iinc (L' := [some (vr v0), some (vi v1), some (vi v2), some (vi v3), some (vi v4), some (vi (v5 + iI 1)), none]) dX8_byLaw_91 (Nat.le_of_ble_eq_true rfl) rfl rfl ?_
  refine v_goto (tgt := 3) dX8_byLaw_94 (by decide) ?_
  exact v_weak (wss (wss (wss (wss (wss (wss (wsn wse))))))) (hk3 _ _ _ _ _ _ _ _ h)
theorem lX8_byLaw_3b {E : EE} {G : GG} {k3 : Option Nat → Int32 → Int32 → Int32 → Int32 → Int32 → Mem → Option (Int32 × Mem)} (hk3 : ∀ (v0 : Option Nat) (v1 : Int32) (v2 : Int32) (v3 : Int32) (v4 : Int32) (v5 : Int32) (s : Mem) (z : Int32 × Mem), k3 v0 v1 v2 v3 v4 v5 s = some z → V E mX8_byLaw G 3 [some (vr v0), some (vi v1), some (vi v2), some (vi v3), some (vi v4), some (vi v5), none] [] s (some (vi z.1), z.2)) {v0 : Option Nat} {v1 : Int32} {v2 : Int32} {v3 : Int32} {v4 : Int32} {v5 : Int32} {σ : Mem} {z : Int32 × Mem} (h : sX8_byLaw_3b k3 v0 v1 v2 v3 v4 v5 σ = some z) : V E mX8_byLaw G 3 [some (vr v0), some (vi v1), some (vi v2), some (vi v3), some (vi v4), some (vi v5), none] [] σ (some (vi z.1), z.2) := by
  unfold sX8_byLaw_3b at h
  refine v_iload dX8_byLaw_3 rfl ?_
  refine v_al0 dX8_byLaw_5 ?_
  refine v_gI cok6 h dX8_byLaw_6 (by decide) q1416 rfl (fun x1 h => ?_)
  refine v_icmp_ge (tgt := 97) dX8_byLaw_9 (by decide) (fun c => ?_) (fun c => ?_)
  · rw [if_pos c] at h
    refine v_iload dX8_byLaw_97 rfl ?_
    exact v_retI h dX8_byLaw_99 rfl
  · rw [if_neg c] at h
    refine v_al0 dX8_byLaw_12 ?_
    refine v_gR cok6 h dX8_byLaw_13 (by decide) q1424 rfl (fun x2 h => ?_)
    refine v_iload dX8_byLaw_16 rfl ?_
    refine v_aI h dX8_byLaw_18 (fun x3 h => ?_)
    refine v_il1 dX8_byLaw_19 ?_
    refine v_icmp_ne (tgt := 91) dX8_byLaw_20 (by decide) (fun c => ?_) (fun c => ?_)
    · rw [if_neg c] at h
      exact v_weak (wss (wss (wss (wss (wss (wss (wsn wse))))))) (lX8_byLaw_91 hk3 h)
    · rw [if_pos c] at h
      refine v_al0 dX8_byLaw_23 ?_
      refine v_al0 dX8_byLaw_24 ?_
      refine v_gR cok6 h dX8_byLaw_25 (by decide) q1426 rfl (fun x4 h => ?_)
      refine v_iload dX8_byLaw_28 rfl ?_
      refine v_aI h dX8_byLaw_30 (fun x5 h => ?_)
      refine v_al0 dX8_byLaw_31 ?_
      refine v_gR cok6 h dX8_byLaw_32 (by decide) q1427 rfl (fun x6 h => ?_)
      refine v_iload dX8_byLaw_35 rfl ?_
      refine v_aI h dX8_byLaw_37 (fun x7 h => ?_)
      obtain ⟨b38, er, ka, h⟩ := cV_some h
      obtain ⟨x8, s9, h1, h⟩ := cl_some h
      refine v_callV1 cok6 (As := [vi x5, vi x7]) er ka (tX8_reckonsTo h1) (lw_V q1393 q1395 qs62 q167 q1396) rfl dsX8_reckonsTo ⟨Nat.le_of_ble_eq_true rfl, Nat.le_of_ble_eq_true rfl⟩ (Nat.le_of_ble_eq_true rfl) dX8_byLaw_38 rfl ?_
      refine v_iconst dX8_byLaw_41 ?_
      refine v_icmp_eq (tgt := 48) dX8_byLaw_42 (by decide) (fun c => ?_) (fun c => ?_)
      · rw [if_pos c] at h
        refine v_al0 dX8_byLaw_48 ?_
        refine v_al0 dX8_byLaw_49 ?_
        refine v_gR cok6 h dX8_byLaw_50 (by decide) q1425 rfl (fun x10 h => ?_)
        refine v_iload dX8_byLaw_53 rfl ?_
        refine v_aI h dX8_byLaw_55 (fun x11 h => ?_)
        refine v_al0 dX8_byLaw_56 ?_
        refine v_gR cok6 h dX8_byLaw_57 (by decide) q1426 rfl (fun x12 h => ?_)
        refine v_iload dX8_byLaw_60 rfl ?_
        refine v_aI h dX8_byLaw_62 (fun x13 h => ?_)
        obtain ⟨b63, er, ka, h⟩ := cV_some h
        obtain ⟨x14, s15, h1, h⟩ := cl_some h
        refine v_callV1 cok6 (As := [vi x11, vi x13]) er ka (tX8_reckonsTo h1) (lw_V q1393 q1395 qs62 q167 q1396) rfl dsX8_reckonsTo ⟨Nat.le_of_ble_eq_true rfl, Nat.le_of_ble_eq_true rfl⟩ (Nat.le_of_ble_eq_true rfl) dX8_byLaw_63 rfl ?_
        refine v_istore (L' := [some (vr v0), some (vi v1), some (vi v2), some (vi v3), some (vi v4), some (vi v5), some (vi x14)]) dX8_byLaw_66 (Nat.le_of_ble_eq_true rfl) (Nat.le_of_ble_eq_true rfl) rfl ?_
        refine v_iload dX8_byLaw_68 rfl ?_
        refine v_il2 dX8_byLaw_70 ?_
        refine v_icmp_ge (tgt := 78) dX8_byLaw_71 (by decide) (fun c => ?_) (fun c => ?_)
        · rw [if_pos c] at h
          refine v_iload dX8_byLaw_78 rfl ?_
          refine v_il3 dX8_byLaw_80 ?_
          refine v_icmp_le (tgt := 88) dX8_byLaw_81 (by decide) (fun c => ?_) (fun c => ?_)
          · rw [if_pos c] at h
            refine v_iload dX8_byLaw_88 rfl ?_
            exact v_retI h dX8_byLaw_90 rfl
          · rw [if_neg c] at h
            refine v_il3 dX8_byLaw_84 ?_
            refine v_goto (tgt := 90) dX8_byLaw_85 (by decide) ?_
            exact v_retI h dX8_byLaw_90 rfl
        · rw [if_neg c] at h
          refine v_il2 dX8_byLaw_74 ?_
          refine v_goto (tgt := 90) dX8_byLaw_75 (by decide) ?_
          exact v_retI h dX8_byLaw_90 rfl
      · rw [if_neg c] at h
        refine v_goto (tgt := 91) dX8_byLaw_45 (by decide) ?_
        exact v_weak (wss (wss (wss (wss (wss (wss (wsn wse))))))) (lX8_byLaw_91 hk3 h)
theorem lX8_byLaw_3 {E : EE} {G : GG} : ∀ (f : Nat) {v0 : Option Nat} {v1 : Int32} {v2 : Int32} {v3 : Int32} {v4 : Int32} {v5 : Int32} {σ : Mem} {z : Int32 × Mem}, sX8_byLaw_3 f v0 v1 v2 v3 v4 v5 σ = some z → V E mX8_byLaw G 3 [some (vr v0), some (vi v1), some (vi v2), some (vi v3), some (vi v4), some (vi v5), none] [] σ (some (vi z.1), z.2)
  | 0, _, _, _, _, _, _, _, _, h => by cases h
  | f + 1, _, _, _, _, _, _, _, _, h => lX8_byLaw_3b (fun _ _ _ _ _ _ _ _ h => lX8_byLaw_3 f h) h
theorem lX8_byLaw {E : EE} {G : GG} {v0 : Option Nat} {v1 : Int32} {v2 : Int32} {v3 : Int32} {v4 : Int32} {σ : Mem} {z : Int32 × Mem} (h : sX8_byLaw v0 v1 v2 v3 v4 σ = some z) : V E mX8_byLaw G 0 [some (vr v0), some (vi v1), some (vi v2), some (vi v3), some (vi v4), none, none] [] σ (some (vi z.1), z.2) := by
  unfold sX8_byLaw at h
  refine v_iconst dX8_byLaw_0 ?_
  refine v_istore (L' := [some (vr v0), some (vi v1), some (vi v2), some (vi v3), some (vi v4), some (vi (iI 0)), none]) dX8_byLaw_1 (Nat.le_of_ble_eq_true rfl) (Nat.le_of_ble_eq_true rfl) rfl ?_
  exact v_weak (wss (wss (wss (wss (wss (wss (wsn wse))))))) (lX8_byLaw_3 FU h)
theorem tX8_byLaw {E : EE} {l : Launch} {v0 : Option Nat} {v1 : Int32} {v2 : Int32} {v3 : Int32} {v4 : Int32} {σ : Mem} {z : Int32 × Mem} (h : sX8_byLaw v0 v1 v2 v3 v4 σ = some z) : Mt E l mX8_byLaw [vr v0, vi v1, vi v2, vi v3, vi v4] σ (some (vi z.1), z.2) :=
  Mt.ofVL (by decide) (Nat.le_of_ble_eq_true rfl) (fun G hG => lX8_byLaw h)
abbrev mX8_setsTimer : MM := (yX8_setsTimer, cX8_setsTimer, 3, (Option.none : Option Jvm.ClassFile.FieldType), 3, 75)
theorem dsX8_setsTimer : DsOk yX8_setsTimer 1 := ⟨by decide, by decide, by decide +kernel⟩
theorem lX8_setsTimer {E : EE} {G : GG} {v0 : Option Nat} {v1 : Int32} {σ : Mem} {z : Unit × Mem} (h : sX8_setsTimer v0 v1 σ = some z) : V E mX8_setsTimer G 0 [some (vr v0), some (vi v1), none] [] σ (none, z.2) := by
  unfold sX8_setsTimer at h
  refine v_al0 dX8_setsTimer_0 ?_
  refine v_il1 dX8_setsTimer_1 ?_
  refine v_il1 dX8_setsTimer_2 ?_
  refine v_bipush dX8_setsTimer_3 rfl ?_
  obtain ⟨b5, er, ka, h⟩ := cV_some h
  obtain ⟨x1, s2, h1, h⟩ := cl_some h
  refine v_callV1 cok6 (As := [vi v1, vi v1, vi (iI 6)]) er ka (tX8_feels h1) (lw_V q1380 q1382 qs59 q167 q1383) rfl dsX8_feels ⟨Nat.le_of_ble_eq_true rfl, Nat.le_of_ble_eq_true rfl⟩ (Nat.le_of_ble_eq_true rfl) dX8_setsTimer_5 rfl ?_
  refine v_istore_n (L' := [some (vr v0), some (vi v1), some (vi x1)]) dX8_setsTimer_8 (Nat.le_of_ble_eq_true rfl) (Nat.le_of_ble_eq_true rfl) rfl ?_
  refine v_al0 dX8_setsTimer_9 ?_
  refine v_il1 dX8_setsTimer_10 ?_
  refine v_bipush dX8_setsTimer_11 rfl ?_
  refine v_al0 dX8_setsTimer_13 ?_
  refine v_bipush dX8_setsTimer_14 rfl ?_
  refine v_iconst dX8_setsTimer_16 ?_
  refine v_bipush dX8_setsTimer_17 rfl ?_
  refine v_bipush dX8_setsTimer_19 rfl ?_
  obtain ⟨b21, er, ka, h⟩ := cV_some h
  obtain ⟨x3, s4, h1, h⟩ := cl_some h
  refine v_callV1 cok6 (As := [vi (iI 101), vi (iI 4), vi (iI 40), vi (iI 8)]) er ka (tX8_byLaw h1) (lw_V q1389 q1391 qs61 q167 q1392) rfl dsX8_byLaw ⟨Nat.le_of_ble_eq_true rfl, Nat.le_of_ble_eq_true rfl⟩ (Nat.le_of_ble_eq_true rfl) dX8_setsTimer_21 rfl ?_
  refine v_il2 dX8_setsTimer_24 ?_
  refine v_iadd dX8_setsTimer_25 ?_
  obtain ⟨b26, er, ka, h⟩ := cV_some h
  obtain ⟨_, s5, h1, h⟩ := cl_some h
  refine v_callV0 cok6 (As := [vi v1, vi (iI 10), vi (x3 + x1)]) er ka (tX8_sets h1) (lw_V q1372 q1374 qs57 q167 q1375) rfl dsX8_sets ⟨Nat.le_of_ble_eq_true rfl, Nat.le_of_ble_eq_true rfl⟩ (Nat.le_of_ble_eq_true rfl) dX8_setsTimer_26 rfl ?_
  exact v_retV h dX8_setsTimer_29 rfl
theorem tX8_setsTimer {E : EE} {l : Launch} {v0 : Option Nat} {v1 : Int32} {σ : Mem} {z : Unit × Mem} (h : sX8_setsTimer v0 v1 σ = some z) : Mt E l mX8_setsTimer [vr v0, vi v1] σ (none, z.2) :=
  Mt.ofVL (by decide) (Nat.le_of_ble_eq_true rfl) (fun G hG => lX8_setsTimer h)
abbrev mX8_founds : MM := (yX8_founds, cX8_founds, 4, (Option.none : Option Jvm.ClassFile.FieldType), 4, 97)
theorem dsX8_founds : DsOk yX8_founds 1 := ⟨by decide, by decide, by decide +kernel⟩
theorem lX8_founds_86b {E : EE} {G : GG} {k86 : Option Nat → Int32 → Mem → Option (Unit × Mem)} (hk86 : ∀ (v0 : Option Nat) (v3 : Int32) (s : Mem) (z : Unit × Mem), k86 v0 v3 s = some z → V E mX8_founds G 86 [some (vr v0), none, none, some (vi v3)] [] s (none, z.2)) {v0 : Option Nat} {v3 : Int32} {σ : Mem} {z : Unit × Mem} (h : sX8_founds_86b k86 v0 v3 σ = some z) : V E mX8_founds G 86 [some (vr v0), none, none, some (vi v3)] [] σ (none, z.2) := by
  unfold sX8_founds_86b at h
  refine v_il3 dX8_founds_86 ?_
  refine v_bipush dX8_founds_87 rfl ?_
  refine v_icmp_ge (tgt := 103) dX8_founds_89 (by decide) (fun c => ?_) (fun c => ?_)
  · rw [if_pos c] at h
    exact v_retV h dX8_founds_103 rfl
  · rw [if_neg c] at h
    refine v_al0 dX8_founds_92 ?_
    refine v_il3 dX8_founds_93 ?_
    obtain ⟨b94, er, ka, h⟩ := cV_some h
    obtain ⟨_, s1, h1, h⟩ := cl_some h
    refine v_callV0 cok6 (As := [vi v3]) er ka (tX8_setsTimer h1) (lw_V q1376 q1378 qs58 q167 q1379) rfl dsX8_setsTimer ⟨Nat.le_of_ble_eq_true rfl, Nat.le_of_ble_eq_true rfl⟩ (Nat.le_of_ble_eq_true rfl) dX8_founds_94 rfl ?_
    refine v_iinc (L' := [some (vr v0), none, none, some (vi (v3 + iI 1))]) dX8_founds_97 (Nat.le_of_ble_eq_true rfl) rfl rfl ?_
    refine v_goto (tgt := 86) dX8_founds_100 (by decide) ?_
    exact v_weak (wss (wsn (wsn (wss wse)))) (hk86 _ _ _ _ h)
theorem lX8_founds_86 {E : EE} {G : GG} : ∀ (f : Nat) {v0 : Option Nat} {v3 : Int32} {σ : Mem} {z : Unit × Mem}, sX8_founds_86 f v0 v3 σ = some z → V E mX8_founds G 86 [some (vr v0), none, none, some (vi v3)] [] σ (none, z.2)
  | 0, _, _, _, _, h => by cases h
  | f + 1, _, _, _, _, h => lX8_founds_86b (fun _ _ _ _ h => lX8_founds_86 f h) h
theorem lX8_founds_42b {E : EE} {G : GG} {k42 : Option Nat → Int32 → Int32 → Mem → Option (Unit × Mem)} (hk42 : ∀ (v0 : Option Nat) (v1 : Int32) (v3 : Int32) (s : Mem) (z : Unit × Mem), k42 v0 v1 v3 s = some z → V E mX8_founds G 42 [some (vr v0), some (vi v1), none, some (vi v3)] [] s (none, z.2)) {v0 : Option Nat} {v1 : Int32} {v3 : Int32} {σ : Mem} {z : Unit × Mem} (h : sX8_founds_42b k42 v0 v1 v3 σ = some z) : V E mX8_founds G 42 [some (vr v0), some (vi v1), none, some (vi v3)] [] σ (none, z.2) := by
  unfold sX8_founds_42b at h
  refine v_il3 dX8_founds_42 ?_
  refine v_bipush dX8_founds_43 rfl ?_
  refine v_icmp_ge (tgt := 84) dX8_founds_45 (by decide) (fun c => ?_) (fun c => ?_)
  · rw [if_pos c] at h
    refine v_iconst dX8_founds_84 ?_
    refine v_istore_n (L' := [some (vr v0), some (vi v1), none, some (vi (iI 0))]) dX8_founds_85 (Nat.le_of_ble_eq_true rfl) (Nat.le_of_ble_eq_true rfl) rfl ?_
    exact v_weak (wss (wsn (wsn (wss wse)))) (lX8_founds_86 FU h)
  · rw [if_neg c] at h
    refine v_al0 dX8_founds_48 ?_
    refine v_il3 dX8_founds_49 ?_
    refine v_iconst dX8_founds_50 ?_
    refine v_iconst dX8_founds_51 ?_
    obtain ⟨b52, er, ka, h⟩ := cV_some h
    obtain ⟨_, s1, h1, h⟩ := cl_some h
    refine v_callV0 cok6 (As := [vi v3, vi (iI 0), vi (iI 1)]) er ka (tX8_sets h1) (lw_V q1372 q1374 qs57 q167 q1375) rfl dsX8_sets ⟨Nat.le_of_ble_eq_true rfl, Nat.le_of_ble_eq_true rfl⟩ (Nat.le_of_ble_eq_true rfl) dX8_founds_52 rfl ?_
    refine v_al0 dX8_founds_55 ?_
    refine v_il3 dX8_founds_56 ?_
    refine v_iconst dX8_founds_57 ?_
    refine v_iconst dX8_founds_58 ?_
    obtain ⟨b59, er, ka, h⟩ := cV_some h
    obtain ⟨_, s2, h1, h⟩ := cl_some h
    refine v_callV0 cok6 (As := [vi v3, vi (iI 2), vi (iI (-1))]) er ka (tX8_sets h1) (lw_V q1372 q1374 qs57 q167 q1375) rfl dsX8_sets ⟨Nat.le_of_ble_eq_true rfl, Nat.le_of_ble_eq_true rfl⟩ (Nat.le_of_ble_eq_true rfl) dX8_founds_59 rfl ?_
    refine v_al0 dX8_founds_62 ?_
    refine v_il3 dX8_founds_63 ?_
    refine v_bipush dX8_founds_64 rfl ?_
    refine v_iconst dX8_founds_66 ?_
    obtain ⟨b67, er, ka, h⟩ := cV_some h
    obtain ⟨_, s3, h1, h⟩ := cl_some h
    refine v_callV0 cok6 (As := [vi v3, vi (iI 11), vi (iI (-1))]) er ka (tX8_sets h1) (lw_V q1372 q1374 qs57 q167 q1375) rfl dsX8_sets ⟨Nat.le_of_ble_eq_true rfl, Nat.le_of_ble_eq_true rfl⟩ (Nat.le_of_ble_eq_true rfl) dX8_founds_67 rfl ?_
    refine v_al0 dX8_founds_70 ?_
    refine v_il3 dX8_founds_71 ?_
    refine v_bipush dX8_founds_72 rfl ?_
    refine v_il1 dX8_founds_74 ?_
    obtain ⟨b75, er, ka, h⟩ := cV_some h
    obtain ⟨_, s4, h1, h⟩ := cl_some h
    refine v_callV0 cok6 (As := [vi v3, vi (iI 6), vi v1]) er ka (tX8_sets h1) (lw_V q1372 q1374 qs57 q167 q1375) rfl dsX8_sets ⟨Nat.le_of_ble_eq_true rfl, Nat.le_of_ble_eq_true rfl⟩ (Nat.le_of_ble_eq_true rfl) dX8_founds_75 rfl ?_
    refine v_iinc (L' := [some (vr v0), some (vi v1), none, some (vi (v3 + iI 1))]) dX8_founds_78 (Nat.le_of_ble_eq_true rfl) rfl rfl ?_
    refine v_goto (tgt := 42) dX8_founds_81 (by decide) ?_
    exact v_weak (wss (wss (wsn (wss wse)))) (hk42 _ _ _ _ _ h)
theorem lX8_founds_42 {E : EE} {G : GG} : ∀ (f : Nat) {v0 : Option Nat} {v1 : Int32} {v3 : Int32} {σ : Mem} {z : Unit × Mem}, sX8_founds_42 f v0 v1 v3 σ = some z → V E mX8_founds G 42 [some (vr v0), some (vi v1), none, some (vi v3)] [] σ (none, z.2)
  | 0, _, _, _, _, _, h => by cases h
  | f + 1, _, _, _, _, _, h => lX8_founds_42b (fun _ _ _ _ _ h => lX8_founds_42 f h) h
theorem lX8_founds_11b {E : EE} {G : GG} {k11 : Option Nat → Int32 → Int32 → Int32 → Mem → Option (Unit × Mem)} (hk11 : ∀ (v0 : Option Nat) (v1 : Int32) (v2 : Int32) (v3 : Int32) (s : Mem) (z : Unit × Mem), k11 v0 v1 v2 v3 s = some z → V E mX8_founds G 11 [some (vr v0), some (vi v1), some (vi v2), some (vi v3)] [] s (none, z.2)) {v0 : Option Nat} {v1 : Int32} {v2 : Int32} {v3 : Int32} {σ : Mem} {z : Unit × Mem} (h : sX8_founds_11b k11 v0 v1 v2 v3 σ = some z) : V E mX8_founds G 11 [some (vr v0), some (vi v1), some (vi v2), some (vi v3)] [] σ (none, z.2) := by
  unfold sX8_founds_11b at h
  refine v_il3 dX8_founds_11 ?_
  refine v_sipush dX8_founds_12 rfl ?_
  refine v_icmp_ge (tgt := 31) dX8_founds_15 (by decide) (fun c => ?_) (fun c => ?_)
  · rw [if_pos c] at h
    refine v_al0 dX8_founds_31 ?_
    refine v_gR cok6 h dX8_founds_32 (by decide) q1401 rfl (fun x1 h => ?_)
    refine v_sipush dX8_founds_35 rfl ?_
    refine v_il2 dX8_founds_38 ?_
    refine v_sI h dX8_founds_39 (fun s2 h => ?_)
    refine v_iconst dX8_founds_40 ?_
    refine v_istore_n (L' := [some (vr v0), some (vi v1), some (vi v2), some (vi (iI 0))]) dX8_founds_41 (Nat.le_of_ble_eq_true rfl) (Nat.le_of_ble_eq_true rfl) rfl ?_
    exact v_weak (wss (wss (wsn (wss wse)))) (lX8_founds_42 FU h)
  · rw [if_neg c] at h
    refine v_al0 dX8_founds_18 ?_
    refine v_gR cok6 h dX8_founds_19 (by decide) q1401 rfl (fun x3 h => ?_)
    refine v_il3 dX8_founds_22 ?_
    refine v_iconst dX8_founds_23 ?_
    refine v_sI h dX8_founds_24 (fun s4 h => ?_)
    refine v_iinc (L' := [some (vr v0), some (vi v1), some (vi v2), some (vi (v3 + iI 1))]) dX8_founds_25 (Nat.le_of_ble_eq_true rfl) rfl rfl ?_
    refine v_goto (tgt := 11) dX8_founds_28 (by decide) ?_
    exact v_weak (wss (wss (wss (wss wse)))) (hk11 _ _ _ _ _ _ h)
theorem lX8_founds_11 {E : EE} {G : GG} : ∀ (f : Nat) {v0 : Option Nat} {v1 : Int32} {v2 : Int32} {v3 : Int32} {σ : Mem} {z : Unit × Mem}, sX8_founds_11 f v0 v1 v2 v3 σ = some z → V E mX8_founds G 11 [some (vr v0), some (vi v1), some (vi v2), some (vi v3)] [] σ (none, z.2)
  | 0, _, _, _, _, _, _, h => by cases h
  | f + 1, _, _, _, _, _, _, h => lX8_founds_11b (fun _ _ _ _ _ _ h => lX8_founds_11 f h) h
theorem lX8_founds {E : EE} {G : GG} {v0 : Option Nat} {v1 : Int32} {σ : Mem} {z : Unit × Mem} (h : sX8_founds v0 v1 σ = some z) : V E mX8_founds G 0 [some (vr v0), some (vi v1), none, none] [] σ (none, z.2) := by
  unfold sX8_founds at h
  refine v_al0 dX8_founds_0 ?_
  refine v_gR cok6 h dX8_founds_1 (by decide) q1401 rfl (fun x1 h => ?_)
  refine v_sipush dX8_founds_4 rfl ?_
  refine v_aI h dX8_founds_7 (fun x2 h => ?_)
  refine v_istore_n (L' := [some (vr v0), some (vi v1), some (vi x2), none]) dX8_founds_8 (Nat.le_of_ble_eq_true rfl) (Nat.le_of_ble_eq_true rfl) rfl ?_
  refine v_iconst dX8_founds_9 ?_
  refine v_istore_n (L' := [some (vr v0), some (vi v1), some (vi x2), some (vi (iI 0))]) dX8_founds_10 (Nat.le_of_ble_eq_true rfl) (Nat.le_of_ble_eq_true rfl) rfl ?_
  exact v_weak (wss (wss (wss (wss wse)))) (lX8_founds_11 FU h)
theorem tX8_founds {E : EE} {l : Launch} {v0 : Option Nat} {v1 : Int32} {σ : Mem} {z : Unit × Mem} (h : sX8_founds v0 v1 σ = some z) : Mt E l mX8_founds [vr v0, vi v1] σ (none, z.2) :=
  Mt.ofVL (by decide) (Nat.le_of_ble_eq_true rfl) (fun G hG => lX8_founds h)
abbrev mX8_init : MM := (yX8_init, cX8_init, 1, (Option.none : Option Jvm.ClassFile.FieldType), 5, 120)
theorem dsX8_init : DsOk yX8_init 0 := ⟨by decide, by decide, by decide +kernel⟩
theorem lX8_init {E : EE} {G : GG} {v0 : Option Nat} {σ : Mem} {z : Unit × Mem} (h : sX8_init v0 σ = some z) : V E mX8_init G 0 [some (vr v0)] [] σ (none, z.2) := by
  unfold sX8_init at h
  refine v_al0 dX8_init_0 ?_
  obtain ⟨b1, er, h⟩ := cI_some h
  refine v_oI er q1367 q188 q189 ⟨by decide, by decide⟩ (Nat.le_of_ble_eq_true rfl) dX8_init_1 ?_
  refine v_al0 dX8_init_4 ?_
  refine v_sipush dX8_init_5 rfl ?_
  refine v_newa20 h dX8_init_8 (fun x1 s2 h => ?_)
  refine v_pRF cok6 h dX8_init_10 (by decide) q1401 rfl rfl rfl rfl (fun s3 h => ?_)
  refine v_al0 dX8_init_13 ?_
  refine v_sipush dX8_init_14 rfl ?_
  refine v_newa20 h dX8_init_17 (fun x4 s5 h => ?_)
  refine v_pRF cok6 h dX8_init_19 (by decide) q1402 rfl rfl rfl rfl (fun s6 h => ?_)
  refine v_al0 dX8_init_22 ?_
  refine v_sipush dX8_init_23 rfl ?_
  refine v_newa20 h dX8_init_26 (fun x7 s8 h => ?_)
  refine v_pRF cok6 h dX8_init_28 (by decide) q1403 rfl rfl rfl rfl (fun s9 h => ?_)
  refine v_al0 dX8_init_31 ?_
  refine v_bipush dX8_init_32 rfl ?_
  refine v_newa20 h dX8_init_34 (fun x10 s11 h => ?_)
  refine v_pRF cok6 h dX8_init_36 (by decide) q1404 rfl rfl rfl rfl (fun s12 h => ?_)
  refine v_al0 dX8_init_39 ?_
  refine v_bipush dX8_init_40 rfl ?_
  refine v_newa20 h dX8_init_42 (fun x13 s14 h => ?_)
  refine v_pRF cok6 h dX8_init_44 (by decide) q1405 rfl rfl rfl rfl (fun s15 h => ?_)
  refine v_al0 dX8_init_47 ?_
  refine v_sipush dX8_init_48 rfl ?_
  refine v_newa21 h dX8_init_51 (fun x16 s17 h => ?_)
  refine v_pRF cok6 h dX8_init_53 (by decide) q1406 rfl rfl rfl rfl (fun s18 h => ?_)
  refine v_al0 dX8_init_56 ?_
  refine v_sipush dX8_init_57 rfl ?_
  refine v_newa20 h dX8_init_60 (fun x19 s20 h => ?_)
  refine v_pRF cok6 h dX8_init_62 (by decide) q1417 rfl rfl rfl rfl (fun s21 h => ?_)
  refine v_al0 dX8_init_65 ?_
  refine v_sipush dX8_init_66 rfl ?_
  refine v_newa20 h dX8_init_69 (fun x22 s23 h => ?_)
  refine v_pRF cok6 h dX8_init_71 (by decide) q1418 rfl rfl rfl rfl (fun s24 h => ?_)
  refine v_al0 dX8_init_74 ?_
  refine v_bipush dX8_init_75 rfl ?_
  refine v_newa20 h dX8_init_77 (fun x25 s26 h => ?_)
  refine v_pRF cok6 h dX8_init_79 (by decide) q1419 rfl rfl rfl rfl (fun s27 h => ?_)
  refine v_al0 dX8_init_82 ?_
  refine v_bipush dX8_init_83 rfl ?_
  refine v_newa20 h dX8_init_85 (fun x28 s29 h => ?_)
  refine v_pRF cok6 h dX8_init_87 (by decide) q1420 rfl rfl rfl rfl (fun s30 h => ?_)
  refine v_al0 dX8_init_90 ?_
  refine v_bipush dX8_init_91 rfl ?_
  refine v_newa20 h dX8_init_93 (fun x31 s32 h => ?_)
  refine v_pRF cok6 h dX8_init_95 (by decide) q1421 rfl rfl rfl rfl (fun s33 h => ?_)
  refine v_al0 dX8_init_98 ?_
  refine v_bipush dX8_init_99 rfl ?_
  refine v_newa20 h dX8_init_101 (fun x34 s35 h => ?_)
  refine v_pRF cok6 h dX8_init_103 (by decide) q1422 rfl rfl rfl rfl (fun s36 h => ?_)
  refine v_al0 dX8_init_106 ?_
  refine v_sipush dX8_init_107 rfl ?_
  refine v_newa20 h dX8_init_110 (fun x37 s38 h => ?_)
  refine v_pRF cok6 h dX8_init_112 (by decide) q1423 rfl rfl rfl rfl (fun s39 h => ?_)
  refine v_al0 dX8_init_115 ?_
  refine v_bipush dX8_init_116 rfl ?_
  refine v_newa20 h dX8_init_118 (fun x40 s41 h => ?_)
  refine v_pRF cok6 h dX8_init_120 (by decide) q1424 rfl rfl rfl rfl (fun s42 h => ?_)
  refine v_al0 dX8_init_123 ?_
  refine v_bipush dX8_init_124 rfl ?_
  refine v_newa20 h dX8_init_126 (fun x43 s44 h => ?_)
  refine v_pRF cok6 h dX8_init_128 (by decide) q1425 rfl rfl rfl rfl (fun s45 h => ?_)
  refine v_al0 dX8_init_131 ?_
  refine v_bipush dX8_init_132 rfl ?_
  refine v_newa20 h dX8_init_134 (fun x46 s47 h => ?_)
  refine v_pRF cok6 h dX8_init_136 (by decide) q1426 rfl rfl rfl rfl (fun s48 h => ?_)
  refine v_al0 dX8_init_139 ?_
  refine v_bipush dX8_init_140 rfl ?_
  refine v_newa20 h dX8_init_142 (fun x49 s50 h => ?_)
  refine v_pRF cok6 h dX8_init_144 (by decide) q1427 rfl rfl rfl rfl (fun s51 h => ?_)
  refine v_al0 dX8_init_147 ?_
  refine v_sipush dX8_init_148 rfl ?_
  refine v_newa20 h dX8_init_151 (fun x52 s53 h => ?_)
  refine v_pRF cok6 h dX8_init_153 (by decide) q1428 rfl rfl rfl rfl (fun s54 h => ?_)
  refine v_al0 dX8_init_156 ?_
  refine v_bipush dX8_init_157 rfl ?_
  refine v_newa20 h dX8_init_159 (fun x55 s56 h => ?_)
  refine v_pRF cok6 h dX8_init_161 (by decide) q1429 rfl rfl rfl rfl (fun s57 h => ?_)
  refine v_al0 dX8_init_164 ?_
  refine v_sipush dX8_init_165 rfl ?_
  refine v_newa20 h dX8_init_168 (fun x58 s59 h => ?_)
  refine v_pRF cok6 h dX8_init_170 (by decide) q1431 rfl rfl rfl rfl (fun s60 h => ?_)
  refine v_al0 dX8_init_173 ?_
  refine v_sipush dX8_init_174 rfl ?_
  refine v_newa20 h dX8_init_177 (fun x61 s62 h => ?_)
  refine v_pRF cok6 h dX8_init_179 (by decide) q1432 rfl rfl rfl rfl (fun s63 h => ?_)
  refine v_al0 dX8_init_182 ?_
  refine v_sipush dX8_init_183 rfl ?_
  refine v_newa20 h dX8_init_186 (fun x64 s65 h => ?_)
  refine v_pRF cok6 h dX8_init_188 (by decide) q1433 rfl rfl rfl rfl (fun s66 h => ?_)
  refine v_al0 dX8_init_191 ?_
  refine v_sipush dX8_init_192 rfl ?_
  refine v_newa20 h dX8_init_195 (fun x67 s68 h => ?_)
  refine v_pRF cok6 h dX8_init_197 (by decide) q1434 rfl rfl rfl rfl (fun s69 h => ?_)
  refine v_al0 dX8_init_200 ?_
  refine v_iconst dX8_init_201 ?_
  refine v_newa20 h dX8_init_202 (fun x70 s71 h => ?_)
  refine v_pRF cok6 h dX8_init_204 (by decide) q1435 rfl rfl rfl rfl (fun s72 h => ?_)
  refine v_al0 dX8_init_207 ?_
  refine v_iconst dX8_init_208 ?_
  refine v_newa20 h dX8_init_209 (fun x73 s74 h => ?_)
  refine v_pRF cok6 h dX8_init_211 (by decide) q1436 rfl rfl rfl rfl (fun s75 h => ?_)
  refine v_al0 dX8_init_214 ?_
  refine v_iconst dX8_init_215 ?_
  refine v_newa20 h dX8_init_216 (fun x76 s77 h => ?_)
  refine v_pRF cok6 h dX8_init_218 (by decide) q1437 rfl rfl rfl rfl (fun s78 h => ?_)
  refine v_al0 dX8_init_221 ?_
  refine v_gR cok6 h dX8_init_222 (by decide) q1401 rfl (fun x79 h => ?_)
  refine v_sipush dX8_init_225 rfl ?_
  refine v_iconst dX8_init_228 ?_
  refine v_sI h dX8_init_229 (fun s80 h => ?_)
  refine v_al0 dX8_init_230 ?_
  refine v_bipush dX8_init_231 rfl ?_
  obtain ⟨b233, er, ka, h⟩ := cV_some h
  obtain ⟨_, s81, h1, h⟩ := cl_some h
  refine v_callV0 cok6 (As := [vi (iI 7)]) er ka (tX8_founds h1) (lw_V q1368 q1370 qs56 q167 q1371) rfl dsX8_founds ⟨Nat.le_of_ble_eq_true rfl, Nat.le_of_ble_eq_true rfl⟩ (Nat.le_of_ble_eq_true rfl) dX8_init_233 rfl ?_
  exact v_retV h dX8_init_236 rfl
theorem tX8_init {E : EE} {l : Launch} {v0 : Option Nat} {σ : Mem} {z : Unit × Mem} (h : sX8_init v0 σ = some z) : Mt E l mX8_init [vr v0] σ (none, z.2) :=
  Mt.ofVL (by decide) (Nat.le_of_ble_eq_true rfl) (fun G hG => lX8_init h)
abbrev mX8_types : MM := (yX8_types, cX8_types, 3, (Option.none : Option Jvm.ClassFile.FieldType), 0, 0)
theorem dsX8_types : DsOk yX8_types 1 := ⟨by decide, by decide, by decide +kernel⟩
theorem lX8_types_2b {E : EE} {G : GG} {k2 : Option Nat → Int32 → Int32 → Mem → Option (Unit × Mem)} (hk2 : ∀ (v0 : Option Nat) (v1 : Int32) (v2 : Int32) (s : Mem) (z : Unit × Mem), k2 v0 v1 v2 s = some z → V E mX8_types G 2 [some (vr v0), some (vi v1), some (vi v2)] [] s (none, z.2)) {v0 : Option Nat} {v1 : Int32} {v2 : Int32} {σ : Mem} {z : Unit × Mem} (h : sX8_types_2b k2 v0 v1 v2 σ = some z) : V E mX8_types G 2 [some (vr v0), some (vi v1), some (vi v2)] [] σ (none, z.2) := by
  unfold sX8_types_2b at h
  refine v_il2 dX8_types_2 ?_
  refine v_if_lt (tgt := 38) dX8_types_3 (by decide) (fun c => ?_) (fun c => ?_)
  · rw [if_pos c] at h
    exact v_retV h dX8_types_38 rfl
  · rw [if_neg c] at h
    refine v_al0 dX8_types_6 ?_
    refine v_gR cok6 h dX8_types_7 (by decide) q1406 rfl (fun x1 h => ?_)
    refine v_al0 dX8_types_10 ?_
    refine v_gI cok6 h dX8_types_11 (by decide) q1407 rfl (fun x2 h => ?_)
    refine v_il1 dX8_types_14 ?_
    refine v_bipush dX8_types_15 rfl ?_
    refine v_il2 dX8_types_17 ?_
    refine v_imul dX8_types_18 ?_
    refine v_ishr dX8_types_19 ?_
    refine v_i2b dX8_types_20 ?_
    refine v_sB h dX8_types_21 (fun s3 h => ?_)
    refine v_al0 dX8_types_22 ?_
    refine v_al0 dX8_types_23 ?_
    refine v_gI cok6 h dX8_types_24 (by decide) q1407 rfl (fun x4 h => ?_)
    refine v_iconst dX8_types_27 ?_
    refine v_iadd dX8_types_28 ?_
    refine v_pI cok6 h dX8_types_29 (by decide) q1407 rfl rfl (fun s5 h => ?_)
    refine v_iinc (L' := [some (vr v0), some (vi v1), some (vi (v2 + iI (-1)))]) dX8_types_32 (Nat.le_of_ble_eq_true rfl) rfl rfl ?_
    refine v_goto (tgt := 2) dX8_types_35 (by decide) ?_
    exact v_weak (wss (wss (wss wse))) (hk2 _ _ _ _ _ h)
theorem lX8_types_2 {E : EE} {G : GG} : ∀ (f : Nat) {v0 : Option Nat} {v1 : Int32} {v2 : Int32} {σ : Mem} {z : Unit × Mem}, sX8_types_2 f v0 v1 v2 σ = some z → V E mX8_types G 2 [some (vr v0), some (vi v1), some (vi v2)] [] σ (none, z.2)
  | 0, _, _, _, _, _, h => by cases h
  | f + 1, _, _, _, _, _, h => lX8_types_2b (fun _ _ _ _ _ h => lX8_types_2 f h) h
theorem lX8_types {E : EE} {G : GG} {v0 : Option Nat} {v1 : Int32} {σ : Mem} {z : Unit × Mem} (h : sX8_types v0 v1 σ = some z) : V E mX8_types G 0 [some (vr v0), some (vi v1), none] [] σ (none, z.2) := by
  unfold sX8_types at h
  refine v_iconst dX8_types_0 ?_
  refine v_istore_n (L' := [some (vr v0), some (vi v1), some (vi (iI 3))]) dX8_types_1 (Nat.le_of_ble_eq_true rfl) (Nat.le_of_ble_eq_true rfl) rfl ?_
  exact v_weak (wss (wss (wss wse))) (lX8_types_2 FU h)
theorem tX8_types {E : EE} {l : Launch} {v0 : Option Nat} {v1 : Int32} {σ : Mem} {z : Unit × Mem} (h : sX8_types v0 v1 σ = some z) : Mt E l mX8_types [vr v0, vi v1] σ (none, z.2) :=
  Mt.ofVL (by decide) (Nat.le_of_ble_eq_true rfl) (fun G hG => lX8_types h)
abbrev mX8_feed : MM := (yX8_feed, cX8_feed, 6, (Option.some Jvm.ClassFile.FieldType.int), 1, 22)
theorem dsX8_feed : DsOk yX8_feed 5 := ⟨by decide, by decide, by decide +kernel⟩
theorem lX8_feed {E : EE} {G : GG} {v0 : Option Nat} {v1 : Int32} {v2 : Int32} {v3 : Int32} {v4 : Int32} {v5 : Int32} {σ : Mem} {z : Int32 × Mem} (h : sX8_feed v0 v1 v2 v3 v4 v5 σ = some z) : V E mX8_feed G 0 [some (vr v0), some (vi v1), some (vi v2), some (vi v3), some (vi v4), some (vi v5)] [] σ (some (vi z.1), z.2) := by
  unfold sX8_feed at h
  refine v_al0 dX8_feed_0 ?_
  refine v_gI cok6 h dX8_feed_1 (by decide) q1407 rfl (fun x1 h => ?_)
  refine v_bipush dX8_feed_4 rfl ?_
  refine v_iadd dX8_feed_6 ?_
  refine v_sipush dX8_feed_7 rfl ?_
  refine v_icmp_le (tgt := 15) dX8_feed_10 (by decide) (fun c => ?_) (fun c => ?_)
  · rw [if_pos c] at h
    refine v_al0 dX8_feed_15 ?_
    refine v_il1 dX8_feed_16 ?_
    obtain ⟨b17, er, ka, h⟩ := cV_some h
    obtain ⟨_, s2, h1, h⟩ := cl_some h
    refine v_callV0 cok6 (As := [vi v1]) er ka (tX8_types h1) (lw_V q1541 q1543 qs63 q167 q1544) rfl dsX8_types ⟨Nat.le_of_ble_eq_true rfl, Nat.le_of_ble_eq_true rfl⟩ (Nat.le_of_ble_eq_true rfl) dX8_feed_17 rfl ?_
    refine v_al0 dX8_feed_20 ?_
    refine v_il2 dX8_feed_21 ?_
    obtain ⟨b22, er, ka, h⟩ := cV_some h
    obtain ⟨_, s3, h1, h⟩ := cl_some h
    refine v_callV0 cok6 (As := [vi v2]) er ka (tX8_types h1) (lw_V q1541 q1543 qs63 q167 q1544) rfl dsX8_types ⟨Nat.le_of_ble_eq_true rfl, Nat.le_of_ble_eq_true rfl⟩ (Nat.le_of_ble_eq_true rfl) dX8_feed_22 rfl ?_
    refine v_al0 dX8_feed_25 ?_
    refine v_il3 dX8_feed_26 ?_
    obtain ⟨b27, er, ka, h⟩ := cV_some h
    obtain ⟨_, s4, h1, h⟩ := cl_some h
    refine v_callV0 cok6 (As := [vi v3]) er ka (tX8_types h1) (lw_V q1541 q1543 qs63 q167 q1544) rfl dsX8_types ⟨Nat.le_of_ble_eq_true rfl, Nat.le_of_ble_eq_true rfl⟩ (Nat.le_of_ble_eq_true rfl) dX8_feed_27 rfl ?_
    refine v_al0 dX8_feed_30 ?_
    refine v_iload dX8_feed_31 rfl ?_
    obtain ⟨b33, er, ka, h⟩ := cV_some h
    obtain ⟨_, s5, h1, h⟩ := cl_some h
    refine v_callV0 cok6 (As := [vi v4]) er ka (tX8_types h1) (lw_V q1541 q1543 qs63 q167 q1544) rfl dsX8_types ⟨Nat.le_of_ble_eq_true rfl, Nat.le_of_ble_eq_true rfl⟩ (Nat.le_of_ble_eq_true rfl) dX8_feed_33 rfl ?_
    refine v_al0 dX8_feed_36 ?_
    refine v_iload dX8_feed_37 rfl ?_
    obtain ⟨b39, er, ka, h⟩ := cV_some h
    obtain ⟨_, s6, h1, h⟩ := cl_some h
    refine v_callV0 cok6 (As := [vi v5]) er ka (tX8_types h1) (lw_V q1541 q1543 qs63 q167 q1544) rfl dsX8_types ⟨Nat.le_of_ble_eq_true rfl, Nat.le_of_ble_eq_true rfl⟩ (Nat.le_of_ble_eq_true rfl) dX8_feed_39 rfl ?_
    refine v_al0 dX8_feed_42 ?_
    refine v_gI cok6 h dX8_feed_43 (by decide) q1407 rfl (fun x7 h => ?_)
    exact v_retI h dX8_feed_46 rfl
  · rw [if_neg c] at h
    refine v_iconst dX8_feed_13 ?_
    exact v_retI h dX8_feed_14 rfl
theorem tX8_feed {E : EE} {l : Launch} {v0 : Option Nat} {v1 : Int32} {v2 : Int32} {v3 : Int32} {v4 : Int32} {v5 : Int32} {σ : Mem} {z : Int32 × Mem} (h : sX8_feed v0 v1 v2 v3 v4 v5 σ = some z) : Mt E l mX8_feed [vr v0, vi v1, vi v2, vi v3, vi v4, vi v5] σ (some (vi z.1), z.2) :=
  Mt.ofVL (by decide) (Nat.le_of_ble_eq_true rfl) (fun G hG => lX8_feed h)
abbrev mX8_in : MM := (yX8_in, cX8_in, 3, (Option.some Jvm.ClassFile.FieldType.boolean), 0, 0)
theorem dsX8_in : DsOk yX8_in 3 := ⟨by decide, by decide, by decide +kernel⟩
theorem lX8_in {E : EE} {G : GG} {v0 : Int32} {v1 : Int32} {v2 : Int32} {σ : Mem} {z : Int32 × Mem} (h : sX8_in v0 v1 v2 σ = some z) : V E mX8_in G 0 [some (vi v0), some (vi v1), some (vi v2)] [] σ (some (vi z.1), z.2) := by
  unfold sX8_in at h
  refine v_il0 dX8_in_0 ?_
  refine v_il1 dX8_in_1 ?_
  refine v_icmp_lt (tgt := 14) dX8_in_2 (by decide) (fun c => ?_) (fun c => ?_)
  · rw [if_pos c] at h
    refine v_iconst dX8_in_14 ?_
    exact v_retZ h dX8_in_15 rfl
  · rw [if_neg c] at h
    refine v_il0 dX8_in_5 ?_
    refine v_il2 dX8_in_6 ?_
    refine v_icmp_gt (tgt := 14) dX8_in_7 (by decide) (fun c => ?_) (fun c => ?_)
    · rw [if_pos c] at h
      refine v_iconst dX8_in_14 ?_
      exact v_retZ h dX8_in_15 rfl
    · rw [if_neg c] at h
      refine v_iconst dX8_in_10 ?_
      refine v_goto (tgt := 15) dX8_in_11 (by decide) ?_
      exact v_retZ h dX8_in_15 rfl
theorem tX8_in {E : EE} {l : Launch} {v0 : Int32} {v1 : Int32} {v2 : Int32} {σ : Mem} {z : Int32 × Mem} (h : sX8_in v0 v1 v2 σ = some z) : Mt E l mX8_in [vi v0, vi v1, vi v2] σ (some (vi z.1), z.2) :=
  Mt.ofVL (by decide) (Nat.le_of_ble_eq_true rfl) (fun G hG => lX8_in h)
abbrev mX8_beginsText : MM := (yX8_beginsText, cX8_beginsText, 2, (Option.none : Option Jvm.ClassFile.FieldType), 0, 0)
theorem dsX8_beginsText : DsOk yX8_beginsText 1 := ⟨by decide, by decide, by decide +kernel⟩
theorem lX8_beginsText {E : EE} {G : GG} {v0 : Option Nat} {v1 : Int32} {σ : Mem} {z : Unit × Mem} (h : sX8_beginsText v0 v1 σ = some z) : V E mX8_beginsText G 0 [some (vr v0), some (vi v1)] [] σ (none, z.2) := by
  unfold sX8_beginsText at h
  refine v_al0 dX8_beginsText_0 ?_
  refine v_iconst dX8_beginsText_1 ?_
  refine v_pI cok6 h dX8_beginsText_2 (by decide) q1408 rfl rfl (fun s1 h => ?_)
  refine v_al0 dX8_beginsText_5 ?_
  refine v_il1 dX8_beginsText_6 ?_
  refine v_pI cok6 h dX8_beginsText_7 (by decide) q1409 rfl rfl (fun s2 h => ?_)
  refine v_al0 dX8_beginsText_10 ?_
  refine v_iconst dX8_beginsText_11 ?_
  refine v_pI cok6 h dX8_beginsText_12 (by decide) q1413 rfl rfl (fun s3 h => ?_)
  refine v_al0 dX8_beginsText_15 ?_
  refine v_iconst dX8_beginsText_16 ?_
  refine v_pI cok6 h dX8_beginsText_17 (by decide) q1415 rfl rfl (fun s4 h => ?_)
  exact v_retV h dX8_beginsText_20 rfl
theorem tX8_beginsText {E : EE} {l : Launch} {v0 : Option Nat} {v1 : Int32} {σ : Mem} {z : Unit × Mem} (h : sX8_beginsText v0 v1 σ = some z) : Mt E l mX8_beginsText [vr v0, vi v1] σ (none, z.2) :=
  Mt.ofVL (by decide) (Nat.le_of_ble_eq_true rfl) (fun G hG => lX8_beginsText h)
abbrev mX8_here : MM := (yX8_here, cX8_here, 1, (Option.some Jvm.ClassFile.FieldType.int), 0, 0)
theorem dsX8_here : DsOk yX8_here 0 := ⟨by decide, by decide, by decide +kernel⟩
theorem lX8_here {E : EE} {G : GG} {v0 : Option Nat} {σ : Mem} {z : Int32 × Mem} (h : sX8_here v0 σ = some z) : V E mX8_here G 0 [some (vr v0)] [] σ (some (vi z.1), z.2) := by
  unfold sX8_here at h
  refine v_al0 dX8_here_0 ?_
  refine v_gI cok6 h dX8_here_1 (by decide) q1408 rfl (fun x1 h => ?_)
  refine v_al0 dX8_here_4 ?_
  refine v_gI cok6 h dX8_here_5 (by decide) q1409 rfl (fun x2 h => ?_)
  refine v_icmp_ge (tgt := 27) dX8_here_8 (by decide) (fun c => ?_) (fun c => ?_)
  · rw [if_pos c] at h
    refine v_iconst dX8_here_27 ?_
    exact v_retI h dX8_here_28 rfl
  · rw [if_neg c] at h
    refine v_al0 dX8_here_11 ?_
    refine v_gR cok6 h dX8_here_12 (by decide) q1406 rfl (fun x3 h => ?_)
    refine v_al0 dX8_here_15 ?_
    refine v_gI cok6 h dX8_here_16 (by decide) q1408 rfl (fun x4 h => ?_)
    refine v_aB h dX8_here_19 (fun x5 h => ?_)
    refine v_sipush dX8_here_20 rfl ?_
    refine v_iand dX8_here_23 ?_
    refine v_goto (tgt := 28) dX8_here_24 (by decide) ?_
    exact v_retI h dX8_here_28 rfl
theorem tX8_here {E : EE} {l : Launch} {v0 : Option Nat} {σ : Mem} {z : Int32 × Mem} (h : sX8_here v0 σ = some z) : Mt E l mX8_here [vr v0] σ (some (vi z.1), z.2) :=
  Mt.ofVL (by decide) (Nat.le_of_ble_eq_true rfl) (fun G hG => lX8_here h)
abbrev mX8_wrongAt : MM := (yX8_wrongAt, cX8_wrongAt, 3, (Option.some Jvm.ClassFile.FieldType.boolean), 0, 0)
theorem dsX8_wrongAt : DsOk yX8_wrongAt 2 := ⟨by decide, by decide, by decide +kernel⟩
theorem lX8_wrongAt {E : EE} {G : GG} {v0 : Option Nat} {v1 : Int32} {v2 : Int32} {σ : Mem} {z : Int32 × Mem} (h : sX8_wrongAt v0 v1 v2 σ = some z) : V E mX8_wrongAt G 0 [some (vr v0), some (vi v1), some (vi v2)] [] σ (some (vi z.1), z.2) := by
  unfold sX8_wrongAt at h
  refine v_al0 dX8_wrongAt_0 ?_
  refine v_sipush dX8_wrongAt_1 rfl ?_
  refine v_il1 dX8_wrongAt_4 ?_
  refine v_imul dX8_wrongAt_5 ?_
  refine v_il2 dX8_wrongAt_6 ?_
  refine v_isub dX8_wrongAt_7 ?_
  refine v_pI cok6 h dX8_wrongAt_8 (by decide) q1410 rfl rfl (fun s1 h => ?_)
  refine v_iconst dX8_wrongAt_11 ?_
  exact v_retZ h dX8_wrongAt_12 rfl
theorem tX8_wrongAt {E : EE} {l : Launch} {v0 : Option Nat} {v1 : Int32} {v2 : Int32} {σ : Mem} {z : Int32 × Mem} (h : sX8_wrongAt v0 v1 v2 σ = some z) : Mt E l mX8_wrongAt [vr v0, vi v1, vi v2] σ (some (vi z.1), z.2) :=
  Mt.ofVL (by decide) (Nat.le_of_ble_eq_true rfl) (fun G hG => lX8_wrongAt h)
abbrev mX8_opens : MM := (yX8_opens, cX8_opens, 2, (Option.some Jvm.ClassFile.FieldType.boolean), 1, 22)
theorem dsX8_opens : DsOk yX8_opens 1 := ⟨by decide, by decide, by decide +kernel⟩
theorem lX8_opens {E : EE} {G : GG} {v0 : Option Nat} {v1 : Int32} {σ : Mem} {z : Int32 × Mem} (h : sX8_opens v0 v1 σ = some z) : V E mX8_opens G 0 [some (vr v0), some (vi v1)] [] σ (some (vi z.1), z.2) := by
  unfold sX8_opens at h
  refine v_al0 dX8_opens_0 ?_
  refine v_gI cok6 h dX8_opens_1 (by decide) q1412 rfl (fun x1 h => ?_)
  refine v_bipush dX8_opens_4 rfl ?_
  refine v_icmp_ne (tgt := 19) dX8_opens_6 (by decide) (fun c => ?_) (fun c => ?_)
  · rw [if_neg c] at h
    refine v_al0 dX8_opens_19 ?_
    refine v_al0 dX8_opens_20 ?_
    refine v_gI cok6 h dX8_opens_21 (by decide) q1412 rfl (fun x2 h => ?_)
    refine v_iconst dX8_opens_24 ?_
    refine v_iadd dX8_opens_25 ?_
    refine v_pI cok6 h dX8_opens_26 (by decide) q1412 rfl rfl (fun s3 h => ?_)
    refine v_al0 dX8_opens_29 ?_
    refine v_gR cok6 h dX8_opens_30 (by decide) q1418 rfl (fun x4 h => ?_)
    refine v_al0 dX8_opens_33 ?_
    refine v_gI cok6 h dX8_opens_34 (by decide) q1414 rfl (fun x5 h => ?_)
    refine v_ldcI (n := 1048576) dX8_opens_37 q1397 rfl ?_
    refine v_il1 dX8_opens_39 ?_
    refine v_imul dX8_opens_40 ?_
    refine v_sI h dX8_opens_41 (fun s6 h => ?_)
    refine v_al0 dX8_opens_42 ?_
    refine v_al0 dX8_opens_43 ?_
    refine v_gI cok6 h dX8_opens_44 (by decide) q1414 rfl (fun x7 h => ?_)
    refine v_iconst dX8_opens_47 ?_
    refine v_iadd dX8_opens_48 ?_
    refine v_pI cok6 h dX8_opens_49 (by decide) q1414 rfl rfl (fun s8 h => ?_)
    refine v_al0 dX8_opens_52 ?_
    refine v_al0 dX8_opens_53 ?_
    refine v_gI cok6 h dX8_opens_54 (by decide) q1408 rfl (fun x9 h => ?_)
    refine v_iconst dX8_opens_57 ?_
    refine v_iadd dX8_opens_58 ?_
    refine v_pI cok6 h dX8_opens_59 (by decide) q1408 rfl rfl (fun s10 h => ?_)
    refine v_iconst dX8_opens_62 ?_
    exact v_retZ h dX8_opens_63 rfl
  · rw [if_pos c] at h
    refine v_al0 dX8_opens_9 ?_
    refine v_iconst dX8_opens_10 ?_
    refine v_al0 dX8_opens_11 ?_
    refine v_gI cok6 h dX8_opens_12 (by decide) q1408 rfl (fun x11 h => ?_)
    obtain ⟨b15, er, ka, h⟩ := cV_some h
    obtain ⟨x12, s13, h1, h⟩ := cl_some h
    refine v_callV1 cok6 (As := [vi (iI 5), vi x11]) er ka (tX8_wrongAt h1) (lw_V q1564 q1566 qs67 q167 q1567) rfl dsX8_wrongAt ⟨Nat.le_of_ble_eq_true rfl, Nat.le_of_ble_eq_true rfl⟩ (Nat.le_of_ble_eq_true rfl) dX8_opens_15 rfl ?_
    exact v_retZ h dX8_opens_18 rfl
theorem tX8_opens {E : EE} {l : Launch} {v0 : Option Nat} {v1 : Int32} {σ : Mem} {z : Int32 × Mem} (h : sX8_opens v0 v1 σ = some z) : Mt E l mX8_opens [vr v0, vi v1] σ (some (vi z.1), z.2) :=
  Mt.ofVL (by decide) (Nat.le_of_ble_eq_true rfl) (fun G hG => lX8_opens h)
abbrev mX8_isDigit : MM := (yX8_isDigit, cX8_isDigit, 1, (Option.some Jvm.ClassFile.FieldType.boolean), 1, 20)
theorem dsX8_isDigit : DsOk yX8_isDigit 0 := ⟨by decide, by decide, by decide +kernel⟩
theorem lX8_isDigit {E : EE} {G : GG} {v0 : Option Nat} {σ : Mem} {z : Int32 × Mem} (h : sX8_isDigit v0 σ = some z) : V E mX8_isDigit G 0 [some (vr v0)] [] σ (some (vi z.1), z.2) := by
  unfold sX8_isDigit at h
  refine v_al0 dX8_isDigit_0 ?_
  obtain ⟨b1, er, ka, h⟩ := cV_some h
  obtain ⟨x1, s2, h1, h⟩ := cl_some h
  refine v_callV1 cok6 (As := []) er ka (tX8_here h1) (lw_V q1560 q1562 qs66 q167 q1563) rfl dsX8_here ⟨Nat.le_of_ble_eq_true rfl, Nat.le_of_ble_eq_true rfl⟩ (Nat.le_of_ble_eq_true rfl) dX8_isDigit_1 rfl ?_
  refine v_bipush dX8_isDigit_4 rfl ?_
  refine v_icmp_lt (tgt := 22) dX8_isDigit_6 (by decide) (fun c => ?_) (fun c => ?_)
  · rw [if_pos c] at h
    refine v_iconst dX8_isDigit_22 ?_
    exact v_retZ h dX8_isDigit_23 rfl
  · rw [if_neg c] at h
    refine v_al0 dX8_isDigit_9 ?_
    obtain ⟨b10, er, ka, h⟩ := cV_some h
    obtain ⟨x3, s4, h1, h⟩ := cl_some h
    refine v_callV1 cok6 (As := []) er ka (tX8_here h1) (lw_V q1560 q1562 qs66 q167 q1563) rfl dsX8_here ⟨Nat.le_of_ble_eq_true rfl, Nat.le_of_ble_eq_true rfl⟩ (Nat.le_of_ble_eq_true rfl) dX8_isDigit_10 rfl ?_
    refine v_bipush dX8_isDigit_13 rfl ?_
    refine v_icmp_gt (tgt := 22) dX8_isDigit_15 (by decide) (fun c => ?_) (fun c => ?_)
    · rw [if_pos c] at h
      refine v_iconst dX8_isDigit_22 ?_
      exact v_retZ h dX8_isDigit_23 rfl
    · rw [if_neg c] at h
      refine v_iconst dX8_isDigit_18 ?_
      refine v_goto (tgt := 23) dX8_isDigit_19 (by decide) ?_
      exact v_retZ h dX8_isDigit_23 rfl
theorem tX8_isDigit {E : EE} {l : Launch} {v0 : Option Nat} {σ : Mem} {z : Int32 × Mem} (h : sX8_isDigit v0 σ = some z) : Mt E l mX8_isDigit [vr v0] σ (some (vi z.1), z.2) :=
  Mt.ofVL (by decide) (Nat.le_of_ble_eq_true rfl) (fun G hG => lX8_isDigit h)
abbrev mX8_readsNumber : MM := (yX8_readsNumber, cX8_readsNumber, 2, (Option.some Jvm.ClassFile.FieldType.boolean), 2, 40)
theorem dsX8_readsNumber : DsOk yX8_readsNumber 0 := ⟨by decide, by decide, by decide +kernel⟩
theorem lX8_readsNumber_10b {E : EE} {G : GG} {k10 : Option Nat → Int32 → Mem → Option (Int32 × Mem)} (hk10 : ∀ (v0 : Option Nat) (v1 : Int32) (s : Mem) (z : Int32 × Mem), k10 v0 v1 s = some z → V E mX8_readsNumber G 10 [some (vr v0), some (vi v1)] [] s (some (vi z.1), z.2)) {v0 : Option Nat} {v1 : Int32} {σ : Mem} {z : Int32 × Mem} (h : sX8_readsNumber_10b k10 v0 v1 σ = some z) : V E mX8_readsNumber G 10 [some (vr v0), some (vi v1)] [] σ (some (vi z.1), z.2) := by
  unfold sX8_readsNumber_10b at h
  refine v_al0 dX8_readsNumber_10 ?_
  obtain ⟨b11, er, ka, h⟩ := cV_some h
  obtain ⟨x1, s2, h1, h⟩ := cl_some h
  refine v_callV1 cok6 (As := []) er ka (tX8_isDigit h1) (lw_V q1580 q1582 qs71 q167 q1583) rfl dsX8_isDigit ⟨Nat.le_of_ble_eq_true rfl, Nat.le_of_ble_eq_true rfl⟩ (Nat.le_of_ble_eq_true rfl) dX8_readsNumber_11 rfl ?_
  refine v_if_eq (tgt := 69) dX8_readsNumber_14 (by decide) (fun c => ?_) (fun c => ?_)
  · rw [if_pos c] at h
    refine v_iconst dX8_readsNumber_69 ?_
    exact v_retZ h dX8_readsNumber_70 rfl
  · rw [if_neg c] at h
    refine v_al0 dX8_readsNumber_17 ?_
    refine v_gI cok6 h dX8_readsNumber_18 (by decide) q1408 rfl (fun x3 h => ?_)
    refine v_il1 dX8_readsNumber_21 ?_
    refine v_iconst dX8_readsNumber_22 ?_
    refine v_iadd dX8_readsNumber_23 ?_
    refine v_icmp_ne (tgt := 37) dX8_readsNumber_24 (by decide) (fun c => ?_) (fun c => ?_)
    · rw [if_neg c] at h
      refine v_al0 dX8_readsNumber_37 ?_
      refine v_bipush dX8_readsNumber_38 rfl ?_
      refine v_al0 dX8_readsNumber_40 ?_
      refine v_gI cok6 h dX8_readsNumber_41 (by decide) q1411 rfl (fun x4 h => ?_)
      refine v_imul dX8_readsNumber_44 ?_
      refine v_al0 dX8_readsNumber_45 ?_
      obtain ⟨b46, er, ka, h⟩ := cV_some h
      obtain ⟨x5, s6, h1, h⟩ := cl_some h
      refine v_callV1 cok6 (As := []) er ka (tX8_here h1) (lw_V q1560 q1562 qs66 q167 q1563) rfl dsX8_here ⟨Nat.le_of_ble_eq_true rfl, Nat.le_of_ble_eq_true rfl⟩ (Nat.le_of_ble_eq_true rfl) dX8_readsNumber_46 rfl ?_
      refine v_iadd dX8_readsNumber_49 ?_
      refine v_bipush dX8_readsNumber_50 rfl ?_
      refine v_isub dX8_readsNumber_52 ?_
      refine v_pI cok6 h dX8_readsNumber_53 (by decide) q1411 rfl rfl (fun s7 h => ?_)
      refine v_al0 dX8_readsNumber_56 ?_
      refine v_al0 dX8_readsNumber_57 ?_
      refine v_gI cok6 h dX8_readsNumber_58 (by decide) q1408 rfl (fun x8 h => ?_)
      refine v_iconst dX8_readsNumber_61 ?_
      refine v_iadd dX8_readsNumber_62 ?_
      refine v_pI cok6 h dX8_readsNumber_63 (by decide) q1408 rfl rfl (fun s9 h => ?_)
      refine v_goto (tgt := 10) dX8_readsNumber_66 (by decide) ?_
      exact v_weak (wss (wss wse)) (hk10 _ _ _ _ h)
    · rw [if_pos c] at h
      refine v_al0 dX8_readsNumber_27 ?_
      refine v_iconst dX8_readsNumber_28 ?_
      refine v_al0 dX8_readsNumber_29 ?_
      refine v_gI cok6 h dX8_readsNumber_30 (by decide) q1408 rfl (fun x10 h => ?_)
      obtain ⟨b33, er, ka, h⟩ := cV_some h
      obtain ⟨x11, s12, h1, h⟩ := cl_some h
      refine v_callV1 cok6 (As := [vi (iI 2), vi x10]) er ka (tX8_wrongAt h1) (lw_V q1564 q1566 qs67 q167 q1567) rfl dsX8_wrongAt ⟨Nat.le_of_ble_eq_true rfl, Nat.le_of_ble_eq_true rfl⟩ (Nat.le_of_ble_eq_true rfl) dX8_readsNumber_33 rfl ?_
      exact v_retZ h dX8_readsNumber_36 rfl
theorem lX8_readsNumber_10 {E : EE} {G : GG} : ∀ (f : Nat) {v0 : Option Nat} {v1 : Int32} {σ : Mem} {z : Int32 × Mem}, sX8_readsNumber_10 f v0 v1 σ = some z → V E mX8_readsNumber G 10 [some (vr v0), some (vi v1)] [] σ (some (vi z.1), z.2)
  | 0, _, _, _, _, h => by cases h
  | f + 1, _, _, _, _, h => lX8_readsNumber_10b (fun _ _ _ _ h => lX8_readsNumber_10 f h) h
theorem lX8_readsNumber {E : EE} {G : GG} {v0 : Option Nat} {σ : Mem} {z : Int32 × Mem} (h : sX8_readsNumber v0 σ = some z) : V E mX8_readsNumber G 0 [some (vr v0), none] [] σ (some (vi z.1), z.2) := by
  unfold sX8_readsNumber at h
  refine v_al0 dX8_readsNumber_0 ?_
  refine v_gI cok6 h dX8_readsNumber_1 (by decide) q1408 rfl (fun x1 h => ?_)
  refine v_istore_n (L' := [some (vr v0), some (vi x1)]) dX8_readsNumber_4 (Nat.le_of_ble_eq_true rfl) (Nat.le_of_ble_eq_true rfl) rfl ?_
  refine v_al0 dX8_readsNumber_5 ?_
  refine v_iconst dX8_readsNumber_6 ?_
  refine v_pI cok6 h dX8_readsNumber_7 (by decide) q1411 rfl rfl (fun s2 h => ?_)
  exact v_weak (wss (wss wse)) (lX8_readsNumber_10 FU h)
theorem tX8_readsNumber {E : EE} {l : Launch} {v0 : Option Nat} {σ : Mem} {z : Int32 × Mem} (h : sX8_readsNumber v0 σ = some z) : Mt E l mX8_readsNumber [vr v0] σ (some (vi z.1), z.2) :=
  Mt.ofVL (by decide) (Nat.le_of_ble_eq_true rfl) (fun G hG => lX8_readsNumber h)
abbrev mX8_notes : MM := (yX8_notes, cX8_notes, 3, (Option.none : Option Jvm.ClassFile.FieldType), 0, 0)
theorem dsX8_notes : DsOk yX8_notes 2 := ⟨by decide, by decide, by decide +kernel⟩
theorem lX8_notes {E : EE} {G : GG} {v0 : Option Nat} {v1 : Int32} {v2 : Int32} {σ : Mem} {z : Unit × Mem} (h : sX8_notes v0 v1 v2 σ = some z) : V E mX8_notes G 0 [some (vr v0), some (vi v1), some (vi v2)] [] σ (none, z.2) := by
  unfold sX8_notes at h
  refine v_al0 dX8_notes_0 ?_
  refine v_gR cok6 h dX8_notes_1 (by decide) q1417 rfl (fun x1 h => ?_)
  refine v_al0 dX8_notes_4 ?_
  refine v_gI cok6 h dX8_notes_5 (by decide) q1413 rfl (fun x2 h => ?_)
  refine v_ldcI (n := 1048576) dX8_notes_8 q1397 rfl ?_
  refine v_il1 dX8_notes_10 ?_
  refine v_imul dX8_notes_11 ?_
  refine v_il2 dX8_notes_12 ?_
  refine v_iadd dX8_notes_13 ?_
  refine v_sI h dX8_notes_14 (fun s3 h => ?_)
  refine v_al0 dX8_notes_15 ?_
  refine v_al0 dX8_notes_16 ?_
  refine v_gI cok6 h dX8_notes_17 (by decide) q1413 rfl (fun x4 h => ?_)
  refine v_iconst dX8_notes_20 ?_
  refine v_iadd dX8_notes_21 ?_
  refine v_pI cok6 h dX8_notes_22 (by decide) q1413 rfl rfl (fun s5 h => ?_)
  exact v_retV h dX8_notes_25 rfl
theorem tX8_notes {E : EE} {l : Launch} {v0 : Option Nat} {v1 : Int32} {v2 : Int32} {σ : Mem} {z : Unit × Mem} (h : sX8_notes v0 v1 v2 σ = some z) : Mt E l mX8_notes [vr v0, vi v1, vi v2] σ (none, z.2) :=
  Mt.ofVL (by decide) (Nat.le_of_ble_eq_true rfl) (fun G hG => lX8_notes h)
abbrev mX8_factOf : MM := (yX8_factOf, cX8_factOf, 1, (Option.some Jvm.ClassFile.FieldType.int), 0, 0)
theorem dsX8_factOf : DsOk yX8_factOf 1 := ⟨by decide, by decide, by decide +kernel⟩
theorem lX8_factOf {E : EE} {G : GG} {v0 : Int32} {σ : Mem} {z : Int32 × Mem} (h : sX8_factOf v0 σ = some z) : V E mX8_factOf G 0 [some (vi v0)] [] σ (some (vi z.1), z.2) := by
  unfold sX8_factOf at h
  refine v_il0 dX8_factOf_0 ?_
  by_cases c0 : v0 = iI 102
  · rw [if_pos c0] at h
    refine v_tabIn (tgt := 88) dX8_factOf_1 (by rw [c0]; decide) (by rw [c0]; decide) (by rw [c0]; rfl) (by decide) ?_
    refine v_iconst dX8_factOf_88 ?_
    exact v_retI h dX8_factOf_89 rfl
  · rw [if_neg c0] at h
    by_cases c1 : v0 = iI 103
    · rw [if_pos c1] at h
      refine v_tabIn (tgt := 103) dX8_factOf_1 (by rw [c1]; decide) (by rw [c1]; decide) (by rw [c1]; rfl) (by decide) ?_
      refine v_iconst dX8_factOf_103 ?_
      exact v_retI h dX8_factOf_104 rfl
    · rw [if_neg c1] at h
      by_cases c2 : v0 = iI 104
      · rw [if_pos c2] at h
        refine v_tabIn (tgt := 103) dX8_factOf_1 (by rw [c2]; decide) (by rw [c2]; decide) (by rw [c2]; rfl) (by decide) ?_
        refine v_iconst dX8_factOf_103 ?_
        exact v_retI h dX8_factOf_104 rfl
      · rw [if_neg c2] at h
        by_cases c3 : v0 = iI 105
        · rw [if_pos c3] at h
          refine v_tabIn (tgt := 103) dX8_factOf_1 (by rw [c3]; decide) (by rw [c3]; decide) (by rw [c3]; rfl) (by decide) ?_
          refine v_iconst dX8_factOf_103 ?_
          exact v_retI h dX8_factOf_104 rfl
        · rw [if_neg c3] at h
          by_cases c4 : v0 = iI 106
          · rw [if_pos c4] at h
            refine v_tabIn (tgt := 103) dX8_factOf_1 (by rw [c4]; decide) (by rw [c4]; decide) (by rw [c4]; rfl) (by decide) ?_
            refine v_iconst dX8_factOf_103 ?_
            exact v_retI h dX8_factOf_104 rfl
          · rw [if_neg c4] at h
            by_cases c5 : v0 = iI 107
            · rw [if_pos c5] at h
              refine v_tabIn (tgt := 92) dX8_factOf_1 (by rw [c5]; decide) (by rw [c5]; decide) (by rw [c5]; rfl) (by decide) ?_
              refine v_iconst dX8_factOf_92 ?_
              exact v_retI h dX8_factOf_93 rfl
            · rw [if_neg c5] at h
              by_cases c6 : v0 = iI 108
              · rw [if_pos c6] at h
                refine v_tabIn (tgt := 103) dX8_factOf_1 (by rw [c6]; decide) (by rw [c6]; decide) (by rw [c6]; rfl) (by decide) ?_
                refine v_iconst dX8_factOf_103 ?_
                exact v_retI h dX8_factOf_104 rfl
              · rw [if_neg c6] at h
                by_cases c7 : v0 = iI 109
                · rw [if_pos c7] at h
                  refine v_tabIn (tgt := 103) dX8_factOf_1 (by rw [c7]; decide) (by rw [c7]; decide) (by rw [c7]; rfl) (by decide) ?_
                  refine v_iconst dX8_factOf_103 ?_
                  exact v_retI h dX8_factOf_104 rfl
                · rw [if_neg c7] at h
                  by_cases c8 : v0 = iI 110
                  · rw [if_pos c8] at h
                    refine v_tabIn (tgt := 94) dX8_factOf_1 (by rw [c8]; decide) (by rw [c8]; decide) (by rw [c8]; rfl) (by decide) ?_
                    refine v_iconst dX8_factOf_94 ?_
                    exact v_retI h dX8_factOf_95 rfl
                  · rw [if_neg c8] at h
                    by_cases c9 : v0 = iI 111
                    · rw [if_pos c9] at h
                      refine v_tabIn (tgt := 103) dX8_factOf_1 (by rw [c9]; decide) (by rw [c9]; decide) (by rw [c9]; rfl) (by decide) ?_
                      refine v_iconst dX8_factOf_103 ?_
                      exact v_retI h dX8_factOf_104 rfl
                    · rw [if_neg c9] at h
                      by_cases c10 : v0 = iI 112
                      · rw [if_pos c10] at h
                        refine v_tabIn (tgt := 103) dX8_factOf_1 (by rw [c10]; decide) (by rw [c10]; decide) (by rw [c10]; rfl) (by decide) ?_
                        refine v_iconst dX8_factOf_103 ?_
                        exact v_retI h dX8_factOf_104 rfl
                      · rw [if_neg c10] at h
                        by_cases c11 : v0 = iI 113
                        · rw [if_pos c11] at h
                          refine v_tabIn (tgt := 96) dX8_factOf_1 (by rw [c11]; decide) (by rw [c11]; decide) (by rw [c11]; rfl) (by decide) ?_
                          refine v_iconst dX8_factOf_96 ?_
                          exact v_retI h dX8_factOf_97 rfl
                        · rw [if_neg c11] at h
                          by_cases c12 : v0 = iI 114
                          · rw [if_pos c12] at h
                            refine v_tabIn (tgt := 103) dX8_factOf_1 (by rw [c12]; decide) (by rw [c12]; decide) (by rw [c12]; rfl) (by decide) ?_
                            refine v_iconst dX8_factOf_103 ?_
                            exact v_retI h dX8_factOf_104 rfl
                          · rw [if_neg c12] at h
                            by_cases c13 : v0 = iI 115
                            · rw [if_pos c13] at h
                              refine v_tabIn (tgt := 98) dX8_factOf_1 (by rw [c13]; decide) (by rw [c13]; decide) (by rw [c13]; rfl) (by decide) ?_
                              refine v_iconst dX8_factOf_98 ?_
                              exact v_retI h dX8_factOf_99 rfl
                            · rw [if_neg c13] at h
                              by_cases c14 : v0 = iI 116
                              · rw [if_pos c14] at h
                                refine v_tabIn (tgt := 90) dX8_factOf_1 (by rw [c14]; decide) (by rw [c14]; decide) (by rw [c14]; rfl) (by decide) ?_
                                refine v_iconst dX8_factOf_90 ?_
                                exact v_retI h dX8_factOf_91 rfl
                              · rw [if_neg c14] at h
                                by_cases c15 : v0 = iI 117
                                · rw [if_pos c15] at h
                                  refine v_tabIn (tgt := 103) dX8_factOf_1 (by rw [c15]; decide) (by rw [c15]; decide) (by rw [c15]; rfl) (by decide) ?_
                                  refine v_iconst dX8_factOf_103 ?_
                                  exact v_retI h dX8_factOf_104 rfl
                                · rw [if_neg c15] at h
                                  by_cases c16 : v0 = iI 118
                                  · rw [if_pos c16] at h
                                    refine v_tabIn (tgt := 103) dX8_factOf_1 (by rw [c16]; decide) (by rw [c16]; decide) (by rw [c16]; rfl) (by decide) ?_
                                    refine v_iconst dX8_factOf_103 ?_
                                    exact v_retI h dX8_factOf_104 rfl
                                  · rw [if_neg c16] at h
                                    by_cases c17 : v0 = iI 119
                                    · rw [if_pos c17] at h
                                      refine v_tabIn (tgt := 100) dX8_factOf_1 (by rw [c17]; decide) (by rw [c17]; decide) (by rw [c17]; rfl) (by decide) ?_
                                      refine v_bipush dX8_factOf_100 rfl ?_
                                      exact v_retI h dX8_factOf_102 rfl
                                    · rw [if_neg c17] at h
                                      refine v_tabOut (tgt := 103) dX8_factOf_1 (tab_out (fun j h1 h2 => ?_) (by decide) (by decide)) (by decide) ?_
                                      · rcases (show j = 102 ∨ j = 103 ∨ j = 104 ∨ j = 105 ∨ j = 106 ∨ j = 107 ∨ j = 108 ∨ j = 109 ∨ j = 110 ∨ j = 111 ∨ j = 112 ∨ j = 113 ∨ j = 114 ∨ j = 115 ∨ j = 116 ∨ j = 117 ∨ j = 118 ∨ j = 119 by omega) with rfl | rfl | rfl | rfl | rfl | rfl | rfl | rfl | rfl | rfl | rfl | rfl | rfl | rfl | rfl | rfl | rfl | rfl
                                        · exact c0
                                        · exact c1
                                        · exact c2
                                        · exact c3
                                        · exact c4
                                        · exact c5
                                        · exact c6
                                        · exact c7
                                        · exact c8
                                        · exact c9
                                        · exact c10
                                        · exact c11
                                        · exact c12
                                        · exact c13
                                        · exact c14
                                        · exact c15
                                        · exact c16
                                        · exact c17
                                      refine v_iconst dX8_factOf_103 ?_
                                      exact v_retI h dX8_factOf_104 rfl
theorem tX8_factOf {E : EE} {l : Launch} {v0 : Int32} {σ : Mem} {z : Int32 × Mem} (h : sX8_factOf v0 σ = some z) : Mt E l mX8_factOf [vi v0] σ (some (vi z.1), z.2) :=
  Mt.ofVL (by decide) (Nat.le_of_ble_eq_true rfl) (fun G hG => lX8_factOf h)
abbrev mX8_readsFactor : MM := (yX8_readsFactor, cX8_readsFactor, 2, (Option.some Jvm.ClassFile.FieldType.boolean), 3, 61)
theorem dsX8_readsFactor : DsOk yX8_readsFactor 0 := ⟨by decide, by decide, by decide +kernel⟩
theorem lX8_readsFactor_0b {E : EE} {G : GG} {k0 : Option Nat → Mem → Option (Int32 × Mem)} (hk0 : ∀ (v0 : Option Nat) (s : Mem) (z : Int32 × Mem), k0 v0 s = some z → V E mX8_readsFactor G 0 [some (vr v0), none] [] s (some (vi z.1), z.2)) {v0 : Option Nat} {σ : Mem} {z : Int32 × Mem} (h : sX8_readsFactor_0b k0 v0 σ = some z) : V E mX8_readsFactor G 0 [some (vr v0), none] [] σ (some (vi z.1), z.2) := by
  unfold sX8_readsFactor_0b at h
  refine v_al0 dX8_readsFactor_0 ?_
  obtain ⟨b1, er, ka, h⟩ := cV_some h
  obtain ⟨x1, s2, h1, h⟩ := cl_some h
  refine v_callV1 cok6 (As := []) er ka (tX8_here h1) (lw_V q1560 q1562 qs66 q167 q1563) rfl dsX8_here ⟨Nat.le_of_ble_eq_true rfl, Nat.le_of_ble_eq_true rfl⟩ (Nat.le_of_ble_eq_true rfl) dX8_readsFactor_1 rfl ?_
  refine v_bipush dX8_readsFactor_4 rfl ?_
  refine v_icmp_ne (tgt := 20) dX8_readsFactor_6 (by decide) (fun c => ?_) (fun c => ?_)
  · rw [if_neg c] at h
    refine v_al0 dX8_readsFactor_20 ?_
    obtain ⟨b21, er, ka, h⟩ := cV_some h
    obtain ⟨x3, s4, h1, h⟩ := cl_some h
    refine v_callV1 cok6 (As := []) er ka (tX8_isDigit h1) (lw_V q1580 q1582 qs71 q167 q1583) rfl dsX8_isDigit ⟨Nat.le_of_ble_eq_true rfl, Nat.le_of_ble_eq_true rfl⟩ (Nat.le_of_ble_eq_true rfl) dX8_readsFactor_21 rfl ?_
    refine v_if_eq (tgt := 47) dX8_readsFactor_24 (by decide) (fun c => ?_) (fun c => ?_)
    · rw [if_pos c] at h
      refine v_al0 dX8_readsFactor_47 ?_
      obtain ⟨b48, er, ka, h⟩ := cV_some h
      obtain ⟨x5, s6, h1, h⟩ := cl_some h
      refine v_callV1 cok6 (As := []) er ka (tX8_here h1) (lw_V q1560 q1562 qs66 q167 q1563) rfl dsX8_here ⟨Nat.le_of_ble_eq_true rfl, Nat.le_of_ble_eq_true rfl⟩ (Nat.le_of_ble_eq_true rfl) dX8_readsFactor_48 rfl ?_
      obtain ⟨x7, s8, h1, h⟩ := cl_some h
      refine v_callS1 (As := [vi x5]) (tX8_factOf h1) (lw_S q1592 q1593 q167 q1594) dsX8_factOf ⟨Nat.le_of_ble_eq_true rfl, Nat.le_of_ble_eq_true rfl⟩ (Nat.le_of_ble_eq_true rfl) dX8_readsFactor_51 rfl ?_
      refine v_istore_n (L' := [some (vr v0), some (vi x7)]) dX8_readsFactor_54 (Nat.le_of_ble_eq_true rfl) (Nat.le_of_ble_eq_true rfl) rfl ?_
      refine v_il1 dX8_readsFactor_55 ?_
      refine v_iconst dX8_readsFactor_56 ?_
      refine v_icmp_ne (tgt := 70) dX8_readsFactor_57 (by decide) (fun c => ?_) (fun c => ?_)
      · rw [if_neg c] at h
        refine v_al0 dX8_readsFactor_70 ?_
        refine v_iconst dX8_readsFactor_71 ?_
        refine v_il1 dX8_readsFactor_72 ?_
        obtain ⟨b73, er, ka, h⟩ := cV_some h
        obtain ⟨_, s9, h1, h⟩ := cl_some h
        refine v_callV0 cok6 (As := [vi (iI 1), vi x7]) er ka (tX8_notes h1) (lw_V q1588 q1590 qs73 q167 q1591) rfl dsX8_notes ⟨Nat.le_of_ble_eq_true rfl, Nat.le_of_ble_eq_true rfl⟩ (Nat.le_of_ble_eq_true rfl) dX8_readsFactor_73 rfl ?_
        refine v_al0 dX8_readsFactor_76 ?_
        refine v_al0 dX8_readsFactor_77 ?_
        refine v_gI cok6 h dX8_readsFactor_78 (by decide) q1408 rfl (fun x10 h => ?_)
        refine v_iconst dX8_readsFactor_81 ?_
        refine v_iadd dX8_readsFactor_82 ?_
        refine v_pI cok6 h dX8_readsFactor_83 (by decide) q1408 rfl rfl (fun s11 h => ?_)
        refine v_iconst dX8_readsFactor_86 ?_
        exact v_retZ h dX8_readsFactor_87 rfl
      · rw [if_pos c] at h
        refine v_al0 dX8_readsFactor_60 ?_
        refine v_iconst dX8_readsFactor_61 ?_
        refine v_al0 dX8_readsFactor_62 ?_
        refine v_gI cok6 h dX8_readsFactor_63 (by decide) q1408 rfl (fun x12 h => ?_)
        obtain ⟨b66, er, ka, h⟩ := cV_some h
        obtain ⟨x13, s14, h1, h⟩ := cl_some h
        refine v_callV1 cok6 (As := [vi (iI 1), vi x12]) er ka (tX8_wrongAt h1) (lw_V q1564 q1566 qs67 q167 q1567) rfl dsX8_wrongAt ⟨Nat.le_of_ble_eq_true rfl, Nat.le_of_ble_eq_true rfl⟩ (Nat.le_of_ble_eq_true rfl) dX8_readsFactor_66 rfl ?_
        exact v_retZ h dX8_readsFactor_69 rfl
    · rw [if_neg c] at h
      refine v_al0 dX8_readsFactor_27 ?_
      obtain ⟨b28, er, ka, h⟩ := cV_some h
      obtain ⟨x15, s16, h1, h⟩ := cl_some h
      refine v_callV1 cok6 (As := []) er ka (tX8_readsNumber h1) (lw_V q1584 q1586 qs72 q167 q1587) rfl dsX8_readsNumber ⟨Nat.le_of_ble_eq_true rfl, Nat.le_of_ble_eq_true rfl⟩ (Nat.le_of_ble_eq_true rfl) dX8_readsFactor_28 rfl ?_
      refine v_if_ne (tgt := 36) dX8_readsFactor_31 (by decide) (fun c => ?_) (fun c => ?_)
      · rw [if_neg c] at h
        refine v_al0 dX8_readsFactor_36 ?_
        refine v_iconst dX8_readsFactor_37 ?_
        refine v_al0 dX8_readsFactor_38 ?_
        refine v_gI cok6 h dX8_readsFactor_39 (by decide) q1411 rfl (fun x17 h => ?_)
        obtain ⟨b42, er, ka, h⟩ := cV_some h
        obtain ⟨_, s18, h1, h⟩ := cl_some h
        refine v_callV0 cok6 (As := [vi (iI 0), vi x17]) er ka (tX8_notes h1) (lw_V q1588 q1590 qs73 q167 q1591) rfl dsX8_notes ⟨Nat.le_of_ble_eq_true rfl, Nat.le_of_ble_eq_true rfl⟩ (Nat.le_of_ble_eq_true rfl) dX8_readsFactor_42 rfl ?_
        refine v_iconst dX8_readsFactor_45 ?_
        exact v_retZ h dX8_readsFactor_46 rfl
      · rw [if_pos c] at h
        refine v_iconst dX8_readsFactor_34 ?_
        exact v_retZ h dX8_readsFactor_35 rfl
  · rw [if_pos c] at h
    refine v_al0 dX8_readsFactor_9 ?_
    refine v_bipush dX8_readsFactor_10 rfl ?_
    obtain ⟨b12, er, ka, h⟩ := cV_some h
    obtain ⟨x19, s20, h1, h⟩ := cl_some h
    refine v_callV1 cok6 (As := [vi (iI 14)]) er ka (tX8_opens h1) (lw_V q1576 q1578 qs70 q167 q1579) rfl dsX8_opens ⟨Nat.le_of_ble_eq_true rfl, Nat.le_of_ble_eq_true rfl⟩ (Nat.le_of_ble_eq_true rfl) dX8_readsFactor_12 rfl ?_
    refine v_if_ne (tgt := 0) dX8_readsFactor_15 (by decide) (fun c => ?_) (fun c => ?_)
    · rw [if_neg c] at h
      exact v_weak (wss (wsn wse)) (hk0 _ _ _ h)
    · rw [if_pos c] at h
      refine v_iconst dX8_readsFactor_18 ?_
      exact v_retZ h dX8_readsFactor_19 rfl
theorem lX8_readsFactor_0 {E : EE} {G : GG} : ∀ (f : Nat) {v0 : Option Nat} {σ : Mem} {z : Int32 × Mem}, sX8_readsFactor_0 f v0 σ = some z → V E mX8_readsFactor G 0 [some (vr v0), none] [] σ (some (vi z.1), z.2)
  | 0, _, _, _, h => by cases h
  | f + 1, _, _, _, h => lX8_readsFactor_0b (fun _ _ _ h => lX8_readsFactor_0 f h) h
theorem lX8_readsFactor {E : EE} {G : GG} {v0 : Option Nat} {σ : Mem} {z : Int32 × Mem} (h : sX8_readsFactor v0 σ = some z) : V E mX8_readsFactor G 0 [some (vr v0), none] [] σ (some (vi z.1), z.2) := v_weak (wss (wsn wse)) (lX8_readsFactor_0 FU h)
theorem tX8_readsFactor {E : EE} {l : Launch} {v0 : Option Nat} {σ : Mem} {z : Int32 × Mem} (h : sX8_readsFactor v0 σ = some z) : Mt E l mX8_readsFactor [vr v0] σ (some (vi z.1), z.2) :=
  Mt.ofVL (by decide) (Nat.le_of_ble_eq_true rfl) (fun G hG => lX8_readsFactor h)
abbrev mX8_sumSign : MM := (yX8_sumSign, cX8_sumSign, 1, (Option.some Jvm.ClassFile.FieldType.int), 0, 0)
theorem dsX8_sumSign : DsOk yX8_sumSign 1 := ⟨by decide, by decide, by decide +kernel⟩
theorem lX8_sumSign {E : EE} {G : GG} {v0 : Int32} {σ : Mem} {z : Int32 × Mem} (h : sX8_sumSign v0 σ = some z) : V E mX8_sumSign G 0 [some (vi v0)] [] σ (some (vi z.1), z.2) := by
  unfold sX8_sumSign at h
  refine v_il0 dX8_sumSign_0 ?_
  refine v_bipush dX8_sumSign_1 rfl ?_
  refine v_icmp_ne (tgt := 10) dX8_sumSign_3 (by decide) (fun c => ?_) (fun c => ?_)
  · rw [if_neg c] at h
    refine v_il0 dX8_sumSign_10 ?_
    refine v_bipush dX8_sumSign_11 rfl ?_
    refine v_icmp_ne (tgt := 20) dX8_sumSign_13 (by decide) (fun c => ?_) (fun c => ?_)
    · rw [if_neg c] at h
      refine v_il0 dX8_sumSign_20 ?_
      refine v_bipush dX8_sumSign_21 rfl ?_
      refine v_icmp_ne (tgt := 30) dX8_sumSign_23 (by decide) (fun c => ?_) (fun c => ?_)
      · rw [if_neg c] at h
        refine v_il0 dX8_sumSign_30 ?_
        refine v_bipush dX8_sumSign_31 rfl ?_
        refine v_icmp_ne (tgt := 40) dX8_sumSign_33 (by decide) (fun c => ?_) (fun c => ?_)
        · rw [if_neg c] at h
          refine v_il0 dX8_sumSign_40 ?_
          refine v_bipush dX8_sumSign_41 rfl ?_
          refine v_icmp_ne (tgt := 51) dX8_sumSign_43 (by decide) (fun c => ?_) (fun c => ?_)
          · rw [if_neg c] at h
            refine v_iconst dX8_sumSign_51 ?_
            exact v_retI h dX8_sumSign_52 rfl
          · rw [if_pos c] at h
            refine v_bipush dX8_sumSign_46 rfl ?_
            refine v_goto (tgt := 52) dX8_sumSign_48 (by decide) ?_
            exact v_retI h dX8_sumSign_52 rfl
        · rw [if_pos c] at h
          refine v_iconst dX8_sumSign_36 ?_
          refine v_goto (tgt := 52) dX8_sumSign_37 (by decide) ?_
          exact v_retI h dX8_sumSign_52 rfl
      · rw [if_pos c] at h
        refine v_iconst dX8_sumSign_26 ?_
        refine v_goto (tgt := 52) dX8_sumSign_27 (by decide) ?_
        exact v_retI h dX8_sumSign_52 rfl
    · rw [if_pos c] at h
      refine v_iconst dX8_sumSign_16 ?_
      refine v_goto (tgt := 52) dX8_sumSign_17 (by decide) ?_
      exact v_retI h dX8_sumSign_52 rfl
  · rw [if_pos c] at h
    refine v_iconst dX8_sumSign_6 ?_
    refine v_goto (tgt := 52) dX8_sumSign_7 (by decide) ?_
    exact v_retI h dX8_sumSign_52 rfl
theorem tX8_sumSign {E : EE} {l : Launch} {v0 : Int32} {σ : Mem} {z : Int32 × Mem} (h : sX8_sumSign v0 σ = some z) : Mt E l mX8_sumSign [vi v0] σ (some (vi z.1), z.2) :=
  Mt.ofVL (by decide) (Nat.le_of_ble_eq_true rfl) (fun G hG => lX8_sumSign h)
abbrev mX8_waitTop : MM := (yX8_waitTop, cX8_waitTop, 1, (Option.some Jvm.ClassFile.FieldType.int), 0, 0)
theorem dsX8_waitTop : DsOk yX8_waitTop 0 := ⟨by decide, by decide, by decide +kernel⟩
theorem lX8_waitTop {E : EE} {G : GG} {v0 : Option Nat} {σ : Mem} {z : Int32 × Mem} (h : sX8_waitTop v0 σ = some z) : V E mX8_waitTop G 0 [some (vr v0)] [] σ (some (vi z.1), z.2) := by
  unfold sX8_waitTop at h
  refine v_al0 dX8_waitTop_0 ?_
  refine v_gI cok6 h dX8_waitTop_1 (by decide) q1414 rfl (fun x1 h => ?_)
  refine v_if_ne (tgt := 11) dX8_waitTop_4 (by decide) (fun c => ?_) (fun c => ?_)
  · rw [if_neg c] at h
    refine v_al0 dX8_waitTop_11 ?_
    refine v_gR cok6 h dX8_waitTop_12 (by decide) q1418 rfl (fun x2 h => ?_)
    refine v_al0 dX8_waitTop_15 ?_
    refine v_gI cok6 h dX8_waitTop_16 (by decide) q1414 rfl (fun x3 h => ?_)
    refine v_iconst dX8_waitTop_19 ?_
    refine v_isub dX8_waitTop_20 ?_
    refine v_aI h dX8_waitTop_21 (fun x4 h => ?_)
    refine v_ldcI (n := 1048576) dX8_waitTop_22 q1397 rfl ?_
    obtain ⟨hne, h⟩ := dv_some h
    refine v_idiv dX8_waitTop_24 hne ?_
    generalize x4 / (iI 1048576) = x5 at h ⊢
    exact v_retI h dX8_waitTop_25 rfl
  · rw [if_pos c] at h
    refine v_iconst dX8_waitTop_7 ?_
    refine v_goto (tgt := 25) dX8_waitTop_8 (by decide) ?_
    exact v_retI h dX8_waitTop_25 rfl
theorem tX8_waitTop {E : EE} {l : Launch} {v0 : Option Nat} {σ : Mem} {z : Int32 × Mem} (h : sX8_waitTop v0 σ = some z) : Mt E l mX8_waitTop [vr v0] σ (some (vi z.1), z.2) :=
  Mt.ofVL (by decide) (Nat.le_of_ble_eq_true rfl) (fun G hG => lX8_waitTop h)
abbrev mX8_closesSums : MM := (yX8_closesSums, cX8_closesSums, 2, (Option.none : Option Jvm.ClassFile.FieldType), 1, 22)
theorem dsX8_closesSums : DsOk yX8_closesSums 1 := ⟨by decide, by decide, by decide +kernel⟩
theorem lX8_closesSums_37 {E : EE} {G : GG} {k0 : Option Nat → Int32 → Mem → Option (Unit × Mem)} (hk0 : ∀ (v0 : Option Nat) (v1 : Int32) (s : Mem) (z : Unit × Mem), k0 v0 v1 s = some z → V E mX8_closesSums G 0 [some (vr v0), some (vi v1)] [] s (none, z.2)) {v0 : Option Nat} {v1 : Int32} {σ : Mem} {z : Unit × Mem} (h : sX8_closesSums_37 k0 v0 v1 σ = some z) : V E mX8_closesSums G 37 [some (vr v0), some (vi v1)] [] σ (none, z.2) := by
  unfold sX8_closesSums_37 at h
  refine v_al0 dX8_closesSums_37 ?_
  refine v_al0 dX8_closesSums_38 ?_
  obtain ⟨b39, er, ka, h⟩ := cV_some h
  obtain ⟨x1, s2, h1, h⟩ := cl_some h
  refine v_callV1 cok6 (As := []) er ka (tX8_waitTop h1) (lw_V q1602 q1604 qs75 q167 q1605) rfl dsX8_waitTop ⟨Nat.le_of_ble_eq_true rfl, Nat.le_of_ble_eq_true rfl⟩ (Nat.le_of_ble_eq_true rfl) dX8_closesSums_39 rfl ?_
  refine v_iconst dX8_closesSums_42 ?_
  obtain ⟨b43, er, ka, h⟩ := cV_some h
  obtain ⟨_, s3, h1, h⟩ := cl_some h
  refine v_callV0 cok6 (As := [vi x1, vi (iI 0)]) er ka (tX8_notes h1) (lw_V q1588 q1590 qs73 q167 q1591) rfl dsX8_notes ⟨Nat.le_of_ble_eq_true rfl, Nat.le_of_ble_eq_true rfl⟩ (Nat.le_of_ble_eq_true rfl) dX8_closesSums_43 rfl ?_
  refine v_al0 dX8_closesSums_46 ?_
  refine v_al0 dX8_closesSums_47 ?_
  refine v_gI cok6 h dX8_closesSums_48 (by decide) q1414 rfl (fun x4 h => ?_)
  refine v_iconst dX8_closesSums_51 ?_
  refine v_isub dX8_closesSums_52 ?_
  refine v_pI cok6 h dX8_closesSums_53 (by decide) q1414 rfl rfl (fun s5 h => ?_)
  refine v_goto (tgt := 0) dX8_closesSums_56 (by decide) ?_
  exact v_weak (wss (wss wse)) (hk0 _ _ _ _ h)
theorem lX8_closesSums_17 {E : EE} {G : GG} {k0 : Option Nat → Int32 → Mem → Option (Unit × Mem)} (hk0 : ∀ (v0 : Option Nat) (v1 : Int32) (s : Mem) (z : Unit × Mem), k0 v0 v1 s = some z → V E mX8_closesSums G 0 [some (vr v0), some (vi v1)] [] s (none, z.2)) {v0 : Option Nat} {v1 : Int32} {σ : Mem} {z : Unit × Mem} (h : sX8_closesSums_17 k0 v0 v1 σ = some z) : V E mX8_closesSums G 17 [some (vr v0), some (vi v1)] [] σ (none, z.2) := by
  unfold sX8_closesSums_17 at h
  refine v_il1 dX8_closesSums_17 ?_
  refine v_if_eq (tgt := 59) dX8_closesSums_18 (by decide) (fun c => ?_) (fun c => ?_)
  · rw [if_pos c] at h
    exact v_retV h dX8_closesSums_59 rfl
  · rw [if_neg c] at h
    refine v_al0 dX8_closesSums_21 ?_
    obtain ⟨b22, er, ka, h⟩ := cV_some h
    obtain ⟨x1, s2, h1, h⟩ := cl_some h
    refine v_callV1 cok6 (As := []) er ka (tX8_waitTop h1) (lw_V q1602 q1604 qs75 q167 q1605) rfl dsX8_waitTop ⟨Nat.le_of_ble_eq_true rfl, Nat.le_of_ble_eq_true rfl⟩ (Nat.le_of_ble_eq_true rfl) dX8_closesSums_22 rfl ?_
    refine v_iconst dX8_closesSums_25 ?_
    refine v_icmp_eq (tgt := 37) dX8_closesSums_26 (by decide) (fun c => ?_) (fun c => ?_)
    · rw [if_pos c] at h
      exact v_weak (wss (wss wse)) (lX8_closesSums_37 hk0 h)
    · rw [if_neg c] at h
      refine v_al0 dX8_closesSums_29 ?_
      obtain ⟨b30, er, ka, h⟩ := cV_some h
      obtain ⟨x3, s4, h1, h⟩ := cl_some h
      refine v_callV1 cok6 (As := []) er ka (tX8_waitTop h1) (lw_V q1602 q1604 qs75 q167 q1605) rfl dsX8_waitTop ⟨Nat.le_of_ble_eq_true rfl, Nat.le_of_ble_eq_true rfl⟩ (Nat.le_of_ble_eq_true rfl) dX8_closesSums_30 rfl ?_
      refine v_iconst dX8_closesSums_33 ?_
      refine v_icmp_ne (tgt := 59) dX8_closesSums_34 (by decide) (fun c => ?_) (fun c => ?_)
      · rw [if_neg c] at h
        exact v_retV h dX8_closesSums_59 rfl
      · rw [if_pos c] at h
        exact v_weak (wss (wss wse)) (lX8_closesSums_37 hk0 h)
theorem lX8_closesSums_0b {E : EE} {G : GG} {k0 : Option Nat → Int32 → Mem → Option (Unit × Mem)} (hk0 : ∀ (v0 : Option Nat) (v1 : Int32) (s : Mem) (z : Unit × Mem), k0 v0 v1 s = some z → V E mX8_closesSums G 0 [some (vr v0), some (vi v1)] [] s (none, z.2)) {v0 : Option Nat} {v1 : Int32} {σ : Mem} {z : Unit × Mem} (h : sX8_closesSums_0b k0 v0 v1 σ = some z) : V E mX8_closesSums G 0 [some (vr v0), some (vi v1)] [] σ (none, z.2) := by
  unfold sX8_closesSums_0b at h
  refine v_al0 dX8_closesSums_0 ?_
  obtain ⟨b1, er, ka, h⟩ := cV_some h
  obtain ⟨x1, s2, h1, h⟩ := cl_some h
  refine v_callV1 cok6 (As := []) er ka (tX8_waitTop h1) (lw_V q1602 q1604 qs75 q167 q1605) rfl dsX8_waitTop ⟨Nat.le_of_ble_eq_true rfl, Nat.le_of_ble_eq_true rfl⟩ (Nat.le_of_ble_eq_true rfl) dX8_closesSums_1 rfl ?_
  refine v_iconst dX8_closesSums_4 ?_
  refine v_icmp_lt (tgt := 17) dX8_closesSums_5 (by decide) (fun c => ?_) (fun c => ?_)
  · rw [if_pos c] at h
    exact v_weak (wss (wss wse)) (lX8_closesSums_17 hk0 h)
  · rw [if_neg c] at h
    refine v_al0 dX8_closesSums_8 ?_
    obtain ⟨b9, er, ka, h⟩ := cV_some h
    obtain ⟨x3, s4, h1, h⟩ := cl_some h
    refine v_callV1 cok6 (As := []) er ka (tX8_waitTop h1) (lw_V q1602 q1604 qs75 q167 q1605) rfl dsX8_waitTop ⟨Nat.le_of_ble_eq_true rfl, Nat.le_of_ble_eq_true rfl⟩ (Nat.le_of_ble_eq_true rfl) dX8_closesSums_9 rfl ?_
    refine v_bipush dX8_closesSums_12 rfl ?_
    refine v_icmp_le (tgt := 37) dX8_closesSums_14 (by decide) (fun c => ?_) (fun c => ?_)
    · rw [if_pos c] at h
      exact v_weak (wss (wss wse)) (lX8_closesSums_37 hk0 h)
    · rw [if_neg c] at h
      exact v_weak (wss (wss wse)) (lX8_closesSums_17 hk0 h)
theorem lX8_closesSums_0 {E : EE} {G : GG} : ∀ (f : Nat) {v0 : Option Nat} {v1 : Int32} {σ : Mem} {z : Unit × Mem}, sX8_closesSums_0 f v0 v1 σ = some z → V E mX8_closesSums G 0 [some (vr v0), some (vi v1)] [] σ (none, z.2)
  | 0, _, _, _, _, h => by cases h
  | f + 1, _, _, _, _, h => lX8_closesSums_0b (fun _ _ _ _ h => lX8_closesSums_0 f h) h
theorem lX8_closesSums {E : EE} {G : GG} {v0 : Option Nat} {v1 : Int32} {σ : Mem} {z : Unit × Mem} (h : sX8_closesSums v0 v1 σ = some z) : V E mX8_closesSums G 0 [some (vr v0), some (vi v1)] [] σ (none, z.2) := v_weak (wss (wss wse)) (lX8_closesSums_0 FU h)
theorem tX8_closesSums {E : EE} {l : Launch} {v0 : Option Nat} {v1 : Int32} {σ : Mem} {z : Unit × Mem} (h : sX8_closesSums v0 v1 σ = some z) : Mt E l mX8_closesSums [vr v0, vi v1] σ (none, z.2) :=
  Mt.ofVL (by decide) (Nat.le_of_ble_eq_true rfl) (fun G hG => lX8_closesSums h)
abbrev mX8_hasOpenSum : MM := (yX8_hasOpenSum, cX8_hasOpenSum, 3, (Option.some Jvm.ClassFile.FieldType.boolean), 0, 0)
theorem dsX8_hasOpenSum : DsOk yX8_hasOpenSum 1 := ⟨by decide, by decide, by decide +kernel⟩
theorem lX8_hasOpenSum_2b {E : EE} {G : GG} {k2 : Option Nat → Int32 → Mem → Option (Int32 × Mem)} (hk2 : ∀ (v0 : Option Nat) (v2 : Int32) (s : Mem) (z : Int32 × Mem), k2 v0 v2 s = some z → V E mX8_hasOpenSum G 2 [some (vr v0), none, some (vi v2)] [] s (some (vi z.1), z.2)) {v0 : Option Nat} {v2 : Int32} {σ : Mem} {z : Int32 × Mem} (h : sX8_hasOpenSum_2b k2 v0 v2 σ = some z) : V E mX8_hasOpenSum G 2 [some (vr v0), none, some (vi v2)] [] σ (some (vi z.1), z.2) := by
  unfold sX8_hasOpenSum_2b at h
  refine v_il2 dX8_hasOpenSum_2 ?_
  refine v_al0 dX8_hasOpenSum_3 ?_
  refine v_gI cok6 h dX8_hasOpenSum_4 (by decide) q1414 rfl (fun x1 h => ?_)
  refine v_icmp_ge (tgt := 32) dX8_hasOpenSum_7 (by decide) (fun c => ?_) (fun c => ?_)
  · rw [if_pos c] at h
    refine v_iconst dX8_hasOpenSum_32 ?_
    exact v_retZ h dX8_hasOpenSum_33 rfl
  · rw [if_neg c] at h
    refine v_al0 dX8_hasOpenSum_10 ?_
    refine v_gR cok6 h dX8_hasOpenSum_11 (by decide) q1418 rfl (fun x2 h => ?_)
    refine v_il2 dX8_hasOpenSum_14 ?_
    refine v_aI h dX8_hasOpenSum_15 (fun x3 h => ?_)
    refine v_ldcI (n := 1048576) dX8_hasOpenSum_16 q1397 rfl ?_
    obtain ⟨hne, h⟩ := dv_some h
    refine v_idiv dX8_hasOpenSum_18 hne ?_
    generalize x3 / (iI 1048576) = x4 at h ⊢
    refine v_bipush dX8_hasOpenSum_19 rfl ?_
    refine v_icmp_ne (tgt := 26) dX8_hasOpenSum_21 (by decide) (fun c => ?_) (fun c => ?_)
    · rw [if_neg c] at h
      refine v_iinc (L' := [some (vr v0), none, some (vi (v2 + iI 1))]) dX8_hasOpenSum_26 (Nat.le_of_ble_eq_true rfl) rfl rfl ?_
      refine v_goto (tgt := 2) dX8_hasOpenSum_29 (by decide) ?_
      exact v_weak (wss (wsn (wss wse))) (hk2 _ _ _ _ h)
    · rw [if_pos c] at h
      refine v_iconst dX8_hasOpenSum_24 ?_
      exact v_retZ h dX8_hasOpenSum_25 rfl
theorem lX8_hasOpenSum_2 {E : EE} {G : GG} : ∀ (f : Nat) {v0 : Option Nat} {v2 : Int32} {σ : Mem} {z : Int32 × Mem}, sX8_hasOpenSum_2 f v0 v2 σ = some z → V E mX8_hasOpenSum G 2 [some (vr v0), none, some (vi v2)] [] σ (some (vi z.1), z.2)
  | 0, _, _, _, _, h => by cases h
  | f + 1, _, _, _, _, h => lX8_hasOpenSum_2b (fun _ _ _ _ h => lX8_hasOpenSum_2 f h) h
theorem lX8_hasOpenSum {E : EE} {G : GG} {v0 : Option Nat} {v1 : Int32} {σ : Mem} {z : Int32 × Mem} (h : sX8_hasOpenSum v0 v1 σ = some z) : V E mX8_hasOpenSum G 0 [some (vr v0), some (vi v1), none] [] σ (some (vi z.1), z.2) := by
  unfold sX8_hasOpenSum at h
  refine v_il1 dX8_hasOpenSum_0 ?_
  refine v_istore_n (L' := [some (vr v0), some (vi v1), some (vi v1)]) dX8_hasOpenSum_1 (Nat.le_of_ble_eq_true rfl) (Nat.le_of_ble_eq_true rfl) rfl ?_
  exact v_weak (wss (wsn (wss wse))) (lX8_hasOpenSum_2 FU h)
theorem tX8_hasOpenSum {E : EE} {l : Launch} {v0 : Option Nat} {v1 : Int32} {σ : Mem} {z : Int32 × Mem} (h : sX8_hasOpenSum v0 v1 σ = some z) : Mt E l mX8_hasOpenSum [vr v0, vi v1] σ (some (vi z.1), z.2) :=
  Mt.ofVL (by decide) (Nat.le_of_ble_eq_true rfl) (fun G hG => lX8_hasOpenSum h)
abbrev mX8_readsSum : MM := (yX8_readsSum, cX8_readsSum, 3, (Option.some Jvm.ClassFile.FieldType.boolean), 4, 82)
theorem dsX8_readsSum : DsOk yX8_readsSum 0 := ⟨by decide, by decide, by decide +kernel⟩
theorem lX8_readsSum_138 {E : EE} {G : GG} {v0 : Option Nat} {v1 : Int32} {σ : Mem} {z : Int32 × Mem} (h : sX8_readsSum_138 v0 v1 σ = some z) : V E mX8_readsSum G 138 [some (vr v0), some (vi v1), none] [] σ (some (vi z.1), z.2) := by
  unfold sX8_readsSum_138 at h
  refine v_al0 dX8_readsSum_138 ?_
  refine v_il1 dX8_readsSum_139 ?_
  obtain ⟨b140, er, ka, h⟩ := cV_some h
  obtain ⟨x1, s2, h1, h⟩ := cl_some h
  refine v_callV1 cok6 (As := [vi v1]) er ka (tX8_hasOpenSum h1) (lw_V q1606 q1608 qs76 q167 q1609) rfl dsX8_hasOpenSum ⟨Nat.le_of_ble_eq_true rfl, Nat.le_of_ble_eq_true rfl⟩ (Nat.le_of_ble_eq_true rfl) dX8_readsSum_140 rfl ?_
  refine v_if_eq (tgt := 156) dX8_readsSum_143 (by decide) (fun c => ?_) (fun c => ?_)
  · rw [if_pos c] at h
    refine v_al0 dX8_readsSum_156 ?_
    refine v_iconst dX8_readsSum_157 ?_
    obtain ⟨b158, er, ka, h⟩ := cV_some h
    obtain ⟨_, s3, h1, h⟩ := cl_some h
    refine v_callV0 cok6 (As := [vi (iI 1)]) er ka (tX8_closesSums h1) (lw_V q1598 q1600 qs74 q167 q1601) rfl dsX8_closesSums ⟨Nat.le_of_ble_eq_true rfl, Nat.le_of_ble_eq_true rfl⟩ (Nat.le_of_ble_eq_true rfl) dX8_readsSum_158 rfl ?_
    refine v_iconst dX8_readsSum_161 ?_
    exact v_retZ h dX8_readsSum_162 rfl
  · rw [if_neg c] at h
    refine v_al0 dX8_readsSum_146 ?_
    refine v_iconst dX8_readsSum_147 ?_
    refine v_al0 dX8_readsSum_148 ?_
    refine v_gI cok6 h dX8_readsSum_149 (by decide) q1408 rfl (fun x4 h => ?_)
    obtain ⟨b152, er, ka, h⟩ := cV_some h
    obtain ⟨x5, s6, h1, h⟩ := cl_some h
    refine v_callV1 cok6 (As := [vi (iI 1), vi x4]) er ka (tX8_wrongAt h1) (lw_V q1564 q1566 qs67 q167 q1567) rfl dsX8_wrongAt ⟨Nat.le_of_ble_eq_true rfl, Nat.le_of_ble_eq_true rfl⟩ (Nat.le_of_ble_eq_true rfl) dX8_readsSum_152 rfl ?_
    exact v_retZ h dX8_readsSum_155 rfl
theorem lX8_readsSum_163 {E : EE} {G : GG} {k14 : Option Nat → Int32 → Mem → Option (Int32 × Mem)} (hk14 : ∀ (v0 : Option Nat) (v1 : Int32) (s : Mem) (z : Int32 × Mem), k14 v0 v1 s = some z → V E mX8_readsSum G 14 [some (vr v0), some (vi v1), none] [] s (some (vi z.1), z.2)) {v0 : Option Nat} {v1 : Int32} {σ : Mem} {z : Int32 × Mem} (h : sX8_readsSum_163 k14 v0 v1 σ = some z) : V E mX8_readsSum G 163 [some (vr v0), some (vi v1), none] [] σ (some (vi z.1), z.2) := by
  unfold sX8_readsSum_163 at h
  refine v_goto (tgt := 14) dX8_readsSum_163 (by decide) ?_
  exact v_weak (wss (wss (wsn wse))) (hk14 _ _ _ _ h)
theorem lX8_readsSum_38 {E : EE} {G : GG} {k14 : Option Nat → Int32 → Mem → Option (Int32 × Mem)} (hk14 : ∀ (v0 : Option Nat) (v1 : Int32) (s : Mem) (z : Int32 × Mem), k14 v0 v1 s = some z → V E mX8_readsSum G 14 [some (vr v0), some (vi v1), none] [] s (some (vi z.1), z.2)) {v0 : Option Nat} {v1 : Int32} {v2 : Int32} {t0 : Option Nat} {t1 : Int32} {σ : Mem} {z : Int32 × Mem} (h : sX8_readsSum_38 k14 v0 v1 v2 t0 t1 σ = some z) : V E mX8_readsSum G 38 [some (vr v0), some (vi v1), some (vi v2)] [vi t1, vr t0] σ (some (vi z.1), z.2) := by
  unfold sX8_readsSum_38 at h
  obtain ⟨b38, er, ka, h⟩ := cV_some h
  obtain ⟨_, s1, h1, h⟩ := cl_some h
  refine v_callV0 cok6 (As := [vi t1]) er ka (tX8_closesSums h1) (lw_V q1598 q1600 qs74 q167 q1601) rfl dsX8_closesSums ⟨Nat.le_of_ble_eq_true rfl, Nat.le_of_ble_eq_true rfl⟩ (Nat.le_of_ble_eq_true rfl) dX8_readsSum_38 rfl ?_
  refine v_al0 dX8_readsSum_41 ?_
  refine v_gR cok6 h dX8_readsSum_42 (by decide) q1418 rfl (fun x2 h => ?_)
  refine v_al0 dX8_readsSum_45 ?_
  refine v_gI cok6 h dX8_readsSum_46 (by decide) q1414 rfl (fun x3 h => ?_)
  refine v_ldcI (n := 1048576) dX8_readsSum_49 q1397 rfl ?_
  refine v_il2 dX8_readsSum_51 ?_
  refine v_imul dX8_readsSum_52 ?_
  refine v_sI h dX8_readsSum_53 (fun s4 h => ?_)
  refine v_al0 dX8_readsSum_54 ?_
  refine v_al0 dX8_readsSum_55 ?_
  refine v_gI cok6 h dX8_readsSum_56 (by decide) q1414 rfl (fun x5 h => ?_)
  refine v_iconst dX8_readsSum_59 ?_
  refine v_iadd dX8_readsSum_60 ?_
  refine v_pI cok6 h dX8_readsSum_61 (by decide) q1414 rfl rfl (fun s6 h => ?_)
  refine v_al0 dX8_readsSum_64 ?_
  refine v_al0 dX8_readsSum_65 ?_
  refine v_gI cok6 h dX8_readsSum_66 (by decide) q1408 rfl (fun x7 h => ?_)
  refine v_iconst dX8_readsSum_69 ?_
  refine v_iadd dX8_readsSum_70 ?_
  refine v_pI cok6 h dX8_readsSum_71 (by decide) q1408 rfl rfl (fun s8 h => ?_)
  refine v_al0 dX8_readsSum_74 ?_
  obtain ⟨b75, er, ka, h⟩ := cV_some h
  obtain ⟨x9, s10, h1, h⟩ := cl_some h
  refine v_callV1 cok6 (As := []) er ka (tX8_readsFactor h1) (lw_V q1572 q1574 qs69 q167 q1575) rfl dsX8_readsFactor ⟨Nat.le_of_ble_eq_true rfl, Nat.le_of_ble_eq_true rfl⟩ (Nat.le_of_ble_eq_true rfl) dX8_readsSum_75 rfl ?_
  refine v_if_ne (tgt := 163) dX8_readsSum_78 (by decide) (fun c => ?_) (fun c => ?_)
  · rw [if_neg c] at h
    exact v_weak (wss (wss (wsn wse))) (lX8_readsSum_163 hk14 h)
  · rw [if_pos c] at h
    refine v_iconst dX8_readsSum_81 ?_
    exact v_retZ h dX8_readsSum_82 rfl
theorem lX8_readsSum_14b {E : EE} {G : GG} {k14 : Option Nat → Int32 → Mem → Option (Int32 × Mem)} (hk14 : ∀ (v0 : Option Nat) (v1 : Int32) (s : Mem) (z : Int32 × Mem), k14 v0 v1 s = some z → V E mX8_readsSum G 14 [some (vr v0), some (vi v1), none] [] s (some (vi z.1), z.2)) {v0 : Option Nat} {v1 : Int32} {σ : Mem} {z : Int32 × Mem} (h : sX8_readsSum_14b k14 v0 v1 σ = some z) : V E mX8_readsSum G 14 [some (vr v0), some (vi v1), none] [] σ (some (vi z.1), z.2) := by
  unfold sX8_readsSum_14b at h
  refine v_al0 dX8_readsSum_14 ?_
  obtain ⟨b15, er, ka, h⟩ := cV_some h
  obtain ⟨x1, s2, h1, h⟩ := cl_some h
  refine v_callV1 cok6 (As := []) er ka (tX8_here h1) (lw_V q1560 q1562 qs66 q167 q1563) rfl dsX8_here ⟨Nat.le_of_ble_eq_true rfl, Nat.le_of_ble_eq_true rfl⟩ (Nat.le_of_ble_eq_true rfl) dX8_readsSum_15 rfl ?_
  obtain ⟨x3, s4, h1, h⟩ := cl_some h
  refine v_callS1 (As := [vi x1]) (tX8_sumSign h1) (lw_S q1595 q1596 q167 q1597) dsX8_sumSign ⟨Nat.le_of_ble_eq_true rfl, Nat.le_of_ble_eq_true rfl⟩ (Nat.le_of_ble_eq_true rfl) dX8_readsSum_18 rfl ?_
  refine v_istore_n (L' := [some (vr v0), some (vi v1), some (vi x3)]) dX8_readsSum_21 (Nat.le_of_ble_eq_true rfl) (Nat.le_of_ble_eq_true rfl) rfl ?_
  refine v_il2 dX8_readsSum_22 ?_
  refine v_iconst dX8_readsSum_23 ?_
  refine v_icmp_eq (tgt := 83) dX8_readsSum_24 (by decide) (fun c => ?_) (fun c => ?_)
  · rw [if_pos c] at h
    refine v_al0 dX8_readsSum_83 ?_
    obtain ⟨b84, er, ka, h⟩ := cV_some h
    obtain ⟨x5, s6, h1, h⟩ := cl_some h
    refine v_callV1 cok6 (As := []) er ka (tX8_here h1) (lw_V q1560 q1562 qs66 q167 q1563) rfl dsX8_here ⟨Nat.le_of_ble_eq_true rfl, Nat.le_of_ble_eq_true rfl⟩ (Nat.le_of_ble_eq_true rfl) dX8_readsSum_84 rfl ?_
    refine v_bipush dX8_readsSum_87 rfl ?_
    refine v_icmp_ne (tgt := 138) dX8_readsSum_89 (by decide) (fun c => ?_) (fun c => ?_)
    · rw [if_neg c] at h
      exact v_weak (wss (wss (wsn wse))) (lX8_readsSum_138 h)
    · rw [if_pos c] at h
      refine v_al0 dX8_readsSum_92 ?_
      refine v_il1 dX8_readsSum_93 ?_
      obtain ⟨b94, er, ka, h⟩ := cV_some h
      obtain ⟨x7, s8, h1, h⟩ := cl_some h
      refine v_callV1 cok6 (As := [vi v1]) er ka (tX8_hasOpenSum h1) (lw_V q1606 q1608 qs76 q167 q1609) rfl dsX8_hasOpenSum ⟨Nat.le_of_ble_eq_true rfl, Nat.le_of_ble_eq_true rfl⟩ (Nat.le_of_ble_eq_true rfl) dX8_readsSum_94 rfl ?_
      refine v_if_eq (tgt := 138) dX8_readsSum_97 (by decide) (fun c => ?_) (fun c => ?_)
      · rw [if_pos c] at h
        exact v_weak (wss (wss (wsn wse))) (lX8_readsSum_138 h)
      · rw [if_neg c] at h
        refine v_al0 dX8_readsSum_100 ?_
        refine v_iconst dX8_readsSum_101 ?_
        obtain ⟨b102, er, ka, h⟩ := cV_some h
        obtain ⟨_, s9, h1, h⟩ := cl_some h
        refine v_callV0 cok6 (As := [vi (iI 1)]) er ka (tX8_closesSums h1) (lw_V q1598 q1600 qs74 q167 q1601) rfl dsX8_closesSums ⟨Nat.le_of_ble_eq_true rfl, Nat.le_of_ble_eq_true rfl⟩ (Nat.le_of_ble_eq_true rfl) dX8_readsSum_102 rfl ?_
        refine v_al0 dX8_readsSum_105 ?_
        refine v_al0 dX8_readsSum_106 ?_
        refine v_gI cok6 h dX8_readsSum_107 (by decide) q1414 rfl (fun x10 h => ?_)
        refine v_iconst dX8_readsSum_110 ?_
        refine v_isub dX8_readsSum_111 ?_
        refine v_pI cok6 h dX8_readsSum_112 (by decide) q1414 rfl rfl (fun s11 h => ?_)
        refine v_al0 dX8_readsSum_115 ?_
        refine v_al0 dX8_readsSum_116 ?_
        refine v_gI cok6 h dX8_readsSum_117 (by decide) q1412 rfl (fun x12 h => ?_)
        refine v_iconst dX8_readsSum_120 ?_
        refine v_isub dX8_readsSum_121 ?_
        refine v_pI cok6 h dX8_readsSum_122 (by decide) q1412 rfl rfl (fun s13 h => ?_)
        refine v_al0 dX8_readsSum_125 ?_
        refine v_al0 dX8_readsSum_126 ?_
        refine v_gI cok6 h dX8_readsSum_127 (by decide) q1408 rfl (fun x14 h => ?_)
        refine v_iconst dX8_readsSum_130 ?_
        refine v_iadd dX8_readsSum_131 ?_
        refine v_pI cok6 h dX8_readsSum_132 (by decide) q1408 rfl rfl (fun s15 h => ?_)
        refine v_goto (tgt := 163) dX8_readsSum_135 (by decide) ?_
        exact v_weak (wss (wss (wsn wse))) (lX8_readsSum_163 hk14 h)
  · rw [if_neg c] at h
    refine v_al0 dX8_readsSum_27 ?_
    refine v_il2 dX8_readsSum_28 ?_
    refine v_iconst dX8_readsSum_29 ?_
    refine v_icmp_ge (tgt := 37) dX8_readsSum_30 (by decide) (fun c => ?_) (fun c => ?_)
    · rw [if_pos c] at h
      refine v_iconst dX8_readsSum_37 ?_
      exact v_weak (wss (wss (wss wse))) (lX8_readsSum_38 hk14 h)
    · rw [if_neg c] at h
      refine v_iconst dX8_readsSum_33 ?_
      refine v_goto (tgt := 38) dX8_readsSum_34 (by decide) ?_
      exact v_weak (wss (wss (wss wse))) (lX8_readsSum_38 hk14 h)
theorem lX8_readsSum_14 {E : EE} {G : GG} : ∀ (f : Nat) {v0 : Option Nat} {v1 : Int32} {σ : Mem} {z : Int32 × Mem}, sX8_readsSum_14 f v0 v1 σ = some z → V E mX8_readsSum G 14 [some (vr v0), some (vi v1), none] [] σ (some (vi z.1), z.2)
  | 0, _, _, _, _, h => by cases h
  | f + 1, _, _, _, _, h => lX8_readsSum_14b (fun _ _ _ _ h => lX8_readsSum_14 f h) h
theorem lX8_readsSum {E : EE} {G : GG} {v0 : Option Nat} {σ : Mem} {z : Int32 × Mem} (h : sX8_readsSum v0 σ = some z) : V E mX8_readsSum G 0 [some (vr v0), none, none] [] σ (some (vi z.1), z.2) := by
  unfold sX8_readsSum at h
  refine v_al0 dX8_readsSum_0 ?_
  refine v_gI cok6 h dX8_readsSum_1 (by decide) q1414 rfl (fun x1 h => ?_)
  refine v_istore_n (L' := [some (vr v0), some (vi x1), none]) dX8_readsSum_4 (Nat.le_of_ble_eq_true rfl) (Nat.le_of_ble_eq_true rfl) rfl ?_
  refine v_al0 dX8_readsSum_5 ?_
  obtain ⟨b6, er, ka, h⟩ := cV_some h
  obtain ⟨x2, s3, h1, h⟩ := cl_some h
  refine v_callV1 cok6 (As := []) er ka (tX8_readsFactor h1) (lw_V q1572 q1574 qs69 q167 q1575) rfl dsX8_readsFactor ⟨Nat.le_of_ble_eq_true rfl, Nat.le_of_ble_eq_true rfl⟩ (Nat.le_of_ble_eq_true rfl) dX8_readsSum_6 rfl ?_
  refine v_if_ne (tgt := 14) dX8_readsSum_9 (by decide) (fun c => ?_) (fun c => ?_)
  · rw [if_neg c] at h
    exact v_weak (wss (wss (wsn wse))) (lX8_readsSum_14 FU h)
  · rw [if_pos c] at h
    refine v_iconst dX8_readsSum_12 ?_
    exact v_retZ h dX8_readsSum_13 rfl
theorem tX8_readsSum {E : EE} {l : Launch} {v0 : Option Nat} {σ : Mem} {z : Int32 × Mem} (h : sX8_readsSum v0 σ = some z) : Mt E l mX8_readsSum [vr v0] σ (some (vi z.1), z.2) :=
  Mt.ofVL (by decide) (Nat.le_of_ble_eq_true rfl) (fun G hG => lX8_readsSum h)
abbrev mX8_endsPiece : MM := (yX8_endsPiece, cX8_endsPiece, 1, (Option.none : Option Jvm.ClassFile.FieldType), 1, 22)
theorem dsX8_endsPiece : DsOk yX8_endsPiece 0 := ⟨by decide, by decide, by decide +kernel⟩
theorem lX8_endsPiece_0b {E : EE} {G : GG} {k0 : Option Nat → Mem → Option (Unit × Mem)} (hk0 : ∀ (v0 : Option Nat) (s : Mem) (z : Unit × Mem), k0 v0 s = some z → V E mX8_endsPiece G 0 [some (vr v0)] [] s (none, z.2)) {v0 : Option Nat} {σ : Mem} {z : Unit × Mem} (h : sX8_endsPiece_0b k0 v0 σ = some z) : V E mX8_endsPiece G 0 [some (vr v0)] [] σ (none, z.2) := by
  unfold sX8_endsPiece_0b at h
  refine v_al0 dX8_endsPiece_0 ?_
  obtain ⟨b1, er, ka, h⟩ := cV_some h
  obtain ⟨x1, s2, h1, h⟩ := cl_some h
  refine v_callV1 cok6 (As := []) er ka (tX8_waitTop h1) (lw_V q1602 q1604 qs75 q167 q1605) rfl dsX8_waitTop ⟨Nat.le_of_ble_eq_true rfl, Nat.le_of_ble_eq_true rfl⟩ (Nat.le_of_ble_eq_true rfl) dX8_endsPiece_1 rfl ?_
  refine v_bipush dX8_endsPiece_4 rfl ?_
  refine v_icmp_ne (tgt := 39) dX8_endsPiece_6 (by decide) (fun c => ?_) (fun c => ?_)
  · rw [if_neg c] at h
    exact v_retV h dX8_endsPiece_39 rfl
  · rw [if_pos c] at h
    refine v_al0 dX8_endsPiece_9 ?_
    refine v_bipush dX8_endsPiece_10 rfl ?_
    refine v_iconst dX8_endsPiece_12 ?_
    obtain ⟨b13, er, ka, h⟩ := cV_some h
    obtain ⟨_, s3, h1, h⟩ := cl_some h
    refine v_callV0 cok6 (As := [vi (iI 10), vi (iI 0)]) er ka (tX8_notes h1) (lw_V q1588 q1590 qs73 q167 q1591) rfl dsX8_notes ⟨Nat.le_of_ble_eq_true rfl, Nat.le_of_ble_eq_true rfl⟩ (Nat.le_of_ble_eq_true rfl) dX8_endsPiece_13 rfl ?_
    refine v_al0 dX8_endsPiece_16 ?_
    refine v_al0 dX8_endsPiece_17 ?_
    refine v_gI cok6 h dX8_endsPiece_18 (by decide) q1414 rfl (fun x4 h => ?_)
    refine v_iconst dX8_endsPiece_21 ?_
    refine v_isub dX8_endsPiece_22 ?_
    refine v_pI cok6 h dX8_endsPiece_23 (by decide) q1414 rfl rfl (fun s5 h => ?_)
    refine v_al0 dX8_endsPiece_26 ?_
    refine v_al0 dX8_endsPiece_27 ?_
    refine v_gI cok6 h dX8_endsPiece_28 (by decide) q1412 rfl (fun x6 h => ?_)
    refine v_iconst dX8_endsPiece_31 ?_
    refine v_isub dX8_endsPiece_32 ?_
    refine v_pI cok6 h dX8_endsPiece_33 (by decide) q1412 rfl rfl (fun s7 h => ?_)
    refine v_goto (tgt := 0) dX8_endsPiece_36 (by decide) ?_
    exact v_weak (wss wse) (hk0 _ _ _ h)
theorem lX8_endsPiece_0 {E : EE} {G : GG} : ∀ (f : Nat) {v0 : Option Nat} {σ : Mem} {z : Unit × Mem}, sX8_endsPiece_0 f v0 σ = some z → V E mX8_endsPiece G 0 [some (vr v0)] [] σ (none, z.2)
  | 0, _, _, _, h => by cases h
  | f + 1, _, _, _, h => lX8_endsPiece_0b (fun _ _ _ h => lX8_endsPiece_0 f h) h
theorem lX8_endsPiece {E : EE} {G : GG} {v0 : Option Nat} {σ : Mem} {z : Unit × Mem} (h : sX8_endsPiece v0 σ = some z) : V E mX8_endsPiece G 0 [some (vr v0)] [] σ (none, z.2) := v_weak (wss wse) (lX8_endsPiece_0 FU h)
theorem tX8_endsPiece {E : EE} {l : Launch} {v0 : Option Nat} {σ : Mem} {z : Unit × Mem} (h : sX8_endsPiece v0 σ = some z) : Mt E l mX8_endsPiece [vr v0] σ (none, z.2) :=
  Mt.ofVL (by decide) (Nat.le_of_ble_eq_true rfl) (fun G hG => lX8_endsPiece h)
abbrev mX8_readsCompared : MM := (yX8_readsCompared, cX8_readsCompared, 2, (Option.some Jvm.ClassFile.FieldType.boolean), 5, 104)
theorem dsX8_readsCompared : DsOk yX8_readsCompared 0 := ⟨by decide, by decide, by decide +kernel⟩
theorem lX8_readsCompared_52 {E : EE} {G : GG} {v0 : Option Nat} {t0 : Int32} {σ : Mem} {z : Int32 × Mem} (h : sX8_readsCompared_52 v0 t0 σ = some z) : V E mX8_readsCompared G 52 [some (vr v0), none] [vi t0] σ (some (vi z.1), z.2) := by
  unfold sX8_readsCompared_52 at h
  refine v_istore_n (L' := [some (vr v0), some (vi t0)]) dX8_readsCompared_52 (Nat.le_of_ble_eq_true rfl) (Nat.le_of_ble_eq_true rfl) rfl ?_
  refine v_il1 dX8_readsCompared_53 ?_
  refine v_iconst dX8_readsCompared_54 ?_
  refine v_icmp_ne (tgt := 68) dX8_readsCompared_55 (by decide) (fun c => ?_) (fun c => ?_)
  · rw [if_neg c] at h
    refine v_al0 dX8_readsCompared_68 ?_
    refine v_al0 dX8_readsCompared_69 ?_
    refine v_gI cok6 h dX8_readsCompared_70 (by decide) q1408 rfl (fun x1 h => ?_)
    refine v_iconst dX8_readsCompared_73 ?_
    refine v_iadd dX8_readsCompared_74 ?_
    refine v_pI cok6 h dX8_readsCompared_75 (by decide) q1408 rfl rfl (fun s2 h => ?_)
    refine v_al0 dX8_readsCompared_78 ?_
    obtain ⟨b79, er, ka, h⟩ := cV_some h
    obtain ⟨x3, s4, h1, h⟩ := cl_some h
    refine v_callV1 cok6 (As := []) er ka (tX8_readsSum h1) (lw_V q1568 q1570 qs68 q167 q1571) rfl dsX8_readsSum ⟨Nat.le_of_ble_eq_true rfl, Nat.le_of_ble_eq_true rfl⟩ (Nat.le_of_ble_eq_true rfl) dX8_readsCompared_79 rfl ?_
    refine v_if_ne (tgt := 87) dX8_readsCompared_82 (by decide) (fun c => ?_) (fun c => ?_)
    · rw [if_neg c] at h
      refine v_al0 dX8_readsCompared_87 ?_
      refine v_il1 dX8_readsCompared_88 ?_
      refine v_iconst dX8_readsCompared_89 ?_
      obtain ⟨b90, er, ka, h⟩ := cV_some h
      obtain ⟨_, s5, h1, h⟩ := cl_some h
      refine v_callV0 cok6 (As := [vi t0, vi (iI 0)]) er ka (tX8_notes h1) (lw_V q1588 q1590 qs73 q167 q1591) rfl dsX8_notes ⟨Nat.le_of_ble_eq_true rfl, Nat.le_of_ble_eq_true rfl⟩ (Nat.le_of_ble_eq_true rfl) dX8_readsCompared_90 rfl ?_
      refine v_al0 dX8_readsCompared_93 ?_
      obtain ⟨b94, er, ka, h⟩ := cV_some h
      obtain ⟨_, s6, h1, h⟩ := cl_some h
      refine v_callV0 cok6 (As := []) er ka (tX8_endsPiece h1) (lw_V q1618 q1620 qs79 q167 q1621) rfl dsX8_endsPiece ⟨Nat.le_of_ble_eq_true rfl, Nat.le_of_ble_eq_true rfl⟩ (Nat.le_of_ble_eq_true rfl) dX8_readsCompared_94 rfl ?_
      refine v_iconst dX8_readsCompared_97 ?_
      exact v_retZ h dX8_readsCompared_98 rfl
    · rw [if_pos c] at h
      refine v_iconst dX8_readsCompared_85 ?_
      exact v_retZ h dX8_readsCompared_86 rfl
  · rw [if_pos c] at h
    refine v_al0 dX8_readsCompared_58 ?_
    refine v_iconst dX8_readsCompared_59 ?_
    refine v_al0 dX8_readsCompared_60 ?_
    refine v_gI cok6 h dX8_readsCompared_61 (by decide) q1408 rfl (fun x7 h => ?_)
    obtain ⟨b64, er, ka, h⟩ := cV_some h
    obtain ⟨x8, s9, h1, h⟩ := cl_some h
    refine v_callV1 cok6 (As := [vi (iI 1), vi x7]) er ka (tX8_wrongAt h1) (lw_V q1564 q1566 qs67 q167 q1567) rfl dsX8_wrongAt ⟨Nat.le_of_ble_eq_true rfl, Nat.le_of_ble_eq_true rfl⟩ (Nat.le_of_ble_eq_true rfl) dX8_readsCompared_64 rfl ?_
    exact v_retZ h dX8_readsCompared_67 rfl
theorem lX8_readsCompared {E : EE} {G : GG} {v0 : Option Nat} {σ : Mem} {z : Int32 × Mem} (h : sX8_readsCompared v0 σ = some z) : V E mX8_readsCompared G 0 [some (vr v0), none] [] σ (some (vi z.1), z.2) := by
  unfold sX8_readsCompared at h
  refine v_al0 dX8_readsCompared_0 ?_
  obtain ⟨b1, er, ka, h⟩ := cV_some h
  obtain ⟨x1, s2, h1, h⟩ := cl_some h
  refine v_callV1 cok6 (As := []) er ka (tX8_readsSum h1) (lw_V q1568 q1570 qs68 q167 q1571) rfl dsX8_readsSum ⟨Nat.le_of_ble_eq_true rfl, Nat.le_of_ble_eq_true rfl⟩ (Nat.le_of_ble_eq_true rfl) dX8_readsCompared_1 rfl ?_
  refine v_if_ne (tgt := 9) dX8_readsCompared_4 (by decide) (fun c => ?_) (fun c => ?_)
  · rw [if_neg c] at h
    refine v_al0 dX8_readsCompared_9 ?_
    obtain ⟨b10, er, ka, h⟩ := cV_some h
    obtain ⟨x3, s4, h1, h⟩ := cl_some h
    refine v_callV1 cok6 (As := []) er ka (tX8_here h1) (lw_V q1560 q1562 qs66 q167 q1563) rfl dsX8_here ⟨Nat.le_of_ble_eq_true rfl, Nat.le_of_ble_eq_true rfl⟩ (Nat.le_of_ble_eq_true rfl) dX8_readsCompared_10 rfl ?_
    refine v_bipush dX8_readsCompared_13 rfl ?_
    refine v_icmp_ne (tgt := 23) dX8_readsCompared_15 (by decide) (fun c => ?_) (fun c => ?_)
    · rw [if_neg c] at h
      refine v_al0 dX8_readsCompared_23 ?_
      obtain ⟨b24, er, ka, h⟩ := cV_some h
      obtain ⟨x5, s6, h1, h⟩ := cl_some h
      refine v_callV1 cok6 (As := []) er ka (tX8_here h1) (lw_V q1560 q1562 qs66 q167 q1563) rfl dsX8_here ⟨Nat.le_of_ble_eq_true rfl, Nat.le_of_ble_eq_true rfl⟩ (Nat.le_of_ble_eq_true rfl) dX8_readsCompared_24 rfl ?_
      refine v_bipush dX8_readsCompared_27 rfl ?_
      refine v_icmp_ne (tgt := 37) dX8_readsCompared_29 (by decide) (fun c => ?_) (fun c => ?_)
      · rw [if_neg c] at h
        refine v_al0 dX8_readsCompared_37 ?_
        obtain ⟨b38, er, ka, h⟩ := cV_some h
        obtain ⟨x7, s8, h1, h⟩ := cl_some h
        refine v_callV1 cok6 (As := []) er ka (tX8_here h1) (lw_V q1560 q1562 qs66 q167 q1563) rfl dsX8_here ⟨Nat.le_of_ble_eq_true rfl, Nat.le_of_ble_eq_true rfl⟩ (Nat.le_of_ble_eq_true rfl) dX8_readsCompared_38 rfl ?_
        refine v_bipush dX8_readsCompared_41 rfl ?_
        refine v_icmp_ne (tgt := 51) dX8_readsCompared_43 (by decide) (fun c => ?_) (fun c => ?_)
        · rw [if_neg c] at h
          refine v_iconst dX8_readsCompared_51 ?_
          exact v_weak (wss (wsn wse)) (lX8_readsCompared_52 h)
        · rw [if_pos c] at h
          refine v_bipush dX8_readsCompared_46 rfl ?_
          refine v_goto (tgt := 52) dX8_readsCompared_48 (by decide) ?_
          exact v_weak (wss (wsn wse)) (lX8_readsCompared_52 h)
      · rw [if_pos c] at h
        refine v_bipush dX8_readsCompared_32 rfl ?_
        refine v_goto (tgt := 52) dX8_readsCompared_34 (by decide) ?_
        exact v_weak (wss (wsn wse)) (lX8_readsCompared_52 h)
    · rw [if_pos c] at h
      refine v_bipush dX8_readsCompared_18 rfl ?_
      refine v_goto (tgt := 52) dX8_readsCompared_20 (by decide) ?_
      exact v_weak (wss (wsn wse)) (lX8_readsCompared_52 h)
  · rw [if_pos c] at h
    refine v_iconst dX8_readsCompared_7 ?_
    exact v_retZ h dX8_readsCompared_8 rfl
theorem tX8_readsCompared {E : EE} {l : Launch} {v0 : Option Nat} {σ : Mem} {z : Int32 × Mem} (h : sX8_readsCompared v0 σ = some z) : Mt E l mX8_readsCompared [vr v0] σ (some (vi z.1), z.2) :=
  Mt.ofVL (by decide) (Nat.le_of_ble_eq_true rfl) (fun G hG => lX8_readsCompared h)
abbrev mX8_lands : MM := (yX8_lands, cX8_lands, 3, (Option.none : Option Jvm.ClassFile.FieldType), 1, 20)
theorem dsX8_lands : DsOk yX8_lands 1 := ⟨by decide, by decide, by decide +kernel⟩
theorem lX8_lands_22 {E : EE} {G : GG} {k0 : Option Nat → Int32 → Mem → Option (Unit × Mem)} (hk0 : ∀ (v0 : Option Nat) (v1 : Int32) (s : Mem) (z : Unit × Mem), k0 v0 v1 s = some z → V E mX8_lands G 0 [some (vr v0), some (vi v1), none] [] s (none, z.2)) {v0 : Option Nat} {v1 : Int32} {σ : Mem} {z : Unit × Mem} (h : sX8_lands_22 k0 v0 v1 σ = some z) : V E mX8_lands G 22 [some (vr v0), some (vi v1), none] [] σ (none, z.2) := by
  unfold sX8_lands_22 at h
  refine v_al0 dX8_lands_22 ?_
  refine v_gR cok6 h dX8_lands_23 (by decide) q1418 rfl (fun x1 h => ?_)
  refine v_al0 dX8_lands_26 ?_
  refine v_gI cok6 h dX8_lands_27 (by decide) q1414 rfl (fun x2 h => ?_)
  refine v_iconst dX8_lands_30 ?_
  refine v_isub dX8_lands_31 ?_
  refine v_aI h dX8_lands_32 (fun x3 h => ?_)
  refine v_ldcI (n := 1048576) dX8_lands_33 q1397 rfl ?_
  obtain ⟨hne, h⟩ := rm_some h
  refine v_irem dX8_lands_35 hne ?_
  generalize x3 - x3 / (iI 1048576) * (iI 1048576) = x4 at h ⊢
  refine v_istore_n (L' := [some (vr v0), some (vi v1), some (vi x4)]) dX8_lands_36 (Nat.le_of_ble_eq_true rfl) (Nat.le_of_ble_eq_true rfl) rfl ?_
  refine v_al0 dX8_lands_37 ?_
  refine v_gR cok6 h dX8_lands_38 (by decide) q1417 rfl (fun x5 h => ?_)
  refine v_il2 dX8_lands_41 ?_
  refine v_ldcI (n := 1048576) dX8_lands_42 q1397 rfl ?_
  refine v_al0 dX8_lands_44 ?_
  refine v_gR cok6 h dX8_lands_45 (by decide) q1417 rfl (fun x6 h => ?_)
  refine v_il2 dX8_lands_48 ?_
  refine v_aI h dX8_lands_49 (fun x7 h => ?_)
  refine v_ldcI (n := 1048576) dX8_lands_50 q1397 rfl ?_
  obtain ⟨hne, h⟩ := dv_some h
  refine v_idiv dX8_lands_52 hne ?_
  generalize x7 / (iI 1048576) = x8 at h ⊢
  refine v_imul dX8_lands_53 ?_
  refine v_al0 dX8_lands_54 ?_
  refine v_gI cok6 h dX8_lands_55 (by decide) q1413 rfl (fun x9 h => ?_)
  refine v_iadd dX8_lands_58 ?_
  refine v_sI h dX8_lands_59 (fun s10 h => ?_)
  refine v_al0 dX8_lands_60 ?_
  refine v_al0 dX8_lands_61 ?_
  refine v_gI cok6 h dX8_lands_62 (by decide) q1414 rfl (fun x11 h => ?_)
  refine v_iconst dX8_lands_65 ?_
  refine v_isub dX8_lands_66 ?_
  refine v_pI cok6 h dX8_lands_67 (by decide) q1414 rfl rfl (fun s12 h => ?_)
  refine v_goto (tgt := 0) dX8_lands_70 (by decide) ?_
  exact v_weak (wss (wss (wsn wse))) (hk0 _ _ _ _ h)
theorem lX8_lands_0b {E : EE} {G : GG} {k0 : Option Nat → Int32 → Mem → Option (Unit × Mem)} (hk0 : ∀ (v0 : Option Nat) (v1 : Int32) (s : Mem) (z : Unit × Mem), k0 v0 v1 s = some z → V E mX8_lands G 0 [some (vr v0), some (vi v1), none] [] s (none, z.2)) {v0 : Option Nat} {v1 : Int32} {σ : Mem} {z : Unit × Mem} (h : sX8_lands_0b k0 v0 v1 σ = some z) : V E mX8_lands G 0 [some (vr v0), some (vi v1), none] [] σ (none, z.2) := by
  unfold sX8_lands_0b at h
  refine v_al0 dX8_lands_0 ?_
  obtain ⟨b1, er, ka, h⟩ := cV_some h
  obtain ⟨x1, s2, h1, h⟩ := cl_some h
  refine v_callV1 cok6 (As := []) er ka (tX8_waitTop h1) (lw_V q1602 q1604 qs75 q167 q1605) rfl dsX8_waitTop ⟨Nat.le_of_ble_eq_true rfl, Nat.le_of_ble_eq_true rfl⟩ (Nat.le_of_ble_eq_true rfl) dX8_lands_1 rfl ?_
  refine v_bipush dX8_lands_4 rfl ?_
  refine v_icmp_eq (tgt := 22) dX8_lands_6 (by decide) (fun c => ?_) (fun c => ?_)
  · rw [if_pos c] at h
    exact v_weak (wss (wss (wsn wse))) (lX8_lands_22 hk0 h)
  · rw [if_neg c] at h
    refine v_il1 dX8_lands_9 ?_
    refine v_if_eq (tgt := 73) dX8_lands_10 (by decide) (fun c => ?_) (fun c => ?_)
    · rw [if_pos c] at h
      exact v_retV h dX8_lands_73 rfl
    · rw [if_neg c] at h
      refine v_al0 dX8_lands_13 ?_
      obtain ⟨b14, er, ka, h⟩ := cV_some h
      obtain ⟨x3, s4, h1, h⟩ := cl_some h
      refine v_callV1 cok6 (As := []) er ka (tX8_waitTop h1) (lw_V q1602 q1604 qs75 q167 q1605) rfl dsX8_waitTop ⟨Nat.le_of_ble_eq_true rfl, Nat.le_of_ble_eq_true rfl⟩ (Nat.le_of_ble_eq_true rfl) dX8_lands_14 rfl ?_
      refine v_bipush dX8_lands_17 rfl ?_
      refine v_icmp_ne (tgt := 73) dX8_lands_19 (by decide) (fun c => ?_) (fun c => ?_)
      · rw [if_neg c] at h
        exact v_retV h dX8_lands_73 rfl
      · rw [if_pos c] at h
        exact v_weak (wss (wss (wsn wse))) (lX8_lands_22 hk0 h)
theorem lX8_lands_0 {E : EE} {G : GG} : ∀ (f : Nat) {v0 : Option Nat} {v1 : Int32} {σ : Mem} {z : Unit × Mem}, sX8_lands_0 f v0 v1 σ = some z → V E mX8_lands G 0 [some (vr v0), some (vi v1), none] [] σ (none, z.2)
  | 0, _, _, _, _, h => by cases h
  | f + 1, _, _, _, _, h => lX8_lands_0b (fun _ _ _ _ h => lX8_lands_0 f h) h
theorem lX8_lands {E : EE} {G : GG} {v0 : Option Nat} {v1 : Int32} {σ : Mem} {z : Unit × Mem} (h : sX8_lands v0 v1 σ = some z) : V E mX8_lands G 0 [some (vr v0), some (vi v1), none] [] σ (none, z.2) := v_weak (wss (wss (wsn wse))) (lX8_lands_0 FU h)
theorem tX8_lands {E : EE} {l : Launch} {v0 : Option Nat} {v1 : Int32} {σ : Mem} {z : Unit × Mem} (h : sX8_lands v0 v1 σ = some z) : Mt E l mX8_lands [vr v0, vi v1] σ (none, z.2) :=
  Mt.ofVL (by decide) (Nat.le_of_ble_eq_true rfl) (fun G hG => lX8_lands h)
abbrev mX8_jumps : MM := (yX8_jumps, cX8_jumps, 2, (Option.none : Option Jvm.ClassFile.FieldType), 1, 22)
theorem dsX8_jumps : DsOk yX8_jumps 1 := ⟨by decide, by decide, by decide +kernel⟩
theorem lX8_jumps {E : EE} {G : GG} {v0 : Option Nat} {v1 : Int32} {σ : Mem} {z : Unit × Mem} (h : sX8_jumps v0 v1 σ = some z) : V E mX8_jumps G 0 [some (vr v0), some (vi v1)] [] σ (none, z.2) := by
  unfold sX8_jumps at h
  refine v_al0 dX8_jumps_0 ?_
  refine v_gR cok6 h dX8_jumps_1 (by decide) q1418 rfl (fun x1 h => ?_)
  refine v_al0 dX8_jumps_4 ?_
  refine v_gI cok6 h dX8_jumps_5 (by decide) q1414 rfl (fun x2 h => ?_)
  refine v_ldcI (n := 1048576) dX8_jumps_8 q1397 rfl ?_
  refine v_il1 dX8_jumps_10 ?_
  refine v_imul dX8_jumps_11 ?_
  refine v_al0 dX8_jumps_12 ?_
  refine v_gI cok6 h dX8_jumps_13 (by decide) q1413 rfl (fun x3 h => ?_)
  refine v_iadd dX8_jumps_16 ?_
  refine v_sI h dX8_jumps_17 (fun s4 h => ?_)
  refine v_al0 dX8_jumps_18 ?_
  refine v_al0 dX8_jumps_19 ?_
  refine v_gI cok6 h dX8_jumps_20 (by decide) q1414 rfl (fun x5 h => ?_)
  refine v_iconst dX8_jumps_23 ?_
  refine v_iadd dX8_jumps_24 ?_
  refine v_pI cok6 h dX8_jumps_25 (by decide) q1414 rfl rfl (fun s6 h => ?_)
  refine v_al0 dX8_jumps_28 ?_
  refine v_il1 dX8_jumps_29 ?_
  refine v_iconst dX8_jumps_30 ?_
  obtain ⟨b31, er, ka, h⟩ := cV_some h
  obtain ⟨_, s7, h1, h⟩ := cl_some h
  refine v_callV0 cok6 (As := [vi v1, vi (iI 0)]) er ka (tX8_notes h1) (lw_V q1588 q1590 qs73 q167 q1591) rfl dsX8_notes ⟨Nat.le_of_ble_eq_true rfl, Nat.le_of_ble_eq_true rfl⟩ (Nat.le_of_ble_eq_true rfl) dX8_jumps_31 rfl ?_
  refine v_al0 dX8_jumps_34 ?_
  refine v_al0 dX8_jumps_35 ?_
  refine v_gI cok6 h dX8_jumps_36 (by decide) q1408 rfl (fun x8 h => ?_)
  refine v_iconst dX8_jumps_39 ?_
  refine v_iadd dX8_jumps_40 ?_
  refine v_pI cok6 h dX8_jumps_41 (by decide) q1408 rfl rfl (fun s9 h => ?_)
  exact v_retV h dX8_jumps_44 rfl
theorem tX8_jumps {E : EE} {l : Launch} {v0 : Option Nat} {v1 : Int32} {σ : Mem} {z : Unit × Mem} (h : sX8_jumps v0 v1 σ = some z) : Mt E l mX8_jumps [vr v0, vi v1] σ (none, z.2) :=
  Mt.ofVL (by decide) (Nat.le_of_ble_eq_true rfl) (fun G hG => lX8_jumps h)
abbrev mX8_readsCondition : MM := (yX8_readsCondition, cX8_readsCondition, 1, (Option.some Jvm.ClassFile.FieldType.boolean), 6, 125)
theorem dsX8_readsCondition : DsOk yX8_readsCondition 0 := ⟨by decide, by decide, by decide +kernel⟩
theorem lX8_readsCondition_75 {E : EE} {G : GG} {k40 : Option Nat → Mem → Option (Int32 × Mem)} (hk40 : ∀ (v0 : Option Nat) (s : Mem) (z : Int32 × Mem), k40 v0 s = some z → V E mX8_readsCondition G 40 [some (vr v0)] [] s (some (vi z.1), z.2)) {v0 : Option Nat} {t0 : Option Nat} {t1 : Int32} {σ : Mem} {z : Int32 × Mem} (h : sX8_readsCondition_75 k40 v0 t0 t1 σ = some z) : V E mX8_readsCondition G 75 [some (vr v0)] [vi t1, vr t0] σ (some (vi z.1), z.2) := by
  unfold sX8_readsCondition_75 at h
  obtain ⟨b75, er, ka, h⟩ := cV_some h
  obtain ⟨x1, s2, h1, h⟩ := cl_some h
  refine v_callV1 cok6 (As := [vi t1]) er ka (tX8_opens h1) (lw_V q1576 q1578 qs70 q167 q1579) rfl dsX8_opens ⟨Nat.le_of_ble_eq_true rfl, Nat.le_of_ble_eq_true rfl⟩ (Nat.le_of_ble_eq_true rfl) dX8_readsCondition_75 rfl ?_
  refine v_if_ne (tgt := 40) dX8_readsCondition_78 (by decide) (fun c => ?_) (fun c => ?_)
  · rw [if_neg c] at h
    exact v_weak (wss wse) (hk40 _ _ _ h)
  · rw [if_pos c] at h
    refine v_iconst dX8_readsCondition_81 ?_
    exact v_retZ h dX8_readsCondition_82 rfl
theorem lX8_readsCondition_58 {E : EE} {G : GG} {k40 : Option Nat → Mem → Option (Int32 × Mem)} (hk40 : ∀ (v0 : Option Nat) (s : Mem) (z : Int32 × Mem), k40 v0 s = some z → V E mX8_readsCondition G 40 [some (vr v0)] [] s (some (vi z.1), z.2)) {v0 : Option Nat} {σ : Mem} {z : Int32 × Mem} (h : sX8_readsCondition_58 k40 v0 σ = some z) : V E mX8_readsCondition G 58 [some (vr v0)] [] σ (some (vi z.1), z.2) := by
  unfold sX8_readsCondition_58 at h
  refine v_al0 dX8_readsCondition_58 ?_
  refine v_al0 dX8_readsCondition_59 ?_
  obtain ⟨b60, er, ka, h⟩ := cV_some h
  obtain ⟨x1, s2, h1, h⟩ := cl_some h
  refine v_callV1 cok6 (As := []) er ka (tX8_here h1) (lw_V q1560 q1562 qs66 q167 q1563) rfl dsX8_here ⟨Nat.le_of_ble_eq_true rfl, Nat.le_of_ble_eq_true rfl⟩ (Nat.le_of_ble_eq_true rfl) dX8_readsCondition_60 rfl ?_
  refine v_bipush dX8_readsCondition_63 rfl ?_
  refine v_icmp_ne (tgt := 73) dX8_readsCondition_65 (by decide) (fun c => ?_) (fun c => ?_)
  · rw [if_neg c] at h
    refine v_bipush dX8_readsCondition_73 rfl ?_
    exact v_weak (wss wse) (lX8_readsCondition_75 hk40 h)
  · rw [if_pos c] at h
    refine v_bipush dX8_readsCondition_68 rfl ?_
    refine v_goto (tgt := 75) dX8_readsCondition_70 (by decide) ?_
    exact v_weak (wss wse) (lX8_readsCondition_75 hk40 h)
theorem lX8_readsCondition_215 {E : EE} {G : GG} {k40 : Option Nat → Mem → Option (Int32 × Mem)} (hk40 : ∀ (v0 : Option Nat) (s : Mem) (z : Int32 × Mem), k40 v0 s = some z → V E mX8_readsCondition G 40 [some (vr v0)] [] s (some (vi z.1), z.2)) {v0 : Option Nat} {t0 : Option Nat} {t1 : Int32} {σ : Mem} {z : Int32 × Mem} (h : sX8_readsCondition_215 k40 v0 t0 t1 σ = some z) : V E mX8_readsCondition G 215 [some (vr v0)] [vi t1, vr t0] σ (some (vi z.1), z.2) := by
  unfold sX8_readsCondition_215 at h
  obtain ⟨b215, er, ka, h⟩ := cV_some h
  obtain ⟨_, s1, h1, h⟩ := cl_some h
  refine v_callV0 cok6 (As := [vi t1]) er ka (tX8_jumps h1) (lw_V q1626 q1628 qs81 q167 q1629) rfl dsX8_jumps ⟨Nat.le_of_ble_eq_true rfl, Nat.le_of_ble_eq_true rfl⟩ (Nat.le_of_ble_eq_true rfl) dX8_readsCondition_215 rfl ?_
  refine v_goto (tgt := 40) dX8_readsCondition_218 (by decide) ?_
  exact v_weak (wss wse) (hk40 _ _ _ h)
theorem lX8_readsCondition_195 {E : EE} {G : GG} {k40 : Option Nat → Mem → Option (Int32 × Mem)} (hk40 : ∀ (v0 : Option Nat) (s : Mem) (z : Int32 × Mem), k40 v0 s = some z → V E mX8_readsCondition G 40 [some (vr v0)] [] s (some (vi z.1), z.2)) {v0 : Option Nat} {t0 : Option Nat} {t1 : Int32} {σ : Mem} {z : Int32 × Mem} (h : sX8_readsCondition_195 k40 v0 t0 t1 σ = some z) : V E mX8_readsCondition G 195 [some (vr v0)] [vi t1, vr t0] σ (some (vi z.1), z.2) := by
  unfold sX8_readsCondition_195 at h
  obtain ⟨b195, er, ka, h⟩ := cV_some h
  obtain ⟨_, s1, h1, h⟩ := cl_some h
  refine v_callV0 cok6 (As := [vi t1]) er ka (tX8_lands h1) (lw_V q1622 q1624 qs80 q167 q1625) rfl dsX8_lands ⟨Nat.le_of_ble_eq_true rfl, Nat.le_of_ble_eq_true rfl⟩ (Nat.le_of_ble_eq_true rfl) dX8_readsCondition_195 rfl ?_
  refine v_al0 dX8_readsCondition_198 ?_
  refine v_al0 dX8_readsCondition_199 ?_
  obtain ⟨b200, er, ka, h⟩ := cV_some h
  obtain ⟨x2, s3, h1, h⟩ := cl_some h
  refine v_callV1 cok6 (As := []) er ka (tX8_here h1) (lw_V q1560 q1562 qs66 q167 q1563) rfl dsX8_here ⟨Nat.le_of_ble_eq_true rfl, Nat.le_of_ble_eq_true rfl⟩ (Nat.le_of_ble_eq_true rfl) dX8_readsCondition_200 rfl ?_
  refine v_bipush dX8_readsCondition_203 rfl ?_
  refine v_icmp_ne (tgt := 213) dX8_readsCondition_205 (by decide) (fun c => ?_) (fun c => ?_)
  · rw [if_neg c] at h
    refine v_bipush dX8_readsCondition_213 rfl ?_
    exact v_weak (wss wse) (lX8_readsCondition_215 hk40 h)
  · rw [if_pos c] at h
    refine v_bipush dX8_readsCondition_208 rfl ?_
    refine v_goto (tgt := 215) dX8_readsCondition_210 (by decide) ?_
    exact v_weak (wss wse) (lX8_readsCondition_215 hk40 h)
theorem lX8_readsCondition_180 {E : EE} {G : GG} {k40 : Option Nat → Mem → Option (Int32 × Mem)} (hk40 : ∀ (v0 : Option Nat) (s : Mem) (z : Int32 × Mem), k40 v0 s = some z → V E mX8_readsCondition G 40 [some (vr v0)] [] s (some (vi z.1), z.2)) {v0 : Option Nat} {σ : Mem} {z : Int32 × Mem} (h : sX8_readsCondition_180 k40 v0 σ = some z) : V E mX8_readsCondition G 180 [some (vr v0)] [] σ (some (vi z.1), z.2) := by
  unfold sX8_readsCondition_180 at h
  refine v_al0 dX8_readsCondition_180 ?_
  refine v_al0 dX8_readsCondition_181 ?_
  obtain ⟨b182, er, ka, h⟩ := cV_some h
  obtain ⟨x1, s2, h1, h⟩ := cl_some h
  refine v_callV1 cok6 (As := []) er ka (tX8_here h1) (lw_V q1560 q1562 qs66 q167 q1563) rfl dsX8_here ⟨Nat.le_of_ble_eq_true rfl, Nat.le_of_ble_eq_true rfl⟩ (Nat.le_of_ble_eq_true rfl) dX8_readsCondition_182 rfl ?_
  refine v_bipush dX8_readsCondition_185 rfl ?_
  refine v_icmp_ne (tgt := 194) dX8_readsCondition_187 (by decide) (fun c => ?_) (fun c => ?_)
  · rw [if_neg c] at h
    refine v_iconst dX8_readsCondition_194 ?_
    exact v_weak (wss wse) (lX8_readsCondition_195 hk40 h)
  · rw [if_pos c] at h
    refine v_iconst dX8_readsCondition_190 ?_
    refine v_goto (tgt := 195) dX8_readsCondition_191 (by decide) ?_
    exact v_weak (wss wse) (lX8_readsCondition_195 hk40 h)
theorem lX8_readsCondition_92b {E : EE} {G : GG} {k40 : Option Nat → Mem → Option (Int32 × Mem)} {k92 : Option Nat → Mem → Option (Int32 × Mem)} (hk40 : ∀ (v0 : Option Nat) (s : Mem) (z : Int32 × Mem), k40 v0 s = some z → V E mX8_readsCondition G 40 [some (vr v0)] [] s (some (vi z.1), z.2)) (hk92 : ∀ (v0 : Option Nat) (s : Mem) (z : Int32 × Mem), k92 v0 s = some z → V E mX8_readsCondition G 92 [some (vr v0)] [] s (some (vi z.1), z.2)) {v0 : Option Nat} {σ : Mem} {z : Int32 × Mem} (h : sX8_readsCondition_92b k40 k92 v0 σ = some z) : V E mX8_readsCondition G 92 [some (vr v0)] [] σ (some (vi z.1), z.2) := by
  unfold sX8_readsCondition_92b at h
  refine v_al0 dX8_readsCondition_92 ?_
  obtain ⟨b93, er, ka, h⟩ := cV_some h
  obtain ⟨x1, s2, h1, h⟩ := cl_some h
  refine v_callV1 cok6 (As := []) er ka (tX8_here h1) (lw_V q1560 q1562 qs66 q167 q1563) rfl dsX8_here ⟨Nat.le_of_ble_eq_true rfl, Nat.le_of_ble_eq_true rfl⟩ (Nat.le_of_ble_eq_true rfl) dX8_readsCondition_93 rfl ?_
  refine v_bipush dX8_readsCondition_96 rfl ?_
  refine v_icmp_ne (tgt := 152) dX8_readsCondition_98 (by decide) (fun c => ?_) (fun c => ?_)
  · rw [if_neg c] at h
    refine v_al0 dX8_readsCondition_152 ?_
    obtain ⟨b153, er, ka, h⟩ := cV_some h
    obtain ⟨x3, s4, h1, h⟩ := cl_some h
    refine v_callV1 cok6 (As := []) er ka (tX8_here h1) (lw_V q1560 q1562 qs66 q167 q1563) rfl dsX8_here ⟨Nat.le_of_ble_eq_true rfl, Nat.le_of_ble_eq_true rfl⟩ (Nat.le_of_ble_eq_true rfl) dX8_readsCondition_153 rfl ?_
    refine v_bipush dX8_readsCondition_156 rfl ?_
    refine v_icmp_eq (tgt := 180) dX8_readsCondition_158 (by decide) (fun c => ?_) (fun c => ?_)
    · rw [if_pos c] at h
      exact v_weak (wss wse) (lX8_readsCondition_180 hk40 h)
    · rw [if_neg c] at h
      refine v_al0 dX8_readsCondition_161 ?_
      obtain ⟨b162, er, ka, h⟩ := cV_some h
      obtain ⟨x5, s6, h1, h⟩ := cl_some h
      refine v_callV1 cok6 (As := []) er ka (tX8_here h1) (lw_V q1560 q1562 qs66 q167 q1563) rfl dsX8_here ⟨Nat.le_of_ble_eq_true rfl, Nat.le_of_ble_eq_true rfl⟩ (Nat.le_of_ble_eq_true rfl) dX8_readsCondition_162 rfl ?_
      refine v_bipush dX8_readsCondition_165 rfl ?_
      refine v_icmp_eq (tgt := 180) dX8_readsCondition_167 (by decide) (fun c => ?_) (fun c => ?_)
      · rw [if_pos c] at h
        exact v_weak (wss wse) (lX8_readsCondition_180 hk40 h)
      · rw [if_neg c] at h
        refine v_al0 dX8_readsCondition_170 ?_
        refine v_iconst dX8_readsCondition_171 ?_
        refine v_al0 dX8_readsCondition_172 ?_
        refine v_gI cok6 h dX8_readsCondition_173 (by decide) q1408 rfl (fun x7 h => ?_)
        obtain ⟨b176, er, ka, h⟩ := cV_some h
        obtain ⟨x8, s9, h1, h⟩ := cl_some h
        refine v_callV1 cok6 (As := [vi (iI 1), vi x7]) er ka (tX8_wrongAt h1) (lw_V q1564 q1566 qs67 q167 q1567) rfl dsX8_wrongAt ⟨Nat.le_of_ble_eq_true rfl, Nat.le_of_ble_eq_true rfl⟩ (Nat.le_of_ble_eq_true rfl) dX8_readsCondition_176 rfl ?_
        exact v_retZ h dX8_readsCondition_179 rfl
  · rw [if_pos c] at h
    refine v_al0 dX8_readsCondition_101 ?_
    refine v_iconst dX8_readsCondition_102 ?_
    obtain ⟨b103, er, ka, h⟩ := cV_some h
    obtain ⟨_, s10, h1, h⟩ := cl_some h
    refine v_callV0 cok6 (As := [vi (iI 1)]) er ka (tX8_lands h1) (lw_V q1622 q1624 qs80 q167 q1625) rfl dsX8_lands ⟨Nat.le_of_ble_eq_true rfl, Nat.le_of_ble_eq_true rfl⟩ (Nat.le_of_ble_eq_true rfl) dX8_readsCondition_103 rfl ?_
    refine v_al0 dX8_readsCondition_106 ?_
    refine v_al0 dX8_readsCondition_107 ?_
    refine v_gI cok6 h dX8_readsCondition_108 (by decide) q1414 rfl (fun x11 h => ?_)
    refine v_iconst dX8_readsCondition_111 ?_
    refine v_isub dX8_readsCondition_112 ?_
    refine v_pI cok6 h dX8_readsCondition_113 (by decide) q1414 rfl rfl (fun s12 h => ?_)
    refine v_al0 dX8_readsCondition_116 ?_
    refine v_al0 dX8_readsCondition_117 ?_
    refine v_gI cok6 h dX8_readsCondition_118 (by decide) q1412 rfl (fun x13 h => ?_)
    refine v_iconst dX8_readsCondition_121 ?_
    refine v_isub dX8_readsCondition_122 ?_
    refine v_pI cok6 h dX8_readsCondition_123 (by decide) q1412 rfl rfl (fun s14 h => ?_)
    refine v_al0 dX8_readsCondition_126 ?_
    refine v_al0 dX8_readsCondition_127 ?_
    refine v_gI cok6 h dX8_readsCondition_128 (by decide) q1408 rfl (fun x15 h => ?_)
    refine v_iconst dX8_readsCondition_131 ?_
    refine v_iadd dX8_readsCondition_132 ?_
    refine v_pI cok6 h dX8_readsCondition_133 (by decide) q1408 rfl rfl (fun s16 h => ?_)
    refine v_al0 dX8_readsCondition_136 ?_
    refine v_gI cok6 h dX8_readsCondition_137 (by decide) q1414 rfl (fun x17 h => ?_)
    refine v_if_ne (tgt := 145) dX8_readsCondition_140 (by decide) (fun c => ?_) (fun c => ?_)
    · rw [if_neg c] at h
      refine v_al0 dX8_readsCondition_145 ?_
      obtain ⟨b146, er, ka, h⟩ := cV_some h
      obtain ⟨_, s18, h1, h⟩ := cl_some h
      refine v_callV0 cok6 (As := []) er ka (tX8_endsPiece h1) (lw_V q1618 q1620 qs79 q167 q1621) rfl dsX8_endsPiece ⟨Nat.le_of_ble_eq_true rfl, Nat.le_of_ble_eq_true rfl⟩ (Nat.le_of_ble_eq_true rfl) dX8_readsCondition_146 rfl ?_
      refine v_goto (tgt := 92) dX8_readsCondition_149 (by decide) ?_
      exact v_weak (wss wse) (hk92 _ _ _ h)
    · rw [if_pos c] at h
      refine v_iconst dX8_readsCondition_143 ?_
      exact v_retZ h dX8_readsCondition_144 rfl
theorem lX8_readsCondition_92 {E : EE} {G : GG} {k40 : Option Nat → Mem → Option (Int32 × Mem)} (hk40 : ∀ (v0 : Option Nat) (s : Mem) (z : Int32 × Mem), k40 v0 s = some z → V E mX8_readsCondition G 40 [some (vr v0)] [] s (some (vi z.1), z.2)) : ∀ (f : Nat) {v0 : Option Nat} {σ : Mem} {z : Int32 × Mem}, sX8_readsCondition_92 k40 f v0 σ = some z → V E mX8_readsCondition G 92 [some (vr v0)] [] σ (some (vi z.1), z.2)
  | 0, _, _, _, h => by cases h
  | f + 1, _, _, _, h => lX8_readsCondition_92b hk40 (fun _ _ _ h => lX8_readsCondition_92 hk40 f h) h
theorem lX8_readsCondition_40b {E : EE} {G : GG} {k40 : Option Nat → Mem → Option (Int32 × Mem)} (hk40 : ∀ (v0 : Option Nat) (s : Mem) (z : Int32 × Mem), k40 v0 s = some z → V E mX8_readsCondition G 40 [some (vr v0)] [] s (some (vi z.1), z.2)) {v0 : Option Nat} {σ : Mem} {z : Int32 × Mem} (h : sX8_readsCondition_40b k40 v0 σ = some z) : V E mX8_readsCondition G 40 [some (vr v0)] [] σ (some (vi z.1), z.2) := by
  unfold sX8_readsCondition_40b at h
  refine v_al0 dX8_readsCondition_40 ?_
  obtain ⟨b41, er, ka, h⟩ := cV_some h
  obtain ⟨x1, s2, h1, h⟩ := cl_some h
  refine v_callV1 cok6 (As := []) er ka (tX8_here h1) (lw_V q1560 q1562 qs66 q167 q1563) rfl dsX8_here ⟨Nat.le_of_ble_eq_true rfl, Nat.le_of_ble_eq_true rfl⟩ (Nat.le_of_ble_eq_true rfl) dX8_readsCondition_41 rfl ?_
  refine v_bipush dX8_readsCondition_44 rfl ?_
  refine v_icmp_eq (tgt := 58) dX8_readsCondition_46 (by decide) (fun c => ?_) (fun c => ?_)
  · rw [if_pos c] at h
    exact v_weak (wss wse) (lX8_readsCondition_58 hk40 h)
  · rw [if_neg c] at h
    refine v_al0 dX8_readsCondition_49 ?_
    obtain ⟨b50, er, ka, h⟩ := cV_some h
    obtain ⟨x3, s4, h1, h⟩ := cl_some h
    refine v_callV1 cok6 (As := []) er ka (tX8_here h1) (lw_V q1560 q1562 qs66 q167 q1563) rfl dsX8_here ⟨Nat.le_of_ble_eq_true rfl, Nat.le_of_ble_eq_true rfl⟩ (Nat.le_of_ble_eq_true rfl) dX8_readsCondition_50 rfl ?_
    refine v_bipush dX8_readsCondition_53 rfl ?_
    refine v_icmp_ne (tgt := 83) dX8_readsCondition_55 (by decide) (fun c => ?_) (fun c => ?_)
    · rw [if_neg c] at h
      refine v_al0 dX8_readsCondition_83 ?_
      obtain ⟨b84, er, ka, h⟩ := cV_some h
      obtain ⟨x5, s6, h1, h⟩ := cl_some h
      refine v_callV1 cok6 (As := []) er ka (tX8_readsCompared h1) (lw_V q1614 q1616 qs78 q167 q1617) rfl dsX8_readsCompared ⟨Nat.le_of_ble_eq_true rfl, Nat.le_of_ble_eq_true rfl⟩ (Nat.le_of_ble_eq_true rfl) dX8_readsCondition_84 rfl ?_
      refine v_if_ne (tgt := 92) dX8_readsCondition_87 (by decide) (fun c => ?_) (fun c => ?_)
      · rw [if_neg c] at h
        exact v_weak (wss wse) (lX8_readsCondition_92 hk40 FU h)
      · rw [if_pos c] at h
        refine v_iconst dX8_readsCondition_90 ?_
        exact v_retZ h dX8_readsCondition_91 rfl
    · rw [if_pos c] at h
      exact v_weak (wss wse) (lX8_readsCondition_58 hk40 h)
theorem lX8_readsCondition_40 {E : EE} {G : GG} : ∀ (f : Nat) {v0 : Option Nat} {σ : Mem} {z : Int32 × Mem}, sX8_readsCondition_40 f v0 σ = some z → V E mX8_readsCondition G 40 [some (vr v0)] [] σ (some (vi z.1), z.2)
  | 0, _, _, _, h => by cases h
  | f + 1, _, _, _, h => lX8_readsCondition_40b (fun _ _ _ h => lX8_readsCondition_40 f h) h
theorem lX8_readsCondition {E : EE} {G : GG} {v0 : Option Nat} {σ : Mem} {z : Int32 × Mem} (h : sX8_readsCondition v0 σ = some z) : V E mX8_readsCondition G 0 [some (vr v0)] [] σ (some (vi z.1), z.2) := by
  unfold sX8_readsCondition at h
  refine v_al0 dX8_readsCondition_0 ?_
  obtain ⟨b1, er, ka, h⟩ := cV_some h
  obtain ⟨x1, s2, h1, h⟩ := cl_some h
  refine v_callV1 cok6 (As := []) er ka (tX8_here h1) (lw_V q1560 q1562 qs66 q167 q1563) rfl dsX8_here ⟨Nat.le_of_ble_eq_true rfl, Nat.le_of_ble_eq_true rfl⟩ (Nat.le_of_ble_eq_true rfl) dX8_readsCondition_1 rfl ?_
  refine v_bipush dX8_readsCondition_4 rfl ?_
  refine v_icmp_eq (tgt := 19) dX8_readsCondition_6 (by decide) (fun c => ?_) (fun c => ?_)
  · rw [if_pos c] at h
    refine v_al0 dX8_readsCondition_19 ?_
    refine v_iconst dX8_readsCondition_20 ?_
    refine v_pI cok6 h dX8_readsCondition_21 (by decide) q1412 rfl rfl (fun s3 h => ?_)
    refine v_al0 dX8_readsCondition_24 ?_
    refine v_iconst dX8_readsCondition_25 ?_
    refine v_pI cok6 h dX8_readsCondition_26 (by decide) q1414 rfl rfl (fun s4 h => ?_)
    refine v_al0 dX8_readsCondition_29 ?_
    refine v_bipush dX8_readsCondition_30 rfl ?_
    obtain ⟨b32, er, ka, h⟩ := cV_some h
    obtain ⟨x5, s6, h1, h⟩ := cl_some h
    refine v_callV1 cok6 (As := [vi (iI 13)]) er ka (tX8_opens h1) (lw_V q1576 q1578 qs70 q167 q1579) rfl dsX8_opens ⟨Nat.le_of_ble_eq_true rfl, Nat.le_of_ble_eq_true rfl⟩ (Nat.le_of_ble_eq_true rfl) dX8_readsCondition_32 rfl ?_
    refine v_if_ne (tgt := 40) dX8_readsCondition_35 (by decide) (fun c => ?_) (fun c => ?_)
    · rw [if_neg c] at h
      exact v_weak (wss wse) (lX8_readsCondition_40 FU h)
    · rw [if_pos c] at h
      refine v_iconst dX8_readsCondition_38 ?_
      exact v_retZ h dX8_readsCondition_39 rfl
  · rw [if_neg c] at h
    refine v_al0 dX8_readsCondition_9 ?_
    refine v_iconst dX8_readsCondition_10 ?_
    refine v_al0 dX8_readsCondition_11 ?_
    refine v_gI cok6 h dX8_readsCondition_12 (by decide) q1408 rfl (fun x7 h => ?_)
    obtain ⟨b15, er, ka, h⟩ := cV_some h
    obtain ⟨x8, s9, h1, h⟩ := cl_some h
    refine v_callV1 cok6 (As := [vi (iI 1), vi x7]) er ka (tX8_wrongAt h1) (lw_V q1564 q1566 qs67 q167 q1567) rfl dsX8_wrongAt ⟨Nat.le_of_ble_eq_true rfl, Nat.le_of_ble_eq_true rfl⟩ (Nat.le_of_ble_eq_true rfl) dX8_readsCondition_15 rfl ?_
    exact v_retZ h dX8_readsCondition_18 rfl
theorem tX8_readsCondition {E : EE} {l : Launch} {v0 : Option Nat} {σ : Mem} {z : Int32 × Mem} (h : sX8_readsCondition v0 σ = some z) : Mt E l mX8_readsCondition [vr v0] σ (some (vi z.1), z.2) :=
  Mt.ofVL (by decide) (Nat.le_of_ble_eq_true rfl) (fun G hG => lX8_readsCondition h)
abbrev mX8_readsRule : MM := (yX8_readsRule, cX8_readsRule, 2, (Option.some Jvm.ClassFile.FieldType.boolean), 7, 145)
theorem dsX8_readsRule : DsOk yX8_readsRule 0 := ⟨by decide, by decide, by decide +kernel⟩
theorem lX8_readsRule_116 {E : EE} {G : GG} {v0 : Option Nat} {σ : Mem} {z : Int32 × Mem} (h : sX8_readsRule_116 v0 σ = some z) : V E mX8_readsRule G 116 [some (vr v0), none] [] σ (some (vi z.1), z.2) := by
  unfold sX8_readsRule_116 at h
  refine v_al0 dX8_readsRule_116 ?_
  refine v_gR cok6 h dX8_readsRule_117 (by decide) q1421 rfl (fun x1 h => ?_)
  refine v_al0 dX8_readsRule_120 ?_
  refine v_gI cok6 h dX8_readsRule_121 (by decide) q1415 rfl (fun x2 h => ?_)
  refine v_al0 dX8_readsRule_124 ?_
  refine v_gI cok6 h dX8_readsRule_125 (by decide) q1413 rfl (fun x3 h => ?_)
  refine v_sI h dX8_readsRule_128 (fun s4 h => ?_)
  refine v_al0 dX8_readsRule_129 ?_
  obtain ⟨b130, er, ka, h⟩ := cV_some h
  obtain ⟨x5, s6, h1, h⟩ := cl_some h
  refine v_callV1 cok6 (As := []) er ka (tX8_readsCondition h1) (lw_V q1610 q1612 qs77 q167 q1613) rfl dsX8_readsCondition ⟨Nat.le_of_ble_eq_true rfl, Nat.le_of_ble_eq_true rfl⟩ (Nat.le_of_ble_eq_true rfl) dX8_readsRule_130 rfl ?_
  refine v_if_ne (tgt := 138) dX8_readsRule_133 (by decide) (fun c => ?_) (fun c => ?_)
  · rw [if_neg c] at h
    refine v_al0 dX8_readsRule_138 ?_
    refine v_gR cok6 h dX8_readsRule_139 (by decide) q1422 rfl (fun x7 h => ?_)
    refine v_al0 dX8_readsRule_142 ?_
    refine v_gI cok6 h dX8_readsRule_143 (by decide) q1415 rfl (fun x8 h => ?_)
    refine v_al0 dX8_readsRule_146 ?_
    refine v_gI cok6 h dX8_readsRule_147 (by decide) q1413 rfl (fun x9 h => ?_)
    refine v_sI h dX8_readsRule_150 (fun s10 h => ?_)
    refine v_al0 dX8_readsRule_151 ?_
    refine v_al0 dX8_readsRule_152 ?_
    refine v_gI cok6 h dX8_readsRule_153 (by decide) q1415 rfl (fun x11 h => ?_)
    refine v_iconst dX8_readsRule_156 ?_
    refine v_iadd dX8_readsRule_157 ?_
    refine v_pI cok6 h dX8_readsRule_158 (by decide) q1415 rfl rfl (fun s12 h => ?_)
    refine v_iconst dX8_readsRule_161 ?_
    exact v_retZ h dX8_readsRule_162 rfl
  · rw [if_pos c] at h
    refine v_iconst dX8_readsRule_136 ?_
    exact v_retZ h dX8_readsRule_137 rfl
theorem lX8_readsRule_39 {E : EE} {G : GG} {v0 : Option Nat} {v1 : Int32} {σ : Mem} {z : Int32 × Mem} (h : sX8_readsRule_39 v0 v1 σ = some z) : V E mX8_readsRule G 39 [some (vr v0), some (vi v1)] [] σ (some (vi z.1), z.2) := by
  unfold sX8_readsRule_39 at h
  refine v_al0 dX8_readsRule_39 ?_
  refine v_gI cok6 h dX8_readsRule_40 (by decide) q1415 rfl (fun x1 h => ?_)
  refine v_bipush dX8_readsRule_43 rfl ?_
  refine v_icmp_ne (tgt := 58) dX8_readsRule_45 (by decide) (fun c => ?_) (fun c => ?_)
  · rw [if_neg c] at h
    refine v_al0 dX8_readsRule_58 ?_
    refine v_gR cok6 h dX8_readsRule_59 (by decide) q1419 rfl (fun x2 h => ?_)
    refine v_al0 dX8_readsRule_62 ?_
    refine v_gI cok6 h dX8_readsRule_63 (by decide) q1415 rfl (fun x3 h => ?_)
    refine v_il1 dX8_readsRule_66 ?_
    refine v_sI h dX8_readsRule_67 (fun s4 h => ?_)
    refine v_al0 dX8_readsRule_68 ?_
    refine v_al0 dX8_readsRule_69 ?_
    refine v_gI cok6 h dX8_readsRule_70 (by decide) q1408 rfl (fun x5 h => ?_)
    refine v_iconst dX8_readsRule_73 ?_
    refine v_iadd dX8_readsRule_74 ?_
    refine v_pI cok6 h dX8_readsRule_75 (by decide) q1408 rfl rfl (fun s6 h => ?_)
    refine v_al0 dX8_readsRule_78 ?_
    refine v_gR cok6 h dX8_readsRule_79 (by decide) q1420 rfl (fun x7 h => ?_)
    refine v_al0 dX8_readsRule_82 ?_
    refine v_gI cok6 h dX8_readsRule_83 (by decide) q1415 rfl (fun x8 h => ?_)
    refine v_al0 dX8_readsRule_86 ?_
    refine v_gI cok6 h dX8_readsRule_87 (by decide) q1413 rfl (fun x9 h => ?_)
    refine v_sI h dX8_readsRule_90 (fun s10 h => ?_)
    refine v_al0 dX8_readsRule_91 ?_
    refine v_iconst dX8_readsRule_92 ?_
    refine v_pI cok6 h dX8_readsRule_93 (by decide) q1412 rfl rfl (fun s11 h => ?_)
    refine v_al0 dX8_readsRule_96 ?_
    refine v_iconst dX8_readsRule_97 ?_
    refine v_pI cok6 h dX8_readsRule_98 (by decide) q1414 rfl rfl (fun s12 h => ?_)
    refine v_il1 dX8_readsRule_101 ?_
    refine v_bipush dX8_readsRule_102 rfl ?_
    refine v_icmp_eq (tgt := 116) dX8_readsRule_104 (by decide) (fun c => ?_) (fun c => ?_)
    · rw [if_pos c] at h
      exact v_weak (wss (wsn wse)) (lX8_readsRule_116 h)
    · rw [if_neg c] at h
      refine v_al0 dX8_readsRule_107 ?_
      obtain ⟨b108, er, ka, h⟩ := cV_some h
      obtain ⟨x13, s14, h1, h⟩ := cl_some h
      refine v_callV1 cok6 (As := []) er ka (tX8_readsSum h1) (lw_V q1568 q1570 qs68 q167 q1571) rfl dsX8_readsSum ⟨Nat.le_of_ble_eq_true rfl, Nat.le_of_ble_eq_true rfl⟩ (Nat.le_of_ble_eq_true rfl) dX8_readsRule_108 rfl ?_
      refine v_if_ne (tgt := 116) dX8_readsRule_111 (by decide) (fun c => ?_) (fun c => ?_)
      · rw [if_neg c] at h
        exact v_weak (wss (wsn wse)) (lX8_readsRule_116 h)
      · rw [if_pos c] at h
        refine v_iconst dX8_readsRule_114 ?_
        exact v_retZ h dX8_readsRule_115 rfl
  · rw [if_pos c] at h
    refine v_al0 dX8_readsRule_48 ?_
    refine v_iconst dX8_readsRule_49 ?_
    refine v_al0 dX8_readsRule_50 ?_
    refine v_gI cok6 h dX8_readsRule_51 (by decide) q1408 rfl (fun x15 h => ?_)
    obtain ⟨b54, er, ka, h⟩ := cV_some h
    obtain ⟨x16, s17, h1, h⟩ := cl_some h
    refine v_callV1 cok6 (As := [vi (iI 4), vi x15]) er ka (tX8_wrongAt h1) (lw_V q1564 q1566 qs67 q167 q1567) rfl dsX8_wrongAt ⟨Nat.le_of_ble_eq_true rfl, Nat.le_of_ble_eq_true rfl⟩ (Nat.le_of_ble_eq_true rfl) dX8_readsRule_54 rfl ?_
    exact v_retZ h dX8_readsRule_57 rfl
theorem lX8_readsRule {E : EE} {G : GG} {v0 : Option Nat} {σ : Mem} {z : Int32 × Mem} (h : sX8_readsRule v0 σ = some z) : V E mX8_readsRule G 0 [some (vr v0), none] [] σ (some (vi z.1), z.2) := by
  unfold sX8_readsRule at h
  refine v_al0 dX8_readsRule_0 ?_
  obtain ⟨b1, er, ka, h⟩ := cV_some h
  obtain ⟨x1, s2, h1, h⟩ := cl_some h
  refine v_callV1 cok6 (As := []) er ka (tX8_here h1) (lw_V q1560 q1562 qs66 q167 q1563) rfl dsX8_here ⟨Nat.le_of_ble_eq_true rfl, Nat.le_of_ble_eq_true rfl⟩ (Nat.le_of_ble_eq_true rfl) dX8_readsRule_1 rfl ?_
  refine v_istore_n (L' := [some (vr v0), some (vi x1)]) dX8_readsRule_4 (Nat.le_of_ble_eq_true rfl) (Nat.le_of_ble_eq_true rfl) rfl ?_
  refine v_il1 dX8_readsRule_5 ?_
  refine v_bipush dX8_readsRule_6 rfl ?_
  refine v_icmp_eq (tgt := 39) dX8_readsRule_8 (by decide) (fun c => ?_) (fun c => ?_)
  · rw [if_pos c] at h
    exact v_weak (wss (wss wse)) (lX8_readsRule_39 h)
  · rw [if_neg c] at h
    refine v_il1 dX8_readsRule_11 ?_
    refine v_bipush dX8_readsRule_12 rfl ?_
    refine v_icmp_eq (tgt := 39) dX8_readsRule_14 (by decide) (fun c => ?_) (fun c => ?_)
    · rw [if_pos c] at h
      exact v_weak (wss (wss wse)) (lX8_readsRule_39 h)
    · rw [if_neg c] at h
      refine v_il1 dX8_readsRule_17 ?_
      refine v_bipush dX8_readsRule_18 rfl ?_
      refine v_icmp_eq (tgt := 39) dX8_readsRule_20 (by decide) (fun c => ?_) (fun c => ?_)
      · rw [if_pos c] at h
        exact v_weak (wss (wss wse)) (lX8_readsRule_39 h)
      · rw [if_neg c] at h
        refine v_il1 dX8_readsRule_23 ?_
        refine v_bipush dX8_readsRule_24 rfl ?_
        refine v_icmp_eq (tgt := 39) dX8_readsRule_26 (by decide) (fun c => ?_) (fun c => ?_)
        · rw [if_pos c] at h
          exact v_weak (wss (wss wse)) (lX8_readsRule_39 h)
        · rw [if_neg c] at h
          refine v_al0 dX8_readsRule_29 ?_
          refine v_iconst dX8_readsRule_30 ?_
          refine v_al0 dX8_readsRule_31 ?_
          refine v_gI cok6 h dX8_readsRule_32 (by decide) q1408 rfl (fun x3 h => ?_)
          obtain ⟨b35, er, ka, h⟩ := cV_some h
          obtain ⟨x4, s5, h1, h⟩ := cl_some h
          refine v_callV1 cok6 (As := [vi (iI 1), vi x3]) er ka (tX8_wrongAt h1) (lw_V q1564 q1566 qs67 q167 q1567) rfl dsX8_wrongAt ⟨Nat.le_of_ble_eq_true rfl, Nat.le_of_ble_eq_true rfl⟩ (Nat.le_of_ble_eq_true rfl) dX8_readsRule_35 rfl ?_
          exact v_retZ h dX8_readsRule_38 rfl
theorem tX8_readsRule {E : EE} {l : Launch} {v0 : Option Nat} {σ : Mem} {z : Int32 × Mem} (h : sX8_readsRule v0 σ = some z) : Mt E l mX8_readsRule [vr v0] σ (some (vi z.1), z.2) :=
  Mt.ofVL (by decide) (Nat.le_of_ble_eq_true rfl) (fun G hG => lX8_readsRule h)
abbrev mX8_takes : MM := (yX8_takes, cX8_takes, 2, (Option.some Jvm.ClassFile.FieldType.boolean), 1, 22)
theorem dsX8_takes : DsOk yX8_takes 1 := ⟨by decide, by decide, by decide +kernel⟩
theorem lX8_takes {E : EE} {G : GG} {v0 : Option Nat} {v1 : Int32} {σ : Mem} {z : Int32 × Mem} (h : sX8_takes v0 v1 σ = some z) : V E mX8_takes G 0 [some (vr v0), some (vi v1)] [] σ (some (vi z.1), z.2) := by
  unfold sX8_takes at h
  refine v_al0 dX8_takes_0 ?_
  obtain ⟨b1, er, ka, h⟩ := cV_some h
  obtain ⟨x1, s2, h1, h⟩ := cl_some h
  refine v_callV1 cok6 (As := []) er ka (tX8_here h1) (lw_V q1560 q1562 qs66 q167 q1563) rfl dsX8_here ⟨Nat.le_of_ble_eq_true rfl, Nat.le_of_ble_eq_true rfl⟩ (Nat.le_of_ble_eq_true rfl) dX8_takes_1 rfl ?_
  refine v_il1 dX8_takes_4 ?_
  refine v_icmp_eq (tgt := 18) dX8_takes_5 (by decide) (fun c => ?_) (fun c => ?_)
  · rw [if_pos c] at h
    refine v_al0 dX8_takes_18 ?_
    refine v_al0 dX8_takes_19 ?_
    refine v_gI cok6 h dX8_takes_20 (by decide) q1408 rfl (fun x3 h => ?_)
    refine v_iconst dX8_takes_23 ?_
    refine v_iadd dX8_takes_24 ?_
    refine v_pI cok6 h dX8_takes_25 (by decide) q1408 rfl rfl (fun s4 h => ?_)
    refine v_iconst dX8_takes_28 ?_
    exact v_retZ h dX8_takes_29 rfl
  · rw [if_neg c] at h
    refine v_al0 dX8_takes_8 ?_
    refine v_iconst dX8_takes_9 ?_
    refine v_al0 dX8_takes_10 ?_
    refine v_gI cok6 h dX8_takes_11 (by decide) q1408 rfl (fun x5 h => ?_)
    obtain ⟨b14, er, ka, h⟩ := cV_some h
    obtain ⟨x6, s7, h1, h⟩ := cl_some h
    refine v_callV1 cok6 (As := [vi (iI 1), vi x5]) er ka (tX8_wrongAt h1) (lw_V q1564 q1566 qs67 q167 q1567) rfl dsX8_wrongAt ⟨Nat.le_of_ble_eq_true rfl, Nat.le_of_ble_eq_true rfl⟩ (Nat.le_of_ble_eq_true rfl) dX8_takes_14 rfl ?_
    exact v_retZ h dX8_takes_17 rfl
theorem tX8_takes {E : EE} {l : Launch} {v0 : Option Nat} {v1 : Int32} {σ : Mem} {z : Int32 × Mem} (h : sX8_takes v0 v1 σ = some z) : Mt E l mX8_takes [vr v0, vi v1] σ (some (vi z.1), z.2) :=
  Mt.ofVL (by decide) (Nat.le_of_ble_eq_true rfl) (fun G hG => lX8_takes h)
abbrev mX8_law : MM := (yX8_law, cX8_law, 4, (Option.some Jvm.ClassFile.FieldType.int), 8, 166)
theorem dsX8_law : DsOk yX8_law 1 := ⟨by decide, by decide, by decide +kernel⟩
theorem lX8_law_123b {E : EE} {G : GG} {k123 : Option Nat → Int32 → Mem → Option (Int32 × Mem)} (hk123 : ∀ (v0 : Option Nat) (v3 : Int32) (s : Mem) (z : Int32 × Mem), k123 v0 v3 s = some z → V E mX8_law G 123 [some (vr v0), none, none, some (vi v3)] [] s (some (vi z.1), z.2)) {v0 : Option Nat} {v3 : Int32} {σ : Mem} {z : Int32 × Mem} (h : sX8_law_123b k123 v0 v3 σ = some z) : V E mX8_law G 123 [some (vr v0), none, none, some (vi v3)] [] σ (some (vi z.1), z.2) := by
  unfold sX8_law_123b at h
  refine v_il3 dX8_law_123 ?_
  refine v_al0 dX8_law_124 ?_
  refine v_gI cok6 h dX8_law_125 (by decide) q1415 rfl (fun x1 h => ?_)
  refine v_icmp_ge (tgt := 185) dX8_law_128 (by decide) (fun c => ?_) (fun c => ?_)
  · rw [if_pos c] at h
    refine v_al0 dX8_law_185 ?_
    refine v_gI cok6 h dX8_law_186 (by decide) q1415 rfl (fun x2 h => ?_)
    exact v_retI h dX8_law_189 rfl
  · rw [if_neg c] at h
    refine v_al0 dX8_law_131 ?_
    refine v_gR cok6 h dX8_law_132 (by decide) q1424 rfl (fun x3 h => ?_)
    refine v_il3 dX8_law_135 ?_
    refine v_al0 dX8_law_136 ?_
    refine v_gR cok6 h dX8_law_137 (by decide) q1419 rfl (fun x4 h => ?_)
    refine v_il3 dX8_law_140 ?_
    refine v_aI h dX8_law_141 (fun x5 h => ?_)
    refine v_sI h dX8_law_142 (fun s6 h => ?_)
    refine v_al0 dX8_law_143 ?_
    refine v_gR cok6 h dX8_law_144 (by decide) q1425 rfl (fun x7 h => ?_)
    refine v_il3 dX8_law_147 ?_
    refine v_al0 dX8_law_148 ?_
    refine v_gR cok6 h dX8_law_149 (by decide) q1420 rfl (fun x8 h => ?_)
    refine v_il3 dX8_law_152 ?_
    refine v_aI h dX8_law_153 (fun x9 h => ?_)
    refine v_sI h dX8_law_154 (fun s10 h => ?_)
    refine v_al0 dX8_law_155 ?_
    refine v_gR cok6 h dX8_law_156 (by decide) q1426 rfl (fun x11 h => ?_)
    refine v_il3 dX8_law_159 ?_
    refine v_al0 dX8_law_160 ?_
    refine v_gR cok6 h dX8_law_161 (by decide) q1421 rfl (fun x12 h => ?_)
    refine v_il3 dX8_law_164 ?_
    refine v_aI h dX8_law_165 (fun x13 h => ?_)
    refine v_sI h dX8_law_166 (fun s14 h => ?_)
    refine v_al0 dX8_law_167 ?_
    refine v_gR cok6 h dX8_law_168 (by decide) q1427 rfl (fun x15 h => ?_)
    refine v_il3 dX8_law_171 ?_
    refine v_al0 dX8_law_172 ?_
    refine v_gR cok6 h dX8_law_173 (by decide) q1422 rfl (fun x16 h => ?_)
    refine v_il3 dX8_law_176 ?_
    refine v_aI h dX8_law_177 (fun x17 h => ?_)
    refine v_sI h dX8_law_178 (fun s18 h => ?_)
    refine v_iinc (L' := [some (vr v0), none, none, some (vi (v3 + iI 1))]) dX8_law_179 (Nat.le_of_ble_eq_true rfl) rfl rfl ?_
    refine v_goto (tgt := 123) dX8_law_182 (by decide) ?_
    exact v_weak (wss (wsn (wsn (wss wse)))) (hk123 _ _ _ _ h)
theorem lX8_law_123 {E : EE} {G : GG} : ∀ (f : Nat) {v0 : Option Nat} {v3 : Int32} {σ : Mem} {z : Int32 × Mem}, sX8_law_123 f v0 v3 σ = some z → V E mX8_law G 123 [some (vr v0), none, none, some (vi v3)] [] σ (some (vi z.1), z.2)
  | 0, _, _, _, _, h => by cases h
  | f + 1, _, _, _, _, h => lX8_law_123b (fun _ _ _ _ h => lX8_law_123 f h) h
theorem lX8_law_95b {E : EE} {G : GG} {k95 : Option Nat → Int32 → Mem → Option (Int32 × Mem)} (hk95 : ∀ (v0 : Option Nat) (v3 : Int32) (s : Mem) (z : Int32 × Mem), k95 v0 v3 s = some z → V E mX8_law G 95 [some (vr v0), none, none, some (vi v3)] [] s (some (vi z.1), z.2)) {v0 : Option Nat} {v3 : Int32} {σ : Mem} {z : Int32 × Mem} (h : sX8_law_95b k95 v0 v3 σ = some z) : V E mX8_law G 95 [some (vr v0), none, none, some (vi v3)] [] σ (some (vi z.1), z.2) := by
  unfold sX8_law_95b at h
  refine v_il3 dX8_law_95 ?_
  refine v_al0 dX8_law_96 ?_
  refine v_gI cok6 h dX8_law_97 (by decide) q1413 rfl (fun x1 h => ?_)
  refine v_icmp_ge (tgt := 121) dX8_law_100 (by decide) (fun c => ?_) (fun c => ?_)
  · rw [if_pos c] at h
    refine v_iconst dX8_law_121 ?_
    refine v_istore_n (L' := [some (vr v0), none, none, some (vi (iI 0))]) dX8_law_122 (Nat.le_of_ble_eq_true rfl) (Nat.le_of_ble_eq_true rfl) rfl ?_
    exact v_weak (wss (wsn (wsn (wss wse)))) (lX8_law_123 FU h)
  · rw [if_neg c] at h
    refine v_al0 dX8_law_103 ?_
    refine v_gR cok6 h dX8_law_104 (by decide) q1423 rfl (fun x2 h => ?_)
    refine v_il3 dX8_law_107 ?_
    refine v_al0 dX8_law_108 ?_
    refine v_gR cok6 h dX8_law_109 (by decide) q1417 rfl (fun x3 h => ?_)
    refine v_il3 dX8_law_112 ?_
    refine v_aI h dX8_law_113 (fun x4 h => ?_)
    refine v_sI h dX8_law_114 (fun s5 h => ?_)
    refine v_iinc (L' := [some (vr v0), none, none, some (vi (v3 + iI 1))]) dX8_law_115 (Nat.le_of_ble_eq_true rfl) rfl rfl ?_
    refine v_goto (tgt := 95) dX8_law_118 (by decide) ?_
    exact v_weak (wss (wsn (wsn (wss wse)))) (hk95 _ _ _ _ h)
theorem lX8_law_95 {E : EE} {G : GG} : ∀ (f : Nat) {v0 : Option Nat} {v3 : Int32} {σ : Mem} {z : Int32 × Mem}, sX8_law_95 f v0 v3 σ = some z → V E mX8_law G 95 [some (vr v0), none, none, some (vi v3)] [] σ (some (vi z.1), z.2)
  | 0, _, _, _, _, h => by cases h
  | f + 1, _, _, _, _, h => lX8_law_95b (fun _ _ _ _ h => lX8_law_95 f h) h
theorem lX8_law_71 {E : EE} {G : GG} {v0 : Option Nat} {v2 : Int32} {σ : Mem} {z : Int32 × Mem} (h : sX8_law_71 v0 v2 σ = some z) : V E mX8_law G 71 [some (vr v0), none, some (vi v2), none] [] σ (some (vi z.1), z.2) := by
  unfold sX8_law_71 at h
  refine v_al0 dX8_law_71 ?_
  refine v_iconst dX8_law_72 ?_
  refine v_pI cok6 h dX8_law_73 (by decide) q1407 rfl rfl (fun s1 h => ?_)
  refine v_il2 dX8_law_76 ?_
  refine v_if_ne (tgt := 85) dX8_law_77 (by decide) (fun c => ?_) (fun c => ?_)
  · rw [if_neg c] at h
    refine v_al0 dX8_law_85 ?_
    refine v_al0 dX8_law_86 ?_
    refine v_gI cok6 h dX8_law_87 (by decide) q1415 rfl (fun x2 h => ?_)
    refine v_pI cok6 h dX8_law_90 (by decide) q1416 rfl rfl (fun s3 h => ?_)
    refine v_iconst dX8_law_93 ?_
    refine v_istore_n (L' := [some (vr v0), none, some (vi v2), some (vi (iI 0))]) dX8_law_94 (Nat.le_of_ble_eq_true rfl) (Nat.le_of_ble_eq_true rfl) rfl ?_
    exact v_weak (wss (wsn (wsn (wss wse)))) (lX8_law_95 FU h)
  · rw [if_pos c] at h
    refine v_al0 dX8_law_80 ?_
    refine v_gI cok6 h dX8_law_81 (by decide) q1410 rfl (fun x4 h => ?_)
    exact v_retI h dX8_law_84 rfl
theorem lX8_law_67 {E : EE} {G : GG} {k31 : Option Nat → Int32 → Mem → Option (Int32 × Mem)} (hk31 : ∀ (v0 : Option Nat) (v2 : Int32) (s : Mem) (z : Int32 × Mem), k31 v0 v2 s = some z → V E mX8_law G 31 [some (vr v0), none, some (vi v2), none] [] s (some (vi z.1), z.2)) {v0 : Option Nat} {t0 : Int32} {σ : Mem} {z : Int32 × Mem} (h : sX8_law_67 k31 v0 t0 σ = some z) : V E mX8_law G 67 [some (vr v0), none, none, none] [vi t0] σ (some (vi z.1), z.2) := by
  unfold sX8_law_67 at h
  refine v_istore_n (L' := [some (vr v0), none, some (vi t0), none]) dX8_law_67 (Nat.le_of_ble_eq_true rfl) (Nat.le_of_ble_eq_true rfl) rfl ?_
  refine v_goto (tgt := 31) dX8_law_68 (by decide) ?_
  exact v_weak (wss (wsn (wss (wsn wse)))) (hk31 _ _ _ _ h)
theorem lX8_law_66 {E : EE} {G : GG} {k31 : Option Nat → Int32 → Mem → Option (Int32 × Mem)} (hk31 : ∀ (v0 : Option Nat) (v2 : Int32) (s : Mem) (z : Int32 × Mem), k31 v0 v2 s = some z → V E mX8_law G 31 [some (vr v0), none, some (vi v2), none] [] s (some (vi z.1), z.2)) {v0 : Option Nat} {σ : Mem} {z : Int32 × Mem} (h : sX8_law_66 k31 v0 σ = some z) : V E mX8_law G 66 [some (vr v0), none, none, none] [] σ (some (vi z.1), z.2) := by
  unfold sX8_law_66 at h
  refine v_iconst dX8_law_66 ?_
  exact v_weak (wss (wsn (wsn (wsn wse)))) (lX8_law_67 hk31 h)
theorem lX8_law_31b {E : EE} {G : GG} {k31 : Option Nat → Int32 → Mem → Option (Int32 × Mem)} (hk31 : ∀ (v0 : Option Nat) (v2 : Int32) (s : Mem) (z : Int32 × Mem), k31 v0 v2 s = some z → V E mX8_law G 31 [some (vr v0), none, some (vi v2), none] [] s (some (vi z.1), z.2)) {v0 : Option Nat} {v2 : Int32} {σ : Mem} {z : Int32 × Mem} (h : sX8_law_31b k31 v0 v2 σ = some z) : V E mX8_law G 31 [some (vr v0), none, some (vi v2), none] [] σ (some (vi z.1), z.2) := by
  unfold sX8_law_31b at h
  refine v_il2 dX8_law_31 ?_
  refine v_if_eq (tgt := 71) dX8_law_32 (by decide) (fun c => ?_) (fun c => ?_)
  · rw [if_pos c] at h
    exact v_weak (wss (wsn (wss (wsn wse)))) (lX8_law_71 h)
  · rw [if_neg c] at h
    refine v_al0 dX8_law_35 ?_
    refine v_gI cok6 h dX8_law_36 (by decide) q1408 rfl (fun x1 h => ?_)
    refine v_al0 dX8_law_39 ?_
    refine v_gI cok6 h dX8_law_40 (by decide) q1409 rfl (fun x2 h => ?_)
    refine v_icmp_ge (tgt := 71) dX8_law_43 (by decide) (fun c => ?_) (fun c => ?_)
    · rw [if_pos c] at h
      exact v_weak (wss (wsn (wss (wsn wse)))) (lX8_law_71 h)
    · rw [if_neg c] at h
      refine v_al0 dX8_law_46 ?_
      refine v_bipush dX8_law_47 rfl ?_
      obtain ⟨b49, er, ka, h⟩ := cV_some h
      obtain ⟨x3, s4, h1, h⟩ := cl_some h
      refine v_callV1 cok6 (As := [vi (iI 59)]) er ka (tX8_takes h1) (lw_V q1630 q1632 qs82 q167 q1633) rfl dsX8_takes ⟨Nat.le_of_ble_eq_true rfl, Nat.le_of_ble_eq_true rfl⟩ (Nat.le_of_ble_eq_true rfl) dX8_law_49 rfl ?_
      refine v_if_eq (tgt := 66) dX8_law_52 (by decide) (fun c => ?_) (fun c => ?_)
      · rw [if_pos c] at h
        exact v_weak (wss (wsn (wsn (wsn wse)))) (lX8_law_66 hk31 h)
      · rw [if_neg c] at h
        refine v_al0 dX8_law_55 ?_
        obtain ⟨b56, er, ka, h⟩ := cV_some h
        obtain ⟨x5, s6, h1, h⟩ := cl_some h
        refine v_callV1 cok6 (As := []) er ka (tX8_readsRule h1) (lw_V q1556 q1558 qs65 q167 q1559) rfl dsX8_readsRule ⟨Nat.le_of_ble_eq_true rfl, Nat.le_of_ble_eq_true rfl⟩ (Nat.le_of_ble_eq_true rfl) dX8_law_56 rfl ?_
        refine v_if_eq (tgt := 66) dX8_law_59 (by decide) (fun c => ?_) (fun c => ?_)
        · rw [if_pos c] at h
          exact v_weak (wss (wsn (wsn (wsn wse)))) (lX8_law_66 hk31 h)
        · rw [if_neg c] at h
          refine v_iconst dX8_law_62 ?_
          refine v_goto (tgt := 67) dX8_law_63 (by decide) ?_
          exact v_weak (wss (wsn (wsn (wsn wse)))) (lX8_law_67 hk31 h)
theorem lX8_law_31 {E : EE} {G : GG} : ∀ (f : Nat) {v0 : Option Nat} {v2 : Int32} {σ : Mem} {z : Int32 × Mem}, sX8_law_31 f v0 v2 σ = some z → V E mX8_law G 31 [some (vr v0), none, some (vi v2), none] [] σ (some (vi z.1), z.2)
  | 0, _, _, _, _, h => by cases h
  | f + 1, _, _, _, _, h => lX8_law_31b (fun _ _ _ _ h => lX8_law_31 f h) h
theorem lX8_law {E : EE} {G : GG} {v0 : Option Nat} {v1 : Int32} {σ : Mem} {z : Int32 × Mem} (h : sX8_law v0 v1 σ = some z) : V E mX8_law G 0 [some (vr v0), some (vi v1), none, none] [] σ (some (vi z.1), z.2) := by
  unfold sX8_law at h
  refine v_il1 dX8_law_0 ?_
  refine v_iconst dX8_law_1 ?_
  refine v_sipush dX8_law_2 rfl ?_
  obtain ⟨x1, s2, h1, h⟩ := cl_some h
  refine v_callS1 (As := [vi v1, vi (iI 1), vi (iI 240)]) (tX8_in h1) (lw_S q1549 q1550 q167 q1551) dsX8_in ⟨Nat.le_of_ble_eq_true rfl, Nat.le_of_ble_eq_true rfl⟩ (Nat.le_of_ble_eq_true rfl) dX8_law_5 rfl ?_
  refine v_if_eq (tgt := 19) dX8_law_8 (by decide) (fun c => ?_) (fun c => ?_)
  · rw [if_pos c] at h
    refine v_iconst dX8_law_19 ?_
    exact v_retI h dX8_law_20 rfl
  · rw [if_neg c] at h
    refine v_il1 dX8_law_11 ?_
    refine v_al0 dX8_law_12 ?_
    refine v_gI cok6 h dX8_law_13 (by decide) q1407 rfl (fun x3 h => ?_)
    refine v_icmp_le (tgt := 21) dX8_law_16 (by decide) (fun c => ?_) (fun c => ?_)
    · rw [if_pos c] at h
      refine v_al0 dX8_law_21 ?_
      refine v_il1 dX8_law_22 ?_
      obtain ⟨b23, er, ka, h⟩ := cV_some h
      obtain ⟨_, s4, h1, h⟩ := cl_some h
      refine v_callV0 cok6 (As := [vi v1]) er ka (tX8_beginsText h1) (lw_V q1552 q1554 qs64 q167 q1555) rfl dsX8_beginsText ⟨Nat.le_of_ble_eq_true rfl, Nat.le_of_ble_eq_true rfl⟩ (Nat.le_of_ble_eq_true rfl) dX8_law_23 rfl ?_
      refine v_al0 dX8_law_26 ?_
      obtain ⟨b27, er, ka, h⟩ := cV_some h
      obtain ⟨x5, s6, h1, h⟩ := cl_some h
      refine v_callV1 cok6 (As := []) er ka (tX8_readsRule h1) (lw_V q1556 q1558 qs65 q167 q1559) rfl dsX8_readsRule ⟨Nat.le_of_ble_eq_true rfl, Nat.le_of_ble_eq_true rfl⟩ (Nat.le_of_ble_eq_true rfl) dX8_law_27 rfl ?_
      refine v_istore_n (L' := [some (vr v0), some (vi v1), some (vi x5), none]) dX8_law_30 (Nat.le_of_ble_eq_true rfl) (Nat.le_of_ble_eq_true rfl) rfl ?_
      exact v_weak (wss (wsn (wss (wsn wse)))) (lX8_law_31 FU h)
    · rw [if_neg c] at h
      refine v_iconst dX8_law_19 ?_
      exact v_retI h dX8_law_20 rfl
theorem tX8_law {E : EE} {l : Launch} {v0 : Option Nat} {v1 : Int32} {σ : Mem} {z : Int32 × Mem} (h : sX8_law v0 v1 σ = some z) : Mt E l mX8_law [vr v0, vi v1] σ (some (vi z.1), z.2) :=
  Mt.ofVL (by decide) (Nat.le_of_ble_eq_true rfl) (fun G hG => lX8_law h)
abbrev mX8_takesDue : MM := (yX8_takesDue, cX8_takesDue, 5, (Option.some Jvm.ClassFile.FieldType.boolean), 0, 0)
theorem dsX8_takesDue : DsOk yX8_takesDue 0 := ⟨by decide, by decide, by decide +kernel⟩
theorem lX8_takesDue_95b {E : EE} {G : GG} {k95 : Option Nat → Int32 → Int32 → Mem → Option (Int32 × Mem)} (hk95 : ∀ (v0 : Option Nat) (v3 : Int32) (v4 : Int32) (s : Mem) (z : Int32 × Mem), k95 v0 v3 v4 s = some z → V E mX8_takesDue G 95 [some (vr v0), none, none, some (vi v3), some (vi v4)] [] s (some (vi z.1), z.2)) {v0 : Option Nat} {v3 : Int32} {v4 : Int32} {σ : Mem} {z : Int32 × Mem} (h : sX8_takesDue_95b k95 v0 v3 v4 σ = some z) : V E mX8_takesDue G 95 [some (vr v0), none, none, some (vi v3), some (vi v4)] [] σ (some (vi z.1), z.2) := by
  unfold sX8_takesDue_95b at h
  refine v_iload dX8_takesDue_95 rfl ?_
  refine v_il3 dX8_takesDue_97 ?_
  refine v_icmp_ge (tgt := 124) dX8_takesDue_98 (by decide) (fun c => ?_) (fun c => ?_)
  · rw [if_pos c] at h
    refine v_al0 dX8_takesDue_124 ?_
    refine v_gR cok6 h dX8_takesDue_125 (by decide) q1401 rfl (fun x1 h => ?_)
    refine v_sipush dX8_takesDue_128 rfl ?_
    refine v_al0 dX8_takesDue_131 ?_
    refine v_gR cok6 h dX8_takesDue_132 (by decide) q1401 rfl (fun x2 h => ?_)
    refine v_sipush dX8_takesDue_135 rfl ?_
    refine v_aI h dX8_takesDue_138 (fun x3 h => ?_)
    refine v_iconst dX8_takesDue_139 ?_
    refine v_isub dX8_takesDue_140 ?_
    refine v_sI h dX8_takesDue_141 (fun s4 h => ?_)
    refine v_iconst dX8_takesDue_142 ?_
    exact v_retZ h dX8_takesDue_143 rfl
  · rw [if_neg c] at h
    refine v_al0 dX8_takesDue_101 ?_
    refine v_gR cok6 h dX8_takesDue_102 (by decide) q1401 rfl (fun x5 h => ?_)
    refine v_iload dX8_takesDue_105 rfl ?_
    refine v_bipush dX8_takesDue_107 rfl ?_
    refine v_isub dX8_takesDue_109 ?_
    refine v_al0 dX8_takesDue_110 ?_
    refine v_gR cok6 h dX8_takesDue_111 (by decide) q1401 rfl (fun x6 h => ?_)
    refine v_iload dX8_takesDue_114 rfl ?_
    refine v_aI h dX8_takesDue_116 (fun x7 h => ?_)
    refine v_sI h dX8_takesDue_117 (fun s8 h => ?_)
    refine v_iinc (L' := [some (vr v0), none, none, some (vi v3), some (vi (v4 + iI 1))]) dX8_takesDue_118 (Nat.le_of_ble_eq_true rfl) rfl rfl ?_
    refine v_goto (tgt := 95) dX8_takesDue_121 (by decide) ?_
    exact v_weak (wss (wsn (wsn (wss (wss wse))))) (hk95 _ _ _ _ _ h)
theorem lX8_takesDue_95 {E : EE} {G : GG} : ∀ (f : Nat) {v0 : Option Nat} {v3 : Int32} {v4 : Int32} {σ : Mem} {z : Int32 × Mem}, sX8_takesDue_95 f v0 v3 v4 σ = some z → V E mX8_takesDue G 95 [some (vr v0), none, none, some (vi v3), some (vi v4)] [] σ (some (vi z.1), z.2)
  | 0, _, _, _, _, _, h => by cases h
  | f + 1, _, _, _, _, _, h => lX8_takesDue_95b (fun _ _ _ _ _ h => lX8_takesDue_95 f h) h
theorem lX8_takesDue_47b {E : EE} {G : GG} {k47 : Option Nat → Int32 → Int32 → Mem → Option (Int32 × Mem)} (hk47 : ∀ (v0 : Option Nat) (v2 : Int32) (v3 : Int32) (s : Mem) (z : Int32 × Mem), k47 v0 v2 v3 s = some z → V E mX8_takesDue G 47 [some (vr v0), none, some (vi v2), some (vi v3), none] [] s (some (vi z.1), z.2)) {v0 : Option Nat} {v2 : Int32} {v3 : Int32} {σ : Mem} {z : Int32 × Mem} (h : sX8_takesDue_47b k47 v0 v2 v3 σ = some z) : V E mX8_takesDue G 47 [some (vr v0), none, some (vi v2), some (vi v3), none] [] σ (some (vi z.1), z.2) := by
  unfold sX8_takesDue_47b at h
  refine v_il3 dX8_takesDue_47 ?_
  refine v_bipush dX8_takesDue_48 rfl ?_
  refine v_icmp_ge (tgt := 73) dX8_takesDue_50 (by decide) (fun c => ?_) (fun c => ?_)
  · rw [if_pos c] at h
    refine v_sipush dX8_takesDue_73 rfl ?_
    refine v_bipush dX8_takesDue_76 rfl ?_
    refine v_al0 dX8_takesDue_78 ?_
    refine v_gR cok6 h dX8_takesDue_79 (by decide) q1401 rfl (fun x1 h => ?_)
    refine v_sipush dX8_takesDue_82 rfl ?_
    refine v_aI h dX8_takesDue_85 (fun x2 h => ?_)
    refine v_imul dX8_takesDue_86 ?_
    refine v_iadd dX8_takesDue_87 ?_
    refine v_istore_n (L' := [some (vr v0), none, some (vi v2), some (vi ((iI 1708) + ((iI 27) * x2))), none]) dX8_takesDue_88 (Nat.le_of_ble_eq_true rfl) (Nat.le_of_ble_eq_true rfl) rfl ?_
    refine v_il2 dX8_takesDue_89 ?_
    refine v_bipush dX8_takesDue_90 rfl ?_
    refine v_iadd dX8_takesDue_92 ?_
    refine v_istore (L' := [some (vr v0), none, some (vi v2), some (vi ((iI 1708) + ((iI 27) * x2))), some (vi (v2 + (iI 27)))]) dX8_takesDue_93 (Nat.le_of_ble_eq_true rfl) (Nat.le_of_ble_eq_true rfl) rfl ?_
    exact v_weak (wss (wsn (wsn (wss (wss wse))))) (lX8_takesDue_95 FU h)
  · rw [if_neg c] at h
    refine v_al0 dX8_takesDue_53 ?_
    refine v_gR cok6 h dX8_takesDue_54 (by decide) q1405 rfl (fun x3 h => ?_)
    refine v_il3 dX8_takesDue_57 ?_
    refine v_al0 dX8_takesDue_58 ?_
    refine v_gR cok6 h dX8_takesDue_59 (by decide) q1401 rfl (fun x4 h => ?_)
    refine v_il2 dX8_takesDue_62 ?_
    refine v_il3 dX8_takesDue_63 ?_
    refine v_iadd dX8_takesDue_64 ?_
    refine v_aI h dX8_takesDue_65 (fun x5 h => ?_)
    refine v_sI h dX8_takesDue_66 (fun s6 h => ?_)
    refine v_iinc (L' := [some (vr v0), none, some (vi v2), some (vi (v3 + iI 1)), none]) dX8_takesDue_67 (Nat.le_of_ble_eq_true rfl) rfl rfl ?_
    refine v_goto (tgt := 47) dX8_takesDue_70 (by decide) ?_
    exact v_weak (wss (wsn (wss (wss (wsn wse))))) (hk47 _ _ _ _ _ h)
theorem lX8_takesDue_47 {E : EE} {G : GG} : ∀ (f : Nat) {v0 : Option Nat} {v2 : Int32} {v3 : Int32} {σ : Mem} {z : Int32 × Mem}, sX8_takesDue_47 f v0 v2 v3 σ = some z → V E mX8_takesDue G 47 [some (vr v0), none, some (vi v2), some (vi v3), none] [] σ (some (vi z.1), z.2)
  | 0, _, _, _, _, _, h => by cases h
  | f + 1, _, _, _, _, _, h => lX8_takesDue_47b (fun _ _ _ _ _ h => lX8_takesDue_47 f h) h
theorem lX8_takesDue_2b {E : EE} {G : GG} {k2 : Option Nat → Int32 → Mem → Option (Int32 × Mem)} (hk2 : ∀ (v0 : Option Nat) (v1 : Int32) (s : Mem) (z : Int32 × Mem), k2 v0 v1 s = some z → V E mX8_takesDue G 2 [some (vr v0), some (vi v1), none, none, none] [] s (some (vi z.1), z.2)) {v0 : Option Nat} {v1 : Int32} {σ : Mem} {z : Int32 × Mem} (h : sX8_takesDue_2b k2 v0 v1 σ = some z) : V E mX8_takesDue G 2 [some (vr v0), some (vi v1), none, none, none] [] σ (some (vi z.1), z.2) := by
  unfold sX8_takesDue_2b at h
  refine v_il1 dX8_takesDue_2 ?_
  refine v_al0 dX8_takesDue_3 ?_
  refine v_gR cok6 h dX8_takesDue_4 (by decide) q1401 rfl (fun x1 h => ?_)
  refine v_sipush dX8_takesDue_7 rfl ?_
  refine v_aI h dX8_takesDue_10 (fun x2 h => ?_)
  refine v_icmp_ge (tgt := 150) dX8_takesDue_11 (by decide) (fun c => ?_) (fun c => ?_)
  · rw [if_pos c] at h
    refine v_iconst dX8_takesDue_150 ?_
    exact v_retZ h dX8_takesDue_151 rfl
  · rw [if_neg c] at h
    refine v_sipush dX8_takesDue_14 rfl ?_
    refine v_bipush dX8_takesDue_17 rfl ?_
    refine v_il1 dX8_takesDue_19 ?_
    refine v_imul dX8_takesDue_20 ?_
    refine v_iadd dX8_takesDue_21 ?_
    refine v_istore_n (L' := [some (vr v0), some (vi v1), some (vi ((iI 1708) + ((iI 27) * v1))), none, none]) dX8_takesDue_22 (Nat.le_of_ble_eq_true rfl) (Nat.le_of_ble_eq_true rfl) rfl ?_
    refine v_al0 dX8_takesDue_23 ?_
    refine v_gR cok6 h dX8_takesDue_24 (by decide) q1401 rfl (fun x3 h => ?_)
    refine v_il2 dX8_takesDue_27 ?_
    refine v_iconst dX8_takesDue_28 ?_
    refine v_iadd dX8_takesDue_29 ?_
    refine v_aI h dX8_takesDue_30 (fun x4 h => ?_)
    refine v_al0 dX8_takesDue_31 ?_
    refine v_gR cok6 h dX8_takesDue_32 (by decide) q1401 rfl (fun x5 h => ?_)
    refine v_sipush dX8_takesDue_35 rfl ?_
    refine v_aI h dX8_takesDue_38 (fun x6 h => ?_)
    refine v_icmp_le (tgt := 45) dX8_takesDue_39 (by decide) (fun c => ?_) (fun c => ?_)
    · rw [if_pos c] at h
      refine v_iconst dX8_takesDue_45 ?_
      refine v_istore_n (L' := [some (vr v0), some (vi v1), some (vi ((iI 1708) + ((iI 27) * v1))), some (vi (iI 0)), none]) dX8_takesDue_46 (Nat.le_of_ble_eq_true rfl) (Nat.le_of_ble_eq_true rfl) rfl ?_
      exact v_weak (wss (wsn (wss (wss (wsn wse))))) (lX8_takesDue_47 FU h)
    · rw [if_neg c] at h
      refine v_goto (tgt := 144) dX8_takesDue_42 (by decide) ?_
      refine v_iinc (L' := [some (vr v0), some (vi (v1 + iI 1)), some (vi ((iI 1708) + ((iI 27) * v1))), none, none]) dX8_takesDue_144 (Nat.le_of_ble_eq_true rfl) rfl rfl ?_
      refine v_goto (tgt := 2) dX8_takesDue_147 (by decide) ?_
      exact v_weak (wss (wss (wsn (wsn (wsn wse))))) (hk2 _ _ _ _ h)
theorem lX8_takesDue_2 {E : EE} {G : GG} : ∀ (f : Nat) {v0 : Option Nat} {v1 : Int32} {σ : Mem} {z : Int32 × Mem}, sX8_takesDue_2 f v0 v1 σ = some z → V E mX8_takesDue G 2 [some (vr v0), some (vi v1), none, none, none] [] σ (some (vi z.1), z.2)
  | 0, _, _, _, _, h => by cases h
  | f + 1, _, _, _, _, h => lX8_takesDue_2b (fun _ _ _ _ h => lX8_takesDue_2 f h) h
theorem lX8_takesDue {E : EE} {G : GG} {v0 : Option Nat} {σ : Mem} {z : Int32 × Mem} (h : sX8_takesDue v0 σ = some z) : V E mX8_takesDue G 0 [some (vr v0), none, none, none, none] [] σ (some (vi z.1), z.2) := by
  unfold sX8_takesDue at h
  refine v_iconst dX8_takesDue_0 ?_
  refine v_istore_n (L' := [some (vr v0), some (vi (iI 0)), none, none, none]) dX8_takesDue_1 (Nat.le_of_ble_eq_true rfl) (Nat.le_of_ble_eq_true rfl) rfl ?_
  exact v_weak (wss (wss (wsn (wsn (wsn wse))))) (lX8_takesDue_2 FU h)
theorem tX8_takesDue {E : EE} {l : Launch} {v0 : Option Nat} {σ : Mem} {z : Int32 × Mem} (h : sX8_takesDue v0 σ = some z) : Mt E l mX8_takesDue [vr v0] σ (some (vi z.1), z.2) :=
  Mt.ofVL (by decide) (Nat.le_of_ble_eq_true rfl) (fun G hG => lX8_takesDue h)
abbrev mX8_isNode : MM := (yX8_isNode, cX8_isNode, 1, (Option.some Jvm.ClassFile.FieldType.boolean), 1, 22)
theorem dsX8_isNode : DsOk yX8_isNode 1 := ⟨by decide, by decide, by decide +kernel⟩
theorem lX8_isNode {E : EE} {G : GG} {v0 : Int32} {σ : Mem} {z : Int32 × Mem} (h : sX8_isNode v0 σ = some z) : V E mX8_isNode G 0 [some (vi v0)] [] σ (some (vi z.1), z.2) := by
  unfold sX8_isNode at h
  refine v_il0 dX8_isNode_0 ?_
  refine v_iconst dX8_isNode_1 ?_
  refine v_bipush dX8_isNode_2 rfl ?_
  obtain ⟨x1, s2, h1, h⟩ := cl_some h
  refine v_callS1 (As := [vi v0, vi (iI 0), vi (iI 6)]) (tX8_in h1) (lw_S q1549 q1550 q167 q1551) dsX8_in ⟨Nat.le_of_ble_eq_true rfl, Nat.le_of_ble_eq_true rfl⟩ (Nat.le_of_ble_eq_true rfl) dX8_isNode_4 rfl ?_
  exact v_retZ h dX8_isNode_7 rfl
theorem tX8_isNode {E : EE} {l : Launch} {v0 : Int32} {σ : Mem} {z : Int32 × Mem} (h : sX8_isNode v0 σ = some z) : Mt E l mX8_isNode [vi v0] σ (some (vi z.1), z.2) :=
  Mt.ofVL (by decide) (Nat.le_of_ble_eq_true rfl) (fun G hG => lX8_isNode h)
abbrev mX8_isUp : MM := (yX8_isUp, cX8_isUp, 2, (Option.some Jvm.ClassFile.FieldType.boolean), 2, 42)
theorem dsX8_isUp : DsOk yX8_isUp 1 := ⟨by decide, by decide, by decide +kernel⟩
theorem lX8_isUp {E : EE} {G : GG} {v0 : Option Nat} {v1 : Int32} {σ : Mem} {z : Int32 × Mem} (h : sX8_isUp v0 v1 σ = some z) : V E mX8_isUp G 0 [some (vr v0), some (vi v1)] [] σ (some (vi z.1), z.2) := by
  unfold sX8_isUp at h
  refine v_il1 dX8_isUp_0 ?_
  obtain ⟨x1, s2, h1, h⟩ := cl_some h
  refine v_callS1 (As := [vi v1]) (tX8_isNode h1) (lw_S q1662 q1663 q167 q1664) dsX8_isNode ⟨Nat.le_of_ble_eq_true rfl, Nat.le_of_ble_eq_true rfl⟩ (Nat.le_of_ble_eq_true rfl) dX8_isUp_1 rfl ?_
  refine v_if_eq (tgt := 21) dX8_isUp_4 (by decide) (fun c => ?_) (fun c => ?_)
  · rw [if_pos c] at h
    refine v_iconst dX8_isUp_21 ?_
    exact v_retZ h dX8_isUp_22 rfl
  · rw [if_neg c] at h
    refine v_al0 dX8_isUp_7 ?_
    refine v_il1 dX8_isUp_8 ?_
    refine v_iconst dX8_isUp_9 ?_
    obtain ⟨b10, er, ka, h⟩ := cV_some h
    obtain ⟨x3, s4, h1, h⟩ := cl_some h
    refine v_callV1 cok6 (As := [vi v1, vi (iI 0)]) er ka (tX8_the h1) (lw_V q1385 q1387 qs60 q167 q1388) rfl dsX8_the ⟨Nat.le_of_ble_eq_true rfl, Nat.le_of_ble_eq_true rfl⟩ (Nat.le_of_ble_eq_true rfl) dX8_isUp_10 rfl ?_
    refine v_iconst dX8_isUp_13 ?_
    refine v_icmp_ne (tgt := 21) dX8_isUp_14 (by decide) (fun c => ?_) (fun c => ?_)
    · rw [if_neg c] at h
      refine v_iconst dX8_isUp_21 ?_
      exact v_retZ h dX8_isUp_22 rfl
    · rw [if_pos c] at h
      refine v_iconst dX8_isUp_17 ?_
      refine v_goto (tgt := 22) dX8_isUp_18 (by decide) ?_
      exact v_retZ h dX8_isUp_22 rfl
theorem tX8_isUp {E : EE} {l : Launch} {v0 : Option Nat} {v1 : Int32} {σ : Mem} {z : Int32 × Mem} (h : sX8_isUp v0 v1 σ = some z) : Mt E l mX8_isUp [vr v0, vi v1] σ (some (vi z.1), z.2) :=
  Mt.ofVL (by decide) (Nat.le_of_ble_eq_true rfl) (fun G hG => lX8_isUp h)
abbrev mX8_has : MM := (yX8_has, cX8_has, 2, (Option.some Jvm.ClassFile.FieldType.boolean), 0, 0)
theorem dsX8_has : DsOk yX8_has 2 := ⟨by decide, by decide, by decide +kernel⟩
theorem lX8_has {E : EE} {G : GG} {v0 : Int32} {v1 : Int32} {σ : Mem} {z : Int32 × Mem} (h : sX8_has v0 v1 σ = some z) : V E mX8_has G 0 [some (vi v0), some (vi v1)] [] σ (some (vi z.1), z.2) := by
  unfold sX8_has at h
  refine v_il0 dX8_has_0 ?_
  refine v_il1 dX8_has_1 ?_
  refine v_ishr dX8_has_2 ?_
  refine v_iconst dX8_has_3 ?_
  refine v_iand dX8_has_4 ?_
  refine v_iconst dX8_has_5 ?_
  refine v_icmp_ne (tgt := 13) dX8_has_6 (by decide) (fun c => ?_) (fun c => ?_)
  · rw [if_neg c] at h
    refine v_iconst dX8_has_13 ?_
    exact v_retZ h dX8_has_14 rfl
  · rw [if_pos c] at h
    refine v_iconst dX8_has_9 ?_
    refine v_goto (tgt := 14) dX8_has_10 (by decide) ?_
    exact v_retZ h dX8_has_14 rfl
theorem tX8_has {E : EE} {l : Launch} {v0 : Int32} {v1 : Int32} {σ : Mem} {z : Int32 × Mem} (h : sX8_has v0 v1 σ = some z) : Mt E l mX8_has [vi v0, vi v1] σ (some (vi z.1), z.2) :=
  Mt.ofVL (by decide) (Nat.le_of_ble_eq_true rfl) (fun G hG => lX8_has h)
abbrev mX8_areLinked : MM := (yX8_areLinked, cX8_areLinked, 3, (Option.some Jvm.ClassFile.FieldType.boolean), 1, 21)
theorem dsX8_areLinked : DsOk yX8_areLinked 2 := ⟨by decide, by decide, by decide +kernel⟩
theorem lX8_areLinked {E : EE} {G : GG} {v0 : Option Nat} {v1 : Int32} {v2 : Int32} {σ : Mem} {z : Int32 × Mem} (h : sX8_areLinked v0 v1 v2 σ = some z) : V E mX8_areLinked G 0 [some (vr v0), some (vi v1), some (vi v2)] [] σ (some (vi z.1), z.2) := by
  unfold sX8_areLinked at h
  refine v_al0 dX8_areLinked_0 ?_
  refine v_gR cok6 h dX8_areLinked_1 (by decide) q1401 rfl (fun x1 h => ?_)
  refine v_sipush dX8_areLinked_4 rfl ?_
  refine v_il1 dX8_areLinked_7 ?_
  refine v_iadd dX8_areLinked_8 ?_
  refine v_aI h dX8_areLinked_9 (fun x2 h => ?_)
  refine v_il2 dX8_areLinked_10 ?_
  obtain ⟨x3, s4, h1, h⟩ := cl_some h
  refine v_callS1 (As := [vi x2, vi v2]) (tX8_has h1) (lw_S q1669 q1670 q167 q1671) dsX8_has ⟨Nat.le_of_ble_eq_true rfl, Nat.le_of_ble_eq_true rfl⟩ (Nat.le_of_ble_eq_true rfl) dX8_areLinked_11 rfl ?_
  refine v_if_ne (tgt := 21) dX8_areLinked_14 (by decide) (fun c => ?_) (fun c => ?_)
  · rw [if_neg c] at h
    refine v_iconst dX8_areLinked_21 ?_
    exact v_retZ h dX8_areLinked_22 rfl
  · rw [if_pos c] at h
    refine v_iconst dX8_areLinked_17 ?_
    refine v_goto (tgt := 22) dX8_areLinked_18 (by decide) ?_
    exact v_retZ h dX8_areLinked_22 rfl
theorem tX8_areLinked {E : EE} {l : Launch} {v0 : Option Nat} {v1 : Int32} {v2 : Int32} {σ : Mem} {z : Int32 × Mem} (h : sX8_areLinked v0 v1 v2 σ = some z) : Mt E l mX8_areLinked [vr v0, vi v1, vi v2] σ (some (vi z.1), z.2) :=
  Mt.ofVL (by decide) (Nat.le_of_ble_eq_true rfl) (fun G hG => lX8_areLinked h)
abbrev mX8_min : MM := (yX8_min, cX8_min, 2, (Option.some Jvm.ClassFile.FieldType.int), 0, 0)
theorem dsX8_min : DsOk yX8_min 2 := ⟨by decide, by decide, by decide +kernel⟩
theorem lX8_min {E : EE} {G : GG} {v0 : Int32} {v1 : Int32} {σ : Mem} {z : Int32 × Mem} (h : sX8_min v0 v1 σ = some z) : V E mX8_min G 0 [some (vi v0), some (vi v1)] [] σ (some (vi z.1), z.2) := by
  unfold sX8_min at h
  refine v_il0 dX8_min_0 ?_
  refine v_il1 dX8_min_1 ?_
  refine v_icmp_ge (tgt := 9) dX8_min_2 (by decide) (fun c => ?_) (fun c => ?_)
  · rw [if_pos c] at h
    refine v_il1 dX8_min_9 ?_
    exact v_retI h dX8_min_10 rfl
  · rw [if_neg c] at h
    refine v_il0 dX8_min_5 ?_
    refine v_goto (tgt := 10) dX8_min_6 (by decide) ?_
    exact v_retI h dX8_min_10 rfl
theorem tX8_min {E : EE} {l : Launch} {v0 : Int32} {v1 : Int32} {σ : Mem} {z : Int32 × Mem} (h : sX8_min v0 v1 σ = some z) : Mt E l mX8_min [vi v0, vi v1] σ (some (vi z.1), z.2) :=
  Mt.ofVL (by decide) (Nat.le_of_ble_eq_true rfl) (fun G hG => lX8_min h)
abbrev mX8_loses : MM := (yX8_loses, cX8_loses, 1, (Option.none : Option Jvm.ClassFile.FieldType), 1, 21)
theorem dsX8_loses : DsOk yX8_loses 0 := ⟨by decide, by decide, by decide +kernel⟩
theorem lX8_loses {E : EE} {G : GG} {v0 : Option Nat} {σ : Mem} {z : Unit × Mem} (h : sX8_loses v0 σ = some z) : V E mX8_loses G 0 [some (vr v0)] [] σ (none, z.2) := by
  unfold sX8_loses at h
  refine v_al0 dX8_loses_0 ?_
  refine v_gR cok6 h dX8_loses_1 (by decide) q1401 rfl (fun x1 h => ?_)
  refine v_sipush dX8_loses_4 rfl ?_
  refine v_ldcwI (n := 99999) dX8_loses_7 q1676 rfl ?_
  refine v_al0 dX8_loses_10 ?_
  refine v_gR cok6 h dX8_loses_11 (by decide) q1401 rfl (fun x2 h => ?_)
  refine v_sipush dX8_loses_14 rfl ?_
  refine v_aI h dX8_loses_17 (fun x3 h => ?_)
  refine v_iconst dX8_loses_18 ?_
  refine v_iadd dX8_loses_19 ?_
  obtain ⟨x4, s5, h1, h⟩ := cl_some h
  refine v_callS1 (As := [vi (iI 99999), vi (x3 + (iI 1))]) (tX8_min h1) (lw_S q1677 q1678 q167 q1679) dsX8_min ⟨Nat.le_of_ble_eq_true rfl, Nat.le_of_ble_eq_true rfl⟩ (Nat.le_of_ble_eq_true rfl) dX8_loses_20 rfl ?_
  refine v_sI h dX8_loses_23 (fun s6 h => ?_)
  exact v_retV h dX8_loses_24 rfl
theorem tX8_loses {E : EE} {l : Launch} {v0 : Option Nat} {σ : Mem} {z : Unit × Mem} (h : sX8_loses v0 σ = some z) : Mt E l mX8_loses [vr v0] σ (none, z.2) :=
  Mt.ofVL (by decide) (Nat.le_of_ble_eq_true rfl) (fun G hG => lX8_loses h)
abbrev mX8_losesReads : MM := (yX8_losesReads, cX8_losesReads, 3, (Option.none : Option Jvm.ClassFile.FieldType), 0, 0)
theorem dsX8_losesReads : DsOk yX8_losesReads 1 := ⟨by decide, by decide, by decide +kernel⟩
theorem lX8_losesReads_65 {E : EE} {G : GG} {k2 : Option Nat → Int32 → Int32 → Mem → Option (Unit × Mem)} (hk2 : ∀ (v0 : Option Nat) (v1 : Int32) (v2 : Int32) (s : Mem) (z : Unit × Mem), k2 v0 v1 v2 s = some z → V E mX8_losesReads G 2 [some (vr v0), some (vi v1), some (vi v2)] [] s (none, z.2)) {v0 : Option Nat} {v1 : Int32} {v2 : Int32} {σ : Mem} {z : Unit × Mem} (h : sX8_losesReads_65 k2 v0 v1 v2 σ = some z) : V E mX8_losesReads G 65 [some (vr v0), some (vi v1), some (vi v2)] [] σ (none, z.2) := by
  unfold sX8_losesReads_65 at h
  refine v_iinc (L' := [some (vr v0), some (vi v1), some (vi (v2 + iI 1))]) dX8_losesReads_65 (Nat.le_of_ble_eq_true rfl) rfl rfl ?_
  refine v_goto (tgt := 2) dX8_losesReads_68 (by decide) ?_
  exact v_weak (wss (wss (wss wse))) (hk2 _ _ _ _ _ h)
theorem lX8_losesReads_2b {E : EE} {G : GG} {k2 : Option Nat → Int32 → Int32 → Mem → Option (Unit × Mem)} (hk2 : ∀ (v0 : Option Nat) (v1 : Int32) (v2 : Int32) (s : Mem) (z : Unit × Mem), k2 v0 v1 v2 s = some z → V E mX8_losesReads G 2 [some (vr v0), some (vi v1), some (vi v2)] [] s (none, z.2)) {v0 : Option Nat} {v1 : Int32} {v2 : Int32} {σ : Mem} {z : Unit × Mem} (h : sX8_losesReads_2b k2 v0 v1 v2 σ = some z) : V E mX8_losesReads G 2 [some (vr v0), some (vi v1), some (vi v2)] [] σ (none, z.2) := by
  unfold sX8_losesReads_2b at h
  refine v_il2 dX8_losesReads_2 ?_
  refine v_al0 dX8_losesReads_3 ?_
  refine v_gR cok6 h dX8_losesReads_4 (by decide) q1401 rfl (fun x1 h => ?_)
  refine v_sipush dX8_losesReads_7 rfl ?_
  refine v_aI h dX8_losesReads_10 (fun x2 h => ?_)
  refine v_icmp_ge (tgt := 71) dX8_losesReads_11 (by decide) (fun c => ?_) (fun c => ?_)
  · rw [if_pos c] at h
    exact v_retV h dX8_losesReads_71 rfl
  · rw [if_neg c] at h
    refine v_al0 dX8_losesReads_14 ?_
    refine v_gR cok6 h dX8_losesReads_15 (by decide) q1401 rfl (fun x3 h => ?_)
    refine v_sipush dX8_losesReads_18 rfl ?_
    refine v_bipush dX8_losesReads_21 rfl ?_
    refine v_il2 dX8_losesReads_23 ?_
    refine v_imul dX8_losesReads_24 ?_
    refine v_iadd dX8_losesReads_25 ?_
    refine v_aI h dX8_losesReads_26 (fun x4 h => ?_)
    refine v_il1 dX8_losesReads_27 ?_
    refine v_icmp_ne (tgt := 65) dX8_losesReads_28 (by decide) (fun c => ?_) (fun c => ?_)
    · rw [if_neg c] at h
      exact v_weak (wss (wss (wss wse))) (lX8_losesReads_65 hk2 h)
    · rw [if_pos c] at h
      refine v_al0 dX8_losesReads_31 ?_
      refine v_gR cok6 h dX8_losesReads_32 (by decide) q1401 rfl (fun x5 h => ?_)
      refine v_sipush dX8_losesReads_35 rfl ?_
      refine v_bipush dX8_losesReads_38 rfl ?_
      refine v_il2 dX8_losesReads_40 ?_
      refine v_imul dX8_losesReads_41 ?_
      refine v_iadd dX8_losesReads_42 ?_
      refine v_iconst dX8_losesReads_43 ?_
      refine v_iadd dX8_losesReads_44 ?_
      refine v_aI h dX8_losesReads_45 (fun x6 h => ?_)
      refine v_if_ne (tgt := 65) dX8_losesReads_46 (by decide) (fun c => ?_) (fun c => ?_)
      · rw [if_neg c] at h
        exact v_weak (wss (wss (wss wse))) (lX8_losesReads_65 hk2 h)
      · rw [if_pos c] at h
        refine v_al0 dX8_losesReads_49 ?_
        refine v_gR cok6 h dX8_losesReads_50 (by decide) q1401 rfl (fun x7 h => ?_)
        refine v_sipush dX8_losesReads_53 rfl ?_
        refine v_bipush dX8_losesReads_56 rfl ?_
        refine v_il2 dX8_losesReads_58 ?_
        refine v_imul dX8_losesReads_59 ?_
        refine v_iadd dX8_losesReads_60 ?_
        refine v_iconst dX8_losesReads_61 ?_
        refine v_iadd dX8_losesReads_62 ?_
        refine v_iconst dX8_losesReads_63 ?_
        refine v_sI h dX8_losesReads_64 (fun s8 h => ?_)
        exact v_weak (wss (wss (wss wse))) (lX8_losesReads_65 hk2 h)
theorem lX8_losesReads_2 {E : EE} {G : GG} : ∀ (f : Nat) {v0 : Option Nat} {v1 : Int32} {v2 : Int32} {σ : Mem} {z : Unit × Mem}, sX8_losesReads_2 f v0 v1 v2 σ = some z → V E mX8_losesReads G 2 [some (vr v0), some (vi v1), some (vi v2)] [] σ (none, z.2)
  | 0, _, _, _, _, _, h => by cases h
  | f + 1, _, _, _, _, _, h => lX8_losesReads_2b (fun _ _ _ _ _ h => lX8_losesReads_2 f h) h
theorem lX8_losesReads {E : EE} {G : GG} {v0 : Option Nat} {v1 : Int32} {σ : Mem} {z : Unit × Mem} (h : sX8_losesReads v0 v1 σ = some z) : V E mX8_losesReads G 0 [some (vr v0), some (vi v1), none] [] σ (none, z.2) := by
  unfold sX8_losesReads at h
  refine v_iconst dX8_losesReads_0 ?_
  refine v_istore_n (L' := [some (vr v0), some (vi v1), some (vi (iI 0))]) dX8_losesReads_1 (Nat.le_of_ble_eq_true rfl) (Nat.le_of_ble_eq_true rfl) rfl ?_
  exact v_weak (wss (wss (wss wse))) (lX8_losesReads_2 FU h)
theorem tX8_losesReads {E : EE} {l : Launch} {v0 : Option Nat} {v1 : Int32} {σ : Mem} {z : Unit × Mem} (h : sX8_losesReads v0 v1 σ = some z) : Mt E l mX8_losesReads [vr v0, vi v1] σ (none, z.2) :=
  Mt.ofVL (by decide) (Nat.le_of_ble_eq_true rfl) (fun G hG => lX8_losesReads h)
abbrev mX8_follows : MM := (yX8_follows, cX8_follows, 3, (Option.none : Option Jvm.ClassFile.FieldType), 1, 23)
theorem dsX8_follows : DsOk yX8_follows 2 := ⟨by decide, by decide, by decide +kernel⟩
theorem lX8_follows_15 {E : EE} {G : GG} {v0 : Option Nat} {v1 : Int32} {v2 : Int32} {σ : Mem} {z : Unit × Mem} (h : sX8_follows_15 v0 v1 v2 σ = some z) : V E mX8_follows G 15 [some (vr v0), some (vi v1), some (vi v2)] [] σ (none, z.2) := by
  unfold sX8_follows_15 at h
  refine v_al0 dX8_follows_15 ?_
  refine v_il1 dX8_follows_16 ?_
  refine v_iconst dX8_follows_17 ?_
  refine v_iconst dX8_follows_18 ?_
  obtain ⟨b19, er, ka, h⟩ := cV_some h
  obtain ⟨_, s1, h1, h⟩ := cl_some h
  refine v_callV0 cok6 (As := [vi v1, vi (iI 3), vi (iI 0)]) er ka (tX8_sets h1) (lw_V q1372 q1374 qs57 q167 q1375) rfl dsX8_sets ⟨Nat.le_of_ble_eq_true rfl, Nat.le_of_ble_eq_true rfl⟩ (Nat.le_of_ble_eq_true rfl) dX8_follows_19 rfl ?_
  refine v_al0 dX8_follows_22 ?_
  refine v_il1 dX8_follows_23 ?_
  refine v_bipush dX8_follows_24 rfl ?_
  refine v_il2 dX8_follows_26 ?_
  obtain ⟨b27, er, ka, h⟩ := cV_some h
  obtain ⟨_, s2, h1, h⟩ := cl_some h
  refine v_callV0 cok6 (As := [vi v1, vi (iI 11), vi v2]) er ka (tX8_sets h1) (lw_V q1372 q1374 qs57 q167 q1375) rfl dsX8_sets ⟨Nat.le_of_ble_eq_true rfl, Nat.le_of_ble_eq_true rfl⟩ (Nat.le_of_ble_eq_true rfl) dX8_follows_27 rfl ?_
  exact v_retV h dX8_follows_30 rfl
theorem lX8_follows {E : EE} {G : GG} {v0 : Option Nat} {v1 : Int32} {v2 : Int32} {σ : Mem} {z : Unit × Mem} (h : sX8_follows v0 v1 v2 σ = some z) : V E mX8_follows G 0 [some (vr v0), some (vi v1), some (vi v2)] [] σ (none, z.2) := by
  unfold sX8_follows at h
  refine v_al0 dX8_follows_0 ?_
  refine v_il1 dX8_follows_1 ?_
  refine v_iconst dX8_follows_2 ?_
  obtain ⟨b3, er, ka, h⟩ := cV_some h
  obtain ⟨x1, s2, h1, h⟩ := cl_some h
  refine v_callV1 cok6 (As := [vi v1, vi (iI 3)]) er ka (tX8_the h1) (lw_V q1385 q1387 qs60 q167 q1388) rfl dsX8_the ⟨Nat.le_of_ble_eq_true rfl, Nat.le_of_ble_eq_true rfl⟩ (Nat.le_of_ble_eq_true rfl) dX8_follows_3 rfl ?_
  refine v_iconst dX8_follows_6 ?_
  refine v_icmp_ne (tgt := 15) dX8_follows_7 (by decide) (fun c => ?_) (fun c => ?_)
  · rw [if_neg c] at h
    exact v_weak (wss (wss (wss wse))) (lX8_follows_15 h)
  · rw [if_pos c] at h
    refine v_al0 dX8_follows_10 ?_
    refine v_il1 dX8_follows_11 ?_
    obtain ⟨b12, er, ka, h⟩ := cV_some h
    obtain ⟨_, s3, h1, h⟩ := cl_some h
    refine v_callV0 cok6 (As := [vi v1]) er ka (tX8_losesReads h1) (lw_V q1684 q1686 qs92 q167 q1687) rfl dsX8_losesReads ⟨Nat.le_of_ble_eq_true rfl, Nat.le_of_ble_eq_true rfl⟩ (Nat.le_of_ble_eq_true rfl) dX8_follows_12 rfl ?_
    exact v_weak (wss (wss (wss wse))) (lX8_follows_15 h)
theorem tX8_follows {E : EE} {l : Launch} {v0 : Option Nat} {v1 : Int32} {v2 : Int32} {σ : Mem} {z : Unit × Mem} (h : sX8_follows v0 v1 v2 σ = some z) : Mt E l mX8_follows [vr v0, vi v1, vi v2] σ (none, z.2) :=
  Mt.ofVL (by decide) (Nat.le_of_ble_eq_true rfl) (fun G hG => lX8_follows h)
abbrev mX8_lastOf : MM := (yX8_lastOf, cX8_lastOf, 2, (Option.some Jvm.ClassFile.FieldType.int), 1, 22)
theorem dsX8_lastOf : DsOk yX8_lastOf 1 := ⟨by decide, by decide, by decide +kernel⟩
theorem lX8_lastOf {E : EE} {G : GG} {v0 : Option Nat} {v1 : Int32} {σ : Mem} {z : Int32 × Mem} (h : sX8_lastOf v0 v1 σ = some z) : V E mX8_lastOf G 0 [some (vr v0), some (vi v1)] [] σ (some (vi z.1), z.2) := by
  unfold sX8_lastOf at h
  refine v_al0 dX8_lastOf_0 ?_
  refine v_il1 dX8_lastOf_1 ?_
  refine v_iconst dX8_lastOf_2 ?_
  obtain ⟨b3, er, ka, h⟩ := cV_some h
  obtain ⟨x1, s2, h1, h⟩ := cl_some h
  refine v_callV1 cok6 (As := [vi v1, vi (iI 4)]) er ka (tX8_the h1) (lw_V q1385 q1387 qs60 q167 q1388) rfl dsX8_the ⟨Nat.le_of_ble_eq_true rfl, Nat.le_of_ble_eq_true rfl⟩ (Nat.le_of_ble_eq_true rfl) dX8_lastOf_3 rfl ?_
  refine v_al0 dX8_lastOf_6 ?_
  refine v_il1 dX8_lastOf_7 ?_
  refine v_bipush dX8_lastOf_8 rfl ?_
  obtain ⟨b10, er, ka, h⟩ := cV_some h
  obtain ⟨x3, s4, h1, h⟩ := cl_some h
  refine v_callV1 cok6 (As := [vi v1, vi (iI 8)]) er ka (tX8_the h1) (lw_V q1385 q1387 qs60 q167 q1388) rfl dsX8_the ⟨Nat.le_of_ble_eq_true rfl, Nat.le_of_ble_eq_true rfl⟩ (Nat.le_of_ble_eq_true rfl) dX8_lastOf_10 rfl ?_
  refine v_iadd dX8_lastOf_13 ?_
  exact v_retI h dX8_lastOf_14 rfl
theorem tX8_lastOf {E : EE} {l : Launch} {v0 : Option Nat} {v1 : Int32} {σ : Mem} {z : Int32 × Mem} (h : sX8_lastOf v0 v1 σ = some z) : Mt E l mX8_lastOf [vr v0, vi v1] σ (some (vi z.1), z.2) :=
  Mt.ofVL (by decide) (Nat.le_of_ble_eq_true rfl) (fun G hG => lX8_lastOf h)
abbrev mX8_logPlace : MM := (yX8_logPlace, cX8_logPlace, 3, (Option.some Jvm.ClassFile.FieldType.int), 1, 22)
theorem dsX8_logPlace : DsOk yX8_logPlace 2 := ⟨by decide, by decide, by decide +kernel⟩
theorem lX8_logPlace {E : EE} {G : GG} {v0 : Option Nat} {v1 : Int32} {v2 : Int32} {σ : Mem} {z : Int32 × Mem} (h : sX8_logPlace v0 v1 v2 σ = some z) : V E mX8_logPlace G 0 [some (vr v0), some (vi v1), some (vi v2)] [] σ (some (vi z.1), z.2) := by
  unfold sX8_logPlace at h
  refine v_sipush dX8_logPlace_0 rfl ?_
  refine v_il1 dX8_logPlace_3 ?_
  refine v_imul dX8_logPlace_4 ?_
  refine v_bipush dX8_logPlace_5 rfl ?_
  refine v_iadd dX8_logPlace_7 ?_
  refine v_iconst dX8_logPlace_8 ?_
  refine v_il2 dX8_logPlace_9 ?_
  refine v_al0 dX8_logPlace_10 ?_
  refine v_il1 dX8_logPlace_11 ?_
  refine v_iconst dX8_logPlace_12 ?_
  obtain ⟨b13, er, ka, h⟩ := cV_some h
  obtain ⟨x1, s2, h1, h⟩ := cl_some h
  refine v_callV1 cok6 (As := [vi v1, vi (iI 4)]) er ka (tX8_the h1) (lw_V q1385 q1387 qs60 q167 q1388) rfl dsX8_the ⟨Nat.le_of_ble_eq_true rfl, Nat.le_of_ble_eq_true rfl⟩ (Nat.le_of_ble_eq_true rfl) dX8_logPlace_13 rfl ?_
  refine v_isub dX8_logPlace_16 ?_
  refine v_iconst dX8_logPlace_17 ?_
  refine v_isub dX8_logPlace_18 ?_
  refine v_imul dX8_logPlace_19 ?_
  refine v_iadd dX8_logPlace_20 ?_
  exact v_retI h dX8_logPlace_21 rfl
theorem tX8_logPlace {E : EE} {l : Launch} {v0 : Option Nat} {v1 : Int32} {v2 : Int32} {σ : Mem} {z : Int32 × Mem} (h : sX8_logPlace v0 v1 v2 σ = some z) : Mt E l mX8_logPlace [vr v0, vi v1, vi v2] σ (some (vi z.1), z.2) :=
  Mt.ofVL (by decide) (Nat.le_of_ble_eq_true rfl) (fun G hG => lX8_logPlace h)
abbrev mX8_termAt : MM := (yX8_termAt, cX8_termAt, 3, (Option.some Jvm.ClassFile.FieldType.int), 2, 44)
theorem dsX8_termAt : DsOk yX8_termAt 2 := ⟨by decide, by decide, by decide +kernel⟩
theorem lX8_termAt {E : EE} {G : GG} {v0 : Option Nat} {v1 : Int32} {v2 : Int32} {σ : Mem} {z : Int32 × Mem} (h : sX8_termAt v0 v1 v2 σ = some z) : V E mX8_termAt G 0 [some (vr v0), some (vi v1), some (vi v2)] [] σ (some (vi z.1), z.2) := by
  unfold sX8_termAt at h
  refine v_il2 dX8_termAt_0 ?_
  refine v_al0 dX8_termAt_1 ?_
  refine v_il1 dX8_termAt_2 ?_
  refine v_iconst dX8_termAt_3 ?_
  obtain ⟨b4, er, ka, h⟩ := cV_some h
  obtain ⟨x1, s2, h1, h⟩ := cl_some h
  refine v_callV1 cok6 (As := [vi v1, vi (iI 4)]) er ka (tX8_the h1) (lw_V q1385 q1387 qs60 q167 q1388) rfl dsX8_the ⟨Nat.le_of_ble_eq_true rfl, Nat.le_of_ble_eq_true rfl⟩ (Nat.le_of_ble_eq_true rfl) dX8_termAt_4 rfl ?_
  refine v_icmp_ne (tgt := 19) dX8_termAt_7 (by decide) (fun c => ?_) (fun c => ?_)
  · rw [if_neg c] at h
    refine v_al0 dX8_termAt_19 ?_
    refine v_gR cok6 h dX8_termAt_20 (by decide) q1401 rfl (fun x3 h => ?_)
    refine v_al0 dX8_termAt_23 ?_
    refine v_il1 dX8_termAt_24 ?_
    refine v_il2 dX8_termAt_25 ?_
    obtain ⟨b26, er, ka, h⟩ := cV_some h
    obtain ⟨x4, s5, h1, h⟩ := cl_some h
    refine v_callV1 cok6 (As := [vi v1, vi v2]) er ka (tX8_logPlace h1) (lw_V q1704 q1706 qs97 q167 q1707) rfl dsX8_logPlace ⟨Nat.le_of_ble_eq_true rfl, Nat.le_of_ble_eq_true rfl⟩ (Nat.le_of_ble_eq_true rfl) dX8_termAt_26 rfl ?_
    refine v_aI h dX8_termAt_29 (fun x6 h => ?_)
    exact v_retI h dX8_termAt_30 rfl
  · rw [if_pos c] at h
    refine v_al0 dX8_termAt_10 ?_
    refine v_il1 dX8_termAt_11 ?_
    refine v_iconst dX8_termAt_12 ?_
    obtain ⟨b13, er, ka, h⟩ := cV_some h
    obtain ⟨x7, s8, h1, h⟩ := cl_some h
    refine v_callV1 cok6 (As := [vi v1, vi (iI 5)]) er ka (tX8_the h1) (lw_V q1385 q1387 qs60 q167 q1388) rfl dsX8_the ⟨Nat.le_of_ble_eq_true rfl, Nat.le_of_ble_eq_true rfl⟩ (Nat.le_of_ble_eq_true rfl) dX8_termAt_13 rfl ?_
    refine v_goto (tgt := 30) dX8_termAt_16 (by decide) ?_
    exact v_retI h dX8_termAt_30 rfl
theorem tX8_termAt {E : EE} {l : Launch} {v0 : Option Nat} {v1 : Int32} {v2 : Int32} {σ : Mem} {z : Int32 × Mem} (h : sX8_termAt v0 v1 v2 σ = some z) : Mt E l mX8_termAt [vr v0, vi v1, vi v2] σ (some (vi z.1), z.2) :=
  Mt.ofVL (by decide) (Nat.le_of_ble_eq_true rfl) (fun G hG => lX8_termAt h)
abbrev mX8_isNoLess : MM := (yX8_isNoLess, cX8_isNoLess, 5, (Option.some Jvm.ClassFile.FieldType.boolean), 3, 66)
theorem dsX8_isNoLess : DsOk yX8_isNoLess 3 := ⟨by decide, by decide, by decide +kernel⟩
theorem lX8_isNoLess {E : EE} {G : GG} {v0 : Option Nat} {v1 : Int32} {v2 : Int32} {v3 : Int32} {σ : Mem} {z : Int32 × Mem} (h : sX8_isNoLess v0 v1 v2 v3 σ = some z) : V E mX8_isNoLess G 0 [some (vr v0), some (vi v1), some (vi v2), some (vi v3), none] [] σ (some (vi z.1), z.2) := by
  unfold sX8_isNoLess at h
  refine v_al0 dX8_isNoLess_0 ?_
  refine v_il1 dX8_isNoLess_1 ?_
  refine v_al0 dX8_isNoLess_2 ?_
  refine v_il1 dX8_isNoLess_3 ?_
  obtain ⟨b4, er, ka, h⟩ := cV_some h
  obtain ⟨x1, s2, h1, h⟩ := cl_some h
  refine v_callV1 cok6 (As := [vi v1]) er ka (tX8_lastOf h1) (lw_V q1696 q1698 qs95 q167 q1699) rfl dsX8_lastOf ⟨Nat.le_of_ble_eq_true rfl, Nat.le_of_ble_eq_true rfl⟩ (Nat.le_of_ble_eq_true rfl) dX8_isNoLess_4 rfl ?_
  obtain ⟨b7, er, ka, h⟩ := cV_some h
  obtain ⟨x3, s4, h1, h⟩ := cl_some h
  refine v_callV1 cok6 (As := [vi v1, vi x1]) er ka (tX8_termAt h1) (lw_V q1700 q1702 qs96 q167 q1703) rfl dsX8_termAt ⟨Nat.le_of_ble_eq_true rfl, Nat.le_of_ble_eq_true rfl⟩ (Nat.le_of_ble_eq_true rfl) dX8_isNoLess_7 rfl ?_
  refine v_istore (L' := [some (vr v0), some (vi v1), some (vi v2), some (vi v3), some (vi x3)]) dX8_isNoLess_10 (Nat.le_of_ble_eq_true rfl) (Nat.le_of_ble_eq_true rfl) rfl ?_
  refine v_il3 dX8_isNoLess_12 ?_
  refine v_iload dX8_isNoLess_13 rfl ?_
  refine v_icmp_gt (tgt := 33) dX8_isNoLess_15 (by decide) (fun c => ?_) (fun c => ?_)
  · rw [if_pos c] at h
    refine v_iconst dX8_isNoLess_33 ?_
    refine v_goto (tgt := 38) dX8_isNoLess_34 (by decide) ?_
    exact v_retZ h dX8_isNoLess_38 rfl
  · rw [if_neg c] at h
    refine v_il3 dX8_isNoLess_18 ?_
    refine v_iload dX8_isNoLess_19 rfl ?_
    refine v_icmp_ne (tgt := 37) dX8_isNoLess_21 (by decide) (fun c => ?_) (fun c => ?_)
    · rw [if_neg c] at h
      refine v_iconst dX8_isNoLess_37 ?_
      exact v_retZ h dX8_isNoLess_38 rfl
    · rw [if_pos c] at h
      refine v_il2 dX8_isNoLess_24 ?_
      refine v_al0 dX8_isNoLess_25 ?_
      refine v_il1 dX8_isNoLess_26 ?_
      obtain ⟨b27, er, ka, h⟩ := cV_some h
      obtain ⟨x5, s6, h1, h⟩ := cl_some h
      refine v_callV1 cok6 (As := [vi v1]) er ka (tX8_lastOf h1) (lw_V q1696 q1698 qs95 q167 q1699) rfl dsX8_lastOf ⟨Nat.le_of_ble_eq_true rfl, Nat.le_of_ble_eq_true rfl⟩ (Nat.le_of_ble_eq_true rfl) dX8_isNoLess_27 rfl ?_
      refine v_icmp_lt (tgt := 37) dX8_isNoLess_30 (by decide) (fun c => ?_) (fun c => ?_)
      · rw [if_pos c] at h
        refine v_iconst dX8_isNoLess_37 ?_
        exact v_retZ h dX8_isNoLess_38 rfl
      · rw [if_neg c] at h
        refine v_iconst dX8_isNoLess_33 ?_
        refine v_goto (tgt := 38) dX8_isNoLess_34 (by decide) ?_
        exact v_retZ h dX8_isNoLess_38 rfl
theorem tX8_isNoLess {E : EE} {l : Launch} {v0 : Option Nat} {v1 : Int32} {v2 : Int32} {v3 : Int32} {σ : Mem} {z : Int32 × Mem} (h : sX8_isNoLess v0 v1 v2 v3 σ = some z) : Mt E l mX8_isNoLess [vr v0, vi v1, vi v2, vi v3] σ (some (vi z.1), z.2) :=
  Mt.ofVL (by decide) (Nat.le_of_ble_eq_true rfl) (fun G hG => lX8_isNoLess h)
abbrev mX8_beginsMail : MM := (yX8_beginsMail, cX8_beginsMail, 5, (Option.none : Option Jvm.ClassFile.FieldType), 1, 22)
theorem dsX8_beginsMail : DsOk yX8_beginsMail 3 := ⟨by decide, by decide, by decide +kernel⟩
theorem lX8_beginsMail_3b {E : EE} {G : GG} {k3 : Option Nat → Int32 → Int32 → Int32 → Int32 → Mem → Option (Unit × Mem)} (hk3 : ∀ (v0 : Option Nat) (v1 : Int32) (v2 : Int32) (v3 : Int32) (v4 : Int32) (s : Mem) (z : Unit × Mem), k3 v0 v1 v2 v3 v4 s = some z → V E mX8_beginsMail G 3 [some (vr v0), some (vi v1), some (vi v2), some (vi v3), some (vi v4)] [] s (none, z.2)) {v0 : Option Nat} {v1 : Int32} {v2 : Int32} {v3 : Int32} {v4 : Int32} {σ : Mem} {z : Unit × Mem} (h : sX8_beginsMail_3b k3 v0 v1 v2 v3 v4 σ = some z) : V E mX8_beginsMail G 3 [some (vr v0), some (vi v1), some (vi v2), some (vi v3), some (vi v4)] [] σ (none, z.2) := by
  unfold sX8_beginsMail_3b at h
  refine v_iload dX8_beginsMail_3 rfl ?_
  refine v_bipush dX8_beginsMail_5 rfl ?_
  refine v_icmp_ge (tgt := 24) dX8_beginsMail_7 (by decide) (fun c => ?_) (fun c => ?_)
  · rw [if_pos c] at h
    refine v_al0 dX8_beginsMail_24 ?_
    refine v_gR cok6 h dX8_beginsMail_25 (by decide) q1404 rfl (fun x1 h => ?_)
    refine v_iconst dX8_beginsMail_28 ?_
    refine v_il1 dX8_beginsMail_29 ?_
    refine v_sI h dX8_beginsMail_30 (fun s2 h => ?_)
    refine v_al0 dX8_beginsMail_31 ?_
    refine v_gR cok6 h dX8_beginsMail_32 (by decide) q1404 rfl (fun x3 h => ?_)
    refine v_iconst dX8_beginsMail_35 ?_
    refine v_il2 dX8_beginsMail_36 ?_
    refine v_sI h dX8_beginsMail_37 (fun s4 h => ?_)
    refine v_al0 dX8_beginsMail_38 ?_
    refine v_gR cok6 h dX8_beginsMail_39 (by decide) q1404 rfl (fun x5 h => ?_)
    refine v_iconst dX8_beginsMail_42 ?_
    refine v_il3 dX8_beginsMail_43 ?_
    refine v_sI h dX8_beginsMail_44 (fun s6 h => ?_)
    refine v_al0 dX8_beginsMail_45 ?_
    refine v_gR cok6 h dX8_beginsMail_46 (by decide) q1404 rfl (fun x7 h => ?_)
    refine v_iconst dX8_beginsMail_49 ?_
    refine v_al0 dX8_beginsMail_50 ?_
    refine v_il1 dX8_beginsMail_51 ?_
    refine v_iconst dX8_beginsMail_52 ?_
    obtain ⟨b53, er, ka, h⟩ := cV_some h
    obtain ⟨x8, s9, h1, h⟩ := cl_some h
    refine v_callV1 cok6 (As := [vi v1, vi (iI 1)]) er ka (tX8_the h1) (lw_V q1385 q1387 qs60 q167 q1388) rfl dsX8_the ⟨Nat.le_of_ble_eq_true rfl, Nat.le_of_ble_eq_true rfl⟩ (Nat.le_of_ble_eq_true rfl) dX8_beginsMail_53 rfl ?_
    refine v_sI h dX8_beginsMail_56 (fun s10 h => ?_)
    exact v_retV h dX8_beginsMail_57 rfl
  · rw [if_neg c] at h
    refine v_al0 dX8_beginsMail_10 ?_
    refine v_gR cok6 h dX8_beginsMail_11 (by decide) q1404 rfl (fun x11 h => ?_)
    refine v_iload dX8_beginsMail_14 rfl ?_
    refine v_iconst dX8_beginsMail_16 ?_
    refine v_sI h dX8_beginsMail_17 (fun s12 h => ?_)
    refine v_iinc (L' := [some (vr v0), some (vi v1), some (vi v2), some (vi v3), some (vi (v4 + iI 1))]) dX8_beginsMail_18 (Nat.le_of_ble_eq_true rfl) rfl rfl ?_
    refine v_goto (tgt := 3) dX8_beginsMail_21 (by decide) ?_
    exact v_weak (wss (wss (wss (wss (wss wse))))) (hk3 _ _ _ _ _ _ _ h)
theorem lX8_beginsMail_3 {E : EE} {G : GG} : ∀ (f : Nat) {v0 : Option Nat} {v1 : Int32} {v2 : Int32} {v3 : Int32} {v4 : Int32} {σ : Mem} {z : Unit × Mem}, sX8_beginsMail_3 f v0 v1 v2 v3 v4 σ = some z → V E mX8_beginsMail G 3 [some (vr v0), some (vi v1), some (vi v2), some (vi v3), some (vi v4)] [] σ (none, z.2)
  | 0, _, _, _, _, _, _, _, h => by cases h
  | f + 1, _, _, _, _, _, _, _, h => lX8_beginsMail_3b (fun _ _ _ _ _ _ _ h => lX8_beginsMail_3 f h) h
theorem lX8_beginsMail {E : EE} {G : GG} {v0 : Option Nat} {v1 : Int32} {v2 : Int32} {v3 : Int32} {σ : Mem} {z : Unit × Mem} (h : sX8_beginsMail v0 v1 v2 v3 σ = some z) : V E mX8_beginsMail G 0 [some (vr v0), some (vi v1), some (vi v2), some (vi v3), none] [] σ (none, z.2) := by
  unfold sX8_beginsMail at h
  refine v_iconst dX8_beginsMail_0 ?_
  refine v_istore (L' := [some (vr v0), some (vi v1), some (vi v2), some (vi v3), some (vi (iI 0))]) dX8_beginsMail_1 (Nat.le_of_ble_eq_true rfl) (Nat.le_of_ble_eq_true rfl) rfl ?_
  exact v_weak (wss (wss (wss (wss (wss wse))))) (lX8_beginsMail_3 FU h)
theorem tX8_beginsMail {E : EE} {l : Launch} {v0 : Option Nat} {v1 : Int32} {v2 : Int32} {v3 : Int32} {σ : Mem} {z : Unit × Mem} (h : sX8_beginsMail v0 v1 v2 v3 σ = some z) : Mt E l mX8_beginsMail [vr v0, vi v1, vi v2, vi v3] σ (none, z.2) :=
  Mt.ofVL (by decide) (Nat.le_of_ble_eq_true rfl) (fun G hG => lX8_beginsMail h)
abbrev mX8_holdsAny : MM := (yX8_holdsAny, cX8_holdsAny, 3, (Option.some Jvm.ClassFile.FieldType.boolean), 2, 49)
theorem dsX8_holdsAny : DsOk yX8_holdsAny 1 := ⟨by decide, by decide, by decide +kernel⟩
theorem lX8_holdsAny_42 {E : EE} {G : GG} {k2 : Option Nat → Int32 → Int32 → Mem → Option (Int32 × Mem)} (hk2 : ∀ (v0 : Option Nat) (v1 : Int32) (v2 : Int32) (s : Mem) (z : Int32 × Mem), k2 v0 v1 v2 s = some z → V E mX8_holdsAny G 2 [some (vr v0), some (vi v1), some (vi v2)] [] s (some (vi z.1), z.2)) {v0 : Option Nat} {v1 : Int32} {v2 : Int32} {σ : Mem} {z : Int32 × Mem} (h : sX8_holdsAny_42 k2 v0 v1 v2 σ = some z) : V E mX8_holdsAny G 42 [some (vr v0), some (vi v1), some (vi v2)] [] σ (some (vi z.1), z.2) := by
  unfold sX8_holdsAny_42 at h
  refine v_iinc (L' := [some (vr v0), some (vi v1), some (vi (v2 + iI 1))]) dX8_holdsAny_42 (Nat.le_of_ble_eq_true rfl) rfl rfl ?_
  refine v_goto (tgt := 2) dX8_holdsAny_45 (by decide) ?_
  exact v_weak (wss (wss (wss wse))) (hk2 _ _ _ _ _ h)
theorem lX8_holdsAny_2b {E : EE} {G : GG} {k2 : Option Nat → Int32 → Int32 → Mem → Option (Int32 × Mem)} (hk2 : ∀ (v0 : Option Nat) (v1 : Int32) (v2 : Int32) (s : Mem) (z : Int32 × Mem), k2 v0 v1 v2 s = some z → V E mX8_holdsAny G 2 [some (vr v0), some (vi v1), some (vi v2)] [] s (some (vi z.1), z.2)) {v0 : Option Nat} {v1 : Int32} {v2 : Int32} {σ : Mem} {z : Int32 × Mem} (h : sX8_holdsAny_2b k2 v0 v1 v2 σ = some z) : V E mX8_holdsAny G 2 [some (vr v0), some (vi v1), some (vi v2)] [] σ (some (vi z.1), z.2) := by
  unfold sX8_holdsAny_2b at h
  refine v_il2 dX8_holdsAny_2 ?_
  refine v_al0 dX8_holdsAny_3 ?_
  refine v_gI cok6 h dX8_holdsAny_4 (by decide) q1416 rfl (fun x1 h => ?_)
  refine v_icmp_ge (tgt := 48) dX8_holdsAny_7 (by decide) (fun c => ?_) (fun c => ?_)
  · rw [if_pos c] at h
    refine v_iconst dX8_holdsAny_48 ?_
    exact v_retZ h dX8_holdsAny_49 rfl
  · rw [if_neg c] at h
    refine v_al0 dX8_holdsAny_10 ?_
    refine v_gR cok6 h dX8_holdsAny_11 (by decide) q1424 rfl (fun x2 h => ?_)
    refine v_il2 dX8_holdsAny_14 ?_
    refine v_aI h dX8_holdsAny_15 (fun x3 h => ?_)
    refine v_il1 dX8_holdsAny_16 ?_
    refine v_icmp_ne (tgt := 42) dX8_holdsAny_17 (by decide) (fun c => ?_) (fun c => ?_)
    · rw [if_neg c] at h
      exact v_weak (wss (wss (wss wse))) (lX8_holdsAny_42 hk2 h)
    · rw [if_pos c] at h
      refine v_al0 dX8_holdsAny_20 ?_
      refine v_al0 dX8_holdsAny_21 ?_
      refine v_gR cok6 h dX8_holdsAny_22 (by decide) q1426 rfl (fun x4 h => ?_)
      refine v_il2 dX8_holdsAny_25 ?_
      refine v_aI h dX8_holdsAny_26 (fun x5 h => ?_)
      refine v_al0 dX8_holdsAny_27 ?_
      refine v_gR cok6 h dX8_holdsAny_28 (by decide) q1427 rfl (fun x6 h => ?_)
      refine v_il2 dX8_holdsAny_31 ?_
      refine v_aI h dX8_holdsAny_32 (fun x7 h => ?_)
      obtain ⟨b33, er, ka, h⟩ := cV_some h
      obtain ⟨x8, s9, h1, h⟩ := cl_some h
      refine v_callV1 cok6 (As := [vi x5, vi x7]) er ka (tX8_reckonsTo h1) (lw_V q1393 q1395 qs62 q167 q1396) rfl dsX8_reckonsTo ⟨Nat.le_of_ble_eq_true rfl, Nat.le_of_ble_eq_true rfl⟩ (Nat.le_of_ble_eq_true rfl) dX8_holdsAny_33 rfl ?_
      refine v_iconst dX8_holdsAny_36 ?_
      refine v_icmp_ne (tgt := 42) dX8_holdsAny_37 (by decide) (fun c => ?_) (fun c => ?_)
      · rw [if_neg c] at h
        exact v_weak (wss (wss (wss wse))) (lX8_holdsAny_42 hk2 h)
      · rw [if_pos c] at h
        refine v_iconst dX8_holdsAny_40 ?_
        exact v_retZ h dX8_holdsAny_41 rfl
theorem lX8_holdsAny_2 {E : EE} {G : GG} : ∀ (f : Nat) {v0 : Option Nat} {v1 : Int32} {v2 : Int32} {σ : Mem} {z : Int32 × Mem}, sX8_holdsAny_2 f v0 v1 v2 σ = some z → V E mX8_holdsAny G 2 [some (vr v0), some (vi v1), some (vi v2)] [] σ (some (vi z.1), z.2)
  | 0, _, _, _, _, _, h => by cases h
  | f + 1, _, _, _, _, _, h => lX8_holdsAny_2b (fun _ _ _ _ _ h => lX8_holdsAny_2 f h) h
theorem lX8_holdsAny {E : EE} {G : GG} {v0 : Option Nat} {v1 : Int32} {σ : Mem} {z : Int32 × Mem} (h : sX8_holdsAny v0 v1 σ = some z) : V E mX8_holdsAny G 0 [some (vr v0), some (vi v1), none] [] σ (some (vi z.1), z.2) := by
  unfold sX8_holdsAny at h
  refine v_iconst dX8_holdsAny_0 ?_
  refine v_istore_n (L' := [some (vr v0), some (vi v1), some (vi (iI 0))]) dX8_holdsAny_1 (Nat.le_of_ble_eq_true rfl) (Nat.le_of_ble_eq_true rfl) rfl ?_
  exact v_weak (wss (wss (wss wse))) (lX8_holdsAny_2 FU h)
theorem tX8_holdsAny {E : EE} {l : Launch} {v0 : Option Nat} {v1 : Int32} {σ : Mem} {z : Int32 × Mem} (h : sX8_holdsAny v0 v1 σ = some z) : Mt E l mX8_holdsAny [vr v0, vi v1] σ (some (vi z.1), z.2) :=
  Mt.ofVL (by decide) (Nat.le_of_ble_eq_true rfl) (fun G hG => lX8_holdsAny h)
abbrev mX8_posts : MM := (yX8_posts, cX8_posts, 5, (Option.none : Option Jvm.ClassFile.FieldType), 3, 75)
theorem dsX8_posts : DsOk yX8_posts 0 := ⟨by decide, by decide, by decide +kernel⟩
theorem lX8_posts_71 {E : EE} {G : GG} {v0 : Option Nat} {σ : Mem} {z : Unit × Mem} (h : sX8_posts_71 v0 σ = some z) : V E mX8_posts G 71 [some (vr v0), none, none, none, none] [] σ (none, z.2) := by
  unfold sX8_posts_71 at h
  refine v_al0 dX8_posts_71 ?_
  obtain ⟨b72, er, ka, h⟩ := cV_some h
  obtain ⟨_, s1, h1, h⟩ := cl_some h
  refine v_callV0 cok6 (As := []) er ka (tX8_loses h1) (lw_V q1672 q1674 qs90 q167 q1675) rfl dsX8_loses ⟨Nat.le_of_ble_eq_true rfl, Nat.le_of_ble_eq_true rfl⟩ (Nat.le_of_ble_eq_true rfl) dX8_posts_72 rfl ?_
  exact v_retV h dX8_posts_75 rfl
theorem lX8_posts_113b {E : EE} {G : GG} {k113 : Option Nat → Int32 → Int32 → Mem → Option (Unit × Mem)} (hk113 : ∀ (v0 : Option Nat) (v3 : Int32) (v4 : Int32) (s : Mem) (z : Unit × Mem), k113 v0 v3 v4 s = some z → V E mX8_posts G 113 [some (vr v0), none, none, some (vi v3), some (vi v4)] [] s (none, z.2)) {v0 : Option Nat} {v3 : Int32} {v4 : Int32} {σ : Mem} {z : Unit × Mem} (h : sX8_posts_113b k113 v0 v3 v4 σ = some z) : V E mX8_posts G 113 [some (vr v0), none, none, some (vi v3), some (vi v4)] [] σ (none, z.2) := by
  unfold sX8_posts_113b at h
  refine v_iload dX8_posts_113 rfl ?_
  refine v_bipush dX8_posts_115 rfl ?_
  refine v_icmp_ge (tgt := 142) dX8_posts_117 (by decide) (fun c => ?_) (fun c => ?_)
  · rw [if_pos c] at h
    refine v_al0 dX8_posts_142 ?_
    refine v_gR cok6 h dX8_posts_143 (by decide) q1401 rfl (fun x1 h => ?_)
    refine v_sipush dX8_posts_146 rfl ?_
    refine v_al0 dX8_posts_149 ?_
    refine v_gR cok6 h dX8_posts_150 (by decide) q1401 rfl (fun x2 h => ?_)
    refine v_sipush dX8_posts_153 rfl ?_
    refine v_aI h dX8_posts_156 (fun x3 h => ?_)
    refine v_iconst dX8_posts_157 ?_
    refine v_iadd dX8_posts_158 ?_
    refine v_sI h dX8_posts_159 (fun s4 h => ?_)
    exact v_retV h dX8_posts_160 rfl
  · rw [if_neg c] at h
    refine v_al0 dX8_posts_120 ?_
    refine v_gR cok6 h dX8_posts_121 (by decide) q1401 rfl (fun x5 h => ?_)
    refine v_il3 dX8_posts_124 ?_
    refine v_iload dX8_posts_125 rfl ?_
    refine v_iadd dX8_posts_127 ?_
    refine v_al0 dX8_posts_128 ?_
    refine v_gR cok6 h dX8_posts_129 (by decide) q1404 rfl (fun x6 h => ?_)
    refine v_iload dX8_posts_132 rfl ?_
    refine v_aI h dX8_posts_134 (fun x7 h => ?_)
    refine v_sI h dX8_posts_135 (fun s8 h => ?_)
    refine v_iinc (L' := [some (vr v0), none, none, some (vi v3), some (vi (v4 + iI 1))]) dX8_posts_136 (Nat.le_of_ble_eq_true rfl) rfl rfl ?_
    refine v_goto (tgt := 113) dX8_posts_139 (by decide) ?_
    exact v_weak (wss (wsn (wsn (wss (wss wse))))) (hk113 _ _ _ _ _ h)
theorem lX8_posts_113 {E : EE} {G : GG} : ∀ (f : Nat) {v0 : Option Nat} {v3 : Int32} {v4 : Int32} {σ : Mem} {z : Unit × Mem}, sX8_posts_113 f v0 v3 v4 σ = some z → V E mX8_posts G 113 [some (vr v0), none, none, some (vi v3), some (vi v4)] [] σ (none, z.2)
  | 0, _, _, _, _, _, h => by cases h
  | f + 1, _, _, _, _, _, h => lX8_posts_113b (fun _ _ _ _ _ h => lX8_posts_113 f h) h
theorem lX8_posts {E : EE} {G : GG} {v0 : Option Nat} {σ : Mem} {z : Unit × Mem} (h : sX8_posts v0 σ = some z) : V E mX8_posts G 0 [some (vr v0), none, none, none, none] [] σ (none, z.2) := by
  unfold sX8_posts at h
  refine v_al0 dX8_posts_0 ?_
  refine v_al0 dX8_posts_1 ?_
  refine v_gR cok6 h dX8_posts_2 (by decide) q1404 rfl (fun x1 h => ?_)
  refine v_iconst dX8_posts_5 ?_
  refine v_aI h dX8_posts_6 (fun x2 h => ?_)
  refine v_al0 dX8_posts_7 ?_
  refine v_gR cok6 h dX8_posts_8 (by decide) q1404 rfl (fun x3 h => ?_)
  refine v_iconst dX8_posts_11 ?_
  refine v_aI h dX8_posts_12 (fun x4 h => ?_)
  refine v_al0 dX8_posts_13 ?_
  refine v_gR cok6 h dX8_posts_14 (by decide) q1404 rfl (fun x5 h => ?_)
  refine v_iconst dX8_posts_17 ?_
  refine v_aI h dX8_posts_18 (fun x6 h => ?_)
  obtain ⟨b19, er, ka, h⟩ := cV_some h
  obtain ⟨x7, s8, h1, h⟩ := cl_some h
  refine v_callV1 cok6 (As := [vi x2, vi x4, vi x6]) er ka (tX8_feels h1) (lw_V q1380 q1382 qs59 q167 q1383) rfl dsX8_feels ⟨Nat.le_of_ble_eq_true rfl, Nat.le_of_ble_eq_true rfl⟩ (Nat.le_of_ble_eq_true rfl) dX8_posts_19 rfl ?_
  refine v_istore_n (L' := [some (vr v0), some (vi x7), none, none, none]) dX8_posts_22 (Nat.le_of_ble_eq_true rfl) (Nat.le_of_ble_eq_true rfl) rfl ?_
  refine v_al0 dX8_posts_23 ?_
  refine v_bipush dX8_posts_24 rfl ?_
  refine v_iconst dX8_posts_26 ?_
  refine v_bipush dX8_posts_27 rfl ?_
  refine v_iconst dX8_posts_29 ?_
  obtain ⟨b30, er, ka, h⟩ := cV_some h
  obtain ⟨x9, s10, h1, h⟩ := cl_some h
  refine v_callV1 cok6 (As := [vi (iI 100), vi (iI 0), vi (iI 9), vi (iI 0)]) er ka (tX8_byLaw h1) (lw_V q1389 q1391 qs61 q167 q1392) rfl dsX8_byLaw ⟨Nat.le_of_ble_eq_true rfl, Nat.le_of_ble_eq_true rfl⟩ (Nat.le_of_ble_eq_true rfl) dX8_posts_30 rfl ?_
  refine v_istore_n (L' := [some (vr v0), some (vi x7), some (vi x9), none, none]) dX8_posts_33 (Nat.le_of_ble_eq_true rfl) (Nat.le_of_ble_eq_true rfl) rfl ?_
  refine v_al0 dX8_posts_34 ?_
  refine v_bipush dX8_posts_35 rfl ?_
  obtain ⟨b37, er, ka, h⟩ := cV_some h
  obtain ⟨x11, s12, h1, h⟩ := cl_some h
  refine v_callV1 cok6 (As := [vi (iI 120)]) er ka (tX8_holdsAny h1) (lw_V q1720 q1722 qs101 q167 q1723) rfl dsX8_holdsAny ⟨Nat.le_of_ble_eq_true rfl, Nat.le_of_ble_eq_true rfl⟩ (Nat.le_of_ble_eq_true rfl) dX8_posts_37 rfl ?_
  refine v_if_ne (tgt := 71) dX8_posts_40 (by decide) (fun c => ?_) (fun c => ?_)
  · rw [if_neg c] at h
    exact v_weak (wss (wsn (wsn (wsn (wsn wse))))) (lX8_posts_71 h)
  · rw [if_pos c] at h
    refine v_il1 dX8_posts_43 ?_
    refine v_al0 dX8_posts_44 ?_
    refine v_bipush dX8_posts_45 rfl ?_
    refine v_iconst dX8_posts_47 ?_
    refine v_bipush dX8_posts_48 rfl ?_
    refine v_iconst dX8_posts_50 ?_
    obtain ⟨b51, er, ka, h⟩ := cV_some h
    obtain ⟨x13, s14, h1, h⟩ := cl_some h
    refine v_callV1 cok6 (As := [vi (iI 108), vi (iI 0), vi (iI 10), vi (iI 0)]) er ka (tX8_byLaw h1) (lw_V q1389 q1391 qs61 q167 q1392) rfl dsX8_byLaw ⟨Nat.le_of_ble_eq_true rfl, Nat.le_of_ble_eq_true rfl⟩ (Nat.le_of_ble_eq_true rfl) dX8_posts_51 rfl ?_
    refine v_icmp_lt (tgt := 71) dX8_posts_54 (by decide) (fun c => ?_) (fun c => ?_)
    · rw [if_pos c] at h
      exact v_weak (wss (wsn (wsn (wsn (wsn wse))))) (lX8_posts_71 h)
    · rw [if_neg c] at h
      refine v_al0 dX8_posts_57 ?_
      refine v_gR cok6 h dX8_posts_58 (by decide) q1401 rfl (fun x15 h => ?_)
      refine v_sipush dX8_posts_61 rfl ?_
      refine v_aI h dX8_posts_64 (fun x16 h => ?_)
      refine v_sipush dX8_posts_65 rfl ?_
      refine v_icmp_ne (tgt := 76) dX8_posts_68 (by decide) (fun c => ?_) (fun c => ?_)
      · rw [if_neg c] at h
        refine v_al0 dX8_posts_76 ?_
        refine v_gR cok6 h dX8_posts_77 (by decide) q1404 rfl (fun x17 h => ?_)
        refine v_iconst dX8_posts_80 ?_
        refine v_al0 dX8_posts_81 ?_
        refine v_gR cok6 h dX8_posts_82 (by decide) q1401 rfl (fun x18 h => ?_)
        refine v_sipush dX8_posts_85 rfl ?_
        refine v_aI h dX8_posts_88 (fun x19 h => ?_)
        refine v_iconst dX8_posts_89 ?_
        refine v_iadd dX8_posts_90 ?_
        refine v_il2 dX8_posts_91 ?_
        refine v_iadd dX8_posts_92 ?_
        refine v_sI h dX8_posts_93 (fun s20 h => ?_)
        refine v_sipush dX8_posts_94 rfl ?_
        refine v_bipush dX8_posts_97 rfl ?_
        refine v_al0 dX8_posts_99 ?_
        refine v_gR cok6 h dX8_posts_100 (by decide) q1401 rfl (fun x21 h => ?_)
        refine v_sipush dX8_posts_103 rfl ?_
        refine v_aI h dX8_posts_106 (fun x22 h => ?_)
        refine v_imul dX8_posts_107 ?_
        refine v_iadd dX8_posts_108 ?_
        refine v_istore_n (L' := [some (vr v0), some (vi x7), some (vi x9), some (vi ((iI 1708) + ((iI 27) * x22))), none]) dX8_posts_109 (Nat.le_of_ble_eq_true rfl) (Nat.le_of_ble_eq_true rfl) rfl ?_
        refine v_iconst dX8_posts_110 ?_
        refine v_istore (L' := [some (vr v0), some (vi x7), some (vi x9), some (vi ((iI 1708) + ((iI 27) * x22))), some (vi (iI 0))]) dX8_posts_111 (Nat.le_of_ble_eq_true rfl) (Nat.le_of_ble_eq_true rfl) rfl ?_
        exact v_weak (wss (wsn (wsn (wss (wss wse))))) (lX8_posts_113 FU h)
      · rw [if_pos c] at h
        exact v_weak (wss (wsn (wsn (wsn (wsn wse))))) (lX8_posts_71 h)
theorem tX8_posts {E : EE} {l : Launch} {v0 : Option Nat} {σ : Mem} {z : Unit × Mem} (h : sX8_posts v0 σ = some z) : Mt E l mX8_posts [vr v0] σ (none, z.2) :=
  Mt.ofVL (by decide) (Nat.le_of_ble_eq_true rfl) (fun G hG => lX8_posts h)
abbrev mX8_answersBy : MM := (yX8_answersBy, cX8_answersBy, 5, (Option.none : Option Jvm.ClassFile.FieldType), 4, 99)
theorem dsX8_answersBy : DsOk yX8_answersBy 4 := ⟨by decide, by decide, by decide +kernel⟩
theorem lX8_answersBy {E : EE} {G : GG} {v0 : Option Nat} {v1 : Int32} {v2 : Int32} {v3 : Int32} {v4 : Int32} {σ : Mem} {z : Unit × Mem} (h : sX8_answersBy v0 v1 v2 v3 v4 σ = some z) : V E mX8_answersBy G 0 [some (vr v0), some (vi v1), some (vi v2), some (vi v3), some (vi v4)] [] σ (none, z.2) := by
  unfold sX8_answersBy at h
  refine v_al0 dX8_answersBy_0 ?_
  refine v_al0 dX8_answersBy_1 ?_
  refine v_gR cok6 h dX8_answersBy_2 (by decide) q1405 rfl (fun x1 h => ?_)
  refine v_iconst dX8_answersBy_5 ?_
  refine v_aI h dX8_answersBy_6 (fun x2 h => ?_)
  refine v_al0 dX8_answersBy_7 ?_
  refine v_gR cok6 h dX8_answersBy_8 (by decide) q1405 rfl (fun x3 h => ?_)
  refine v_iconst dX8_answersBy_11 ?_
  refine v_aI h dX8_answersBy_12 (fun x4 h => ?_)
  refine v_il1 dX8_answersBy_13 ?_
  obtain ⟨b14, er, ka, h⟩ := cV_some h
  obtain ⟨_, s5, h1, h⟩ := cl_some h
  refine v_callV0 cok6 (As := [vi x2, vi x4, vi v1]) er ka (tX8_beginsMail h1) (lw_V q1712 q1714 qs99 q167 q1715) rfl dsX8_beginsMail ⟨Nat.le_of_ble_eq_true rfl, Nat.le_of_ble_eq_true rfl⟩ (Nat.le_of_ble_eq_true rfl) dX8_answersBy_14 rfl ?_
  refine v_al0 dX8_answersBy_17 ?_
  refine v_gR cok6 h dX8_answersBy_18 (by decide) q1404 rfl (fun x6 h => ?_)
  refine v_bipush dX8_answersBy_21 rfl ?_
  refine v_il2 dX8_answersBy_23 ?_
  refine v_sI h dX8_answersBy_24 (fun s7 h => ?_)
  refine v_al0 dX8_answersBy_25 ?_
  refine v_gR cok6 h dX8_answersBy_26 (by decide) q1404 rfl (fun x8 h => ?_)
  refine v_bipush dX8_answersBy_29 rfl ?_
  refine v_il3 dX8_answersBy_31 ?_
  refine v_sI h dX8_answersBy_32 (fun s9 h => ?_)
  refine v_al0 dX8_answersBy_33 ?_
  refine v_gR cok6 h dX8_answersBy_34 (by decide) q1404 rfl (fun x10 h => ?_)
  refine v_bipush dX8_answersBy_37 rfl ?_
  refine v_iload dX8_answersBy_39 rfl ?_
  refine v_sI h dX8_answersBy_41 (fun s11 h => ?_)
  refine v_al0 dX8_answersBy_42 ?_
  obtain ⟨b43, er, ka, h⟩ := cV_some h
  obtain ⟨_, s12, h1, h⟩ := cl_some h
  refine v_callV0 cok6 (As := []) er ka (tX8_posts h1) (lw_V q1716 q1718 qs100 q167 q1719) rfl dsX8_posts ⟨Nat.le_of_ble_eq_true rfl, Nat.le_of_ble_eq_true rfl⟩ (Nat.le_of_ble_eq_true rfl) dX8_answersBy_43 rfl ?_
  exact v_retV h dX8_answersBy_46 rfl
theorem tX8_answersBy {E : EE} {l : Launch} {v0 : Option Nat} {v1 : Int32} {v2 : Int32} {v3 : Int32} {v4 : Int32} {σ : Mem} {z : Unit × Mem} (h : sX8_answersBy v0 v1 v2 v3 v4 σ = some z) : Mt E l mX8_answersBy [vr v0, vi v1, vi v2, vi v3, vi v4] σ (none, z.2) :=
  Mt.ofVL (by decide) (Nat.le_of_ble_eq_true rfl) (fun G hG => lX8_answersBy h)
abbrev mX8_isAskedToVote : MM := (yX8_isAskedToVote, cX8_isAskedToVote, 5, (Option.none : Option Jvm.ClassFile.FieldType), 5, 123)
theorem dsX8_isAskedToVote : DsOk yX8_isAskedToVote 1 := ⟨by decide, by decide, by decide +kernel⟩
theorem lX8_isAskedToVote_110 {E : EE} {G : GG} {t0 : Option Nat} {t1 : Int32} {t2 : Int32} {σ : Mem} {z : Unit × Mem} (h : sX8_isAskedToVote_110 t0 t1 t2 σ = some z) : V E mX8_isAskedToVote G 110 [none, none, none, none, none] [vi t2, vi t1, vr t0] σ (none, z.2) := by
  unfold sX8_isAskedToVote_110 at h
  refine v_iconst dX8_isAskedToVote_110 ?_
  refine v_iconst dX8_isAskedToVote_111 ?_
  obtain ⟨b112, er, ka, h⟩ := cV_some h
  obtain ⟨_, s1, h1, h⟩ := cl_some h
  refine v_callV0 cok6 (As := [vi t1, vi t2, vi (iI 0), vi (iI 0)]) er ka (tX8_answersBy h1) (lw_V q1708 q1710 qs98 q167 q1711) rfl dsX8_answersBy ⟨Nat.le_of_ble_eq_true rfl, Nat.le_of_ble_eq_true rfl⟩ (Nat.le_of_ble_eq_true rfl) dX8_isAskedToVote_112 rfl ?_
  exact v_retV h dX8_isAskedToVote_115 rfl
theorem lX8_isAskedToVote_98 {E : EE} {G : GG} {v0 : Option Nat} {v4 : Int32} {σ : Mem} {z : Unit × Mem} (h : sX8_isAskedToVote_98 v0 v4 σ = some z) : V E mX8_isAskedToVote G 98 [some (vr v0), none, none, none, some (vi v4)] [] σ (none, z.2) := by
  unfold sX8_isAskedToVote_98 at h
  refine v_al0 dX8_isAskedToVote_98 ?_
  refine v_iconst dX8_isAskedToVote_99 ?_
  refine v_iload dX8_isAskedToVote_100 rfl ?_
  refine v_if_eq (tgt := 109) dX8_isAskedToVote_102 (by decide) (fun c => ?_) (fun c => ?_)
  · rw [if_pos c] at h
    refine v_iconst dX8_isAskedToVote_109 ?_
    exact v_weak (wsn (wsn (wsn (wsn (wsn wse))))) (lX8_isAskedToVote_110 h)
  · rw [if_neg c] at h
    refine v_iconst dX8_isAskedToVote_105 ?_
    refine v_goto (tgt := 110) dX8_isAskedToVote_106 (by decide) ?_
    exact v_weak (wsn (wsn (wsn (wsn (wsn wse))))) (lX8_isAskedToVote_110 h)
theorem lX8_isAskedToVote_79 {E : EE} {G : GG} {v0 : Option Nat} {v1 : Int32} {v2 : Int32} {t0 : Int32} {σ : Mem} {z : Unit × Mem} (h : sX8_isAskedToVote_79 v0 v1 v2 t0 σ = some z) : V E mX8_isAskedToVote G 79 [some (vr v0), some (vi v1), some (vi v2), none, none] [vi t0] σ (none, z.2) := by
  unfold sX8_isAskedToVote_79 at h
  refine v_istore (L' := [some (vr v0), some (vi v1), some (vi v2), none, some (vi t0)]) dX8_isAskedToVote_79 (Nat.le_of_ble_eq_true rfl) (Nat.le_of_ble_eq_true rfl) rfl ?_
  refine v_iload dX8_isAskedToVote_81 rfl ?_
  refine v_if_eq (tgt := 98) dX8_isAskedToVote_83 (by decide) (fun c => ?_) (fun c => ?_)
  · rw [if_pos c] at h
    exact v_weak (wss (wsn (wsn (wsn (wss wse))))) (lX8_isAskedToVote_98 h)
  · rw [if_neg c] at h
    refine v_al0 dX8_isAskedToVote_86 ?_
    refine v_il1 dX8_isAskedToVote_87 ?_
    refine v_iconst dX8_isAskedToVote_88 ?_
    refine v_il2 dX8_isAskedToVote_89 ?_
    obtain ⟨b90, er, ka, h⟩ := cV_some h
    obtain ⟨_, s1, h1, h⟩ := cl_some h
    refine v_callV0 cok6 (As := [vi v1, vi (iI 2), vi v2]) er ka (tX8_sets h1) (lw_V q1372 q1374 qs57 q167 q1375) rfl dsX8_sets ⟨Nat.le_of_ble_eq_true rfl, Nat.le_of_ble_eq_true rfl⟩ (Nat.le_of_ble_eq_true rfl) dX8_isAskedToVote_90 rfl ?_
    refine v_al0 dX8_isAskedToVote_93 ?_
    refine v_il1 dX8_isAskedToVote_94 ?_
    obtain ⟨b95, er, ka, h⟩ := cV_some h
    obtain ⟨_, s2, h1, h⟩ := cl_some h
    refine v_callV0 cok6 (As := [vi v1]) er ka (tX8_setsTimer h1) (lw_V q1376 q1378 qs58 q167 q1379) rfl dsX8_setsTimer ⟨Nat.le_of_ble_eq_true rfl, Nat.le_of_ble_eq_true rfl⟩ (Nat.le_of_ble_eq_true rfl) dX8_isAskedToVote_95 rfl ?_
    exact v_weak (wss (wsn (wsn (wsn (wss wse))))) (lX8_isAskedToVote_98 h)
theorem lX8_isAskedToVote_78 {E : EE} {G : GG} {v0 : Option Nat} {v1 : Int32} {v2 : Int32} {σ : Mem} {z : Unit × Mem} (h : sX8_isAskedToVote_78 v0 v1 v2 σ = some z) : V E mX8_isAskedToVote G 78 [some (vr v0), some (vi v1), some (vi v2), none, none] [] σ (none, z.2) := by
  unfold sX8_isAskedToVote_78 at h
  refine v_iconst dX8_isAskedToVote_78 ?_
  exact v_weak (wss (wss (wss (wsn (wsn wse))))) (lX8_isAskedToVote_79 h)
theorem lX8_isAskedToVote_32 {E : EE} {G : GG} {v0 : Option Nat} {v1 : Int32} {v2 : Int32} {t0 : Int32} {σ : Mem} {z : Unit × Mem} (h : sX8_isAskedToVote_32 v0 v1 v2 t0 σ = some z) : V E mX8_isAskedToVote G 32 [some (vr v0), some (vi v1), some (vi v2), none, none] [vi t0] σ (none, z.2) := by
  unfold sX8_isAskedToVote_32 at h
  refine v_istore_n (L' := [some (vr v0), some (vi v1), some (vi v2), some (vi t0), none]) dX8_isAskedToVote_32 (Nat.le_of_ble_eq_true rfl) (Nat.le_of_ble_eq_true rfl) rfl ?_
  refine v_al0 dX8_isAskedToVote_33 ?_
  refine v_gR cok6 h dX8_isAskedToVote_34 (by decide) q1405 rfl (fun x1 h => ?_)
  refine v_iconst dX8_isAskedToVote_37 ?_
  refine v_aI h dX8_isAskedToVote_38 (fun x2 h => ?_)
  refine v_al0 dX8_isAskedToVote_39 ?_
  refine v_il1 dX8_isAskedToVote_40 ?_
  refine v_iconst dX8_isAskedToVote_41 ?_
  obtain ⟨b42, er, ka, h⟩ := cV_some h
  obtain ⟨x3, s4, h1, h⟩ := cl_some h
  refine v_callV1 cok6 (As := [vi v1, vi (iI 1)]) er ka (tX8_the h1) (lw_V q1385 q1387 qs60 q167 q1388) rfl dsX8_the ⟨Nat.le_of_ble_eq_true rfl, Nat.le_of_ble_eq_true rfl⟩ (Nat.le_of_ble_eq_true rfl) dX8_isAskedToVote_42 rfl ?_
  refine v_icmp_ne (tgt := 78) dX8_isAskedToVote_45 (by decide) (fun c => ?_) (fun c => ?_)
  · rw [if_neg c] at h
    exact v_weak (wss (wss (wss (wsn (wsn wse))))) (lX8_isAskedToVote_78 h)
  · rw [if_pos c] at h
    refine v_il3 dX8_isAskedToVote_48 ?_
    refine v_if_eq (tgt := 78) dX8_isAskedToVote_49 (by decide) (fun c => ?_) (fun c => ?_)
    · rw [if_pos c] at h
      exact v_weak (wss (wss (wss (wsn (wsn wse))))) (lX8_isAskedToVote_78 h)
    · rw [if_neg c] at h
      refine v_al0 dX8_isAskedToVote_52 ?_
      refine v_il1 dX8_isAskedToVote_53 ?_
      refine v_al0 dX8_isAskedToVote_54 ?_
      refine v_gR cok6 h dX8_isAskedToVote_55 (by decide) q1405 rfl (fun x5 h => ?_)
      refine v_bipush dX8_isAskedToVote_58 rfl ?_
      refine v_aI h dX8_isAskedToVote_60 (fun x6 h => ?_)
      refine v_al0 dX8_isAskedToVote_61 ?_
      refine v_gR cok6 h dX8_isAskedToVote_62 (by decide) q1405 rfl (fun x7 h => ?_)
      refine v_bipush dX8_isAskedToVote_65 rfl ?_
      refine v_aI h dX8_isAskedToVote_67 (fun x8 h => ?_)
      obtain ⟨b68, er, ka, h⟩ := cV_some h
      obtain ⟨x9, s10, h1, h⟩ := cl_some h
      refine v_callV1 cok6 (As := [vi v1, vi x6, vi x8]) er ka (tX8_isNoLess h1) (lw_V q1692 q1694 qs94 q167 q1695) rfl dsX8_isNoLess ⟨Nat.le_of_ble_eq_true rfl, Nat.le_of_ble_eq_true rfl⟩ (Nat.le_of_ble_eq_true rfl) dX8_isAskedToVote_68 rfl ?_
      refine v_if_eq (tgt := 78) dX8_isAskedToVote_71 (by decide) (fun c => ?_) (fun c => ?_)
      · rw [if_pos c] at h
        exact v_weak (wss (wss (wss (wsn (wsn wse))))) (lX8_isAskedToVote_78 h)
      · rw [if_neg c] at h
        refine v_iconst dX8_isAskedToVote_74 ?_
        refine v_goto (tgt := 79) dX8_isAskedToVote_75 (by decide) ?_
        exact v_weak (wss (wss (wss (wsn (wsn wse))))) (lX8_isAskedToVote_79 h)
theorem lX8_isAskedToVote_27 {E : EE} {G : GG} {v0 : Option Nat} {v1 : Int32} {v2 : Int32} {σ : Mem} {z : Unit × Mem} (h : sX8_isAskedToVote_27 v0 v1 v2 σ = some z) : V E mX8_isAskedToVote G 27 [some (vr v0), some (vi v1), some (vi v2), none, none] [] σ (none, z.2) := by
  unfold sX8_isAskedToVote_27 at h
  refine v_iconst dX8_isAskedToVote_27 ?_
  refine v_goto (tgt := 32) dX8_isAskedToVote_28 (by decide) ?_
  exact v_weak (wss (wss (wss (wsn (wsn wse))))) (lX8_isAskedToVote_32 h)
theorem lX8_isAskedToVote {E : EE} {G : GG} {v0 : Option Nat} {v1 : Int32} {σ : Mem} {z : Unit × Mem} (h : sX8_isAskedToVote v0 v1 σ = some z) : V E mX8_isAskedToVote G 0 [some (vr v0), some (vi v1), none, none, none] [] σ (none, z.2) := by
  unfold sX8_isAskedToVote at h
  refine v_al0 dX8_isAskedToVote_0 ?_
  refine v_gR cok6 h dX8_isAskedToVote_1 (by decide) q1405 rfl (fun x1 h => ?_)
  refine v_iconst dX8_isAskedToVote_4 ?_
  refine v_aI h dX8_isAskedToVote_5 (fun x2 h => ?_)
  refine v_istore_n (L' := [some (vr v0), some (vi v1), some (vi x2), none, none]) dX8_isAskedToVote_6 (Nat.le_of_ble_eq_true rfl) (Nat.le_of_ble_eq_true rfl) rfl ?_
  refine v_al0 dX8_isAskedToVote_7 ?_
  refine v_il1 dX8_isAskedToVote_8 ?_
  refine v_iconst dX8_isAskedToVote_9 ?_
  obtain ⟨b10, er, ka, h⟩ := cV_some h
  obtain ⟨x3, s4, h1, h⟩ := cl_some h
  refine v_callV1 cok6 (As := [vi v1, vi (iI 2)]) er ka (tX8_the h1) (lw_V q1385 q1387 qs60 q167 q1388) rfl dsX8_the ⟨Nat.le_of_ble_eq_true rfl, Nat.le_of_ble_eq_true rfl⟩ (Nat.le_of_ble_eq_true rfl) dX8_isAskedToVote_10 rfl ?_
  refine v_iconst dX8_isAskedToVote_13 ?_
  refine v_icmp_eq (tgt := 27) dX8_isAskedToVote_14 (by decide) (fun c => ?_) (fun c => ?_)
  · rw [if_pos c] at h
    exact v_weak (wss (wss (wss (wsn (wsn wse))))) (lX8_isAskedToVote_27 h)
  · rw [if_neg c] at h
    refine v_al0 dX8_isAskedToVote_17 ?_
    refine v_il1 dX8_isAskedToVote_18 ?_
    refine v_iconst dX8_isAskedToVote_19 ?_
    obtain ⟨b20, er, ka, h⟩ := cV_some h
    obtain ⟨x5, s6, h1, h⟩ := cl_some h
    refine v_callV1 cok6 (As := [vi v1, vi (iI 2)]) er ka (tX8_the h1) (lw_V q1385 q1387 qs60 q167 q1388) rfl dsX8_the ⟨Nat.le_of_ble_eq_true rfl, Nat.le_of_ble_eq_true rfl⟩ (Nat.le_of_ble_eq_true rfl) dX8_isAskedToVote_20 rfl ?_
    refine v_il2 dX8_isAskedToVote_23 ?_
    refine v_icmp_ne (tgt := 31) dX8_isAskedToVote_24 (by decide) (fun c => ?_) (fun c => ?_)
    · rw [if_neg c] at h
      refine v_iconst dX8_isAskedToVote_31 ?_
      exact v_weak (wss (wss (wss (wsn (wsn wse))))) (lX8_isAskedToVote_32 h)
    · rw [if_pos c] at h
      exact v_weak (wss (wss (wss (wsn (wsn wse))))) (lX8_isAskedToVote_27 h)
theorem tX8_isAskedToVote {E : EE} {l : Launch} {v0 : Option Nat} {v1 : Int32} {σ : Mem} {z : Unit × Mem} (h : sX8_isAskedToVote v0 v1 σ = some z) : Mt E l mX8_isAskedToVote [vr v0, vi v1] σ (none, z.2) :=
  Mt.ofVL (by decide) (Nat.le_of_ble_eq_true rfl) (fun G hG => lX8_isAskedToVote h)
abbrev mX8_configAt : MM := (yX8_configAt, cX8_configAt, 4, (Option.some Jvm.ClassFile.FieldType.int), 2, 44)
theorem dsX8_configAt : DsOk yX8_configAt 2 := ⟨by decide, by decide, by decide +kernel⟩
theorem lX8_configAt_10b {E : EE} {G : GG} {k10 : Option Nat → Int32 → Int32 → Mem → Option (Int32 × Mem)} (hk10 : ∀ (v0 : Option Nat) (v1 : Int32) (v3 : Int32) (s : Mem) (z : Int32 × Mem), k10 v0 v1 v3 s = some z → V E mX8_configAt G 10 [some (vr v0), some (vi v1), none, some (vi v3)] [] s (some (vi z.1), z.2)) {v0 : Option Nat} {v1 : Int32} {v3 : Int32} {σ : Mem} {z : Int32 × Mem} (h : sX8_configAt_10b k10 v0 v1 v3 σ = some z) : V E mX8_configAt G 10 [some (vr v0), some (vi v1), none, some (vi v3)] [] σ (some (vi z.1), z.2) := by
  unfold sX8_configAt_10b at h
  refine v_il3 dX8_configAt_10 ?_
  refine v_al0 dX8_configAt_11 ?_
  refine v_il1 dX8_configAt_12 ?_
  refine v_iconst dX8_configAt_13 ?_
  obtain ⟨b14, er, ka, h⟩ := cV_some h
  obtain ⟨x1, s2, h1, h⟩ := cl_some h
  refine v_callV1 cok6 (As := [vi v1, vi (iI 4)]) er ka (tX8_the h1) (lw_V q1385 q1387 qs60 q167 q1388) rfl dsX8_the ⟨Nat.le_of_ble_eq_true rfl, Nat.le_of_ble_eq_true rfl⟩ (Nat.le_of_ble_eq_true rfl) dX8_configAt_14 rfl ?_
  refine v_icmp_le (tgt := 45) dX8_configAt_17 (by decide) (fun c => ?_) (fun c => ?_)
  · rw [if_pos c] at h
    refine v_iconst dX8_configAt_45 ?_
    exact v_retI h dX8_configAt_46 rfl
  · rw [if_neg c] at h
    refine v_al0 dX8_configAt_20 ?_
    refine v_gR cok6 h dX8_configAt_21 (by decide) q1401 rfl (fun x3 h => ?_)
    refine v_al0 dX8_configAt_24 ?_
    refine v_il1 dX8_configAt_25 ?_
    refine v_il3 dX8_configAt_26 ?_
    obtain ⟨b27, er, ka, h⟩ := cV_some h
    obtain ⟨x4, s5, h1, h⟩ := cl_some h
    refine v_callV1 cok6 (As := [vi v1, vi v3]) er ka (tX8_logPlace h1) (lw_V q1704 q1706 qs97 q167 q1707) rfl dsX8_logPlace ⟨Nat.le_of_ble_eq_true rfl, Nat.le_of_ble_eq_true rfl⟩ (Nat.le_of_ble_eq_true rfl) dX8_configAt_27 rfl ?_
    refine v_iconst dX8_configAt_30 ?_
    refine v_iadd dX8_configAt_31 ?_
    refine v_aI h dX8_configAt_32 (fun x6 h => ?_)
    refine v_iconst dX8_configAt_33 ?_
    refine v_icmp_ne (tgt := 39) dX8_configAt_34 (by decide) (fun c => ?_) (fun c => ?_)
    · rw [if_neg c] at h
      refine v_iinc (L' := [some (vr v0), some (vi v1), none, some (vi (v3 + iI (-1)))]) dX8_configAt_39 (Nat.le_of_ble_eq_true rfl) rfl rfl ?_
      refine v_goto (tgt := 10) dX8_configAt_42 (by decide) ?_
      exact v_weak (wss (wss (wsn (wss wse)))) (hk10 _ _ _ _ _ h)
    · rw [if_pos c] at h
      refine v_il3 dX8_configAt_37 ?_
      exact v_retI h dX8_configAt_38 rfl
theorem lX8_configAt_10 {E : EE} {G : GG} : ∀ (f : Nat) {v0 : Option Nat} {v1 : Int32} {v3 : Int32} {σ : Mem} {z : Int32 × Mem}, sX8_configAt_10 f v0 v1 v3 σ = some z → V E mX8_configAt G 10 [some (vr v0), some (vi v1), none, some (vi v3)] [] σ (some (vi z.1), z.2)
  | 0, _, _, _, _, _, h => by cases h
  | f + 1, _, _, _, _, _, h => lX8_configAt_10b (fun _ _ _ _ _ h => lX8_configAt_10 f h) h
theorem lX8_configAt {E : EE} {G : GG} {v0 : Option Nat} {v1 : Int32} {v2 : Int32} {σ : Mem} {z : Int32 × Mem} (h : sX8_configAt v0 v1 v2 σ = some z) : V E mX8_configAt G 0 [some (vr v0), some (vi v1), some (vi v2), none] [] σ (some (vi z.1), z.2) := by
  unfold sX8_configAt at h
  refine v_il2 dX8_configAt_0 ?_
  refine v_al0 dX8_configAt_1 ?_
  refine v_il1 dX8_configAt_2 ?_
  obtain ⟨b3, er, ka, h⟩ := cV_some h
  obtain ⟨x1, s2, h1, h⟩ := cl_some h
  refine v_callV1 cok6 (As := [vi v1]) er ka (tX8_lastOf h1) (lw_V q1696 q1698 qs95 q167 q1699) rfl dsX8_lastOf ⟨Nat.le_of_ble_eq_true rfl, Nat.le_of_ble_eq_true rfl⟩ (Nat.le_of_ble_eq_true rfl) dX8_configAt_3 rfl ?_
  obtain ⟨x3, s4, h1, h⟩ := cl_some h
  refine v_callS1 (As := [vi v2, vi x1]) (tX8_min h1) (lw_S q1677 q1678 q167 q1679) dsX8_min ⟨Nat.le_of_ble_eq_true rfl, Nat.le_of_ble_eq_true rfl⟩ (Nat.le_of_ble_eq_true rfl) dX8_configAt_6 rfl ?_
  refine v_istore_n (L' := [some (vr v0), some (vi v1), some (vi v2), some (vi x3)]) dX8_configAt_9 (Nat.le_of_ble_eq_true rfl) (Nat.le_of_ble_eq_true rfl) rfl ?_
  exact v_weak (wss (wss (wsn (wss wse)))) (lX8_configAt_10 FU h)
theorem tX8_configAt {E : EE} {l : Launch} {v0 : Option Nat} {v1 : Int32} {v2 : Int32} {σ : Mem} {z : Int32 × Mem} (h : sX8_configAt v0 v1 v2 σ = some z) : Mt E l mX8_configAt [vr v0, vi v1, vi v2] σ (some (vi z.1), z.2) :=
  Mt.ofVL (by decide) (Nat.le_of_ble_eq_true rfl) (fun G hG => lX8_configAt h)
abbrev mX8_oldOf : MM := (yX8_oldOf, cX8_oldOf, 3, (Option.some Jvm.ClassFile.FieldType.int), 3, 67)
theorem dsX8_oldOf : DsOk yX8_oldOf 1 := ⟨by decide, by decide, by decide +kernel⟩
theorem lX8_oldOf {E : EE} {G : GG} {v0 : Option Nat} {v1 : Int32} {σ : Mem} {z : Int32 × Mem} (h : sX8_oldOf v0 v1 σ = some z) : V E mX8_oldOf G 0 [some (vr v0), some (vi v1), none] [] σ (some (vi z.1), z.2) := by
  unfold sX8_oldOf at h
  refine v_al0 dX8_oldOf_0 ?_
  refine v_il1 dX8_oldOf_1 ?_
  refine v_sipush dX8_oldOf_2 rfl ?_
  obtain ⟨b5, er, ka, h⟩ := cV_some h
  obtain ⟨x1, s2, h1, h⟩ := cl_some h
  refine v_callV1 cok6 (As := [vi v1, vi (iI 999)]) er ka (tX8_configAt h1) (lw_V q1736 q1738 qs105 q167 q1739) rfl dsX8_configAt ⟨Nat.le_of_ble_eq_true rfl, Nat.le_of_ble_eq_true rfl⟩ (Nat.le_of_ble_eq_true rfl) dX8_oldOf_5 rfl ?_
  refine v_istore_n (L' := [some (vr v0), some (vi v1), some (vi x1)]) dX8_oldOf_8 (Nat.le_of_ble_eq_true rfl) (Nat.le_of_ble_eq_true rfl) rfl ?_
  refine v_il2 dX8_oldOf_9 ?_
  refine v_iconst dX8_oldOf_10 ?_
  refine v_icmp_ne (tgt := 24) dX8_oldOf_11 (by decide) (fun c => ?_) (fun c => ?_)
  · rw [if_neg c] at h
    refine v_al0 dX8_oldOf_24 ?_
    refine v_gR cok6 h dX8_oldOf_25 (by decide) q1401 rfl (fun x3 h => ?_)
    refine v_al0 dX8_oldOf_28 ?_
    refine v_il1 dX8_oldOf_29 ?_
    refine v_il2 dX8_oldOf_30 ?_
    obtain ⟨b31, er, ka, h⟩ := cV_some h
    obtain ⟨x4, s5, h1, h⟩ := cl_some h
    refine v_callV1 cok6 (As := [vi v1, vi x1]) er ka (tX8_logPlace h1) (lw_V q1704 q1706 qs97 q167 q1707) rfl dsX8_logPlace ⟨Nat.le_of_ble_eq_true rfl, Nat.le_of_ble_eq_true rfl⟩ (Nat.le_of_ble_eq_true rfl) dX8_oldOf_31 rfl ?_
    refine v_iconst dX8_oldOf_34 ?_
    refine v_iadd dX8_oldOf_35 ?_
    refine v_aI h dX8_oldOf_36 (fun x6 h => ?_)
    exact v_retI h dX8_oldOf_37 rfl
  · rw [if_pos c] at h
    refine v_al0 dX8_oldOf_14 ?_
    refine v_il1 dX8_oldOf_15 ?_
    refine v_bipush dX8_oldOf_16 rfl ?_
    obtain ⟨b18, er, ka, h⟩ := cV_some h
    obtain ⟨x7, s8, h1, h⟩ := cl_some h
    refine v_callV1 cok6 (As := [vi v1, vi (iI 6)]) er ka (tX8_the h1) (lw_V q1385 q1387 qs60 q167 q1388) rfl dsX8_the ⟨Nat.le_of_ble_eq_true rfl, Nat.le_of_ble_eq_true rfl⟩ (Nat.le_of_ble_eq_true rfl) dX8_oldOf_18 rfl ?_
    refine v_goto (tgt := 37) dX8_oldOf_21 (by decide) ?_
    exact v_retI h dX8_oldOf_37 rfl
theorem tX8_oldOf {E : EE} {l : Launch} {v0 : Option Nat} {v1 : Int32} {σ : Mem} {z : Int32 × Mem} (h : sX8_oldOf v0 v1 σ = some z) : Mt E l mX8_oldOf [vr v0, vi v1] σ (some (vi z.1), z.2) :=
  Mt.ofVL (by decide) (Nat.le_of_ble_eq_true rfl) (fun G hG => lX8_oldOf h)
abbrev mX8_newOf : MM := (yX8_newOf, cX8_newOf, 3, (Option.some Jvm.ClassFile.FieldType.int), 3, 67)
theorem dsX8_newOf : DsOk yX8_newOf 1 := ⟨by decide, by decide, by decide +kernel⟩
theorem lX8_newOf {E : EE} {G : GG} {v0 : Option Nat} {v1 : Int32} {σ : Mem} {z : Int32 × Mem} (h : sX8_newOf v0 v1 σ = some z) : V E mX8_newOf G 0 [some (vr v0), some (vi v1), none] [] σ (some (vi z.1), z.2) := by
  unfold sX8_newOf at h
  refine v_al0 dX8_newOf_0 ?_
  refine v_il1 dX8_newOf_1 ?_
  refine v_sipush dX8_newOf_2 rfl ?_
  obtain ⟨b5, er, ka, h⟩ := cV_some h
  obtain ⟨x1, s2, h1, h⟩ := cl_some h
  refine v_callV1 cok6 (As := [vi v1, vi (iI 999)]) er ka (tX8_configAt h1) (lw_V q1736 q1738 qs105 q167 q1739) rfl dsX8_configAt ⟨Nat.le_of_ble_eq_true rfl, Nat.le_of_ble_eq_true rfl⟩ (Nat.le_of_ble_eq_true rfl) dX8_newOf_5 rfl ?_
  refine v_istore_n (L' := [some (vr v0), some (vi v1), some (vi x1)]) dX8_newOf_8 (Nat.le_of_ble_eq_true rfl) (Nat.le_of_ble_eq_true rfl) rfl ?_
  refine v_il2 dX8_newOf_9 ?_
  refine v_iconst dX8_newOf_10 ?_
  refine v_icmp_ne (tgt := 24) dX8_newOf_11 (by decide) (fun c => ?_) (fun c => ?_)
  · rw [if_neg c] at h
    refine v_al0 dX8_newOf_24 ?_
    refine v_gR cok6 h dX8_newOf_25 (by decide) q1401 rfl (fun x3 h => ?_)
    refine v_al0 dX8_newOf_28 ?_
    refine v_il1 dX8_newOf_29 ?_
    refine v_il2 dX8_newOf_30 ?_
    obtain ⟨b31, er, ka, h⟩ := cV_some h
    obtain ⟨x4, s5, h1, h⟩ := cl_some h
    refine v_callV1 cok6 (As := [vi v1, vi x1]) er ka (tX8_logPlace h1) (lw_V q1704 q1706 qs97 q167 q1707) rfl dsX8_logPlace ⟨Nat.le_of_ble_eq_true rfl, Nat.le_of_ble_eq_true rfl⟩ (Nat.le_of_ble_eq_true rfl) dX8_newOf_31 rfl ?_
    refine v_iconst dX8_newOf_34 ?_
    refine v_iadd dX8_newOf_35 ?_
    refine v_aI h dX8_newOf_36 (fun x6 h => ?_)
    exact v_retI h dX8_newOf_37 rfl
  · rw [if_pos c] at h
    refine v_al0 dX8_newOf_14 ?_
    refine v_il1 dX8_newOf_15 ?_
    refine v_bipush dX8_newOf_16 rfl ?_
    obtain ⟨b18, er, ka, h⟩ := cV_some h
    obtain ⟨x7, s8, h1, h⟩ := cl_some h
    refine v_callV1 cok6 (As := [vi v1, vi (iI 7)]) er ka (tX8_the h1) (lw_V q1385 q1387 qs60 q167 q1388) rfl dsX8_the ⟨Nat.le_of_ble_eq_true rfl, Nat.le_of_ble_eq_true rfl⟩ (Nat.le_of_ble_eq_true rfl) dX8_newOf_18 rfl ?_
    refine v_goto (tgt := 37) dX8_newOf_21 (by decide) ?_
    exact v_retI h dX8_newOf_37 rfl
theorem tX8_newOf {E : EE} {l : Launch} {v0 : Option Nat} {v1 : Int32} {σ : Mem} {z : Int32 × Mem} (h : sX8_newOf v0 v1 σ = some z) : Mt E l mX8_newOf [vr v0, vi v1] σ (some (vi z.1), z.2) :=
  Mt.ofVL (by decide) (Nat.le_of_ble_eq_true rfl) (fun G hG => lX8_newOf h)
abbrev mX8_bits : MM := (yX8_bits, cX8_bits, 3, (Option.some Jvm.ClassFile.FieldType.int), 0, 0)
theorem dsX8_bits : DsOk yX8_bits 1 := ⟨by decide, by decide, by decide +kernel⟩
theorem lX8_bits_4b {E : EE} {G : GG} {k4 : Int32 → Int32 → Int32 → Mem → Option (Int32 × Mem)} (hk4 : ∀ (v0 : Int32) (v1 : Int32) (v2 : Int32) (s : Mem) (z : Int32 × Mem), k4 v0 v1 v2 s = some z → V E mX8_bits G 4 [some (vi v0), some (vi v1), some (vi v2)] [] s (some (vi z.1), z.2)) {v0 : Int32} {v1 : Int32} {v2 : Int32} {σ : Mem} {z : Int32 × Mem} (h : sX8_bits_4b k4 v0 v1 v2 σ = some z) : V E mX8_bits G 4 [some (vi v0), some (vi v1), some (vi v2)] [] σ (some (vi z.1), z.2) := by
  unfold sX8_bits_4b at h
  refine v_il2 dX8_bits_4 ?_
  refine v_bipush dX8_bits_5 rfl ?_
  refine v_icmp_ge (tgt := 24) dX8_bits_7 (by decide) (fun c => ?_) (fun c => ?_)
  · rw [if_pos c] at h
    refine v_il1 dX8_bits_24 ?_
    exact v_retI h dX8_bits_25 rfl
  · rw [if_neg c] at h
    refine v_il1 dX8_bits_10 ?_
    refine v_il0 dX8_bits_11 ?_
    refine v_il2 dX8_bits_12 ?_
    refine v_ishr dX8_bits_13 ?_
    refine v_iconst dX8_bits_14 ?_
    refine v_iand dX8_bits_15 ?_
    refine v_iadd dX8_bits_16 ?_
    refine v_istore_n (L' := [some (vi v0), some (vi (v1 + ((v0 >>> (v2 &&& 31)) &&& (iI 1)))), some (vi v2)]) dX8_bits_17 (Nat.le_of_ble_eq_true rfl) (Nat.le_of_ble_eq_true rfl) rfl ?_
    refine v_iinc (L' := [some (vi v0), some (vi (v1 + ((v0 >>> (v2 &&& 31)) &&& (iI 1)))), some (vi (v2 + iI 1))]) dX8_bits_18 (Nat.le_of_ble_eq_true rfl) rfl rfl ?_
    refine v_goto (tgt := 4) dX8_bits_21 (by decide) ?_
    exact v_weak (wss (wss (wss wse))) (hk4 _ _ _ _ _ h)
theorem lX8_bits_4 {E : EE} {G : GG} : ∀ (f : Nat) {v0 : Int32} {v1 : Int32} {v2 : Int32} {σ : Mem} {z : Int32 × Mem}, sX8_bits_4 f v0 v1 v2 σ = some z → V E mX8_bits G 4 [some (vi v0), some (vi v1), some (vi v2)] [] σ (some (vi z.1), z.2)
  | 0, _, _, _, _, _, h => by cases h
  | f + 1, _, _, _, _, _, h => lX8_bits_4b (fun _ _ _ _ _ h => lX8_bits_4 f h) h
theorem lX8_bits {E : EE} {G : GG} {v0 : Int32} {σ : Mem} {z : Int32 × Mem} (h : sX8_bits v0 σ = some z) : V E mX8_bits G 0 [some (vi v0), none, none] [] σ (some (vi z.1), z.2) := by
  unfold sX8_bits at h
  refine v_iconst dX8_bits_0 ?_
  refine v_istore_n (L' := [some (vi v0), some (vi (iI 0)), none]) dX8_bits_1 (Nat.le_of_ble_eq_true rfl) (Nat.le_of_ble_eq_true rfl) rfl ?_
  refine v_iconst dX8_bits_2 ?_
  refine v_istore_n (L' := [some (vi v0), some (vi (iI 0)), some (vi (iI 0))]) dX8_bits_3 (Nat.le_of_ble_eq_true rfl) (Nat.le_of_ble_eq_true rfl) rfl ?_
  exact v_weak (wss (wss (wss wse))) (lX8_bits_4 FU h)
theorem tX8_bits {E : EE} {l : Launch} {v0 : Int32} {σ : Mem} {z : Int32 × Mem} (h : sX8_bits v0 σ = some z) : Mt E l mX8_bits [vi v0] σ (some (vi z.1), z.2) :=
  Mt.ofVL (by decide) (Nat.le_of_ble_eq_true rfl) (fun G hG => lX8_bits h)
abbrev mX8_isMost : MM := (yX8_isMost, cX8_isMost, 5, (Option.some Jvm.ClassFile.FieldType.boolean), 4, 89)
theorem dsX8_isMost : DsOk yX8_isMost 2 := ⟨by decide, by decide, by decide +kernel⟩
theorem lX8_isMost {E : EE} {G : GG} {v0 : Option Nat} {v1 : Int32} {v2 : Int32} {σ : Mem} {z : Int32 × Mem} (h : sX8_isMost v0 v1 v2 σ = some z) : V E mX8_isMost G 0 [some (vr v0), some (vi v1), some (vi v2), none, none] [] σ (some (vi z.1), z.2) := by
  unfold sX8_isMost at h
  refine v_al0 dX8_isMost_0 ?_
  refine v_il1 dX8_isMost_1 ?_
  obtain ⟨b2, er, ka, h⟩ := cV_some h
  obtain ⟨x1, s2, h1, h⟩ := cl_some h
  refine v_callV1 cok6 (As := [vi v1]) er ka (tX8_oldOf h1) (lw_V q1732 q1734 qs104 q167 q1735) rfl dsX8_oldOf ⟨Nat.le_of_ble_eq_true rfl, Nat.le_of_ble_eq_true rfl⟩ (Nat.le_of_ble_eq_true rfl) dX8_isMost_2 rfl ?_
  refine v_istore_n (L' := [some (vr v0), some (vi v1), some (vi v2), some (vi x1), none]) dX8_isMost_5 (Nat.le_of_ble_eq_true rfl) (Nat.le_of_ble_eq_true rfl) rfl ?_
  refine v_al0 dX8_isMost_6 ?_
  refine v_il1 dX8_isMost_7 ?_
  obtain ⟨b8, er, ka, h⟩ := cV_some h
  obtain ⟨x3, s4, h1, h⟩ := cl_some h
  refine v_callV1 cok6 (As := [vi v1]) er ka (tX8_newOf h1) (lw_V q1740 q1742 qs106 q167 q1743) rfl dsX8_newOf ⟨Nat.le_of_ble_eq_true rfl, Nat.le_of_ble_eq_true rfl⟩ (Nat.le_of_ble_eq_true rfl) dX8_isMost_8 rfl ?_
  refine v_istore (L' := [some (vr v0), some (vi v1), some (vi v2), some (vi x1), some (vi x3)]) dX8_isMost_11 (Nat.le_of_ble_eq_true rfl) (Nat.le_of_ble_eq_true rfl) rfl ?_
  refine v_iconst dX8_isMost_13 ?_
  refine v_il2 dX8_isMost_14 ?_
  refine v_il3 dX8_isMost_15 ?_
  refine v_iand dX8_isMost_16 ?_
  obtain ⟨x5, s6, h1, h⟩ := cl_some h
  refine v_callS1 (As := [vi (v2 &&& x1)]) (tX8_bits h1) (lw_S q1744 q1745 q167 q1746) dsX8_bits ⟨Nat.le_of_ble_eq_true rfl, Nat.le_of_ble_eq_true rfl⟩ (Nat.le_of_ble_eq_true rfl) dX8_isMost_17 rfl ?_
  refine v_imul dX8_isMost_20 ?_
  refine v_il3 dX8_isMost_21 ?_
  obtain ⟨x7, s8, h1, h⟩ := cl_some h
  refine v_callS1 (As := [vi x1]) (tX8_bits h1) (lw_S q1744 q1745 q167 q1746) dsX8_bits ⟨Nat.le_of_ble_eq_true rfl, Nat.le_of_ble_eq_true rfl⟩ (Nat.le_of_ble_eq_true rfl) dX8_isMost_22 rfl ?_
  refine v_icmp_le (tgt := 54) dX8_isMost_25 (by decide) (fun c => ?_) (fun c => ?_)
  · rw [if_pos c] at h
    refine v_iconst dX8_isMost_54 ?_
    exact v_retZ h dX8_isMost_55 rfl
  · rw [if_neg c] at h
    refine v_iload dX8_isMost_28 rfl ?_
    refine v_if_eq (tgt := 50) dX8_isMost_30 (by decide) (fun c => ?_) (fun c => ?_)
    · rw [if_pos c] at h
      refine v_iconst dX8_isMost_50 ?_
      refine v_goto (tgt := 55) dX8_isMost_51 (by decide) ?_
      exact v_retZ h dX8_isMost_55 rfl
    · rw [if_neg c] at h
      refine v_iconst dX8_isMost_33 ?_
      refine v_il2 dX8_isMost_34 ?_
      refine v_iload dX8_isMost_35 rfl ?_
      refine v_iand dX8_isMost_37 ?_
      obtain ⟨x9, s10, h1, h⟩ := cl_some h
      refine v_callS1 (As := [vi (v2 &&& x3)]) (tX8_bits h1) (lw_S q1744 q1745 q167 q1746) dsX8_bits ⟨Nat.le_of_ble_eq_true rfl, Nat.le_of_ble_eq_true rfl⟩ (Nat.le_of_ble_eq_true rfl) dX8_isMost_38 rfl ?_
      refine v_imul dX8_isMost_41 ?_
      refine v_iload dX8_isMost_42 rfl ?_
      obtain ⟨x11, s12, h1, h⟩ := cl_some h
      refine v_callS1 (As := [vi x3]) (tX8_bits h1) (lw_S q1744 q1745 q167 q1746) dsX8_bits ⟨Nat.le_of_ble_eq_true rfl, Nat.le_of_ble_eq_true rfl⟩ (Nat.le_of_ble_eq_true rfl) dX8_isMost_44 rfl ?_
      refine v_icmp_le (tgt := 54) dX8_isMost_47 (by decide) (fun c => ?_) (fun c => ?_)
      · rw [if_pos c] at h
        refine v_iconst dX8_isMost_54 ?_
        exact v_retZ h dX8_isMost_55 rfl
      · rw [if_neg c] at h
        refine v_iconst dX8_isMost_50 ?_
        refine v_goto (tgt := 55) dX8_isMost_51 (by decide) ?_
        exact v_retZ h dX8_isMost_55 rfl
theorem tX8_isMost {E : EE} {l : Launch} {v0 : Option Nat} {v1 : Int32} {v2 : Int32} {σ : Mem} {z : Int32 × Mem} (h : sX8_isMost v0 v1 v2 σ = some z) : Mt E l mX8_isMost [vr v0, vi v1, vi v2] σ (some (vi z.1), z.2) :=
  Mt.ofVL (by decide) (Nat.le_of_ble_eq_true rfl) (fun G hG => lX8_isMost h)
abbrev mX8_breaks : MM := (yX8_breaks, cX8_breaks, 1, (Option.none : Option Jvm.ClassFile.FieldType), 0, 0)
theorem dsX8_breaks : DsOk yX8_breaks 0 := ⟨by decide, by decide, by decide +kernel⟩
theorem lX8_breaks {E : EE} {G : GG} {v0 : Option Nat} {σ : Mem} {z : Unit × Mem} (h : sX8_breaks v0 σ = some z) : V E mX8_breaks G 0 [some (vr v0)] [] σ (none, z.2) := by
  unfold sX8_breaks at h
  refine v_al0 dX8_breaks_0 ?_
  refine v_gR cok6 h dX8_breaks_1 (by decide) q1401 rfl (fun x1 h => ?_)
  refine v_sipush dX8_breaks_4 rfl ?_
  refine v_al0 dX8_breaks_7 ?_
  refine v_gR cok6 h dX8_breaks_8 (by decide) q1401 rfl (fun x2 h => ?_)
  refine v_sipush dX8_breaks_11 rfl ?_
  refine v_aI h dX8_breaks_14 (fun x3 h => ?_)
  refine v_iconst dX8_breaks_15 ?_
  refine v_iadd dX8_breaks_16 ?_
  refine v_sI h dX8_breaks_17 (fun s4 h => ?_)
  exact v_retV h dX8_breaks_18 rfl
theorem tX8_breaks {E : EE} {l : Launch} {v0 : Option Nat} {σ : Mem} {z : Unit × Mem} (h : sX8_breaks v0 σ = some z) : Mt E l mX8_breaks [vr v0] σ (none, z.2) :=
  Mt.ofVL (by decide) (Nat.le_of_ble_eq_true rfl) (fun G hG => lX8_breaks h)
abbrev mX8_max : MM := (yX8_max, cX8_max, 2, (Option.some Jvm.ClassFile.FieldType.int), 0, 0)
theorem dsX8_max : DsOk yX8_max 2 := ⟨by decide, by decide, by decide +kernel⟩
theorem lX8_max {E : EE} {G : GG} {v0 : Int32} {v1 : Int32} {σ : Mem} {z : Int32 × Mem} (h : sX8_max v0 v1 σ = some z) : V E mX8_max G 0 [some (vi v0), some (vi v1)] [] σ (some (vi z.1), z.2) := by
  unfold sX8_max at h
  refine v_il0 dX8_max_0 ?_
  refine v_il1 dX8_max_1 ?_
  refine v_icmp_le (tgt := 9) dX8_max_2 (by decide) (fun c => ?_) (fun c => ?_)
  · rw [if_pos c] at h
    refine v_il1 dX8_max_9 ?_
    exact v_retI h dX8_max_10 rfl
  · rw [if_neg c] at h
    refine v_il0 dX8_max_5 ?_
    refine v_goto (tgt := 10) dX8_max_6 (by decide) ?_
    exact v_retI h dX8_max_10 rfl
theorem tX8_max {E : EE} {l : Launch} {v0 : Int32} {v1 : Int32} {σ : Mem} {z : Int32 × Mem} (h : sX8_max v0 v1 σ = some z) : Mt E l mX8_max [vi v0, vi v1] σ (some (vi z.1), z.2) :=
  Mt.ofVL (by decide) (Nat.le_of_ble_eq_true rfl) (fun G hG => lX8_max h)
abbrev mX8_goesUpTo : MM := (yX8_goesUpTo, cX8_goesUpTo, 6, (Option.none : Option Jvm.ClassFile.FieldType), 1, 23)
theorem dsX8_goesUpTo : DsOk yX8_goesUpTo 2 := ⟨by decide, by decide, by decide +kernel⟩
theorem lX8_goesUpTo_27b {E : EE} {G : GG} {k27 : Option Nat → Int32 → Int32 → Int32 → Int32 → Int32 → Mem → Option (Unit × Mem)} (hk27 : ∀ (v0 : Option Nat) (v1 : Int32) (v2 : Int32) (v3 : Int32) (v4 : Int32) (v5 : Int32) (s : Mem) (z : Unit × Mem), k27 v0 v1 v2 v3 v4 v5 s = some z → V E mX8_goesUpTo G 27 [some (vr v0), some (vi v1), some (vi v2), some (vi v3), some (vi v4), some (vi v5)] [] s (none, z.2)) {v0 : Option Nat} {v1 : Int32} {v2 : Int32} {v3 : Int32} {v4 : Int32} {v5 : Int32} {σ : Mem} {z : Unit × Mem} (h : sX8_goesUpTo_27b k27 v0 v1 v2 v3 v4 v5 σ = some z) : V E mX8_goesUpTo G 27 [some (vr v0), some (vi v1), some (vi v2), some (vi v3), some (vi v4), some (vi v5)] [] σ (none, z.2) := by
  unfold sX8_goesUpTo_27b at h
  refine v_iload dX8_goesUpTo_27 rfl ?_
  refine v_iconst dX8_goesUpTo_29 ?_
  refine v_iload dX8_goesUpTo_30 rfl ?_
  refine v_imul dX8_goesUpTo_32 ?_
  refine v_icmp_ge (tgt := 66) dX8_goesUpTo_33 (by decide) (fun c => ?_) (fun c => ?_)
  · rw [if_pos c] at h
    refine v_al0 dX8_goesUpTo_66 ?_
    refine v_il1 dX8_goesUpTo_67 ?_
    refine v_bipush dX8_goesUpTo_68 rfl ?_
    refine v_iload dX8_goesUpTo_70 rfl ?_
    obtain ⟨b72, er, ka, h⟩ := cV_some h
    obtain ⟨_, s1, h1, h⟩ := cl_some h
    refine v_callV0 cok6 (As := [vi v1, vi (iI 8), vi v4]) er ka (tX8_sets h1) (lw_V q1372 q1374 qs57 q167 q1375) rfl dsX8_sets ⟨Nat.le_of_ble_eq_true rfl, Nat.le_of_ble_eq_true rfl⟩ (Nat.le_of_ble_eq_true rfl) dX8_goesUpTo_72 rfl ?_
    refine v_al0 dX8_goesUpTo_75 ?_
    refine v_il1 dX8_goesUpTo_76 ?_
    refine v_iconst dX8_goesUpTo_77 ?_
    refine v_il2 dX8_goesUpTo_78 ?_
    obtain ⟨b79, er, ka, h⟩ := cV_some h
    obtain ⟨_, s2, h1, h⟩ := cl_some h
    refine v_callV0 cok6 (As := [vi v1, vi (iI 4), vi v2]) er ka (tX8_sets h1) (lw_V q1372 q1374 qs57 q167 q1375) rfl dsX8_sets ⟨Nat.le_of_ble_eq_true rfl, Nat.le_of_ble_eq_true rfl⟩ (Nat.le_of_ble_eq_true rfl) dX8_goesUpTo_79 rfl ?_
    exact v_retV h dX8_goesUpTo_82 rfl
  · rw [if_neg c] at h
    refine v_al0 dX8_goesUpTo_36 ?_
    refine v_il1 dX8_goesUpTo_37 ?_
    refine v_bipush dX8_goesUpTo_38 rfl ?_
    refine v_iload dX8_goesUpTo_40 rfl ?_
    refine v_iadd dX8_goesUpTo_42 ?_
    refine v_al0 dX8_goesUpTo_43 ?_
    refine v_il1 dX8_goesUpTo_44 ?_
    refine v_bipush dX8_goesUpTo_45 rfl ?_
    refine v_iload dX8_goesUpTo_47 rfl ?_
    refine v_iadd dX8_goesUpTo_49 ?_
    refine v_iconst dX8_goesUpTo_50 ?_
    refine v_il3 dX8_goesUpTo_51 ?_
    refine v_imul dX8_goesUpTo_52 ?_
    refine v_iadd dX8_goesUpTo_53 ?_
    obtain ⟨b54, er, ka, h⟩ := cV_some h
    obtain ⟨x3, s4, h1, h⟩ := cl_some h
    refine v_callV1 cok6 (As := [vi v1, vi (((iI 52) + v5) + ((iI 4) * v3))]) er ka (tX8_the h1) (lw_V q1385 q1387 qs60 q167 q1388) rfl dsX8_the ⟨Nat.le_of_ble_eq_true rfl, Nat.le_of_ble_eq_true rfl⟩ (Nat.le_of_ble_eq_true rfl) dX8_goesUpTo_54 rfl ?_
    obtain ⟨b57, er, ka, h⟩ := cV_some h
    obtain ⟨_, s5, h1, h⟩ := cl_some h
    refine v_callV0 cok6 (As := [vi v1, vi ((iI 52) + v5), vi x3]) er ka (tX8_sets h1) (lw_V q1372 q1374 qs57 q167 q1375) rfl dsX8_sets ⟨Nat.le_of_ble_eq_true rfl, Nat.le_of_ble_eq_true rfl⟩ (Nat.le_of_ble_eq_true rfl) dX8_goesUpTo_57 rfl ?_
    refine v_iinc (L' := [some (vr v0), some (vi v1), some (vi v2), some (vi v3), some (vi v4), some (vi (v5 + iI 1))]) dX8_goesUpTo_60 (Nat.le_of_ble_eq_true rfl) rfl rfl ?_
    refine v_goto (tgt := 27) dX8_goesUpTo_63 (by decide) ?_
    exact v_weak (wss (wss (wss (wss (wss (wss wse)))))) (hk27 _ _ _ _ _ _ _ _ h)
theorem lX8_goesUpTo_27 {E : EE} {G : GG} : ∀ (f : Nat) {v0 : Option Nat} {v1 : Int32} {v2 : Int32} {v3 : Int32} {v4 : Int32} {v5 : Int32} {σ : Mem} {z : Unit × Mem}, sX8_goesUpTo_27 f v0 v1 v2 v3 v4 v5 σ = some z → V E mX8_goesUpTo G 27 [some (vr v0), some (vi v1), some (vi v2), some (vi v3), some (vi v4), some (vi v5)] [] σ (none, z.2)
  | 0, _, _, _, _, _, _, _, _, h => by cases h
  | f + 1, _, _, _, _, _, _, _, _, h => lX8_goesUpTo_27b (fun _ _ _ _ _ _ _ _ h => lX8_goesUpTo_27 f h) h
theorem lX8_goesUpTo {E : EE} {G : GG} {v0 : Option Nat} {v1 : Int32} {v2 : Int32} {σ : Mem} {z : Unit × Mem} (h : sX8_goesUpTo v0 v1 v2 σ = some z) : V E mX8_goesUpTo G 0 [some (vr v0), some (vi v1), some (vi v2), none, none, none] [] σ (none, z.2) := by
  unfold sX8_goesUpTo at h
  refine v_il2 dX8_goesUpTo_0 ?_
  refine v_al0 dX8_goesUpTo_1 ?_
  refine v_il1 dX8_goesUpTo_2 ?_
  refine v_iconst dX8_goesUpTo_3 ?_
  obtain ⟨b4, er, ka, h⟩ := cV_some h
  obtain ⟨x1, s2, h1, h⟩ := cl_some h
  refine v_callV1 cok6 (As := [vi v1, vi (iI 4)]) er ka (tX8_the h1) (lw_V q1385 q1387 qs60 q167 q1388) rfl dsX8_the ⟨Nat.le_of_ble_eq_true rfl, Nat.le_of_ble_eq_true rfl⟩ (Nat.le_of_ble_eq_true rfl) dX8_goesUpTo_4 rfl ?_
  refine v_isub dX8_goesUpTo_7 ?_
  refine v_istore_n (L' := [some (vr v0), some (vi v1), some (vi v2), some (vi (v2 - x1)), none, none]) dX8_goesUpTo_8 (Nat.le_of_ble_eq_true rfl) (Nat.le_of_ble_eq_true rfl) rfl ?_
  refine v_iconst dX8_goesUpTo_9 ?_
  refine v_al0 dX8_goesUpTo_10 ?_
  refine v_il1 dX8_goesUpTo_11 ?_
  refine v_bipush dX8_goesUpTo_12 rfl ?_
  obtain ⟨b14, er, ka, h⟩ := cV_some h
  obtain ⟨x3, s4, h1, h⟩ := cl_some h
  refine v_callV1 cok6 (As := [vi v1, vi (iI 8)]) er ka (tX8_the h1) (lw_V q1385 q1387 qs60 q167 q1388) rfl dsX8_the ⟨Nat.le_of_ble_eq_true rfl, Nat.le_of_ble_eq_true rfl⟩ (Nat.le_of_ble_eq_true rfl) dX8_goesUpTo_14 rfl ?_
  refine v_il3 dX8_goesUpTo_17 ?_
  refine v_isub dX8_goesUpTo_18 ?_
  obtain ⟨x5, s6, h1, h⟩ := cl_some h
  refine v_callS1 (As := [vi (iI 0), vi (x3 - (v2 - x1))]) (tX8_max h1) (lw_S q1767 q1768 q167 q1769) dsX8_max ⟨Nat.le_of_ble_eq_true rfl, Nat.le_of_ble_eq_true rfl⟩ (Nat.le_of_ble_eq_true rfl) dX8_goesUpTo_19 rfl ?_
  refine v_istore (L' := [some (vr v0), some (vi v1), some (vi v2), some (vi (v2 - x1)), some (vi x5), none]) dX8_goesUpTo_22 (Nat.le_of_ble_eq_true rfl) (Nat.le_of_ble_eq_true rfl) rfl ?_
  refine v_iconst dX8_goesUpTo_24 ?_
  refine v_istore (L' := [some (vr v0), some (vi v1), some (vi v2), some (vi (v2 - x1)), some (vi x5), some (vi (iI 0))]) dX8_goesUpTo_25 (Nat.le_of_ble_eq_true rfl) (Nat.le_of_ble_eq_true rfl) rfl ?_
  exact v_weak (wss (wss (wss (wss (wss (wss wse)))))) (lX8_goesUpTo_27 FU h)
theorem tX8_goesUpTo {E : EE} {l : Launch} {v0 : Option Nat} {v1 : Int32} {v2 : Int32} {σ : Mem} {z : Unit × Mem} (h : sX8_goesUpTo v0 v1 v2 σ = some z) : Mt E l mX8_goesUpTo [vr v0, vi v1, vi v2] σ (none, z.2) :=
  Mt.ofVL (by decide) (Nat.le_of_ble_eq_true rfl) (fun G hG => lX8_goesUpTo h)
abbrev mX8_compacts : MM := (yX8_compacts, cX8_compacts, 6, (Option.none : Option Jvm.ClassFile.FieldType), 3, 67)
theorem dsX8_compacts : DsOk yX8_compacts 1 := ⟨by decide, by decide, by decide +kernel⟩
theorem lX8_compacts_85b {E : EE} {G : GG} {k85 : Option Nat → Int32 → Int32 → Mem → Option (Unit × Mem)} (hk85 : ∀ (v0 : Option Nat) (v1 : Int32) (v5 : Int32) (s : Mem) (z : Unit × Mem), k85 v0 v1 v5 s = some z → V E mX8_compacts G 85 [some (vr v0), some (vi v1), none, none, none, some (vi v5)] [] s (none, z.2)) {v0 : Option Nat} {v1 : Int32} {v5 : Int32} {σ : Mem} {z : Unit × Mem} (h : sX8_compacts_85b k85 v0 v1 v5 σ = some z) : V E mX8_compacts G 85 [some (vr v0), some (vi v1), none, none, none, some (vi v5)] [] σ (none, z.2) := by
  unfold sX8_compacts_85b at h
  refine v_iload dX8_compacts_85 rfl ?_
  refine v_bipush dX8_compacts_87 rfl ?_
  refine v_icmp_ge (tgt := 118) dX8_compacts_89 (by decide) (fun c => ?_) (fun c => ?_)
  · rw [if_pos c] at h
    exact v_retV h dX8_compacts_118 rfl
  · rw [if_neg c] at h
    refine v_al0 dX8_compacts_92 ?_
    refine v_il1 dX8_compacts_93 ?_
    refine v_bipush dX8_compacts_94 rfl ?_
    refine v_iload dX8_compacts_96 rfl ?_
    refine v_iadd dX8_compacts_98 ?_
    refine v_al0 dX8_compacts_99 ?_
    refine v_il1 dX8_compacts_100 ?_
    refine v_bipush dX8_compacts_101 rfl ?_
    refine v_iload dX8_compacts_103 rfl ?_
    refine v_iadd dX8_compacts_105 ?_
    obtain ⟨b106, er, ka, h⟩ := cV_some h
    obtain ⟨x1, s2, h1, h⟩ := cl_some h
    refine v_callV1 cok6 (As := [vi v1, vi ((iI 15) + v5)]) er ka (tX8_the h1) (lw_V q1385 q1387 qs60 q167 q1388) rfl dsX8_the ⟨Nat.le_of_ble_eq_true rfl, Nat.le_of_ble_eq_true rfl⟩ (Nat.le_of_ble_eq_true rfl) dX8_compacts_106 rfl ?_
    obtain ⟨b109, er, ka, h⟩ := cV_some h
    obtain ⟨_, s3, h1, h⟩ := cl_some h
    refine v_callV0 cok6 (As := [vi v1, vi ((iI 23) + v5), vi x1]) er ka (tX8_sets h1) (lw_V q1372 q1374 qs57 q167 q1375) rfl dsX8_sets ⟨Nat.le_of_ble_eq_true rfl, Nat.le_of_ble_eq_true rfl⟩ (Nat.le_of_ble_eq_true rfl) dX8_compacts_109 rfl ?_
    refine v_iinc (L' := [some (vr v0), some (vi v1), none, none, none, some (vi (v5 + iI 1))]) dX8_compacts_112 (Nat.le_of_ble_eq_true rfl) rfl rfl ?_
    refine v_goto (tgt := 85) dX8_compacts_115 (by decide) ?_
    exact v_weak (wss (wss (wsn (wsn (wsn (wss wse)))))) (hk85 _ _ _ _ _ h)
theorem lX8_compacts_85 {E : EE} {G : GG} : ∀ (f : Nat) {v0 : Option Nat} {v1 : Int32} {v5 : Int32} {σ : Mem} {z : Unit × Mem}, sX8_compacts_85 f v0 v1 v5 σ = some z → V E mX8_compacts G 85 [some (vr v0), some (vi v1), none, none, none, some (vi v5)] [] σ (none, z.2)
  | 0, _, _, _, _, _, h => by cases h
  | f + 1, _, _, _, _, _, h => lX8_compacts_85b (fun _ _ _ _ _ h => lX8_compacts_85 f h) h
theorem lX8_compacts_68 {E : EE} {G : GG} {v0 : Option Nat} {v1 : Int32} {v2 : Int32} {v4 : Int32} {σ : Mem} {z : Unit × Mem} (h : sX8_compacts_68 v0 v1 v2 v4 σ = some z) : V E mX8_compacts G 68 [some (vr v0), some (vi v1), some (vi v2), none, some (vi v4), none] [] σ (none, z.2) := by
  unfold sX8_compacts_68 at h
  refine v_al0 dX8_compacts_68 ?_
  refine v_il1 dX8_compacts_69 ?_
  refine v_il2 dX8_compacts_70 ?_
  obtain ⟨b71, er, ka, h⟩ := cV_some h
  obtain ⟨_, s1, h1, h⟩ := cl_some h
  refine v_callV0 cok6 (As := [vi v1, vi v2]) er ka (tX8_goesUpTo h1) (lw_V q1763 q1765 qs111 q167 q1766) rfl dsX8_goesUpTo ⟨Nat.le_of_ble_eq_true rfl, Nat.le_of_ble_eq_true rfl⟩ (Nat.le_of_ble_eq_true rfl) dX8_compacts_71 rfl ?_
  refine v_al0 dX8_compacts_74 ?_
  refine v_il1 dX8_compacts_75 ?_
  refine v_iconst dX8_compacts_76 ?_
  refine v_iload dX8_compacts_77 rfl ?_
  obtain ⟨b79, er, ka, h⟩ := cV_some h
  obtain ⟨_, s2, h1, h⟩ := cl_some h
  refine v_callV0 cok6 (As := [vi v1, vi (iI 5), vi v4]) er ka (tX8_sets h1) (lw_V q1372 q1374 qs57 q167 q1375) rfl dsX8_sets ⟨Nat.le_of_ble_eq_true rfl, Nat.le_of_ble_eq_true rfl⟩ (Nat.le_of_ble_eq_true rfl) dX8_compacts_79 rfl ?_
  refine v_iconst dX8_compacts_82 ?_
  refine v_istore (L' := [some (vr v0), some (vi v1), some (vi v2), none, some (vi v4), some (vi (iI 0))]) dX8_compacts_83 (Nat.le_of_ble_eq_true rfl) (Nat.le_of_ble_eq_true rfl) rfl ?_
  exact v_weak (wss (wss (wsn (wsn (wsn (wss wse)))))) (lX8_compacts_85 FU h)
theorem lX8_compacts {E : EE} {G : GG} {v0 : Option Nat} {v1 : Int32} {σ : Mem} {z : Unit × Mem} (h : sX8_compacts v0 v1 σ = some z) : V E mX8_compacts G 0 [some (vr v0), some (vi v1), none, none, none, none] [] σ (none, z.2) := by
  unfold sX8_compacts at h
  refine v_al0 dX8_compacts_0 ?_
  refine v_il1 dX8_compacts_1 ?_
  refine v_bipush dX8_compacts_2 rfl ?_
  obtain ⟨b4, er, ka, h⟩ := cV_some h
  obtain ⟨x1, s2, h1, h⟩ := cl_some h
  refine v_callV1 cok6 (As := [vi v1, vi (iI 9)]) er ka (tX8_the h1) (lw_V q1385 q1387 qs60 q167 q1388) rfl dsX8_the ⟨Nat.le_of_ble_eq_true rfl, Nat.le_of_ble_eq_true rfl⟩ (Nat.le_of_ble_eq_true rfl) dX8_compacts_4 rfl ?_
  refine v_istore_n (L' := [some (vr v0), some (vi v1), some (vi x1), none, none, none]) dX8_compacts_7 (Nat.le_of_ble_eq_true rfl) (Nat.le_of_ble_eq_true rfl) rfl ?_
  refine v_al0 dX8_compacts_8 ?_
  refine v_il1 dX8_compacts_9 ?_
  refine v_il2 dX8_compacts_10 ?_
  obtain ⟨b11, er, ka, h⟩ := cV_some h
  obtain ⟨x3, s4, h1, h⟩ := cl_some h
  refine v_callV1 cok6 (As := [vi v1, vi x1]) er ka (tX8_configAt h1) (lw_V q1736 q1738 qs105 q167 q1739) rfl dsX8_configAt ⟨Nat.le_of_ble_eq_true rfl, Nat.le_of_ble_eq_true rfl⟩ (Nat.le_of_ble_eq_true rfl) dX8_compacts_11 rfl ?_
  refine v_istore_n (L' := [some (vr v0), some (vi v1), some (vi x1), some (vi x3), none, none]) dX8_compacts_14 (Nat.le_of_ble_eq_true rfl) (Nat.le_of_ble_eq_true rfl) rfl ?_
  refine v_al0 dX8_compacts_15 ?_
  refine v_il1 dX8_compacts_16 ?_
  refine v_il2 dX8_compacts_17 ?_
  obtain ⟨b18, er, ka, h⟩ := cV_some h
  obtain ⟨x5, s6, h1, h⟩ := cl_some h
  refine v_callV1 cok6 (As := [vi v1, vi x1]) er ka (tX8_termAt h1) (lw_V q1700 q1702 qs96 q167 q1703) rfl dsX8_termAt ⟨Nat.le_of_ble_eq_true rfl, Nat.le_of_ble_eq_true rfl⟩ (Nat.le_of_ble_eq_true rfl) dX8_compacts_18 rfl ?_
  refine v_istore (L' := [some (vr v0), some (vi v1), some (vi x1), some (vi x3), some (vi x5), none]) dX8_compacts_21 (Nat.le_of_ble_eq_true rfl) (Nat.le_of_ble_eq_true rfl) rfl ?_
  refine v_il3 dX8_compacts_23 ?_
  refine v_iconst dX8_compacts_24 ?_
  refine v_icmp_eq (tgt := 68) dX8_compacts_25 (by decide) (fun c => ?_) (fun c => ?_)
  · rw [if_pos c] at h
    exact v_weak (wss (wss (wss (wsn (wss (wsn wse)))))) (lX8_compacts_68 h)
  · rw [if_neg c] at h
    refine v_al0 dX8_compacts_28 ?_
    refine v_il1 dX8_compacts_29 ?_
    refine v_bipush dX8_compacts_30 rfl ?_
    refine v_al0 dX8_compacts_32 ?_
    refine v_gR cok6 h dX8_compacts_33 (by decide) q1401 rfl (fun x7 h => ?_)
    refine v_al0 dX8_compacts_36 ?_
    refine v_il1 dX8_compacts_37 ?_
    refine v_il3 dX8_compacts_38 ?_
    obtain ⟨b39, er, ka, h⟩ := cV_some h
    obtain ⟨x8, s9, h1, h⟩ := cl_some h
    refine v_callV1 cok6 (As := [vi v1, vi x3]) er ka (tX8_logPlace h1) (lw_V q1704 q1706 qs97 q167 q1707) rfl dsX8_logPlace ⟨Nat.le_of_ble_eq_true rfl, Nat.le_of_ble_eq_true rfl⟩ (Nat.le_of_ble_eq_true rfl) dX8_compacts_39 rfl ?_
    refine v_iconst dX8_compacts_42 ?_
    refine v_iadd dX8_compacts_43 ?_
    refine v_aI h dX8_compacts_44 (fun x10 h => ?_)
    obtain ⟨b45, er, ka, h⟩ := cV_some h
    obtain ⟨_, s11, h1, h⟩ := cl_some h
    refine v_callV0 cok6 (As := [vi v1, vi (iI 6), vi x10]) er ka (tX8_sets h1) (lw_V q1372 q1374 qs57 q167 q1375) rfl dsX8_sets ⟨Nat.le_of_ble_eq_true rfl, Nat.le_of_ble_eq_true rfl⟩ (Nat.le_of_ble_eq_true rfl) dX8_compacts_45 rfl ?_
    refine v_al0 dX8_compacts_48 ?_
    refine v_il1 dX8_compacts_49 ?_
    refine v_bipush dX8_compacts_50 rfl ?_
    refine v_al0 dX8_compacts_52 ?_
    refine v_gR cok6 h dX8_compacts_53 (by decide) q1401 rfl (fun x12 h => ?_)
    refine v_al0 dX8_compacts_56 ?_
    refine v_il1 dX8_compacts_57 ?_
    refine v_il3 dX8_compacts_58 ?_
    obtain ⟨b59, er, ka, h⟩ := cV_some h
    obtain ⟨x13, s14, h1, h⟩ := cl_some h
    refine v_callV1 cok6 (As := [vi v1, vi x3]) er ka (tX8_logPlace h1) (lw_V q1704 q1706 qs97 q167 q1707) rfl dsX8_logPlace ⟨Nat.le_of_ble_eq_true rfl, Nat.le_of_ble_eq_true rfl⟩ (Nat.le_of_ble_eq_true rfl) dX8_compacts_59 rfl ?_
    refine v_iconst dX8_compacts_62 ?_
    refine v_iadd dX8_compacts_63 ?_
    refine v_aI h dX8_compacts_64 (fun x15 h => ?_)
    obtain ⟨b65, er, ka, h⟩ := cV_some h
    obtain ⟨_, s16, h1, h⟩ := cl_some h
    refine v_callV0 cok6 (As := [vi v1, vi (iI 7), vi x15]) er ka (tX8_sets h1) (lw_V q1372 q1374 qs57 q167 q1375) rfl dsX8_sets ⟨Nat.le_of_ble_eq_true rfl, Nat.le_of_ble_eq_true rfl⟩ (Nat.le_of_ble_eq_true rfl) dX8_compacts_65 rfl ?_
    exact v_weak (wss (wss (wss (wsn (wss (wsn wse)))))) (lX8_compacts_68 h)
theorem tX8_compacts {E : EE} {l : Launch} {v0 : Option Nat} {v1 : Int32} {σ : Mem} {z : Unit × Mem} (h : sX8_compacts v0 v1 σ = some z) : Mt E l mX8_compacts [vr v0, vi v1] σ (none, z.2) :=
  Mt.ofVL (by decide) (Nat.le_of_ble_eq_true rfl) (fun G hG => lX8_compacts h)
abbrev mX8_lays : MM := (yX8_lays, cX8_lays, 7, (Option.some Jvm.ClassFile.FieldType.boolean), 4, 92)
theorem dsX8_lays : DsOk yX8_lays 5 := ⟨by decide, by decide, by decide +kernel⟩
theorem lX8_lays_17 {E : EE} {G : GG} {v0 : Option Nat} {v1 : Int32} {v2 : Int32} {v3 : Int32} {v4 : Int32} {v5 : Int32} {σ : Mem} {z : Int32 × Mem} (h : sX8_lays_17 v0 v1 v2 v3 v4 v5 σ = some z) : V E mX8_lays G 17 [some (vr v0), some (vi v1), some (vi v2), some (vi v3), some (vi v4), some (vi v5), none] [] σ (some (vi z.1), z.2) := by
  unfold sX8_lays_17 at h
  refine v_al0 dX8_lays_17 ?_
  refine v_il1 dX8_lays_18 ?_
  refine v_bipush dX8_lays_19 rfl ?_
  obtain ⟨b21, er, ka, h⟩ := cV_some h
  obtain ⟨x1, s2, h1, h⟩ := cl_some h
  refine v_callV1 cok6 (As := [vi v1, vi (iI 8)]) er ka (tX8_the h1) (lw_V q1385 q1387 qs60 q167 q1388) rfl dsX8_the ⟨Nat.le_of_ble_eq_true rfl, Nat.le_of_ble_eq_true rfl⟩ (Nat.le_of_ble_eq_true rfl) dX8_lays_21 rfl ?_
  refine v_bipush dX8_lays_24 rfl ?_
  refine v_icmp_eq (tgt := 40) dX8_lays_26 (by decide) (fun c => ?_) (fun c => ?_)
  · rw [if_pos c] at h
    refine v_iconst dX8_lays_40 ?_
    exact v_retZ h dX8_lays_41 rfl
  · rw [if_neg c] at h
    refine v_al0 dX8_lays_29 ?_
    refine v_il1 dX8_lays_30 ?_
    obtain ⟨b31, er, ka, h⟩ := cV_some h
    obtain ⟨x3, s4, h1, h⟩ := cl_some h
    refine v_callV1 cok6 (As := [vi v1]) er ka (tX8_lastOf h1) (lw_V q1696 q1698 qs95 q167 q1699) rfl dsX8_lastOf ⟨Nat.le_of_ble_eq_true rfl, Nat.le_of_ble_eq_true rfl⟩ (Nat.le_of_ble_eq_true rfl) dX8_lays_31 rfl ?_
    refine v_sipush dX8_lays_34 rfl ?_
    refine v_icmp_ne (tgt := 42) dX8_lays_37 (by decide) (fun c => ?_) (fun c => ?_)
    · rw [if_neg c] at h
      refine v_al0 dX8_lays_42 ?_
      refine v_il1 dX8_lays_43 ?_
      refine v_bipush dX8_lays_44 rfl ?_
      refine v_al0 dX8_lays_46 ?_
      refine v_il1 dX8_lays_47 ?_
      refine v_bipush dX8_lays_48 rfl ?_
      obtain ⟨b50, er, ka, h⟩ := cV_some h
      obtain ⟨x5, s6, h1, h⟩ := cl_some h
      refine v_callV1 cok6 (As := [vi v1, vi (iI 8)]) er ka (tX8_the h1) (lw_V q1385 q1387 qs60 q167 q1388) rfl dsX8_the ⟨Nat.le_of_ble_eq_true rfl, Nat.le_of_ble_eq_true rfl⟩ (Nat.le_of_ble_eq_true rfl) dX8_lays_50 rfl ?_
      refine v_iconst dX8_lays_53 ?_
      refine v_iadd dX8_lays_54 ?_
      obtain ⟨b55, er, ka, h⟩ := cV_some h
      obtain ⟨_, s7, h1, h⟩ := cl_some h
      refine v_callV0 cok6 (As := [vi v1, vi (iI 8), vi (x5 + (iI 1))]) er ka (tX8_sets h1) (lw_V q1372 q1374 qs57 q167 q1375) rfl dsX8_sets ⟨Nat.le_of_ble_eq_true rfl, Nat.le_of_ble_eq_true rfl⟩ (Nat.le_of_ble_eq_true rfl) dX8_lays_55 rfl ?_
      refine v_al0 dX8_lays_58 ?_
      refine v_il1 dX8_lays_59 ?_
      refine v_al0 dX8_lays_60 ?_
      refine v_il1 dX8_lays_61 ?_
      obtain ⟨b62, er, ka, h⟩ := cV_some h
      obtain ⟨x8, s9, h1, h⟩ := cl_some h
      refine v_callV1 cok6 (As := [vi v1]) er ka (tX8_lastOf h1) (lw_V q1696 q1698 qs95 q167 q1699) rfl dsX8_lastOf ⟨Nat.le_of_ble_eq_true rfl, Nat.le_of_ble_eq_true rfl⟩ (Nat.le_of_ble_eq_true rfl) dX8_lays_62 rfl ?_
      obtain ⟨b65, er, ka, h⟩ := cV_some h
      obtain ⟨x10, s11, h1, h⟩ := cl_some h
      refine v_callV1 cok6 (As := [vi v1, vi x8]) er ka (tX8_logPlace h1) (lw_V q1704 q1706 qs97 q167 q1707) rfl dsX8_logPlace ⟨Nat.le_of_ble_eq_true rfl, Nat.le_of_ble_eq_true rfl⟩ (Nat.le_of_ble_eq_true rfl) dX8_lays_65 rfl ?_
      refine v_istore (L' := [some (vr v0), some (vi v1), some (vi v2), some (vi v3), some (vi v4), some (vi v5), some (vi x10)]) dX8_lays_68 (Nat.le_of_ble_eq_true rfl) (Nat.le_of_ble_eq_true rfl) rfl ?_
      refine v_al0 dX8_lays_70 ?_
      refine v_gR cok6 h dX8_lays_71 (by decide) q1401 rfl (fun x12 h => ?_)
      refine v_iload dX8_lays_74 rfl ?_
      refine v_il2 dX8_lays_76 ?_
      refine v_sI h dX8_lays_77 (fun s13 h => ?_)
      refine v_al0 dX8_lays_78 ?_
      refine v_gR cok6 h dX8_lays_79 (by decide) q1401 rfl (fun x14 h => ?_)
      refine v_iload dX8_lays_82 rfl ?_
      refine v_iconst dX8_lays_84 ?_
      refine v_iadd dX8_lays_85 ?_
      refine v_il3 dX8_lays_86 ?_
      refine v_sI h dX8_lays_87 (fun s15 h => ?_)
      refine v_al0 dX8_lays_88 ?_
      refine v_gR cok6 h dX8_lays_89 (by decide) q1401 rfl (fun x16 h => ?_)
      refine v_iload dX8_lays_92 rfl ?_
      refine v_iconst dX8_lays_94 ?_
      refine v_iadd dX8_lays_95 ?_
      refine v_iload dX8_lays_96 rfl ?_
      refine v_sI h dX8_lays_98 (fun s17 h => ?_)
      refine v_al0 dX8_lays_99 ?_
      refine v_gR cok6 h dX8_lays_100 (by decide) q1401 rfl (fun x18 h => ?_)
      refine v_iload dX8_lays_103 rfl ?_
      refine v_iconst dX8_lays_105 ?_
      refine v_iadd dX8_lays_106 ?_
      refine v_iload dX8_lays_107 rfl ?_
      refine v_sI h dX8_lays_109 (fun s19 h => ?_)
      refine v_iconst dX8_lays_110 ?_
      exact v_retZ h dX8_lays_111 rfl
    · rw [if_pos c] at h
      refine v_iconst dX8_lays_40 ?_
      exact v_retZ h dX8_lays_41 rfl
theorem lX8_lays {E : EE} {G : GG} {v0 : Option Nat} {v1 : Int32} {v2 : Int32} {v3 : Int32} {v4 : Int32} {v5 : Int32} {σ : Mem} {z : Int32 × Mem} (h : sX8_lays v0 v1 v2 v3 v4 v5 σ = some z) : V E mX8_lays G 0 [some (vr v0), some (vi v1), some (vi v2), some (vi v3), some (vi v4), some (vi v5), none] [] σ (some (vi z.1), z.2) := by
  unfold sX8_lays at h
  refine v_al0 dX8_lays_0 ?_
  refine v_il1 dX8_lays_1 ?_
  refine v_bipush dX8_lays_2 rfl ?_
  obtain ⟨b4, er, ka, h⟩ := cV_some h
  obtain ⟨x1, s2, h1, h⟩ := cl_some h
  refine v_callV1 cok6 (As := [vi v1, vi (iI 8)]) er ka (tX8_the h1) (lw_V q1385 q1387 qs60 q167 q1388) rfl dsX8_the ⟨Nat.le_of_ble_eq_true rfl, Nat.le_of_ble_eq_true rfl⟩ (Nat.le_of_ble_eq_true rfl) dX8_lays_4 rfl ?_
  refine v_bipush dX8_lays_7 rfl ?_
  refine v_icmp_ne (tgt := 17) dX8_lays_9 (by decide) (fun c => ?_) (fun c => ?_)
  · rw [if_neg c] at h
    exact v_weak (wss (wss (wss (wss (wss (wss (wsn wse))))))) (lX8_lays_17 h)
  · rw [if_pos c] at h
    refine v_al0 dX8_lays_12 ?_
    refine v_il1 dX8_lays_13 ?_
    obtain ⟨b14, er, ka, h⟩ := cV_some h
    obtain ⟨_, s3, h1, h⟩ := cl_some h
    refine v_callV0 cok6 (As := [vi v1]) er ka (tX8_compacts h1) (lw_V q1759 q1761 qs110 q167 q1762) rfl dsX8_compacts ⟨Nat.le_of_ble_eq_true rfl, Nat.le_of_ble_eq_true rfl⟩ (Nat.le_of_ble_eq_true rfl) dX8_lays_14 rfl ?_
    exact v_weak (wss (wss (wss (wss (wss (wss (wsn wse))))))) (lX8_lays_17 h)
theorem tX8_lays {E : EE} {l : Launch} {v0 : Option Nat} {v1 : Int32} {v2 : Int32} {v3 : Int32} {v4 : Int32} {v5 : Int32} {σ : Mem} {z : Int32 × Mem} (h : sX8_lays v0 v1 v2 v3 v4 v5 σ = some z) : Mt E l mX8_lays [vr v0, vi v1, vi v2, vi v3, vi v4, vi v5] σ (some (vi z.1), z.2) :=
  Mt.ofVL (by decide) (Nat.le_of_ble_eq_true rfl) (fun G hG => lX8_lays h)
abbrev mX8_membersOf : MM := (yX8_membersOf, cX8_membersOf, 2, (Option.some Jvm.ClassFile.FieldType.int), 4, 89)
theorem dsX8_membersOf : DsOk yX8_membersOf 1 := ⟨by decide, by decide, by decide +kernel⟩
theorem lX8_membersOf {E : EE} {G : GG} {v0 : Option Nat} {v1 : Int32} {σ : Mem} {z : Int32 × Mem} (h : sX8_membersOf v0 v1 σ = some z) : V E mX8_membersOf G 0 [some (vr v0), some (vi v1)] [] σ (some (vi z.1), z.2) := by
  unfold sX8_membersOf at h
  refine v_al0 dX8_membersOf_0 ?_
  refine v_il1 dX8_membersOf_1 ?_
  obtain ⟨b2, er, ka, h⟩ := cV_some h
  obtain ⟨x1, s2, h1, h⟩ := cl_some h
  refine v_callV1 cok6 (As := [vi v1]) er ka (tX8_oldOf h1) (lw_V q1732 q1734 qs104 q167 q1735) rfl dsX8_oldOf ⟨Nat.le_of_ble_eq_true rfl, Nat.le_of_ble_eq_true rfl⟩ (Nat.le_of_ble_eq_true rfl) dX8_membersOf_2 rfl ?_
  refine v_al0 dX8_membersOf_5 ?_
  refine v_il1 dX8_membersOf_6 ?_
  obtain ⟨b7, er, ka, h⟩ := cV_some h
  obtain ⟨x3, s4, h1, h⟩ := cl_some h
  refine v_callV1 cok6 (As := [vi v1]) er ka (tX8_newOf h1) (lw_V q1740 q1742 qs106 q167 q1743) rfl dsX8_newOf ⟨Nat.le_of_ble_eq_true rfl, Nat.le_of_ble_eq_true rfl⟩ (Nat.le_of_ble_eq_true rfl) dX8_membersOf_7 rfl ?_
  refine v_ior dX8_membersOf_10 ?_
  exact v_retI h dX8_membersOf_11 rfl
theorem tX8_membersOf {E : EE} {l : Launch} {v0 : Option Nat} {v1 : Int32} {σ : Mem} {z : Int32 × Mem} (h : sX8_membersOf v0 v1 σ = some z) : Mt E l mX8_membersOf [vr v0, vi v1] σ (some (vi z.1), z.2) :=
  Mt.ofVL (by decide) (Nat.le_of_ble_eq_true rfl) (fun G hG => lX8_membersOf h)
abbrev mX8_tellsSnapshot : MM := (yX8_tellsSnapshot, cX8_tellsSnapshot, 3, (Option.none : Option Jvm.ClassFile.FieldType), 1, 22)
theorem dsX8_tellsSnapshot : DsOk yX8_tellsSnapshot 1 := ⟨by decide, by decide, by decide +kernel⟩
theorem lX8_tellsSnapshot_56b {E : EE} {G : GG} {k56 : Option Nat → Int32 → Int32 → Mem → Option (Unit × Mem)} (hk56 : ∀ (v0 : Option Nat) (v1 : Int32) (v2 : Int32) (s : Mem) (z : Unit × Mem), k56 v0 v1 v2 s = some z → V E mX8_tellsSnapshot G 56 [some (vr v0), some (vi v1), some (vi v2)] [] s (none, z.2)) {v0 : Option Nat} {v1 : Int32} {v2 : Int32} {σ : Mem} {z : Unit × Mem} (h : sX8_tellsSnapshot_56b k56 v0 v1 v2 σ = some z) : V E mX8_tellsSnapshot G 56 [some (vr v0), some (vi v1), some (vi v2)] [] σ (none, z.2) := by
  unfold sX8_tellsSnapshot_56b at h
  refine v_il2 dX8_tellsSnapshot_56 ?_
  refine v_bipush dX8_tellsSnapshot_57 rfl ?_
  refine v_icmp_ge (tgt := 86) dX8_tellsSnapshot_59 (by decide) (fun c => ?_) (fun c => ?_)
  · rw [if_pos c] at h
    exact v_retV h dX8_tellsSnapshot_86 rfl
  · rw [if_neg c] at h
    refine v_al0 dX8_tellsSnapshot_62 ?_
    refine v_gR cok6 h dX8_tellsSnapshot_63 (by decide) q1404 rfl (fun x1 h => ?_)
    refine v_bipush dX8_tellsSnapshot_66 rfl ?_
    refine v_il2 dX8_tellsSnapshot_68 ?_
    refine v_iadd dX8_tellsSnapshot_69 ?_
    refine v_al0 dX8_tellsSnapshot_70 ?_
    refine v_il1 dX8_tellsSnapshot_71 ?_
    refine v_bipush dX8_tellsSnapshot_72 rfl ?_
    refine v_il2 dX8_tellsSnapshot_74 ?_
    refine v_iadd dX8_tellsSnapshot_75 ?_
    obtain ⟨b76, er, ka, h⟩ := cV_some h
    obtain ⟨x2, s3, h1, h⟩ := cl_some h
    refine v_callV1 cok6 (As := [vi v1, vi ((iI 23) + v2)]) er ka (tX8_the h1) (lw_V q1385 q1387 qs60 q167 q1388) rfl dsX8_the ⟨Nat.le_of_ble_eq_true rfl, Nat.le_of_ble_eq_true rfl⟩ (Nat.le_of_ble_eq_true rfl) dX8_tellsSnapshot_76 rfl ?_
    refine v_sI h dX8_tellsSnapshot_79 (fun s4 h => ?_)
    refine v_iinc (L' := [some (vr v0), some (vi v1), some (vi (v2 + iI 1))]) dX8_tellsSnapshot_80 (Nat.le_of_ble_eq_true rfl) rfl rfl ?_
    refine v_goto (tgt := 56) dX8_tellsSnapshot_83 (by decide) ?_
    exact v_weak (wss (wss (wss wse))) (hk56 _ _ _ _ _ h)
theorem lX8_tellsSnapshot_56 {E : EE} {G : GG} : ∀ (f : Nat) {v0 : Option Nat} {v1 : Int32} {v2 : Int32} {σ : Mem} {z : Unit × Mem}, sX8_tellsSnapshot_56 f v0 v1 v2 σ = some z → V E mX8_tellsSnapshot G 56 [some (vr v0), some (vi v1), some (vi v2)] [] σ (none, z.2)
  | 0, _, _, _, _, _, h => by cases h
  | f + 1, _, _, _, _, _, h => lX8_tellsSnapshot_56b (fun _ _ _ _ _ h => lX8_tellsSnapshot_56 f h) h
theorem lX8_tellsSnapshot {E : EE} {G : GG} {v0 : Option Nat} {v1 : Int32} {σ : Mem} {z : Unit × Mem} (h : sX8_tellsSnapshot v0 v1 σ = some z) : V E mX8_tellsSnapshot G 0 [some (vr v0), some (vi v1), none] [] σ (none, z.2) := by
  unfold sX8_tellsSnapshot at h
  refine v_al0 dX8_tellsSnapshot_0 ?_
  refine v_gR cok6 h dX8_tellsSnapshot_1 (by decide) q1404 rfl (fun x1 h => ?_)
  refine v_bipush dX8_tellsSnapshot_4 rfl ?_
  refine v_al0 dX8_tellsSnapshot_6 ?_
  refine v_il1 dX8_tellsSnapshot_7 ?_
  refine v_iconst dX8_tellsSnapshot_8 ?_
  obtain ⟨b9, er, ka, h⟩ := cV_some h
  obtain ⟨x2, s3, h1, h⟩ := cl_some h
  refine v_callV1 cok6 (As := [vi v1, vi (iI 4)]) er ka (tX8_the h1) (lw_V q1385 q1387 qs60 q167 q1388) rfl dsX8_the ⟨Nat.le_of_ble_eq_true rfl, Nat.le_of_ble_eq_true rfl⟩ (Nat.le_of_ble_eq_true rfl) dX8_tellsSnapshot_9 rfl ?_
  refine v_sI h dX8_tellsSnapshot_12 (fun s4 h => ?_)
  refine v_al0 dX8_tellsSnapshot_13 ?_
  refine v_gR cok6 h dX8_tellsSnapshot_14 (by decide) q1404 rfl (fun x5 h => ?_)
  refine v_bipush dX8_tellsSnapshot_17 rfl ?_
  refine v_al0 dX8_tellsSnapshot_19 ?_
  refine v_il1 dX8_tellsSnapshot_20 ?_
  refine v_iconst dX8_tellsSnapshot_21 ?_
  obtain ⟨b22, er, ka, h⟩ := cV_some h
  obtain ⟨x6, s7, h1, h⟩ := cl_some h
  refine v_callV1 cok6 (As := [vi v1, vi (iI 5)]) er ka (tX8_the h1) (lw_V q1385 q1387 qs60 q167 q1388) rfl dsX8_the ⟨Nat.le_of_ble_eq_true rfl, Nat.le_of_ble_eq_true rfl⟩ (Nat.le_of_ble_eq_true rfl) dX8_tellsSnapshot_22 rfl ?_
  refine v_sI h dX8_tellsSnapshot_25 (fun s8 h => ?_)
  refine v_al0 dX8_tellsSnapshot_26 ?_
  refine v_gR cok6 h dX8_tellsSnapshot_27 (by decide) q1404 rfl (fun x9 h => ?_)
  refine v_bipush dX8_tellsSnapshot_30 rfl ?_
  refine v_al0 dX8_tellsSnapshot_32 ?_
  refine v_il1 dX8_tellsSnapshot_33 ?_
  refine v_bipush dX8_tellsSnapshot_34 rfl ?_
  obtain ⟨b36, er, ka, h⟩ := cV_some h
  obtain ⟨x10, s11, h1, h⟩ := cl_some h
  refine v_callV1 cok6 (As := [vi v1, vi (iI 6)]) er ka (tX8_the h1) (lw_V q1385 q1387 qs60 q167 q1388) rfl dsX8_the ⟨Nat.le_of_ble_eq_true rfl, Nat.le_of_ble_eq_true rfl⟩ (Nat.le_of_ble_eq_true rfl) dX8_tellsSnapshot_36 rfl ?_
  refine v_sI h dX8_tellsSnapshot_39 (fun s12 h => ?_)
  refine v_al0 dX8_tellsSnapshot_40 ?_
  refine v_gR cok6 h dX8_tellsSnapshot_41 (by decide) q1404 rfl (fun x13 h => ?_)
  refine v_bipush dX8_tellsSnapshot_44 rfl ?_
  refine v_al0 dX8_tellsSnapshot_46 ?_
  refine v_il1 dX8_tellsSnapshot_47 ?_
  refine v_bipush dX8_tellsSnapshot_48 rfl ?_
  obtain ⟨b50, er, ka, h⟩ := cV_some h
  obtain ⟨x14, s15, h1, h⟩ := cl_some h
  refine v_callV1 cok6 (As := [vi v1, vi (iI 7)]) er ka (tX8_the h1) (lw_V q1385 q1387 qs60 q167 q1388) rfl dsX8_the ⟨Nat.le_of_ble_eq_true rfl, Nat.le_of_ble_eq_true rfl⟩ (Nat.le_of_ble_eq_true rfl) dX8_tellsSnapshot_50 rfl ?_
  refine v_sI h dX8_tellsSnapshot_53 (fun s16 h => ?_)
  refine v_iconst dX8_tellsSnapshot_54 ?_
  refine v_istore_n (L' := [some (vr v0), some (vi v1), some (vi (iI 0))]) dX8_tellsSnapshot_55 (Nat.le_of_ble_eq_true rfl) (Nat.le_of_ble_eq_true rfl) rfl ?_
  exact v_weak (wss (wss (wss wse))) (lX8_tellsSnapshot_56 FU h)
theorem tX8_tellsSnapshot {E : EE} {l : Launch} {v0 : Option Nat} {v1 : Int32} {σ : Mem} {z : Unit × Mem} (h : sX8_tellsSnapshot v0 v1 σ = some z) : Mt E l mX8_tellsSnapshot [vr v0, vi v1] σ (none, z.2) :=
  Mt.ofVL (by decide) (Nat.le_of_ble_eq_true rfl) (fun G hG => lX8_tellsSnapshot h)
abbrev mX8_tellsEntries : MM := (yX8_tellsEntries, cX8_tellsEntries, 5, (Option.none : Option Jvm.ClassFile.FieldType), 3, 66)
theorem dsX8_tellsEntries : DsOk yX8_tellsEntries 2 := ⟨by decide, by decide, by decide +kernel⟩
theorem lX8_tellsEntries_67b {E : EE} {G : GG} {k67 : Option Nat → Int32 → Int32 → Int32 → Int32 → Mem → Option (Unit × Mem)} (hk67 : ∀ (v0 : Option Nat) (v1 : Int32) (v2 : Int32) (v3 : Int32) (v4 : Int32) (s : Mem) (z : Unit × Mem), k67 v0 v1 v2 v3 v4 s = some z → V E mX8_tellsEntries G 67 [some (vr v0), some (vi v1), some (vi v2), some (vi v3), some (vi v4)] [] s (none, z.2)) {v0 : Option Nat} {v1 : Int32} {v2 : Int32} {v3 : Int32} {v4 : Int32} {σ : Mem} {z : Unit × Mem} (h : sX8_tellsEntries_67b k67 v0 v1 v2 v3 v4 σ = some z) : V E mX8_tellsEntries G 67 [some (vr v0), some (vi v1), some (vi v2), some (vi v3), some (vi v4)] [] σ (none, z.2) := by
  unfold sX8_tellsEntries_67b at h
  refine v_iload dX8_tellsEntries_67 rfl ?_
  refine v_iconst dX8_tellsEntries_69 ?_
  refine v_il3 dX8_tellsEntries_70 ?_
  refine v_imul dX8_tellsEntries_71 ?_
  refine v_icmp_ge (tgt := 105) dX8_tellsEntries_72 (by decide) (fun c => ?_) (fun c => ?_)
  · rw [if_pos c] at h
    exact v_retV h dX8_tellsEntries_105 rfl
  · rw [if_neg c] at h
    refine v_al0 dX8_tellsEntries_75 ?_
    refine v_gR cok6 h dX8_tellsEntries_76 (by decide) q1404 rfl (fun x1 h => ?_)
    refine v_bipush dX8_tellsEntries_79 rfl ?_
    refine v_iload dX8_tellsEntries_81 rfl ?_
    refine v_iadd dX8_tellsEntries_83 ?_
    refine v_al0 dX8_tellsEntries_84 ?_
    refine v_gR cok6 h dX8_tellsEntries_85 (by decide) q1401 rfl (fun x2 h => ?_)
    refine v_al0 dX8_tellsEntries_88 ?_
    refine v_il1 dX8_tellsEntries_89 ?_
    refine v_il2 dX8_tellsEntries_90 ?_
    obtain ⟨b91, er, ka, h⟩ := cV_some h
    obtain ⟨x3, s4, h1, h⟩ := cl_some h
    refine v_callV1 cok6 (As := [vi v1, vi v2]) er ka (tX8_logPlace h1) (lw_V q1704 q1706 qs97 q167 q1707) rfl dsX8_logPlace ⟨Nat.le_of_ble_eq_true rfl, Nat.le_of_ble_eq_true rfl⟩ (Nat.le_of_ble_eq_true rfl) dX8_tellsEntries_91 rfl ?_
    refine v_iload dX8_tellsEntries_94 rfl ?_
    refine v_iadd dX8_tellsEntries_96 ?_
    refine v_aI h dX8_tellsEntries_97 (fun x5 h => ?_)
    refine v_sI h dX8_tellsEntries_98 (fun s6 h => ?_)
    refine v_iinc (L' := [some (vr v0), some (vi v1), some (vi v2), some (vi v3), some (vi (v4 + iI 1))]) dX8_tellsEntries_99 (Nat.le_of_ble_eq_true rfl) rfl rfl ?_
    refine v_goto (tgt := 67) dX8_tellsEntries_102 (by decide) ?_
    exact v_weak (wss (wss (wss (wss (wss wse))))) (hk67 _ _ _ _ _ _ _ h)
theorem lX8_tellsEntries_67 {E : EE} {G : GG} : ∀ (f : Nat) {v0 : Option Nat} {v1 : Int32} {v2 : Int32} {v3 : Int32} {v4 : Int32} {σ : Mem} {z : Unit × Mem}, sX8_tellsEntries_67 f v0 v1 v2 v3 v4 σ = some z → V E mX8_tellsEntries G 67 [some (vr v0), some (vi v1), some (vi v2), some (vi v3), some (vi v4)] [] σ (none, z.2)
  | 0, _, _, _, _, _, _, _, h => by cases h
  | f + 1, _, _, _, _, _, _, _, h => lX8_tellsEntries_67b (fun _ _ _ _ _ _ _ h => lX8_tellsEntries_67 f h) h
theorem lX8_tellsEntries {E : EE} {G : GG} {v0 : Option Nat} {v1 : Int32} {v2 : Int32} {σ : Mem} {z : Unit × Mem} (h : sX8_tellsEntries v0 v1 v2 σ = some z) : V E mX8_tellsEntries G 0 [some (vr v0), some (vi v1), some (vi v2), none, none] [] σ (none, z.2) := by
  unfold sX8_tellsEntries at h
  refine v_al0 dX8_tellsEntries_0 ?_
  refine v_gR cok6 h dX8_tellsEntries_1 (by decide) q1404 rfl (fun x1 h => ?_)
  refine v_bipush dX8_tellsEntries_4 rfl ?_
  refine v_il2 dX8_tellsEntries_6 ?_
  refine v_iconst dX8_tellsEntries_7 ?_
  refine v_isub dX8_tellsEntries_8 ?_
  refine v_sI h dX8_tellsEntries_9 (fun s2 h => ?_)
  refine v_al0 dX8_tellsEntries_10 ?_
  refine v_gR cok6 h dX8_tellsEntries_11 (by decide) q1404 rfl (fun x3 h => ?_)
  refine v_bipush dX8_tellsEntries_14 rfl ?_
  refine v_al0 dX8_tellsEntries_16 ?_
  refine v_il1 dX8_tellsEntries_17 ?_
  refine v_il2 dX8_tellsEntries_18 ?_
  refine v_iconst dX8_tellsEntries_19 ?_
  refine v_isub dX8_tellsEntries_20 ?_
  obtain ⟨b21, er, ka, h⟩ := cV_some h
  obtain ⟨x4, s5, h1, h⟩ := cl_some h
  refine v_callV1 cok6 (As := [vi v1, vi (v2 - (iI 1))]) er ka (tX8_termAt h1) (lw_V q1700 q1702 qs96 q167 q1703) rfl dsX8_termAt ⟨Nat.le_of_ble_eq_true rfl, Nat.le_of_ble_eq_true rfl⟩ (Nat.le_of_ble_eq_true rfl) dX8_tellsEntries_21 rfl ?_
  refine v_sI h dX8_tellsEntries_24 (fun s6 h => ?_)
  refine v_al0 dX8_tellsEntries_25 ?_
  refine v_gR cok6 h dX8_tellsEntries_26 (by decide) q1404 rfl (fun x7 h => ?_)
  refine v_bipush dX8_tellsEntries_29 rfl ?_
  refine v_al0 dX8_tellsEntries_31 ?_
  refine v_il1 dX8_tellsEntries_32 ?_
  refine v_bipush dX8_tellsEntries_33 rfl ?_
  obtain ⟨b35, er, ka, h⟩ := cV_some h
  obtain ⟨x8, s9, h1, h⟩ := cl_some h
  refine v_callV1 cok6 (As := [vi v1, vi (iI 9)]) er ka (tX8_the h1) (lw_V q1385 q1387 qs60 q167 q1388) rfl dsX8_the ⟨Nat.le_of_ble_eq_true rfl, Nat.le_of_ble_eq_true rfl⟩ (Nat.le_of_ble_eq_true rfl) dX8_tellsEntries_35 rfl ?_
  refine v_sI h dX8_tellsEntries_38 (fun s10 h => ?_)
  refine v_iconst dX8_tellsEntries_39 ?_
  refine v_iconst dX8_tellsEntries_40 ?_
  refine v_al0 dX8_tellsEntries_41 ?_
  refine v_il1 dX8_tellsEntries_42 ?_
  obtain ⟨b43, er, ka, h⟩ := cV_some h
  obtain ⟨x11, s12, h1, h⟩ := cl_some h
  refine v_callV1 cok6 (As := [vi v1]) er ka (tX8_lastOf h1) (lw_V q1696 q1698 qs95 q167 q1699) rfl dsX8_lastOf ⟨Nat.le_of_ble_eq_true rfl, Nat.le_of_ble_eq_true rfl⟩ (Nat.le_of_ble_eq_true rfl) dX8_tellsEntries_43 rfl ?_
  refine v_il2 dX8_tellsEntries_46 ?_
  refine v_isub dX8_tellsEntries_47 ?_
  refine v_iconst dX8_tellsEntries_48 ?_
  refine v_iadd dX8_tellsEntries_49 ?_
  obtain ⟨x13, s14, h1, h⟩ := cl_some h
  refine v_callS1 (As := [vi (iI 4), vi ((x11 - v2) + (iI 1))]) (tX8_min h1) (lw_S q1677 q1678 q167 q1679) dsX8_min ⟨Nat.le_of_ble_eq_true rfl, Nat.le_of_ble_eq_true rfl⟩ (Nat.le_of_ble_eq_true rfl) dX8_tellsEntries_50 rfl ?_
  obtain ⟨x15, s16, h1, h⟩ := cl_some h
  refine v_callS1 (As := [vi (iI 0), vi x13]) (tX8_max h1) (lw_S q1767 q1768 q167 q1769) dsX8_max ⟨Nat.le_of_ble_eq_true rfl, Nat.le_of_ble_eq_true rfl⟩ (Nat.le_of_ble_eq_true rfl) dX8_tellsEntries_53 rfl ?_
  refine v_istore_n (L' := [some (vr v0), some (vi v1), some (vi v2), some (vi x15), none]) dX8_tellsEntries_56 (Nat.le_of_ble_eq_true rfl) (Nat.le_of_ble_eq_true rfl) rfl ?_
  refine v_al0 dX8_tellsEntries_57 ?_
  refine v_gR cok6 h dX8_tellsEntries_58 (by decide) q1404 rfl (fun x17 h => ?_)
  refine v_iconst dX8_tellsEntries_61 ?_
  refine v_il3 dX8_tellsEntries_62 ?_
  refine v_sI h dX8_tellsEntries_63 (fun s18 h => ?_)
  refine v_iconst dX8_tellsEntries_64 ?_
  refine v_istore (L' := [some (vr v0), some (vi v1), some (vi v2), some (vi x15), some (vi (iI 0))]) dX8_tellsEntries_65 (Nat.le_of_ble_eq_true rfl) (Nat.le_of_ble_eq_true rfl) rfl ?_
  exact v_weak (wss (wss (wss (wss (wss wse))))) (lX8_tellsEntries_67 FU h)
theorem tX8_tellsEntries {E : EE} {l : Launch} {v0 : Option Nat} {v1 : Int32} {v2 : Int32} {σ : Mem} {z : Unit × Mem} (h : sX8_tellsEntries v0 v1 v2 σ = some z) : Mt E l mX8_tellsEntries [vr v0, vi v1, vi v2] σ (none, z.2) :=
  Mt.ofVL (by decide) (Nat.le_of_ble_eq_true rfl) (fun G hG => lX8_tellsEntries h)
abbrev mX8_sendsOn : MM := (yX8_sendsOn, cX8_sendsOn, 5, (Option.none : Option Jvm.ClassFile.FieldType), 4, 99)
theorem dsX8_sendsOn : DsOk yX8_sendsOn 2 := ⟨by decide, by decide, by decide +kernel⟩
theorem lX8_sendsOn_76 {E : EE} {G : GG} {v0 : Option Nat} {σ : Mem} {z : Unit × Mem} (h : sX8_sendsOn_76 v0 σ = some z) : V E mX8_sendsOn G 76 [some (vr v0), none, none, none, none] [] σ (none, z.2) := by
  unfold sX8_sendsOn_76 at h
  refine v_al0 dX8_sendsOn_76 ?_
  obtain ⟨b77, er, ka, h⟩ := cV_some h
  obtain ⟨_, s1, h1, h⟩ := cl_some h
  refine v_callV0 cok6 (As := []) er ka (tX8_posts h1) (lw_V q1716 q1718 qs100 q167 q1719) rfl dsX8_posts ⟨Nat.le_of_ble_eq_true rfl, Nat.le_of_ble_eq_true rfl⟩ (Nat.le_of_ble_eq_true rfl) dX8_sendsOn_77 rfl ?_
  exact v_retV h dX8_sendsOn_80 rfl
theorem lX8_sendsOn_40 {E : EE} {G : GG} {v0 : Option Nat} {v1 : Int32} {v3 : Int32} {v4 : Int32} {t0 : Option Nat} {t1 : Int32} {t2 : Int32} {t3 : Int32} {σ : Mem} {z : Unit × Mem} (h : sX8_sendsOn_40 v0 v1 v3 v4 t0 t1 t2 t3 σ = some z) : V E mX8_sendsOn G 40 [some (vr v0), some (vi v1), none, some (vi v3), some (vi v4)] [vi t3, vi t2, vi t1, vr t0] σ (none, z.2) := by
  unfold sX8_sendsOn_40 at h
  obtain ⟨b40, er, ka, h⟩ := cV_some h
  obtain ⟨_, s1, h1, h⟩ := cl_some h
  refine v_callV0 cok6 (As := [vi t1, vi t2, vi t3]) er ka (tX8_beginsMail h1) (lw_V q1712 q1714 qs99 q167 q1715) rfl dsX8_beginsMail ⟨Nat.le_of_ble_eq_true rfl, Nat.le_of_ble_eq_true rfl⟩ (Nat.le_of_ble_eq_true rfl) dX8_sendsOn_40 rfl ?_
  refine v_al0 dX8_sendsOn_43 ?_
  refine v_gR cok6 h dX8_sendsOn_44 (by decide) q1404 rfl (fun x2 h => ?_)
  refine v_bipush dX8_sendsOn_47 rfl ?_
  refine v_al0 dX8_sendsOn_49 ?_
  refine v_il1 dX8_sendsOn_50 ?_
  refine v_bipush dX8_sendsOn_51 rfl ?_
  obtain ⟨b53, er, ka, h⟩ := cV_some h
  obtain ⟨x3, s4, h1, h⟩ := cl_some h
  refine v_callV1 cok6 (As := [vi v1, vi (iI 13)]) er ka (tX8_the h1) (lw_V q1385 q1387 qs60 q167 q1388) rfl dsX8_the ⟨Nat.le_of_ble_eq_true rfl, Nat.le_of_ble_eq_true rfl⟩ (Nat.le_of_ble_eq_true rfl) dX8_sendsOn_53 rfl ?_
  refine v_sI h dX8_sendsOn_56 (fun s5 h => ?_)
  refine v_iload dX8_sendsOn_57 rfl ?_
  refine v_if_eq (tgt := 70) dX8_sendsOn_59 (by decide) (fun c => ?_) (fun c => ?_)
  · rw [if_pos c] at h
    refine v_al0 dX8_sendsOn_70 ?_
    refine v_il1 dX8_sendsOn_71 ?_
    refine v_il3 dX8_sendsOn_72 ?_
    obtain ⟨b73, er, ka, h⟩ := cV_some h
    obtain ⟨_, s6, h1, h⟩ := cl_some h
    refine v_callV0 cok6 (As := [vi v1, vi v3]) er ka (tX8_tellsEntries h1) (lw_V q1790 q1792 qs117 q167 q1793) rfl dsX8_tellsEntries ⟨Nat.le_of_ble_eq_true rfl, Nat.le_of_ble_eq_true rfl⟩ (Nat.le_of_ble_eq_true rfl) dX8_sendsOn_73 rfl ?_
    exact v_weak (wss (wsn (wsn (wsn (wsn wse))))) (lX8_sendsOn_76 h)
  · rw [if_neg c] at h
    refine v_al0 dX8_sendsOn_62 ?_
    refine v_il1 dX8_sendsOn_63 ?_
    obtain ⟨b64, er, ka, h⟩ := cV_some h
    obtain ⟨_, s7, h1, h⟩ := cl_some h
    refine v_callV0 cok6 (As := [vi v1]) er ka (tX8_tellsSnapshot h1) (lw_V q1786 q1788 qs116 q167 q1789) rfl dsX8_tellsSnapshot ⟨Nat.le_of_ble_eq_true rfl, Nat.le_of_ble_eq_true rfl⟩ (Nat.le_of_ble_eq_true rfl) dX8_sendsOn_64 rfl ?_
    refine v_goto (tgt := 76) dX8_sendsOn_67 (by decide) ?_
    exact v_weak (wss (wsn (wsn (wsn (wsn wse))))) (lX8_sendsOn_76 h)
theorem lX8_sendsOn_25 {E : EE} {G : GG} {v0 : Option Nat} {v1 : Int32} {v2 : Int32} {v3 : Int32} {t0 : Int32} {σ : Mem} {z : Unit × Mem} (h : sX8_sendsOn_25 v0 v1 v2 v3 t0 σ = some z) : V E mX8_sendsOn G 25 [some (vr v0), some (vi v1), some (vi v2), some (vi v3), none] [vi t0] σ (none, z.2) := by
  unfold sX8_sendsOn_25 at h
  refine v_istore (L' := [some (vr v0), some (vi v1), some (vi v2), some (vi v3), some (vi t0)]) dX8_sendsOn_25 (Nat.le_of_ble_eq_true rfl) (Nat.le_of_ble_eq_true rfl) rfl ?_
  refine v_al0 dX8_sendsOn_27 ?_
  refine v_il1 dX8_sendsOn_28 ?_
  refine v_il2 dX8_sendsOn_29 ?_
  refine v_iload dX8_sendsOn_30 rfl ?_
  refine v_if_eq (tgt := 39) dX8_sendsOn_32 (by decide) (fun c => ?_) (fun c => ?_)
  · rw [if_pos c] at h
    refine v_iconst dX8_sendsOn_39 ?_
    exact v_weak (wss (wss (wsn (wss (wss wse))))) (lX8_sendsOn_40 h)
  · rw [if_neg c] at h
    refine v_iconst dX8_sendsOn_35 ?_
    refine v_goto (tgt := 40) dX8_sendsOn_36 (by decide) ?_
    exact v_weak (wss (wss (wsn (wss (wss wse))))) (lX8_sendsOn_40 h)
theorem lX8_sendsOn {E : EE} {G : GG} {v0 : Option Nat} {v1 : Int32} {v2 : Int32} {σ : Mem} {z : Unit × Mem} (h : sX8_sendsOn v0 v1 v2 σ = some z) : V E mX8_sendsOn G 0 [some (vr v0), some (vi v1), some (vi v2), none, none] [] σ (none, z.2) := by
  unfold sX8_sendsOn at h
  refine v_al0 dX8_sendsOn_0 ?_
  refine v_il1 dX8_sendsOn_1 ?_
  refine v_bipush dX8_sendsOn_2 rfl ?_
  refine v_il2 dX8_sendsOn_4 ?_
  refine v_iadd dX8_sendsOn_5 ?_
  obtain ⟨b6, er, ka, h⟩ := cV_some h
  obtain ⟨x1, s2, h1, h⟩ := cl_some h
  refine v_callV1 cok6 (As := [vi v1, vi ((iI 31) + v2)]) er ka (tX8_the h1) (lw_V q1385 q1387 qs60 q167 q1388) rfl dsX8_the ⟨Nat.le_of_ble_eq_true rfl, Nat.le_of_ble_eq_true rfl⟩ (Nat.le_of_ble_eq_true rfl) dX8_sendsOn_6 rfl ?_
  refine v_istore_n (L' := [some (vr v0), some (vi v1), some (vi v2), some (vi x1), none]) dX8_sendsOn_9 (Nat.le_of_ble_eq_true rfl) (Nat.le_of_ble_eq_true rfl) rfl ?_
  refine v_il3 dX8_sendsOn_10 ?_
  refine v_al0 dX8_sendsOn_11 ?_
  refine v_il1 dX8_sendsOn_12 ?_
  refine v_iconst dX8_sendsOn_13 ?_
  obtain ⟨b14, er, ka, h⟩ := cV_some h
  obtain ⟨x3, s4, h1, h⟩ := cl_some h
  refine v_callV1 cok6 (As := [vi v1, vi (iI 4)]) er ka (tX8_the h1) (lw_V q1385 q1387 qs60 q167 q1388) rfl dsX8_the ⟨Nat.le_of_ble_eq_true rfl, Nat.le_of_ble_eq_true rfl⟩ (Nat.le_of_ble_eq_true rfl) dX8_sendsOn_14 rfl ?_
  refine v_icmp_gt (tgt := 24) dX8_sendsOn_17 (by decide) (fun c => ?_) (fun c => ?_)
  · rw [if_pos c] at h
    refine v_iconst dX8_sendsOn_24 ?_
    exact v_weak (wss (wss (wss (wss (wsn wse))))) (lX8_sendsOn_25 h)
  · rw [if_neg c] at h
    refine v_iconst dX8_sendsOn_20 ?_
    refine v_goto (tgt := 25) dX8_sendsOn_21 (by decide) ?_
    exact v_weak (wss (wss (wss (wss (wsn wse))))) (lX8_sendsOn_25 h)
theorem tX8_sendsOn {E : EE} {l : Launch} {v0 : Option Nat} {v1 : Int32} {v2 : Int32} {σ : Mem} {z : Unit × Mem} (h : sX8_sendsOn v0 v1 v2 σ = some z) : Mt E l mX8_sendsOn [vr v0, vi v1, vi v2] σ (none, z.2) :=
  Mt.ofVL (by decide) (Nat.le_of_ble_eq_true rfl) (fun G hG => lX8_sendsOn h)
abbrev mX8_sendsToAll : MM := (yX8_sendsToAll, cX8_sendsToAll, 3, (Option.none : Option Jvm.ClassFile.FieldType), 5, 123)
theorem dsX8_sendsToAll : DsOk yX8_sendsToAll 1 := ⟨by decide, by decide, by decide +kernel⟩
theorem lX8_sendsToAll_31 {E : EE} {G : GG} {k2 : Option Nat → Int32 → Int32 → Mem → Option (Unit × Mem)} (hk2 : ∀ (v0 : Option Nat) (v1 : Int32) (v2 : Int32) (s : Mem) (z : Unit × Mem), k2 v0 v1 v2 s = some z → V E mX8_sendsToAll G 2 [some (vr v0), some (vi v1), some (vi v2)] [] s (none, z.2)) {v0 : Option Nat} {v1 : Int32} {v2 : Int32} {σ : Mem} {z : Unit × Mem} (h : sX8_sendsToAll_31 k2 v0 v1 v2 σ = some z) : V E mX8_sendsToAll G 31 [some (vr v0), some (vi v1), some (vi v2)] [] σ (none, z.2) := by
  unfold sX8_sendsToAll_31 at h
  refine v_iinc (L' := [some (vr v0), some (vi v1), some (vi (v2 + iI 1))]) dX8_sendsToAll_31 (Nat.le_of_ble_eq_true rfl) rfl rfl ?_
  refine v_goto (tgt := 2) dX8_sendsToAll_34 (by decide) ?_
  exact v_weak (wss (wss (wss wse))) (hk2 _ _ _ _ _ h)
theorem lX8_sendsToAll_2b {E : EE} {G : GG} {k2 : Option Nat → Int32 → Int32 → Mem → Option (Unit × Mem)} (hk2 : ∀ (v0 : Option Nat) (v1 : Int32) (v2 : Int32) (s : Mem) (z : Unit × Mem), k2 v0 v1 v2 s = some z → V E mX8_sendsToAll G 2 [some (vr v0), some (vi v1), some (vi v2)] [] s (none, z.2)) {v0 : Option Nat} {v1 : Int32} {v2 : Int32} {σ : Mem} {z : Unit × Mem} (h : sX8_sendsToAll_2b k2 v0 v1 v2 σ = some z) : V E mX8_sendsToAll G 2 [some (vr v0), some (vi v1), some (vi v2)] [] σ (none, z.2) := by
  unfold sX8_sendsToAll_2b at h
  refine v_il2 dX8_sendsToAll_2 ?_
  refine v_bipush dX8_sendsToAll_3 rfl ?_
  refine v_icmp_ge (tgt := 37) dX8_sendsToAll_5 (by decide) (fun c => ?_) (fun c => ?_)
  · rw [if_pos c] at h
    exact v_retV h dX8_sendsToAll_37 rfl
  · rw [if_neg c] at h
    refine v_il2 dX8_sendsToAll_8 ?_
    refine v_il1 dX8_sendsToAll_9 ?_
    refine v_icmp_eq (tgt := 31) dX8_sendsToAll_10 (by decide) (fun c => ?_) (fun c => ?_)
    · rw [if_pos c] at h
      exact v_weak (wss (wss (wss wse))) (lX8_sendsToAll_31 hk2 h)
    · rw [if_neg c] at h
      refine v_al0 dX8_sendsToAll_13 ?_
      refine v_il1 dX8_sendsToAll_14 ?_
      obtain ⟨b15, er, ka, h⟩ := cV_some h
      obtain ⟨x1, s2, h1, h⟩ := cl_some h
      refine v_callV1 cok6 (As := [vi v1]) er ka (tX8_membersOf h1) (lw_V q1778 q1780 qs114 q167 q1781) rfl dsX8_membersOf ⟨Nat.le_of_ble_eq_true rfl, Nat.le_of_ble_eq_true rfl⟩ (Nat.le_of_ble_eq_true rfl) dX8_sendsToAll_15 rfl ?_
      refine v_il2 dX8_sendsToAll_18 ?_
      obtain ⟨x3, s4, h1, h⟩ := cl_some h
      refine v_callS1 (As := [vi x1, vi v2]) (tX8_has h1) (lw_S q1669 q1670 q167 q1671) dsX8_has ⟨Nat.le_of_ble_eq_true rfl, Nat.le_of_ble_eq_true rfl⟩ (Nat.le_of_ble_eq_true rfl) dX8_sendsToAll_19 rfl ?_
      refine v_if_eq (tgt := 31) dX8_sendsToAll_22 (by decide) (fun c => ?_) (fun c => ?_)
      · rw [if_pos c] at h
        exact v_weak (wss (wss (wss wse))) (lX8_sendsToAll_31 hk2 h)
      · rw [if_neg c] at h
        refine v_al0 dX8_sendsToAll_25 ?_
        refine v_il1 dX8_sendsToAll_26 ?_
        refine v_il2 dX8_sendsToAll_27 ?_
        obtain ⟨b28, er, ka, h⟩ := cV_some h
        obtain ⟨_, s5, h1, h⟩ := cl_some h
        refine v_callV0 cok6 (As := [vi v1, vi v2]) er ka (tX8_sendsOn h1) (lw_V q1782 q1784 qs115 q167 q1785) rfl dsX8_sendsOn ⟨Nat.le_of_ble_eq_true rfl, Nat.le_of_ble_eq_true rfl⟩ (Nat.le_of_ble_eq_true rfl) dX8_sendsToAll_28 rfl ?_
        exact v_weak (wss (wss (wss wse))) (lX8_sendsToAll_31 hk2 h)
theorem lX8_sendsToAll_2 {E : EE} {G : GG} : ∀ (f : Nat) {v0 : Option Nat} {v1 : Int32} {v2 : Int32} {σ : Mem} {z : Unit × Mem}, sX8_sendsToAll_2 f v0 v1 v2 σ = some z → V E mX8_sendsToAll G 2 [some (vr v0), some (vi v1), some (vi v2)] [] σ (none, z.2)
  | 0, _, _, _, _, _, h => by cases h
  | f + 1, _, _, _, _, _, h => lX8_sendsToAll_2b (fun _ _ _ _ _ h => lX8_sendsToAll_2 f h) h
theorem lX8_sendsToAll {E : EE} {G : GG} {v0 : Option Nat} {v1 : Int32} {σ : Mem} {z : Unit × Mem} (h : sX8_sendsToAll v0 v1 σ = some z) : V E mX8_sendsToAll G 0 [some (vr v0), some (vi v1), none] [] σ (none, z.2) := by
  unfold sX8_sendsToAll at h
  refine v_iconst dX8_sendsToAll_0 ?_
  refine v_istore_n (L' := [some (vr v0), some (vi v1), some (vi (iI 0))]) dX8_sendsToAll_1 (Nat.le_of_ble_eq_true rfl) (Nat.le_of_ble_eq_true rfl) rfl ?_
  exact v_weak (wss (wss (wss wse))) (lX8_sendsToAll_2 FU h)
theorem tX8_sendsToAll {E : EE} {l : Launch} {v0 : Option Nat} {v1 : Int32} {σ : Mem} {z : Unit × Mem} (h : sX8_sendsToAll v0 v1 σ = some z) : Mt E l mX8_sendsToAll [vr v0, vi v1] σ (none, z.2) :=
  Mt.ofVL (by decide) (Nat.le_of_ble_eq_true rfl) (fun G hG => lX8_sendsToAll h)
abbrev mX8_whoMatch : MM := (yX8_whoMatch, cX8_whoMatch, 5, (Option.some Jvm.ClassFile.FieldType.int), 1, 22)
theorem dsX8_whoMatch : DsOk yX8_whoMatch 2 := ⟨by decide, by decide, by decide +kernel⟩
theorem lX8_whoMatch_35 {E : EE} {G : GG} {k7 : Option Nat → Int32 → Int32 → Int32 → Int32 → Mem → Option (Int32 × Mem)} (hk7 : ∀ (v0 : Option Nat) (v1 : Int32) (v2 : Int32) (v3 : Int32) (v4 : Int32) (s : Mem) (z : Int32 × Mem), k7 v0 v1 v2 v3 v4 s = some z → V E mX8_whoMatch G 7 [some (vr v0), some (vi v1), some (vi v2), some (vi v3), some (vi v4)] [] s (some (vi z.1), z.2)) {v0 : Option Nat} {v1 : Int32} {v2 : Int32} {v3 : Int32} {v4 : Int32} {σ : Mem} {z : Int32 × Mem} (h : sX8_whoMatch_35 k7 v0 v1 v2 v3 v4 σ = some z) : V E mX8_whoMatch G 35 [some (vr v0), some (vi v1), some (vi v2), some (vi v3), some (vi v4)] [] σ (some (vi z.1), z.2) := by
  unfold sX8_whoMatch_35 at h
  refine v_iinc (L' := [some (vr v0), some (vi v1), some (vi v2), some (vi v3), some (vi (v4 + iI 1))]) dX8_whoMatch_35 (Nat.le_of_ble_eq_true rfl) rfl rfl ?_
  refine v_goto (tgt := 7) dX8_whoMatch_38 (by decide) ?_
  exact v_weak (wss (wss (wss (wss (wss wse))))) (hk7 _ _ _ _ _ _ _ h)
theorem lX8_whoMatch_7b {E : EE} {G : GG} {k7 : Option Nat → Int32 → Int32 → Int32 → Int32 → Mem → Option (Int32 × Mem)} (hk7 : ∀ (v0 : Option Nat) (v1 : Int32) (v2 : Int32) (v3 : Int32) (v4 : Int32) (s : Mem) (z : Int32 × Mem), k7 v0 v1 v2 v3 v4 s = some z → V E mX8_whoMatch G 7 [some (vr v0), some (vi v1), some (vi v2), some (vi v3), some (vi v4)] [] s (some (vi z.1), z.2)) {v0 : Option Nat} {v1 : Int32} {v2 : Int32} {v3 : Int32} {v4 : Int32} {σ : Mem} {z : Int32 × Mem} (h : sX8_whoMatch_7b k7 v0 v1 v2 v3 v4 σ = some z) : V E mX8_whoMatch G 7 [some (vr v0), some (vi v1), some (vi v2), some (vi v3), some (vi v4)] [] σ (some (vi z.1), z.2) := by
  unfold sX8_whoMatch_7b at h
  refine v_iload dX8_whoMatch_7 rfl ?_
  refine v_bipush dX8_whoMatch_9 rfl ?_
  refine v_icmp_ge (tgt := 41) dX8_whoMatch_11 (by decide) (fun c => ?_) (fun c => ?_)
  · rw [if_pos c] at h
    refine v_il3 dX8_whoMatch_41 ?_
    exact v_retI h dX8_whoMatch_42 rfl
  · rw [if_neg c] at h
    refine v_al0 dX8_whoMatch_14 ?_
    refine v_il1 dX8_whoMatch_15 ?_
    refine v_bipush dX8_whoMatch_16 rfl ?_
    refine v_iload dX8_whoMatch_18 rfl ?_
    refine v_iadd dX8_whoMatch_20 ?_
    obtain ⟨b21, er, ka, h⟩ := cV_some h
    obtain ⟨x1, s2, h1, h⟩ := cl_some h
    refine v_callV1 cok6 (As := [vi v1, vi ((iI 38) + v4)]) er ka (tX8_the h1) (lw_V q1385 q1387 qs60 q167 q1388) rfl dsX8_the ⟨Nat.le_of_ble_eq_true rfl, Nat.le_of_ble_eq_true rfl⟩ (Nat.le_of_ble_eq_true rfl) dX8_whoMatch_21 rfl ?_
    refine v_il2 dX8_whoMatch_24 ?_
    refine v_icmp_lt (tgt := 35) dX8_whoMatch_25 (by decide) (fun c => ?_) (fun c => ?_)
    · rw [if_pos c] at h
      exact v_weak (wss (wss (wss (wss (wss wse))))) (lX8_whoMatch_35 hk7 h)
    · rw [if_neg c] at h
      refine v_il3 dX8_whoMatch_28 ?_
      refine v_iconst dX8_whoMatch_29 ?_
      refine v_iload dX8_whoMatch_30 rfl ?_
      refine v_ishl dX8_whoMatch_32 ?_
      refine v_ior dX8_whoMatch_33 ?_
      refine v_istore_n (L' := [some (vr v0), some (vi v1), some (vi v2), some (vi (v3 ||| ((iI 1) <<< (v4 &&& 31)))), some (vi v4)]) dX8_whoMatch_34 (Nat.le_of_ble_eq_true rfl) (Nat.le_of_ble_eq_true rfl) rfl ?_
      exact v_weak (wss (wss (wss (wss (wss wse))))) (lX8_whoMatch_35 hk7 h)
theorem lX8_whoMatch_7 {E : EE} {G : GG} : ∀ (f : Nat) {v0 : Option Nat} {v1 : Int32} {v2 : Int32} {v3 : Int32} {v4 : Int32} {σ : Mem} {z : Int32 × Mem}, sX8_whoMatch_7 f v0 v1 v2 v3 v4 σ = some z → V E mX8_whoMatch G 7 [some (vr v0), some (vi v1), some (vi v2), some (vi v3), some (vi v4)] [] σ (some (vi z.1), z.2)
  | 0, _, _, _, _, _, _, _, h => by cases h
  | f + 1, _, _, _, _, _, _, _, h => lX8_whoMatch_7b (fun _ _ _ _ _ _ _ h => lX8_whoMatch_7 f h) h
theorem lX8_whoMatch {E : EE} {G : GG} {v0 : Option Nat} {v1 : Int32} {v2 : Int32} {σ : Mem} {z : Int32 × Mem} (h : sX8_whoMatch v0 v1 v2 σ = some z) : V E mX8_whoMatch G 0 [some (vr v0), some (vi v1), some (vi v2), none, none] [] σ (some (vi z.1), z.2) := by
  unfold sX8_whoMatch at h
  refine v_iconst dX8_whoMatch_0 ?_
  refine v_il1 dX8_whoMatch_1 ?_
  refine v_ishl dX8_whoMatch_2 ?_
  refine v_istore_n (L' := [some (vr v0), some (vi v1), some (vi v2), some (vi ((iI 1) <<< (v1 &&& 31))), none]) dX8_whoMatch_3 (Nat.le_of_ble_eq_true rfl) (Nat.le_of_ble_eq_true rfl) rfl ?_
  refine v_iconst dX8_whoMatch_4 ?_
  refine v_istore (L' := [some (vr v0), some (vi v1), some (vi v2), some (vi ((iI 1) <<< (v1 &&& 31))), some (vi (iI 0))]) dX8_whoMatch_5 (Nat.le_of_ble_eq_true rfl) (Nat.le_of_ble_eq_true rfl) rfl ?_
  exact v_weak (wss (wss (wss (wss (wss wse))))) (lX8_whoMatch_7 FU h)
theorem tX8_whoMatch {E : EE} {l : Launch} {v0 : Option Nat} {v1 : Int32} {v2 : Int32} {σ : Mem} {z : Int32 × Mem} (h : sX8_whoMatch v0 v1 v2 σ = some z) : Mt E l mX8_whoMatch [vr v0, vi v1, vi v2] σ (some (vi z.1), z.2) :=
  Mt.ofVL (by decide) (Nat.le_of_ble_eq_true rfl) (fun G hG => lX8_whoMatch h)
abbrev mX8_mostHeld : MM := (yX8_mostHeld, cX8_mostHeld, 3, (Option.some Jvm.ClassFile.FieldType.int), 5, 113)
theorem dsX8_mostHeld : DsOk yX8_mostHeld 1 := ⟨by decide, by decide, by decide +kernel⟩
theorem lX8_mostHeld_48 {E : EE} {G : GG} {k6 : Option Nat → Int32 → Int32 → Mem → Option (Int32 × Mem)} (hk6 : ∀ (v0 : Option Nat) (v1 : Int32) (v2 : Int32) (s : Mem) (z : Int32 × Mem), k6 v0 v1 v2 s = some z → V E mX8_mostHeld G 6 [some (vr v0), some (vi v1), some (vi v2)] [] s (some (vi z.1), z.2)) {v0 : Option Nat} {v1 : Int32} {v2 : Int32} {σ : Mem} {z : Int32 × Mem} (h : sX8_mostHeld_48 k6 v0 v1 v2 σ = some z) : V E mX8_mostHeld G 48 [some (vr v0), some (vi v1), some (vi v2)] [] σ (some (vi z.1), z.2) := by
  unfold sX8_mostHeld_48 at h
  refine v_iinc (L' := [some (vr v0), some (vi v1), some (vi (v2 + iI (-1)))]) dX8_mostHeld_48 (Nat.le_of_ble_eq_true rfl) rfl rfl ?_
  refine v_goto (tgt := 6) dX8_mostHeld_51 (by decide) ?_
  exact v_weak (wss (wss (wss wse))) (hk6 _ _ _ _ _ h)
theorem lX8_mostHeld_6b {E : EE} {G : GG} {k6 : Option Nat → Int32 → Int32 → Mem → Option (Int32 × Mem)} (hk6 : ∀ (v0 : Option Nat) (v1 : Int32) (v2 : Int32) (s : Mem) (z : Int32 × Mem), k6 v0 v1 v2 s = some z → V E mX8_mostHeld G 6 [some (vr v0), some (vi v1), some (vi v2)] [] s (some (vi z.1), z.2)) {v0 : Option Nat} {v1 : Int32} {v2 : Int32} {σ : Mem} {z : Int32 × Mem} (h : sX8_mostHeld_6b k6 v0 v1 v2 σ = some z) : V E mX8_mostHeld G 6 [some (vr v0), some (vi v1), some (vi v2)] [] σ (some (vi z.1), z.2) := by
  unfold sX8_mostHeld_6b at h
  refine v_il2 dX8_mostHeld_6 ?_
  refine v_al0 dX8_mostHeld_7 ?_
  refine v_il1 dX8_mostHeld_8 ?_
  refine v_bipush dX8_mostHeld_9 rfl ?_
  obtain ⟨b11, er, ka, h⟩ := cV_some h
  obtain ⟨x1, s2, h1, h⟩ := cl_some h
  refine v_callV1 cok6 (As := [vi v1, vi (iI 9)]) er ka (tX8_the h1) (lw_V q1385 q1387 qs60 q167 q1388) rfl dsX8_the ⟨Nat.le_of_ble_eq_true rfl, Nat.le_of_ble_eq_true rfl⟩ (Nat.le_of_ble_eq_true rfl) dX8_mostHeld_11 rfl ?_
  refine v_icmp_le (tgt := 54) dX8_mostHeld_14 (by decide) (fun c => ?_) (fun c => ?_)
  · rw [if_pos c] at h
    refine v_al0 dX8_mostHeld_54 ?_
    refine v_il1 dX8_mostHeld_55 ?_
    refine v_bipush dX8_mostHeld_56 rfl ?_
    obtain ⟨b58, er, ka, h⟩ := cV_some h
    obtain ⟨x3, s4, h1, h⟩ := cl_some h
    refine v_callV1 cok6 (As := [vi v1, vi (iI 9)]) er ka (tX8_the h1) (lw_V q1385 q1387 qs60 q167 q1388) rfl dsX8_the ⟨Nat.le_of_ble_eq_true rfl, Nat.le_of_ble_eq_true rfl⟩ (Nat.le_of_ble_eq_true rfl) dX8_mostHeld_58 rfl ?_
    exact v_retI h dX8_mostHeld_61 rfl
  · rw [if_neg c] at h
    refine v_al0 dX8_mostHeld_17 ?_
    refine v_il1 dX8_mostHeld_18 ?_
    refine v_il2 dX8_mostHeld_19 ?_
    obtain ⟨b20, er, ka, h⟩ := cV_some h
    obtain ⟨x5, s6, h1, h⟩ := cl_some h
    refine v_callV1 cok6 (As := [vi v1, vi v2]) er ka (tX8_termAt h1) (lw_V q1700 q1702 qs96 q167 q1703) rfl dsX8_termAt ⟨Nat.le_of_ble_eq_true rfl, Nat.le_of_ble_eq_true rfl⟩ (Nat.le_of_ble_eq_true rfl) dX8_mostHeld_20 rfl ?_
    refine v_al0 dX8_mostHeld_23 ?_
    refine v_il1 dX8_mostHeld_24 ?_
    refine v_iconst dX8_mostHeld_25 ?_
    obtain ⟨b26, er, ka, h⟩ := cV_some h
    obtain ⟨x7, s8, h1, h⟩ := cl_some h
    refine v_callV1 cok6 (As := [vi v1, vi (iI 1)]) er ka (tX8_the h1) (lw_V q1385 q1387 qs60 q167 q1388) rfl dsX8_the ⟨Nat.le_of_ble_eq_true rfl, Nat.le_of_ble_eq_true rfl⟩ (Nat.le_of_ble_eq_true rfl) dX8_mostHeld_26 rfl ?_
    refine v_icmp_ne (tgt := 48) dX8_mostHeld_29 (by decide) (fun c => ?_) (fun c => ?_)
    · rw [if_neg c] at h
      exact v_weak (wss (wss (wss wse))) (lX8_mostHeld_48 hk6 h)
    · rw [if_pos c] at h
      refine v_al0 dX8_mostHeld_32 ?_
      refine v_il1 dX8_mostHeld_33 ?_
      refine v_al0 dX8_mostHeld_34 ?_
      refine v_il1 dX8_mostHeld_35 ?_
      refine v_il2 dX8_mostHeld_36 ?_
      obtain ⟨b37, er, ka, h⟩ := cV_some h
      obtain ⟨x9, s10, h1, h⟩ := cl_some h
      refine v_callV1 cok6 (As := [vi v1, vi v2]) er ka (tX8_whoMatch h1) (lw_V q1802 q1804 qs120 q167 q1805) rfl dsX8_whoMatch ⟨Nat.le_of_ble_eq_true rfl, Nat.le_of_ble_eq_true rfl⟩ (Nat.le_of_ble_eq_true rfl) dX8_mostHeld_37 rfl ?_
      obtain ⟨b40, er, ka, h⟩ := cV_some h
      obtain ⟨x11, s12, h1, h⟩ := cl_some h
      refine v_callV1 cok6 (As := [vi v1, vi x9]) er ka (tX8_isMost h1) (lw_V q1728 q1730 qs103 q167 q1731) rfl dsX8_isMost ⟨Nat.le_of_ble_eq_true rfl, Nat.le_of_ble_eq_true rfl⟩ (Nat.le_of_ble_eq_true rfl) dX8_mostHeld_40 rfl ?_
      refine v_if_eq (tgt := 48) dX8_mostHeld_43 (by decide) (fun c => ?_) (fun c => ?_)
      · rw [if_pos c] at h
        exact v_weak (wss (wss (wss wse))) (lX8_mostHeld_48 hk6 h)
      · rw [if_neg c] at h
        refine v_il2 dX8_mostHeld_46 ?_
        exact v_retI h dX8_mostHeld_47 rfl
theorem lX8_mostHeld_6 {E : EE} {G : GG} : ∀ (f : Nat) {v0 : Option Nat} {v1 : Int32} {v2 : Int32} {σ : Mem} {z : Int32 × Mem}, sX8_mostHeld_6 f v0 v1 v2 σ = some z → V E mX8_mostHeld G 6 [some (vr v0), some (vi v1), some (vi v2)] [] σ (some (vi z.1), z.2)
  | 0, _, _, _, _, _, h => by cases h
  | f + 1, _, _, _, _, _, h => lX8_mostHeld_6b (fun _ _ _ _ _ h => lX8_mostHeld_6 f h) h
theorem lX8_mostHeld {E : EE} {G : GG} {v0 : Option Nat} {v1 : Int32} {σ : Mem} {z : Int32 × Mem} (h : sX8_mostHeld v0 v1 σ = some z) : V E mX8_mostHeld G 0 [some (vr v0), some (vi v1), none] [] σ (some (vi z.1), z.2) := by
  unfold sX8_mostHeld at h
  refine v_al0 dX8_mostHeld_0 ?_
  refine v_il1 dX8_mostHeld_1 ?_
  obtain ⟨b2, er, ka, h⟩ := cV_some h
  obtain ⟨x1, s2, h1, h⟩ := cl_some h
  refine v_callV1 cok6 (As := [vi v1]) er ka (tX8_lastOf h1) (lw_V q1696 q1698 qs95 q167 q1699) rfl dsX8_lastOf ⟨Nat.le_of_ble_eq_true rfl, Nat.le_of_ble_eq_true rfl⟩ (Nat.le_of_ble_eq_true rfl) dX8_mostHeld_2 rfl ?_
  refine v_istore_n (L' := [some (vr v0), some (vi v1), some (vi x1)]) dX8_mostHeld_5 (Nat.le_of_ble_eq_true rfl) (Nat.le_of_ble_eq_true rfl) rfl ?_
  exact v_weak (wss (wss (wss wse))) (lX8_mostHeld_6 FU h)
theorem tX8_mostHeld {E : EE} {l : Launch} {v0 : Option Nat} {v1 : Int32} {σ : Mem} {z : Int32 × Mem} (h : sX8_mostHeld v0 v1 σ = some z) : Mt E l mX8_mostHeld [vr v0, vi v1] σ (some (vi z.1), z.2) :=
  Mt.ofVL (by decide) (Nat.le_of_ble_eq_true rfl) (fun G hG => lX8_mostHeld h)
abbrev mX8_hasEntry : MM := (yX8_hasEntry, cX8_hasEntry, 3, (Option.some Jvm.ClassFile.FieldType.boolean), 2, 43)
theorem dsX8_hasEntry : DsOk yX8_hasEntry 2 := ⟨by decide, by decide, by decide +kernel⟩
theorem lX8_hasEntry {E : EE} {G : GG} {v0 : Option Nat} {v1 : Int32} {v2 : Int32} {σ : Mem} {z : Int32 × Mem} (h : sX8_hasEntry v0 v1 v2 σ = some z) : V E mX8_hasEntry G 0 [some (vr v0), some (vi v1), some (vi v2)] [] σ (some (vi z.1), z.2) := by
  unfold sX8_hasEntry at h
  refine v_il2 dX8_hasEntry_0 ?_
  refine v_al0 dX8_hasEntry_1 ?_
  refine v_il1 dX8_hasEntry_2 ?_
  refine v_iconst dX8_hasEntry_3 ?_
  obtain ⟨b4, er, ka, h⟩ := cV_some h
  obtain ⟨x1, s2, h1, h⟩ := cl_some h
  refine v_callV1 cok6 (As := [vi v1, vi (iI 4)]) er ka (tX8_the h1) (lw_V q1385 q1387 qs60 q167 q1388) rfl dsX8_the ⟨Nat.le_of_ble_eq_true rfl, Nat.le_of_ble_eq_true rfl⟩ (Nat.le_of_ble_eq_true rfl) dX8_hasEntry_4 rfl ?_
  refine v_icmp_le (tgt := 23) dX8_hasEntry_7 (by decide) (fun c => ?_) (fun c => ?_)
  · rw [if_pos c] at h
    refine v_iconst dX8_hasEntry_23 ?_
    exact v_retZ h dX8_hasEntry_24 rfl
  · rw [if_neg c] at h
    refine v_il2 dX8_hasEntry_10 ?_
    refine v_al0 dX8_hasEntry_11 ?_
    refine v_il1 dX8_hasEntry_12 ?_
    obtain ⟨b13, er, ka, h⟩ := cV_some h
    obtain ⟨x3, s4, h1, h⟩ := cl_some h
    refine v_callV1 cok6 (As := [vi v1]) er ka (tX8_lastOf h1) (lw_V q1696 q1698 qs95 q167 q1699) rfl dsX8_lastOf ⟨Nat.le_of_ble_eq_true rfl, Nat.le_of_ble_eq_true rfl⟩ (Nat.le_of_ble_eq_true rfl) dX8_hasEntry_13 rfl ?_
    refine v_icmp_gt (tgt := 23) dX8_hasEntry_16 (by decide) (fun c => ?_) (fun c => ?_)
    · rw [if_pos c] at h
      refine v_iconst dX8_hasEntry_23 ?_
      exact v_retZ h dX8_hasEntry_24 rfl
    · rw [if_neg c] at h
      refine v_iconst dX8_hasEntry_19 ?_
      refine v_goto (tgt := 24) dX8_hasEntry_20 (by decide) ?_
      exact v_retZ h dX8_hasEntry_24 rfl
theorem tX8_hasEntry {E : EE} {l : Launch} {v0 : Option Nat} {v1 : Int32} {v2 : Int32} {σ : Mem} {z : Int32 × Mem} (h : sX8_hasEntry v0 v1 v2 σ = some z) : Mt E l mX8_hasEntry [vr v0, vi v1, vi v2] σ (some (vi z.1), z.2) :=
  Mt.ofVL (by decide) (Nat.le_of_ble_eq_true rfl) (fun G hG => lX8_hasEntry h)
abbrev mX8_seesHeld : MM := (yX8_seesHeld, cX8_seesHeld, 7, (Option.none : Option Jvm.ClassFile.FieldType), 2, 44)
theorem dsX8_seesHeld : DsOk yX8_seesHeld 2 := ⟨by decide, by decide, by decide +kernel⟩
theorem lX8_seesHeld_126b {E : EE} {G : GG} {k126 : Option Nat → Int32 → Int32 → Int32 → Int32 → Mem → Option (Unit × Mem)} (hk126 : ∀ (v0 : Option Nat) (v2 : Int32) (v3 : Int32) (v4 : Int32) (v6 : Int32) (s : Mem) (z : Unit × Mem), k126 v0 v2 v3 v4 v6 s = some z → V E mX8_seesHeld G 126 [some (vr v0), none, some (vi v2), some (vi v3), some (vi v4), none, some (vi v6)] [] s (none, z.2)) {v0 : Option Nat} {v2 : Int32} {v3 : Int32} {v4 : Int32} {v6 : Int32} {σ : Mem} {z : Unit × Mem} (h : sX8_seesHeld_126b k126 v0 v2 v3 v4 v6 σ = some z) : V E mX8_seesHeld G 126 [some (vr v0), none, some (vi v2), some (vi v3), some (vi v4), none, some (vi v6)] [] σ (none, z.2) := by
  unfold sX8_seesHeld_126b at h
  refine v_iload dX8_seesHeld_126 rfl ?_
  refine v_iconst dX8_seesHeld_128 ?_
  refine v_icmp_ge (tgt := 157) dX8_seesHeld_129 (by decide) (fun c => ?_) (fun c => ?_)
  · rw [if_pos c] at h
    refine v_al0 dX8_seesHeld_157 ?_
    refine v_gR cok6 h dX8_seesHeld_158 (by decide) q1401 rfl (fun x1 h => ?_)
    refine v_sipush dX8_seesHeld_161 rfl ?_
    refine v_al0 dX8_seesHeld_164 ?_
    refine v_gR cok6 h dX8_seesHeld_165 (by decide) q1401 rfl (fun x2 h => ?_)
    refine v_sipush dX8_seesHeld_168 rfl ?_
    refine v_aI h dX8_seesHeld_171 (fun x3 h => ?_)
    refine v_il2 dX8_seesHeld_172 ?_
    obtain ⟨x4, s5, h1, h⟩ := cl_some h
    refine v_callS1 (As := [vi x3, vi v2]) (tX8_max h1) (lw_S q1767 q1768 q167 q1769) dsX8_max ⟨Nat.le_of_ble_eq_true rfl, Nat.le_of_ble_eq_true rfl⟩ (Nat.le_of_ble_eq_true rfl) dX8_seesHeld_173 rfl ?_
    refine v_sI h dX8_seesHeld_176 (fun s6 h => ?_)
    refine v_al0 dX8_seesHeld_177 ?_
    refine v_al0 dX8_seesHeld_178 ?_
    refine v_gI cok6 h dX8_seesHeld_179 (by decide) q1430 rfl (fun x7 h => ?_)
    refine v_iconst dX8_seesHeld_182 ?_
    refine v_iadd dX8_seesHeld_183 ?_
    refine v_pI cok6 h dX8_seesHeld_184 (by decide) q1430 rfl rfl (fun s8 h => ?_)
    exact v_retV h dX8_seesHeld_187 rfl
  · rw [if_neg c] at h
    refine v_al0 dX8_seesHeld_132 ?_
    refine v_gR cok6 h dX8_seesHeld_133 (by decide) q1401 rfl (fun x9 h => ?_)
    refine v_iload dX8_seesHeld_136 rfl ?_
    refine v_iload dX8_seesHeld_138 rfl ?_
    refine v_iadd dX8_seesHeld_140 ?_
    refine v_al0 dX8_seesHeld_141 ?_
    refine v_gR cok6 h dX8_seesHeld_142 (by decide) q1401 rfl (fun x10 h => ?_)
    refine v_il3 dX8_seesHeld_145 ?_
    refine v_iload dX8_seesHeld_146 rfl ?_
    refine v_iadd dX8_seesHeld_148 ?_
    refine v_aI h dX8_seesHeld_149 (fun x11 h => ?_)
    refine v_sI h dX8_seesHeld_150 (fun s12 h => ?_)
    refine v_iinc (L' := [some (vr v0), none, some (vi v2), some (vi v3), some (vi v4), none, some (vi (v6 + iI 1))]) dX8_seesHeld_151 (Nat.le_of_ble_eq_true rfl) rfl rfl ?_
    refine v_goto (tgt := 126) dX8_seesHeld_154 (by decide) ?_
    exact v_weak (wss (wsn (wss (wss (wss (wsn (wss wse))))))) (hk126 _ _ _ _ _ _ _ h)
theorem lX8_seesHeld_126 {E : EE} {G : GG} : ∀ (f : Nat) {v0 : Option Nat} {v2 : Int32} {v3 : Int32} {v4 : Int32} {v6 : Int32} {σ : Mem} {z : Unit × Mem}, sX8_seesHeld_126 f v0 v2 v3 v4 v6 σ = some z → V E mX8_seesHeld G 126 [some (vr v0), none, some (vi v2), some (vi v3), some (vi v4), none, some (vi v6)] [] σ (none, z.2)
  | 0, _, _, _, _, _, _, _, h => by cases h
  | f + 1, _, _, _, _, _, _, _, h => lX8_seesHeld_126b (fun _ _ _ _ _ _ _ h => lX8_seesHeld_126 f h) h
theorem lX8_seesHeld_95 {E : EE} {G : GG} {k57 : Option Nat → Int32 → Int32 → Int32 → Int32 → Int32 → Mem → Option (Unit × Mem)} (hk57 : ∀ (v0 : Option Nat) (v2 : Int32) (v3 : Int32) (v4 : Int32) (v5 : Int32) (v6 : Int32) (s : Mem) (z : Unit × Mem), k57 v0 v2 v3 v4 v5 v6 s = some z → V E mX8_seesHeld G 57 [some (vr v0), none, some (vi v2), some (vi v3), some (vi v4), some (vi v5), some (vi v6)] [] s (none, z.2)) {v0 : Option Nat} {v2 : Int32} {v3 : Int32} {v4 : Int32} {v6 : Int32} {t0 : Int32} {σ : Mem} {z : Unit × Mem} (h : sX8_seesHeld_95 k57 v0 v2 v3 v4 v6 t0 σ = some z) : V E mX8_seesHeld G 95 [some (vr v0), none, some (vi v2), some (vi v3), some (vi v4), none, some (vi v6)] [vi t0] σ (none, z.2) := by
  unfold sX8_seesHeld_95 at h
  refine v_istore (L' := [some (vr v0), none, some (vi v2), some (vi v3), some (vi v4), some (vi t0), some (vi v6)]) dX8_seesHeld_95 (Nat.le_of_ble_eq_true rfl) (Nat.le_of_ble_eq_true rfl) rfl ?_
  refine v_iinc (L' := [some (vr v0), none, some (vi v2), some (vi v3), some (vi v4), some (vi t0), some (vi (v6 + iI 1))]) dX8_seesHeld_97 (Nat.le_of_ble_eq_true rfl) rfl rfl ?_
  refine v_goto (tgt := 57) dX8_seesHeld_100 (by decide) ?_
  exact v_weak (wss (wsn (wss (wss (wss (wss (wss wse))))))) (hk57 _ _ _ _ _ _ _ _ h)
theorem lX8_seesHeld_94 {E : EE} {G : GG} {k57 : Option Nat → Int32 → Int32 → Int32 → Int32 → Int32 → Mem → Option (Unit × Mem)} (hk57 : ∀ (v0 : Option Nat) (v2 : Int32) (v3 : Int32) (v4 : Int32) (v5 : Int32) (v6 : Int32) (s : Mem) (z : Unit × Mem), k57 v0 v2 v3 v4 v5 v6 s = some z → V E mX8_seesHeld G 57 [some (vr v0), none, some (vi v2), some (vi v3), some (vi v4), some (vi v5), some (vi v6)] [] s (none, z.2)) {v0 : Option Nat} {v2 : Int32} {v3 : Int32} {v4 : Int32} {v6 : Int32} {σ : Mem} {z : Unit × Mem} (h : sX8_seesHeld_94 k57 v0 v2 v3 v4 v6 σ = some z) : V E mX8_seesHeld G 94 [some (vr v0), none, some (vi v2), some (vi v3), some (vi v4), none, some (vi v6)] [] σ (none, z.2) := by
  unfold sX8_seesHeld_94 at h
  refine v_iconst dX8_seesHeld_94 ?_
  exact v_weak (wss (wsn (wss (wss (wss (wsn (wss wse))))))) (lX8_seesHeld_95 hk57 h)
theorem lX8_seesHeld_57b {E : EE} {G : GG} {k57 : Option Nat → Int32 → Int32 → Int32 → Int32 → Int32 → Mem → Option (Unit × Mem)} (hk57 : ∀ (v0 : Option Nat) (v2 : Int32) (v3 : Int32) (v4 : Int32) (v5 : Int32) (v6 : Int32) (s : Mem) (z : Unit × Mem), k57 v0 v2 v3 v4 v5 v6 s = some z → V E mX8_seesHeld G 57 [some (vr v0), none, some (vi v2), some (vi v3), some (vi v4), some (vi v5), some (vi v6)] [] s (none, z.2)) {v0 : Option Nat} {v2 : Int32} {v3 : Int32} {v4 : Int32} {v5 : Int32} {v6 : Int32} {σ : Mem} {z : Unit × Mem} (h : sX8_seesHeld_57b k57 v0 v2 v3 v4 v5 v6 σ = some z) : V E mX8_seesHeld G 57 [some (vr v0), none, some (vi v2), some (vi v3), some (vi v4), some (vi v5), some (vi v6)] [] σ (none, z.2) := by
  unfold sX8_seesHeld_57b at h
  refine v_iload dX8_seesHeld_57 rfl ?_
  refine v_iconst dX8_seesHeld_59 ?_
  refine v_icmp_ge (tgt := 103) dX8_seesHeld_60 (by decide) (fun c => ?_) (fun c => ?_)
  · rw [if_pos c] at h
    refine v_al0 dX8_seesHeld_103 ?_
    refine v_gR cok6 h dX8_seesHeld_104 (by decide) q1401 rfl (fun x1 h => ?_)
    refine v_iload dX8_seesHeld_107 rfl ?_
    refine v_aI h dX8_seesHeld_109 (fun x2 h => ?_)
    refine v_if_eq (tgt := 123) dX8_seesHeld_110 (by decide) (fun c => ?_) (fun c => ?_)
    · rw [if_pos c] at h
      refine v_iconst dX8_seesHeld_123 ?_
      refine v_istore (L' := [some (vr v0), none, some (vi v2), some (vi v3), some (vi v4), some (vi v5), some (vi (iI 0))]) dX8_seesHeld_124 (Nat.le_of_ble_eq_true rfl) (Nat.le_of_ble_eq_true rfl) rfl ?_
      exact v_weak (wss (wsn (wss (wss (wss (wsn (wss wse))))))) (lX8_seesHeld_126 FU h)
    · rw [if_neg c] at h
      refine v_iload dX8_seesHeld_113 rfl ?_
      refine v_if_ne (tgt := 122) dX8_seesHeld_115 (by decide) (fun c => ?_) (fun c => ?_)
      · rw [if_neg c] at h
        exact v_retV h dX8_seesHeld_122 rfl
      · rw [if_pos c] at h
        refine v_al0 dX8_seesHeld_118 ?_
        obtain ⟨b119, er, ka, h⟩ := cV_some h
        obtain ⟨_, s3, h1, h⟩ := cl_some h
        refine v_callV0 cok6 (As := []) er ka (tX8_breaks h1) (lw_V q1751 q1753 qs108 q167 q1754) rfl dsX8_breaks ⟨Nat.le_of_ble_eq_true rfl, Nat.le_of_ble_eq_true rfl⟩ (Nat.le_of_ble_eq_true rfl) dX8_seesHeld_119 rfl ?_
        exact v_retV h dX8_seesHeld_122 rfl
  · rw [if_neg c] at h
    refine v_iload dX8_seesHeld_63 rfl ?_
    refine v_if_eq (tgt := 94) dX8_seesHeld_65 (by decide) (fun c => ?_) (fun c => ?_)
    · rw [if_pos c] at h
      exact v_weak (wss (wsn (wss (wss (wss (wsn (wss wse))))))) (lX8_seesHeld_94 hk57 h)
    · rw [if_neg c] at h
      refine v_al0 dX8_seesHeld_68 ?_
      refine v_gR cok6 h dX8_seesHeld_69 (by decide) q1401 rfl (fun x4 h => ?_)
      refine v_iload dX8_seesHeld_72 rfl ?_
      refine v_iload dX8_seesHeld_74 rfl ?_
      refine v_iadd dX8_seesHeld_76 ?_
      refine v_aI h dX8_seesHeld_77 (fun x5 h => ?_)
      refine v_al0 dX8_seesHeld_78 ?_
      refine v_gR cok6 h dX8_seesHeld_79 (by decide) q1401 rfl (fun x6 h => ?_)
      refine v_il3 dX8_seesHeld_82 ?_
      refine v_iload dX8_seesHeld_83 rfl ?_
      refine v_iadd dX8_seesHeld_85 ?_
      refine v_aI h dX8_seesHeld_86 (fun x7 h => ?_)
      refine v_icmp_ne (tgt := 94) dX8_seesHeld_87 (by decide) (fun c => ?_) (fun c => ?_)
      · rw [if_neg c] at h
        exact v_weak (wss (wsn (wss (wss (wss (wsn (wss wse))))))) (lX8_seesHeld_94 hk57 h)
      · rw [if_pos c] at h
        refine v_iconst dX8_seesHeld_90 ?_
        refine v_goto (tgt := 95) dX8_seesHeld_91 (by decide) ?_
        exact v_weak (wss (wsn (wss (wss (wss (wsn (wss wse))))))) (lX8_seesHeld_95 hk57 h)
theorem lX8_seesHeld_57 {E : EE} {G : GG} : ∀ (f : Nat) {v0 : Option Nat} {v2 : Int32} {v3 : Int32} {v4 : Int32} {v5 : Int32} {v6 : Int32} {σ : Mem} {z : Unit × Mem}, sX8_seesHeld_57 f v0 v2 v3 v4 v5 v6 σ = some z → V E mX8_seesHeld G 57 [some (vr v0), none, some (vi v2), some (vi v3), some (vi v4), some (vi v5), some (vi v6)] [] σ (none, z.2)
  | 0, _, _, _, _, _, _, _, _, h => by cases h
  | f + 1, _, _, _, _, _, _, _, _, h => lX8_seesHeld_57b (fun _ _ _ _ _ _ _ _ h => lX8_seesHeld_57 f h) h
theorem lX8_seesHeld_51 {E : EE} {G : GG} {v0 : Option Nat} {v2 : Int32} {v3 : Int32} {v4 : Int32} {σ : Mem} {z : Unit × Mem} (h : sX8_seesHeld_51 v0 v2 v3 v4 σ = some z) : V E mX8_seesHeld G 51 [some (vr v0), none, some (vi v2), some (vi v3), some (vi v4), none, none] [] σ (none, z.2) := by
  unfold sX8_seesHeld_51 at h
  refine v_iconst dX8_seesHeld_51 ?_
  refine v_istore (L' := [some (vr v0), none, some (vi v2), some (vi v3), some (vi v4), some (vi (iI 1)), none]) dX8_seesHeld_52 (Nat.le_of_ble_eq_true rfl) (Nat.le_of_ble_eq_true rfl) rfl ?_
  refine v_iconst dX8_seesHeld_54 ?_
  refine v_istore (L' := [some (vr v0), none, some (vi v2), some (vi v3), some (vi v4), some (vi (iI 1)), some (vi (iI 0))]) dX8_seesHeld_55 (Nat.le_of_ble_eq_true rfl) (Nat.le_of_ble_eq_true rfl) rfl ?_
  exact v_weak (wss (wsn (wss (wss (wss (wss (wss wse))))))) (lX8_seesHeld_57 FU h)
theorem lX8_seesHeld {E : EE} {G : GG} {v0 : Option Nat} {v1 : Int32} {v2 : Int32} {σ : Mem} {z : Unit × Mem} (h : sX8_seesHeld v0 v1 v2 σ = some z) : V E mX8_seesHeld G 0 [some (vr v0), some (vi v1), some (vi v2), none, none, none, none] [] σ (none, z.2) := by
  unfold sX8_seesHeld at h
  refine v_al0 dX8_seesHeld_0 ?_
  refine v_il1 dX8_seesHeld_1 ?_
  refine v_il2 dX8_seesHeld_2 ?_
  obtain ⟨b3, er, ka, h⟩ := cV_some h
  obtain ⟨x1, s2, h1, h⟩ := cl_some h
  refine v_callV1 cok6 (As := [vi v1, vi v2]) er ka (tX8_logPlace h1) (lw_V q1704 q1706 qs97 q167 q1707) rfl dsX8_logPlace ⟨Nat.le_of_ble_eq_true rfl, Nat.le_of_ble_eq_true rfl⟩ (Nat.le_of_ble_eq_true rfl) dX8_seesHeld_3 rfl ?_
  refine v_istore_n (L' := [some (vr v0), some (vi v1), some (vi v2), some (vi x1), none, none, none]) dX8_seesHeld_6 (Nat.le_of_ble_eq_true rfl) (Nat.le_of_ble_eq_true rfl) rfl ?_
  refine v_sipush dX8_seesHeld_7 rfl ?_
  refine v_iconst dX8_seesHeld_10 ?_
  refine v_il2 dX8_seesHeld_11 ?_
  refine v_imul dX8_seesHeld_12 ?_
  refine v_iadd dX8_seesHeld_13 ?_
  refine v_istore (L' := [some (vr v0), some (vi v1), some (vi v2), some (vi x1), some (vi ((iI 6028) + ((iI 4) * v2))), none, none]) dX8_seesHeld_14 (Nat.le_of_ble_eq_true rfl) (Nat.le_of_ble_eq_true rfl) rfl ?_
  refine v_al0 dX8_seesHeld_16 ?_
  refine v_gR cok6 h dX8_seesHeld_17 (by decide) q1401 rfl (fun x3 h => ?_)
  refine v_il3 dX8_seesHeld_20 ?_
  refine v_iconst dX8_seesHeld_21 ?_
  refine v_iadd dX8_seesHeld_22 ?_
  refine v_aI h dX8_seesHeld_23 (fun x4 h => ?_)
  refine v_if_ne (tgt := 51) dX8_seesHeld_24 (by decide) (fun c => ?_) (fun c => ?_)
  · rw [if_neg c] at h
    exact v_weak (wss (wsn (wss (wss (wss (wsn (wsn wse))))))) (lX8_seesHeld_51 h)
  · rw [if_pos c] at h
    refine v_al0 dX8_seesHeld_27 ?_
    refine v_il1 dX8_seesHeld_28 ?_
    refine v_bipush dX8_seesHeld_29 rfl ?_
    refine v_al0 dX8_seesHeld_31 ?_
    refine v_gR cok6 h dX8_seesHeld_32 (by decide) q1401 rfl (fun x5 h => ?_)
    refine v_il3 dX8_seesHeld_35 ?_
    refine v_iconst dX8_seesHeld_36 ?_
    refine v_iadd dX8_seesHeld_37 ?_
    refine v_aI h dX8_seesHeld_38 (fun x6 h => ?_)
    refine v_iadd dX8_seesHeld_39 ?_
    refine v_al0 dX8_seesHeld_40 ?_
    refine v_gR cok6 h dX8_seesHeld_41 (by decide) q1401 rfl (fun x7 h => ?_)
    refine v_il3 dX8_seesHeld_44 ?_
    refine v_iconst dX8_seesHeld_45 ?_
    refine v_iadd dX8_seesHeld_46 ?_
    refine v_aI h dX8_seesHeld_47 (fun x8 h => ?_)
    obtain ⟨b48, er, ka, h⟩ := cV_some h
    obtain ⟨_, s9, h1, h⟩ := cl_some h
    refine v_callV0 cok6 (As := [vi v1, vi ((iI 15) + x6), vi x8]) er ka (tX8_sets h1) (lw_V q1372 q1374 qs57 q167 q1375) rfl dsX8_sets ⟨Nat.le_of_ble_eq_true rfl, Nat.le_of_ble_eq_true rfl⟩ (Nat.le_of_ble_eq_true rfl) dX8_seesHeld_48 rfl ?_
    exact v_weak (wss (wsn (wss (wss (wss (wsn (wsn wse))))))) (lX8_seesHeld_51 h)
theorem tX8_seesHeld {E : EE} {l : Launch} {v0 : Option Nat} {v1 : Int32} {v2 : Int32} {σ : Mem} {z : Unit × Mem} (h : sX8_seesHeld v0 v1 v2 σ = some z) : Mt E l mX8_seesHeld [vr v0, vi v1, vi v2] σ (none, z.2) :=
  Mt.ofVL (by decide) (Nat.le_of_ble_eq_true rfl) (fun G hG => lX8_seesHeld h)
abbrev mX8_growsCommit : MM := (yX8_growsCommit, cX8_growsCommit, 4, (Option.none : Option Jvm.ClassFile.FieldType), 3, 70)
theorem dsX8_growsCommit : DsOk yX8_growsCommit 2 := ⟨by decide, by decide, by decide +kernel⟩
theorem lX8_growsCommit_30 {E : EE} {G : GG} {k10 : Option Nat → Int32 → Int32 → Int32 → Mem → Option (Unit × Mem)} (hk10 : ∀ (v0 : Option Nat) (v1 : Int32) (v2 : Int32) (v3 : Int32) (s : Mem) (z : Unit × Mem), k10 v0 v1 v2 v3 s = some z → V E mX8_growsCommit G 10 [some (vr v0), some (vi v1), some (vi v2), some (vi v3)] [] s (none, z.2)) {v0 : Option Nat} {v1 : Int32} {v2 : Int32} {v3 : Int32} {σ : Mem} {z : Unit × Mem} (h : sX8_growsCommit_30 k10 v0 v1 v2 v3 σ = some z) : V E mX8_growsCommit G 30 [some (vr v0), some (vi v1), some (vi v2), some (vi v3)] [] σ (none, z.2) := by
  unfold sX8_growsCommit_30 at h
  refine v_iinc (L' := [some (vr v0), some (vi v1), some (vi v2), some (vi (v3 + iI 1))]) dX8_growsCommit_30 (Nat.le_of_ble_eq_true rfl) rfl rfl ?_
  refine v_goto (tgt := 10) dX8_growsCommit_33 (by decide) ?_
  exact v_weak (wss (wss (wss (wss wse)))) (hk10 _ _ _ _ _ _ h)
theorem lX8_growsCommit_10b {E : EE} {G : GG} {k10 : Option Nat → Int32 → Int32 → Int32 → Mem → Option (Unit × Mem)} (hk10 : ∀ (v0 : Option Nat) (v1 : Int32) (v2 : Int32) (v3 : Int32) (s : Mem) (z : Unit × Mem), k10 v0 v1 v2 v3 s = some z → V E mX8_growsCommit G 10 [some (vr v0), some (vi v1), some (vi v2), some (vi v3)] [] s (none, z.2)) {v0 : Option Nat} {v1 : Int32} {v2 : Int32} {v3 : Int32} {σ : Mem} {z : Unit × Mem} (h : sX8_growsCommit_10b k10 v0 v1 v2 v3 σ = some z) : V E mX8_growsCommit G 10 [some (vr v0), some (vi v1), some (vi v2), some (vi v3)] [] σ (none, z.2) := by
  unfold sX8_growsCommit_10b at h
  refine v_il3 dX8_growsCommit_10 ?_
  refine v_il2 dX8_growsCommit_11 ?_
  refine v_icmp_gt (tgt := 36) dX8_growsCommit_12 (by decide) (fun c => ?_) (fun c => ?_)
  · rw [if_pos c] at h
    refine v_al0 dX8_growsCommit_36 ?_
    refine v_il1 dX8_growsCommit_37 ?_
    refine v_bipush dX8_growsCommit_38 rfl ?_
    refine v_al0 dX8_growsCommit_40 ?_
    refine v_il1 dX8_growsCommit_41 ?_
    refine v_bipush dX8_growsCommit_42 rfl ?_
    obtain ⟨b44, er, ka, h⟩ := cV_some h
    obtain ⟨x1, s2, h1, h⟩ := cl_some h
    refine v_callV1 cok6 (As := [vi v1, vi (iI 9)]) er ka (tX8_the h1) (lw_V q1385 q1387 qs60 q167 q1388) rfl dsX8_the ⟨Nat.le_of_ble_eq_true rfl, Nat.le_of_ble_eq_true rfl⟩ (Nat.le_of_ble_eq_true rfl) dX8_growsCommit_44 rfl ?_
    refine v_il2 dX8_growsCommit_47 ?_
    obtain ⟨x3, s4, h1, h⟩ := cl_some h
    refine v_callS1 (As := [vi x1, vi v2]) (tX8_max h1) (lw_S q1767 q1768 q167 q1769) dsX8_max ⟨Nat.le_of_ble_eq_true rfl, Nat.le_of_ble_eq_true rfl⟩ (Nat.le_of_ble_eq_true rfl) dX8_growsCommit_48 rfl ?_
    obtain ⟨b51, er, ka, h⟩ := cV_some h
    obtain ⟨_, s5, h1, h⟩ := cl_some h
    refine v_callV0 cok6 (As := [vi v1, vi (iI 9), vi x3]) er ka (tX8_sets h1) (lw_V q1372 q1374 qs57 q167 q1375) rfl dsX8_sets ⟨Nat.le_of_ble_eq_true rfl, Nat.le_of_ble_eq_true rfl⟩ (Nat.le_of_ble_eq_true rfl) dX8_growsCommit_51 rfl ?_
    exact v_retV h dX8_growsCommit_54 rfl
  · rw [if_neg c] at h
    refine v_al0 dX8_growsCommit_15 ?_
    refine v_il1 dX8_growsCommit_16 ?_
    refine v_il3 dX8_growsCommit_17 ?_
    obtain ⟨b18, er, ka, h⟩ := cV_some h
    obtain ⟨x6, s7, h1, h⟩ := cl_some h
    refine v_callV1 cok6 (As := [vi v1, vi v3]) er ka (tX8_hasEntry h1) (lw_V q1810 q1812 qs122 q167 q1813) rfl dsX8_hasEntry ⟨Nat.le_of_ble_eq_true rfl, Nat.le_of_ble_eq_true rfl⟩ (Nat.le_of_ble_eq_true rfl) dX8_growsCommit_18 rfl ?_
    refine v_if_eq (tgt := 30) dX8_growsCommit_21 (by decide) (fun c => ?_) (fun c => ?_)
    · rw [if_pos c] at h
      exact v_weak (wss (wss (wss (wss wse)))) (lX8_growsCommit_30 hk10 h)
    · rw [if_neg c] at h
      refine v_al0 dX8_growsCommit_24 ?_
      refine v_il1 dX8_growsCommit_25 ?_
      refine v_il3 dX8_growsCommit_26 ?_
      obtain ⟨b27, er, ka, h⟩ := cV_some h
      obtain ⟨_, s8, h1, h⟩ := cl_some h
      refine v_callV0 cok6 (As := [vi v1, vi v3]) er ka (tX8_seesHeld h1) (lw_V q1814 q1816 qs123 q167 q1817) rfl dsX8_seesHeld ⟨Nat.le_of_ble_eq_true rfl, Nat.le_of_ble_eq_true rfl⟩ (Nat.le_of_ble_eq_true rfl) dX8_growsCommit_27 rfl ?_
      exact v_weak (wss (wss (wss (wss wse)))) (lX8_growsCommit_30 hk10 h)
theorem lX8_growsCommit_10 {E : EE} {G : GG} : ∀ (f : Nat) {v0 : Option Nat} {v1 : Int32} {v2 : Int32} {v3 : Int32} {σ : Mem} {z : Unit × Mem}, sX8_growsCommit_10 f v0 v1 v2 v3 σ = some z → V E mX8_growsCommit G 10 [some (vr v0), some (vi v1), some (vi v2), some (vi v3)] [] σ (none, z.2)
  | 0, _, _, _, _, _, _, h => by cases h
  | f + 1, _, _, _, _, _, _, h => lX8_growsCommit_10b (fun _ _ _ _ _ _ h => lX8_growsCommit_10 f h) h
theorem lX8_growsCommit {E : EE} {G : GG} {v0 : Option Nat} {v1 : Int32} {v2 : Int32} {σ : Mem} {z : Unit × Mem} (h : sX8_growsCommit v0 v1 v2 σ = some z) : V E mX8_growsCommit G 0 [some (vr v0), some (vi v1), some (vi v2), none] [] σ (none, z.2) := by
  unfold sX8_growsCommit at h
  refine v_al0 dX8_growsCommit_0 ?_
  refine v_il1 dX8_growsCommit_1 ?_
  refine v_bipush dX8_growsCommit_2 rfl ?_
  obtain ⟨b4, er, ka, h⟩ := cV_some h
  obtain ⟨x1, s2, h1, h⟩ := cl_some h
  refine v_callV1 cok6 (As := [vi v1, vi (iI 9)]) er ka (tX8_the h1) (lw_V q1385 q1387 qs60 q167 q1388) rfl dsX8_the ⟨Nat.le_of_ble_eq_true rfl, Nat.le_of_ble_eq_true rfl⟩ (Nat.le_of_ble_eq_true rfl) dX8_growsCommit_4 rfl ?_
  refine v_iconst dX8_growsCommit_7 ?_
  refine v_iadd dX8_growsCommit_8 ?_
  refine v_istore_n (L' := [some (vr v0), some (vi v1), some (vi v2), some (vi (x1 + (iI 1)))]) dX8_growsCommit_9 (Nat.le_of_ble_eq_true rfl) (Nat.le_of_ble_eq_true rfl) rfl ?_
  exact v_weak (wss (wss (wss (wss wse)))) (lX8_growsCommit_10 FU h)
theorem tX8_growsCommit {E : EE} {l : Launch} {v0 : Option Nat} {v1 : Int32} {v2 : Int32} {σ : Mem} {z : Unit × Mem} (h : sX8_growsCommit v0 v1 v2 σ = some z) : Mt E l mX8_growsCommit [vr v0, vi v1, vi v2] σ (none, z.2) :=
  Mt.ofVL (by decide) (Nat.le_of_ble_eq_true rfl) (fun G hG => lX8_growsCommit h)
abbrev mX8_isHeldConfig : MM := (yX8_isHeldConfig, cX8_isHeldConfig, 2, (Option.some Jvm.ClassFile.FieldType.boolean), 3, 67)
theorem dsX8_isHeldConfig : DsOk yX8_isHeldConfig 1 := ⟨by decide, by decide, by decide +kernel⟩
theorem lX8_isHeldConfig {E : EE} {G : GG} {v0 : Option Nat} {v1 : Int32} {σ : Mem} {z : Int32 × Mem} (h : sX8_isHeldConfig v0 v1 σ = some z) : V E mX8_isHeldConfig G 0 [some (vr v0), some (vi v1)] [] σ (some (vi z.1), z.2) := by
  unfold sX8_isHeldConfig at h
  refine v_al0 dX8_isHeldConfig_0 ?_
  refine v_il1 dX8_isHeldConfig_1 ?_
  refine v_sipush dX8_isHeldConfig_2 rfl ?_
  obtain ⟨b5, er, ka, h⟩ := cV_some h
  obtain ⟨x1, s2, h1, h⟩ := cl_some h
  refine v_callV1 cok6 (As := [vi v1, vi (iI 999)]) er ka (tX8_configAt h1) (lw_V q1736 q1738 qs105 q167 q1739) rfl dsX8_configAt ⟨Nat.le_of_ble_eq_true rfl, Nat.le_of_ble_eq_true rfl⟩ (Nat.le_of_ble_eq_true rfl) dX8_isHeldConfig_5 rfl ?_
  refine v_al0 dX8_isHeldConfig_8 ?_
  refine v_il1 dX8_isHeldConfig_9 ?_
  refine v_bipush dX8_isHeldConfig_10 rfl ?_
  obtain ⟨b12, er, ka, h⟩ := cV_some h
  obtain ⟨x3, s4, h1, h⟩ := cl_some h
  refine v_callV1 cok6 (As := [vi v1, vi (iI 9)]) er ka (tX8_the h1) (lw_V q1385 q1387 qs60 q167 q1388) rfl dsX8_the ⟨Nat.le_of_ble_eq_true rfl, Nat.le_of_ble_eq_true rfl⟩ (Nat.le_of_ble_eq_true rfl) dX8_isHeldConfig_12 rfl ?_
  refine v_icmp_gt (tgt := 22) dX8_isHeldConfig_15 (by decide) (fun c => ?_) (fun c => ?_)
  · rw [if_pos c] at h
    refine v_iconst dX8_isHeldConfig_22 ?_
    exact v_retZ h dX8_isHeldConfig_23 rfl
  · rw [if_neg c] at h
    refine v_iconst dX8_isHeldConfig_18 ?_
    refine v_goto (tgt := 23) dX8_isHeldConfig_19 (by decide) ?_
    exact v_retZ h dX8_isHeldConfig_23 rfl
theorem tX8_isHeldConfig {E : EE} {l : Launch} {v0 : Option Nat} {v1 : Int32} {σ : Mem} {z : Int32 × Mem} (h : sX8_isHeldConfig v0 v1 σ = some z) : Mt E l mX8_isHeldConfig [vr v0, vi v1] σ (some (vi z.1), z.2) :=
  Mt.ofVL (by decide) (Nat.le_of_ble_eq_true rfl) (fun G hG => lX8_isHeldConfig h)
abbrev mX8_holds : MM := (yX8_holds, cX8_holds, 4, (Option.none : Option Jvm.ClassFile.FieldType), 6, 145)
theorem dsX8_holds : DsOk yX8_holds 1 := ⟨by decide, by decide, by decide +kernel⟩
theorem lX8_holds_56 {E : EE} {G : GG} {k2 : Option Nat → Int32 → Int32 → Mem → Option (Unit × Mem)} (hk2 : ∀ (v0 : Option Nat) (v1 : Int32) (v2 : Int32) (s : Mem) (z : Unit × Mem), k2 v0 v1 v2 s = some z → V E mX8_holds G 2 [some (vr v0), some (vi v1), some (vi v2), none] [] s (none, z.2)) {v0 : Option Nat} {v1 : Int32} {t0 : Int32} {σ : Mem} {z : Unit × Mem} (h : sX8_holds_56 k2 v0 v1 t0 σ = some z) : V E mX8_holds G 56 [some (vr v0), some (vi v1), none, none] [vi t0] σ (none, z.2) := by
  unfold sX8_holds_56 at h
  refine v_istore_n (L' := [some (vr v0), some (vi v1), some (vi t0), none]) dX8_holds_56 (Nat.le_of_ble_eq_true rfl) (Nat.le_of_ble_eq_true rfl) rfl ?_
  refine v_il2 dX8_holds_57 ?_
  refine v_if_ne (tgt := 64) dX8_holds_58 (by decide) (fun c => ?_) (fun c => ?_)
  · rw [if_neg c] at h
    refine v_al0 dX8_holds_64 ?_
    refine v_il1 dX8_holds_65 ?_
    refine v_bipush dX8_holds_66 rfl ?_
    refine v_il1 dX8_holds_68 ?_
    refine v_iadd dX8_holds_69 ?_
    refine v_al0 dX8_holds_70 ?_
    refine v_il1 dX8_holds_71 ?_
    obtain ⟨b72, er, ka, h⟩ := cV_some h
    obtain ⟨x1, s2, h1, h⟩ := cl_some h
    refine v_callV1 cok6 (As := [vi v1]) er ka (tX8_lastOf h1) (lw_V q1696 q1698 qs95 q167 q1699) rfl dsX8_lastOf ⟨Nat.le_of_ble_eq_true rfl, Nat.le_of_ble_eq_true rfl⟩ (Nat.le_of_ble_eq_true rfl) dX8_holds_72 rfl ?_
    obtain ⟨b75, er, ka, h⟩ := cV_some h
    obtain ⟨_, s3, h1, h⟩ := cl_some h
    refine v_callV0 cok6 (As := [vi v1, vi ((iI 38) + v1), vi x1]) er ka (tX8_sets h1) (lw_V q1372 q1374 qs57 q167 q1375) rfl dsX8_sets ⟨Nat.le_of_ble_eq_true rfl, Nat.le_of_ble_eq_true rfl⟩ (Nat.le_of_ble_eq_true rfl) dX8_holds_75 rfl ?_
    refine v_al0 dX8_holds_78 ?_
    refine v_il1 dX8_holds_79 ?_
    obtain ⟨b80, er, ka, h⟩ := cV_some h
    obtain ⟨_, s4, h1, h⟩ := cl_some h
    refine v_callV0 cok6 (As := [vi v1]) er ka (tX8_sendsToAll h1) (lw_V q1774 q1776 qs113 q167 q1777) rfl dsX8_sendsToAll ⟨Nat.le_of_ble_eq_true rfl, Nat.le_of_ble_eq_true rfl⟩ (Nat.le_of_ble_eq_true rfl) dX8_holds_80 rfl ?_
    refine v_goto (tgt := 2) dX8_holds_83 (by decide) ?_
    exact v_weak (wss (wss (wss (wsn wse)))) (hk2 _ _ _ _ _ h)
  · rw [if_pos c] at h
    refine v_goto (tgt := 2) dX8_holds_61 (by decide) ?_
    exact v_weak (wss (wss (wss (wsn wse)))) (hk2 _ _ _ _ _ h)
theorem lX8_holds_55 {E : EE} {G : GG} {k2 : Option Nat → Int32 → Int32 → Mem → Option (Unit × Mem)} (hk2 : ∀ (v0 : Option Nat) (v1 : Int32) (v2 : Int32) (s : Mem) (z : Unit × Mem), k2 v0 v1 v2 s = some z → V E mX8_holds G 2 [some (vr v0), some (vi v1), some (vi v2), none] [] s (none, z.2)) {v0 : Option Nat} {v1 : Int32} {σ : Mem} {z : Unit × Mem} (h : sX8_holds_55 k2 v0 v1 σ = some z) : V E mX8_holds G 55 [some (vr v0), some (vi v1), none, none] [] σ (none, z.2) := by
  unfold sX8_holds_55 at h
  refine v_iconst dX8_holds_55 ?_
  exact v_weak (wss (wss (wsn (wsn wse)))) (lX8_holds_56 hk2 h)
theorem lX8_holds_2b {E : EE} {G : GG} {k2 : Option Nat → Int32 → Int32 → Mem → Option (Unit × Mem)} (hk2 : ∀ (v0 : Option Nat) (v1 : Int32) (v2 : Int32) (s : Mem) (z : Unit × Mem), k2 v0 v1 v2 s = some z → V E mX8_holds G 2 [some (vr v0), some (vi v1), some (vi v2), none] [] s (none, z.2)) {v0 : Option Nat} {v1 : Int32} {v2 : Int32} {σ : Mem} {z : Unit × Mem} (h : sX8_holds_2b k2 v0 v1 v2 σ = some z) : V E mX8_holds G 2 [some (vr v0), some (vi v1), some (vi v2), none] [] σ (none, z.2) := by
  unfold sX8_holds_2b at h
  refine v_il2 dX8_holds_2 ?_
  refine v_if_eq (tgt := 86) dX8_holds_3 (by decide) (fun c => ?_) (fun c => ?_)
  · rw [if_pos c] at h
    refine v_al0 dX8_holds_86 ?_
    refine v_il1 dX8_holds_87 ?_
    obtain ⟨b88, er, ka, h⟩ := cV_some h
    obtain ⟨x1, s2, h1, h⟩ := cl_some h
    refine v_callV1 cok6 (As := [vi v1]) er ka (tX8_newOf h1) (lw_V q1740 q1742 qs106 q167 q1743) rfl dsX8_newOf ⟨Nat.le_of_ble_eq_true rfl, Nat.le_of_ble_eq_true rfl⟩ (Nat.le_of_ble_eq_true rfl) dX8_holds_88 rfl ?_
    refine v_if_ne (tgt := 114) dX8_holds_91 (by decide) (fun c => ?_) (fun c => ?_)
    · rw [if_neg c] at h
      exact v_retV h dX8_holds_114 rfl
    · rw [if_pos c] at h
      refine v_al0 dX8_holds_94 ?_
      refine v_il1 dX8_holds_95 ?_
      obtain ⟨b96, er, ka, h⟩ := cV_some h
      obtain ⟨x3, s4, h1, h⟩ := cl_some h
      refine v_callV1 cok6 (As := [vi v1]) er ka (tX8_isHeldConfig h1) (lw_V q1818 q1820 qs124 q167 q1821) rfl dsX8_isHeldConfig ⟨Nat.le_of_ble_eq_true rfl, Nat.le_of_ble_eq_true rfl⟩ (Nat.le_of_ble_eq_true rfl) dX8_holds_96 rfl ?_
      refine v_if_eq (tgt := 114) dX8_holds_99 (by decide) (fun c => ?_) (fun c => ?_)
      · rw [if_pos c] at h
        exact v_retV h dX8_holds_114 rfl
      · rw [if_neg c] at h
        refine v_al0 dX8_holds_102 ?_
        refine v_il1 dX8_holds_103 ?_
        obtain ⟨b104, er, ka, h⟩ := cV_some h
        obtain ⟨x5, s6, h1, h⟩ := cl_some h
        refine v_callV1 cok6 (As := [vi v1]) er ka (tX8_membersOf h1) (lw_V q1778 q1780 qs114 q167 q1781) rfl dsX8_membersOf ⟨Nat.le_of_ble_eq_true rfl, Nat.le_of_ble_eq_true rfl⟩ (Nat.le_of_ble_eq_true rfl) dX8_holds_104 rfl ?_
        refine v_il1 dX8_holds_107 ?_
        obtain ⟨x7, s8, h1, h⟩ := cl_some h
        refine v_callS1 (As := [vi x5, vi v1]) (tX8_has h1) (lw_S q1669 q1670 q167 q1671) dsX8_has ⟨Nat.le_of_ble_eq_true rfl, Nat.le_of_ble_eq_true rfl⟩ (Nat.le_of_ble_eq_true rfl) dX8_holds_108 rfl ?_
        refine v_if_eq (tgt := 115) dX8_holds_111 (by decide) (fun c => ?_) (fun c => ?_)
        · rw [if_pos c] at h
          refine v_al0 dX8_holds_115 ?_
          refine v_il1 dX8_holds_116 ?_
          refine v_iconst dX8_holds_117 ?_
          obtain ⟨b118, er, ka, h⟩ := cV_some h
          obtain ⟨_, s9, h1, h⟩ := cl_some h
          refine v_callV0 cok6 (As := [vi v1, vi (iI (-1))]) er ka (tX8_follows h1) (lw_V q1680 q1682 qs91 q167 q1683) rfl dsX8_follows ⟨Nat.le_of_ble_eq_true rfl, Nat.le_of_ble_eq_true rfl⟩ (Nat.le_of_ble_eq_true rfl) dX8_holds_118 rfl ?_
          refine v_al0 dX8_holds_121 ?_
          refine v_il1 dX8_holds_122 ?_
          obtain ⟨b123, er, ka, h⟩ := cV_some h
          obtain ⟨_, s10, h1, h⟩ := cl_some h
          refine v_callV0 cok6 (As := [vi v1]) er ka (tX8_setsTimer h1) (lw_V q1376 q1378 qs58 q167 q1379) rfl dsX8_setsTimer ⟨Nat.le_of_ble_eq_true rfl, Nat.le_of_ble_eq_true rfl⟩ (Nat.le_of_ble_eq_true rfl) dX8_holds_123 rfl ?_
          exact v_retV h dX8_holds_126 rfl
        · rw [if_neg c] at h
          exact v_retV h dX8_holds_114 rfl
  · rw [if_neg c] at h
    refine v_al0 dX8_holds_6 ?_
    refine v_il1 dX8_holds_7 ?_
    refine v_al0 dX8_holds_8 ?_
    refine v_il1 dX8_holds_9 ?_
    obtain ⟨b10, er, ka, h⟩ := cV_some h
    obtain ⟨x11, s12, h1, h⟩ := cl_some h
    refine v_callV1 cok6 (As := [vi v1]) er ka (tX8_mostHeld h1) (lw_V q1798 q1800 qs119 q167 q1801) rfl dsX8_mostHeld ⟨Nat.le_of_ble_eq_true rfl, Nat.le_of_ble_eq_true rfl⟩ (Nat.le_of_ble_eq_true rfl) dX8_holds_10 rfl ?_
    obtain ⟨b13, er, ka, h⟩ := cV_some h
    obtain ⟨_, s13, h1, h⟩ := cl_some h
    refine v_callV0 cok6 (As := [vi v1, vi x11]) er ka (tX8_growsCommit h1) (lw_V q1806 q1808 qs121 q167 q1809) rfl dsX8_growsCommit ⟨Nat.le_of_ble_eq_true rfl, Nat.le_of_ble_eq_true rfl⟩ (Nat.le_of_ble_eq_true rfl) dX8_holds_13 rfl ?_
    refine v_al0 dX8_holds_16 ?_
    refine v_il1 dX8_holds_17 ?_
    obtain ⟨b18, er, ka, h⟩ := cV_some h
    obtain ⟨x14, s15, h1, h⟩ := cl_some h
    refine v_callV1 cok6 (As := [vi v1]) er ka (tX8_newOf h1) (lw_V q1740 q1742 qs106 q167 q1743) rfl dsX8_newOf ⟨Nat.le_of_ble_eq_true rfl, Nat.le_of_ble_eq_true rfl⟩ (Nat.le_of_ble_eq_true rfl) dX8_holds_18 rfl ?_
    refine v_istore_n (L' := [some (vr v0), some (vi v1), some (vi v2), some (vi x14)]) dX8_holds_21 (Nat.le_of_ble_eq_true rfl) (Nat.le_of_ble_eq_true rfl) rfl ?_
    refine v_il3 dX8_holds_22 ?_
    refine v_if_eq (tgt := 55) dX8_holds_23 (by decide) (fun c => ?_) (fun c => ?_)
    · rw [if_pos c] at h
      exact v_weak (wss (wss (wsn (wsn wse)))) (lX8_holds_55 hk2 h)
    · rw [if_neg c] at h
      refine v_al0 dX8_holds_26 ?_
      refine v_il1 dX8_holds_27 ?_
      obtain ⟨b28, er, ka, h⟩ := cV_some h
      obtain ⟨x16, s17, h1, h⟩ := cl_some h
      refine v_callV1 cok6 (As := [vi v1]) er ka (tX8_isHeldConfig h1) (lw_V q1818 q1820 qs124 q167 q1821) rfl dsX8_isHeldConfig ⟨Nat.le_of_ble_eq_true rfl, Nat.le_of_ble_eq_true rfl⟩ (Nat.le_of_ble_eq_true rfl) dX8_holds_28 rfl ?_
      refine v_if_eq (tgt := 55) dX8_holds_31 (by decide) (fun c => ?_) (fun c => ?_)
      · rw [if_pos c] at h
        exact v_weak (wss (wss (wsn (wsn wse)))) (lX8_holds_55 hk2 h)
      · rw [if_neg c] at h
        refine v_al0 dX8_holds_34 ?_
        refine v_il1 dX8_holds_35 ?_
        refine v_al0 dX8_holds_36 ?_
        refine v_il1 dX8_holds_37 ?_
        refine v_iconst dX8_holds_38 ?_
        obtain ⟨b39, er, ka, h⟩ := cV_some h
        obtain ⟨x18, s19, h1, h⟩ := cl_some h
        refine v_callV1 cok6 (As := [vi v1, vi (iI 1)]) er ka (tX8_the h1) (lw_V q1385 q1387 qs60 q167 q1388) rfl dsX8_the ⟨Nat.le_of_ble_eq_true rfl, Nat.le_of_ble_eq_true rfl⟩ (Nat.le_of_ble_eq_true rfl) dX8_holds_39 rfl ?_
        refine v_iconst dX8_holds_42 ?_
        refine v_il3 dX8_holds_43 ?_
        refine v_iconst dX8_holds_44 ?_
        obtain ⟨b45, er, ka, h⟩ := cV_some h
        obtain ⟨x20, s21, h1, h⟩ := cl_some h
        refine v_callV1 cok6 (As := [vi v1, vi x18, vi (iI 1), vi x14, vi (iI 0)]) er ka (tX8_lays h1) (lw_V q1755 q1757 qs109 q167 q1758) rfl dsX8_lays ⟨Nat.le_of_ble_eq_true rfl, Nat.le_of_ble_eq_true rfl⟩ (Nat.le_of_ble_eq_true rfl) dX8_holds_45 rfl ?_
        refine v_if_eq (tgt := 55) dX8_holds_48 (by decide) (fun c => ?_) (fun c => ?_)
        · rw [if_pos c] at h
          exact v_weak (wss (wss (wsn (wsn wse)))) (lX8_holds_55 hk2 h)
        · rw [if_neg c] at h
          refine v_iconst dX8_holds_51 ?_
          refine v_goto (tgt := 56) dX8_holds_52 (by decide) ?_
          exact v_weak (wss (wss (wsn (wsn wse)))) (lX8_holds_56 hk2 h)
theorem lX8_holds_2 {E : EE} {G : GG} : ∀ (f : Nat) {v0 : Option Nat} {v1 : Int32} {v2 : Int32} {σ : Mem} {z : Unit × Mem}, sX8_holds_2 f v0 v1 v2 σ = some z → V E mX8_holds G 2 [some (vr v0), some (vi v1), some (vi v2), none] [] σ (none, z.2)
  | 0, _, _, _, _, _, h => by cases h
  | f + 1, _, _, _, _, _, h => lX8_holds_2b (fun _ _ _ _ _ h => lX8_holds_2 f h) h
theorem lX8_holds {E : EE} {G : GG} {v0 : Option Nat} {v1 : Int32} {σ : Mem} {z : Unit × Mem} (h : sX8_holds v0 v1 σ = some z) : V E mX8_holds G 0 [some (vr v0), some (vi v1), none, none] [] σ (none, z.2) := by
  unfold sX8_holds at h
  refine v_iconst dX8_holds_0 ?_
  refine v_istore_n (L' := [some (vr v0), some (vi v1), some (vi (iI 1)), none]) dX8_holds_1 (Nat.le_of_ble_eq_true rfl) (Nat.le_of_ble_eq_true rfl) rfl ?_
  exact v_weak (wss (wss (wss (wsn wse)))) (lX8_holds_2 FU h)
theorem tX8_holds {E : EE} {l : Launch} {v0 : Option Nat} {v1 : Int32} {σ : Mem} {z : Unit × Mem} (h : sX8_holds v0 v1 σ = some z) : Mt E l mX8_holds [vr v0, vi v1] σ (none, z.2) :=
  Mt.ofVL (by decide) (Nat.le_of_ble_eq_true rfl) (fun G hG => lX8_holds h)
abbrev mX8_laidByLeader : MM := (yX8_laidByLeader, cX8_laidByLeader, 2, (Option.none : Option Jvm.ClassFile.FieldType), 7, 168)
theorem dsX8_laidByLeader : DsOk yX8_laidByLeader 1 := ⟨by decide, by decide, by decide +kernel⟩
theorem lX8_laidByLeader {E : EE} {G : GG} {v0 : Option Nat} {v1 : Int32} {σ : Mem} {z : Unit × Mem} (h : sX8_laidByLeader v0 v1 σ = some z) : V E mX8_laidByLeader G 0 [some (vr v0), some (vi v1)] [] σ (none, z.2) := by
  unfold sX8_laidByLeader at h
  refine v_al0 dX8_laidByLeader_0 ?_
  refine v_il1 dX8_laidByLeader_1 ?_
  refine v_bipush dX8_laidByLeader_2 rfl ?_
  refine v_il1 dX8_laidByLeader_4 ?_
  refine v_iadd dX8_laidByLeader_5 ?_
  refine v_al0 dX8_laidByLeader_6 ?_
  refine v_il1 dX8_laidByLeader_7 ?_
  obtain ⟨b8, er, ka, h⟩ := cV_some h
  obtain ⟨x1, s2, h1, h⟩ := cl_some h
  refine v_callV1 cok6 (As := [vi v1]) er ka (tX8_lastOf h1) (lw_V q1696 q1698 qs95 q167 q1699) rfl dsX8_lastOf ⟨Nat.le_of_ble_eq_true rfl, Nat.le_of_ble_eq_true rfl⟩ (Nat.le_of_ble_eq_true rfl) dX8_laidByLeader_8 rfl ?_
  obtain ⟨b11, er, ka, h⟩ := cV_some h
  obtain ⟨_, s3, h1, h⟩ := cl_some h
  refine v_callV0 cok6 (As := [vi v1, vi ((iI 38) + v1), vi x1]) er ka (tX8_sets h1) (lw_V q1372 q1374 qs57 q167 q1375) rfl dsX8_sets ⟨Nat.le_of_ble_eq_true rfl, Nat.le_of_ble_eq_true rfl⟩ (Nat.le_of_ble_eq_true rfl) dX8_laidByLeader_11 rfl ?_
  refine v_al0 dX8_laidByLeader_14 ?_
  refine v_il1 dX8_laidByLeader_15 ?_
  obtain ⟨b16, er, ka, h⟩ := cV_some h
  obtain ⟨_, s4, h1, h⟩ := cl_some h
  refine v_callV0 cok6 (As := [vi v1]) er ka (tX8_sendsToAll h1) (lw_V q1774 q1776 qs113 q167 q1777) rfl dsX8_sendsToAll ⟨Nat.le_of_ble_eq_true rfl, Nat.le_of_ble_eq_true rfl⟩ (Nat.le_of_ble_eq_true rfl) dX8_laidByLeader_16 rfl ?_
  refine v_al0 dX8_laidByLeader_19 ?_
  refine v_il1 dX8_laidByLeader_20 ?_
  obtain ⟨b21, er, ka, h⟩ := cV_some h
  obtain ⟨_, s5, h1, h⟩ := cl_some h
  refine v_callV0 cok6 (As := [vi v1]) er ka (tX8_holds h1) (lw_V q1794 q1796 qs118 q167 q1797) rfl dsX8_holds ⟨Nat.le_of_ble_eq_true rfl, Nat.le_of_ble_eq_true rfl⟩ (Nat.le_of_ble_eq_true rfl) dX8_laidByLeader_21 rfl ?_
  exact v_retV h dX8_laidByLeader_24 rfl
theorem tX8_laidByLeader {E : EE} {l : Launch} {v0 : Option Nat} {v1 : Int32} {σ : Mem} {z : Unit × Mem} (h : sX8_laidByLeader v0 v1 σ = some z) : Mt E l mX8_laidByLeader [vr v0, vi v1] σ (none, z.2) :=
  Mt.ofVL (by decide) (Nat.le_of_ble_eq_true rfl) (fun G hG => lX8_laidByLeader h)
abbrev mX8_leads : MM := (yX8_leads, cX8_leads, 4, (Option.none : Option Jvm.ClassFile.FieldType), 8, 189)
theorem dsX8_leads : DsOk yX8_leads 1 := ⟨by decide, by decide, by decide +kernel⟩
theorem lX8_leads_83b {E : EE} {G : GG} {k83 : Option Nat → Int32 → Int32 → Int32 → Mem → Option (Unit × Mem)} (hk83 : ∀ (v0 : Option Nat) (v1 : Int32) (v2 : Int32) (v3 : Int32) (s : Mem) (z : Unit × Mem), k83 v0 v1 v2 v3 s = some z → V E mX8_leads G 83 [some (vr v0), some (vi v1), some (vi v2), some (vi v3)] [] s (none, z.2)) {v0 : Option Nat} {v1 : Int32} {v2 : Int32} {v3 : Int32} {σ : Mem} {z : Unit × Mem} (h : sX8_leads_83b k83 v0 v1 v2 v3 σ = some z) : V E mX8_leads G 83 [some (vr v0), some (vi v1), some (vi v2), some (vi v3)] [] σ (none, z.2) := by
  unfold sX8_leads_83b at h
  refine v_il3 dX8_leads_83 ?_
  refine v_bipush dX8_leads_84 rfl ?_
  refine v_icmp_ge (tgt := 131) dX8_leads_86 (by decide) (fun c => ?_) (fun c => ?_)
  · rw [if_pos c] at h
    refine v_al0 dX8_leads_131 ?_
    refine v_il1 dX8_leads_132 ?_
    refine v_bipush dX8_leads_133 rfl ?_
    refine v_iconst dX8_leads_135 ?_
    obtain ⟨b136, er, ka, h⟩ := cV_some h
    obtain ⟨_, s1, h1, h⟩ := cl_some h
    refine v_callV0 cok6 (As := [vi v1, vi (iI 14), vi (iI 0)]) er ka (tX8_sets h1) (lw_V q1372 q1374 qs57 q167 q1375) rfl dsX8_sets ⟨Nat.le_of_ble_eq_true rfl, Nat.le_of_ble_eq_true rfl⟩ (Nat.le_of_ble_eq_true rfl) dX8_leads_136 rfl ?_
    refine v_al0 dX8_leads_139 ?_
    refine v_il1 dX8_leads_140 ?_
    refine v_bipush dX8_leads_141 rfl ?_
    refine v_iconst dX8_leads_143 ?_
    obtain ⟨b144, er, ka, h⟩ := cV_some h
    obtain ⟨_, s2, h1, h⟩ := cl_some h
    refine v_callV0 cok6 (As := [vi v1, vi (iI 13), vi (iI 1)]) er ka (tX8_sets h1) (lw_V q1372 q1374 qs57 q167 q1375) rfl dsX8_sets ⟨Nat.le_of_ble_eq_true rfl, Nat.le_of_ble_eq_true rfl⟩ (Nat.le_of_ble_eq_true rfl) dX8_leads_144 rfl ?_
    refine v_al0 dX8_leads_147 ?_
    refine v_il1 dX8_leads_148 ?_
    refine v_il2 dX8_leads_149 ?_
    refine v_iconst dX8_leads_150 ?_
    refine v_iconst dX8_leads_151 ?_
    refine v_iconst dX8_leads_152 ?_
    obtain ⟨b153, er, ka, h⟩ := cV_some h
    obtain ⟨x3, s4, h1, h⟩ := cl_some h
    refine v_callV1 cok6 (As := [vi v1, vi v2, vi (iI 2), vi (iI 0), vi (iI 0)]) er ka (tX8_lays h1) (lw_V q1755 q1757 qs109 q167 q1758) rfl dsX8_lays ⟨Nat.le_of_ble_eq_true rfl, Nat.le_of_ble_eq_true rfl⟩ (Nat.le_of_ble_eq_true rfl) dX8_leads_153 rfl ?_
    refine v_pop dX8_leads_156 ?_
    refine v_al0 dX8_leads_157 ?_
    refine v_il1 dX8_leads_158 ?_
    obtain ⟨b159, er, ka, h⟩ := cV_some h
    obtain ⟨_, s5, h1, h⟩ := cl_some h
    refine v_callV0 cok6 (As := [vi v1]) er ka (tX8_laidByLeader h1) (lw_V q1770 q1772 qs112 q167 q1773) rfl dsX8_laidByLeader ⟨Nat.le_of_ble_eq_true rfl, Nat.le_of_ble_eq_true rfl⟩ (Nat.le_of_ble_eq_true rfl) dX8_leads_159 rfl ?_
    exact v_retV h dX8_leads_162 rfl
  · rw [if_neg c] at h
    refine v_al0 dX8_leads_89 ?_
    refine v_il1 dX8_leads_90 ?_
    refine v_bipush dX8_leads_91 rfl ?_
    refine v_il3 dX8_leads_93 ?_
    refine v_iadd dX8_leads_94 ?_
    refine v_al0 dX8_leads_95 ?_
    refine v_il1 dX8_leads_96 ?_
    obtain ⟨b97, er, ka, h⟩ := cV_some h
    obtain ⟨x6, s7, h1, h⟩ := cl_some h
    refine v_callV1 cok6 (As := [vi v1]) er ka (tX8_lastOf h1) (lw_V q1696 q1698 qs95 q167 q1699) rfl dsX8_lastOf ⟨Nat.le_of_ble_eq_true rfl, Nat.le_of_ble_eq_true rfl⟩ (Nat.le_of_ble_eq_true rfl) dX8_leads_97 rfl ?_
    refine v_iconst dX8_leads_100 ?_
    refine v_iadd dX8_leads_101 ?_
    obtain ⟨b102, er, ka, h⟩ := cV_some h
    obtain ⟨_, s8, h1, h⟩ := cl_some h
    refine v_callV0 cok6 (As := [vi v1, vi ((iI 31) + v3), vi (x6 + (iI 1))]) er ka (tX8_sets h1) (lw_V q1372 q1374 qs57 q167 q1375) rfl dsX8_sets ⟨Nat.le_of_ble_eq_true rfl, Nat.le_of_ble_eq_true rfl⟩ (Nat.le_of_ble_eq_true rfl) dX8_leads_102 rfl ?_
    refine v_al0 dX8_leads_105 ?_
    refine v_il1 dX8_leads_106 ?_
    refine v_bipush dX8_leads_107 rfl ?_
    refine v_il3 dX8_leads_109 ?_
    refine v_iadd dX8_leads_110 ?_
    refine v_iconst dX8_leads_111 ?_
    obtain ⟨b112, er, ka, h⟩ := cV_some h
    obtain ⟨_, s9, h1, h⟩ := cl_some h
    refine v_callV0 cok6 (As := [vi v1, vi ((iI 38) + v3), vi (iI 0)]) er ka (tX8_sets h1) (lw_V q1372 q1374 qs57 q167 q1375) rfl dsX8_sets ⟨Nat.le_of_ble_eq_true rfl, Nat.le_of_ble_eq_true rfl⟩ (Nat.le_of_ble_eq_true rfl) dX8_leads_112 rfl ?_
    refine v_al0 dX8_leads_115 ?_
    refine v_il1 dX8_leads_116 ?_
    refine v_bipush dX8_leads_117 rfl ?_
    refine v_il3 dX8_leads_119 ?_
    refine v_iadd dX8_leads_120 ?_
    refine v_iconst dX8_leads_121 ?_
    obtain ⟨b122, er, ka, h⟩ := cV_some h
    obtain ⟨_, s10, h1, h⟩ := cl_some h
    refine v_callV0 cok6 (As := [vi v1, vi ((iI 45) + v3), vi (iI 0)]) er ka (tX8_sets h1) (lw_V q1372 q1374 qs57 q167 q1375) rfl dsX8_sets ⟨Nat.le_of_ble_eq_true rfl, Nat.le_of_ble_eq_true rfl⟩ (Nat.le_of_ble_eq_true rfl) dX8_leads_122 rfl ?_
    refine v_iinc (L' := [some (vr v0), some (vi v1), some (vi v2), some (vi (v3 + iI 1))]) dX8_leads_125 (Nat.le_of_ble_eq_true rfl) rfl rfl ?_
    refine v_goto (tgt := 83) dX8_leads_128 (by decide) ?_
    exact v_weak (wss (wss (wss (wss wse)))) (hk83 _ _ _ _ _ _ h)
theorem lX8_leads_83 {E : EE} {G : GG} : ∀ (f : Nat) {v0 : Option Nat} {v1 : Int32} {v2 : Int32} {v3 : Int32} {σ : Mem} {z : Unit × Mem}, sX8_leads_83 f v0 v1 v2 v3 σ = some z → V E mX8_leads G 83 [some (vr v0), some (vi v1), some (vi v2), some (vi v3)] [] σ (none, z.2)
  | 0, _, _, _, _, _, _, h => by cases h
  | f + 1, _, _, _, _, _, _, h => lX8_leads_83b (fun _ _ _ _ _ _ h => lX8_leads_83 f h) h
theorem lX8_leads_66 {E : EE} {G : GG} {v0 : Option Nat} {v1 : Int32} {v2 : Int32} {σ : Mem} {z : Unit × Mem} (h : sX8_leads_66 v0 v1 v2 σ = some z) : V E mX8_leads G 66 [some (vr v0), some (vi v1), some (vi v2), none] [] σ (none, z.2) := by
  unfold sX8_leads_66 at h
  refine v_al0 dX8_leads_66 ?_
  refine v_il1 dX8_leads_67 ?_
  refine v_iconst dX8_leads_68 ?_
  refine v_iconst dX8_leads_69 ?_
  obtain ⟨b70, er, ka, h⟩ := cV_some h
  obtain ⟨_, s1, h1, h⟩ := cl_some h
  refine v_callV0 cok6 (As := [vi v1, vi (iI 3), vi (iI 2)]) er ka (tX8_sets h1) (lw_V q1372 q1374 qs57 q167 q1375) rfl dsX8_sets ⟨Nat.le_of_ble_eq_true rfl, Nat.le_of_ble_eq_true rfl⟩ (Nat.le_of_ble_eq_true rfl) dX8_leads_70 rfl ?_
  refine v_al0 dX8_leads_73 ?_
  refine v_il1 dX8_leads_74 ?_
  refine v_bipush dX8_leads_75 rfl ?_
  refine v_il1 dX8_leads_77 ?_
  obtain ⟨b78, er, ka, h⟩ := cV_some h
  obtain ⟨_, s2, h1, h⟩ := cl_some h
  refine v_callV0 cok6 (As := [vi v1, vi (iI 11), vi v1]) er ka (tX8_sets h1) (lw_V q1372 q1374 qs57 q167 q1375) rfl dsX8_sets ⟨Nat.le_of_ble_eq_true rfl, Nat.le_of_ble_eq_true rfl⟩ (Nat.le_of_ble_eq_true rfl) dX8_leads_78 rfl ?_
  refine v_iconst dX8_leads_81 ?_
  refine v_istore_n (L' := [some (vr v0), some (vi v1), some (vi v2), some (vi (iI 0))]) dX8_leads_82 (Nat.le_of_ble_eq_true rfl) (Nat.le_of_ble_eq_true rfl) rfl ?_
  exact v_weak (wss (wss (wss (wss wse)))) (lX8_leads_83 FU h)
theorem lX8_leads_40 {E : EE} {G : GG} {v0 : Option Nat} {v1 : Int32} {v2 : Int32} {σ : Mem} {z : Unit × Mem} (h : sX8_leads_40 v0 v1 v2 σ = some z) : V E mX8_leads G 40 [some (vr v0), some (vi v1), some (vi v2), none] [] σ (none, z.2) := by
  unfold sX8_leads_40 at h
  refine v_al0 dX8_leads_40 ?_
  refine v_gR cok6 h dX8_leads_41 (by decide) q1401 rfl (fun x1 h => ?_)
  refine v_sipush dX8_leads_44 rfl ?_
  refine v_il2 dX8_leads_47 ?_
  refine v_iadd dX8_leads_48 ?_
  refine v_aI h dX8_leads_49 (fun x2 h => ?_)
  refine v_if_ne (tgt := 66) dX8_leads_50 (by decide) (fun c => ?_) (fun c => ?_)
  · rw [if_neg c] at h
    exact v_weak (wss (wss (wss (wsn wse)))) (lX8_leads_66 h)
  · rw [if_pos c] at h
    refine v_al0 dX8_leads_53 ?_
    refine v_gR cok6 h dX8_leads_54 (by decide) q1401 rfl (fun x3 h => ?_)
    refine v_sipush dX8_leads_57 rfl ?_
    refine v_il2 dX8_leads_60 ?_
    refine v_iadd dX8_leads_61 ?_
    refine v_il1 dX8_leads_62 ?_
    refine v_iconst dX8_leads_63 ?_
    refine v_iadd dX8_leads_64 ?_
    refine v_sI h dX8_leads_65 (fun s4 h => ?_)
    exact v_weak (wss (wss (wss (wsn wse)))) (lX8_leads_66 h)
theorem lX8_leads {E : EE} {G : GG} {v0 : Option Nat} {v1 : Int32} {σ : Mem} {z : Unit × Mem} (h : sX8_leads v0 v1 σ = some z) : V E mX8_leads G 0 [some (vr v0), some (vi v1), none, none] [] σ (none, z.2) := by
  unfold sX8_leads at h
  refine v_al0 dX8_leads_0 ?_
  refine v_il1 dX8_leads_1 ?_
  refine v_iconst dX8_leads_2 ?_
  obtain ⟨b3, er, ka, h⟩ := cV_some h
  obtain ⟨x1, s2, h1, h⟩ := cl_some h
  refine v_callV1 cok6 (As := [vi v1, vi (iI 1)]) er ka (tX8_the h1) (lw_V q1385 q1387 qs60 q167 q1388) rfl dsX8_the ⟨Nat.le_of_ble_eq_true rfl, Nat.le_of_ble_eq_true rfl⟩ (Nat.le_of_ble_eq_true rfl) dX8_leads_3 rfl ?_
  refine v_istore_n (L' := [some (vr v0), some (vi v1), some (vi x1), none]) dX8_leads_6 (Nat.le_of_ble_eq_true rfl) (Nat.le_of_ble_eq_true rfl) rfl ?_
  refine v_al0 dX8_leads_7 ?_
  refine v_gR cok6 h dX8_leads_8 (by decide) q1401 rfl (fun x3 h => ?_)
  refine v_sipush dX8_leads_11 rfl ?_
  refine v_il2 dX8_leads_14 ?_
  refine v_iadd dX8_leads_15 ?_
  refine v_aI h dX8_leads_16 (fun x4 h => ?_)
  refine v_if_eq (tgt := 40) dX8_leads_17 (by decide) (fun c => ?_) (fun c => ?_)
  · rw [if_pos c] at h
    exact v_weak (wss (wss (wss (wsn wse)))) (lX8_leads_40 h)
  · rw [if_neg c] at h
    refine v_al0 dX8_leads_20 ?_
    refine v_gR cok6 h dX8_leads_21 (by decide) q1401 rfl (fun x5 h => ?_)
    refine v_sipush dX8_leads_24 rfl ?_
    refine v_il2 dX8_leads_27 ?_
    refine v_iadd dX8_leads_28 ?_
    refine v_aI h dX8_leads_29 (fun x6 h => ?_)
    refine v_il1 dX8_leads_30 ?_
    refine v_iconst dX8_leads_31 ?_
    refine v_iadd dX8_leads_32 ?_
    refine v_icmp_eq (tgt := 40) dX8_leads_33 (by decide) (fun c => ?_) (fun c => ?_)
    · rw [if_pos c] at h
      exact v_weak (wss (wss (wss (wsn wse)))) (lX8_leads_40 h)
    · rw [if_neg c] at h
      refine v_al0 dX8_leads_36 ?_
      obtain ⟨b37, er, ka, h⟩ := cV_some h
      obtain ⟨_, s7, h1, h⟩ := cl_some h
      refine v_callV0 cok6 (As := []) er ka (tX8_breaks h1) (lw_V q1751 q1753 qs108 q167 q1754) rfl dsX8_breaks ⟨Nat.le_of_ble_eq_true rfl, Nat.le_of_ble_eq_true rfl⟩ (Nat.le_of_ble_eq_true rfl) dX8_leads_37 rfl ?_
      exact v_weak (wss (wss (wss (wsn wse)))) (lX8_leads_40 h)
theorem tX8_leads {E : EE} {l : Launch} {v0 : Option Nat} {v1 : Int32} {σ : Mem} {z : Unit × Mem} (h : sX8_leads v0 v1 σ = some z) : Mt E l mX8_leads [vr v0, vi v1] σ (none, z.2) :=
  Mt.ofVL (by decide) (Nat.le_of_ble_eq_true rfl) (fun G hG => lX8_leads h)
abbrev mX8_hasVote : MM := (yX8_hasVote, cX8_hasVote, 2, (Option.none : Option Jvm.ClassFile.FieldType), 9, 212)
theorem dsX8_hasVote : DsOk yX8_hasVote 1 := ⟨by decide, by decide, by decide +kernel⟩
theorem lX8_hasVote {E : EE} {G : GG} {v0 : Option Nat} {v1 : Int32} {σ : Mem} {z : Unit × Mem} (h : sX8_hasVote v0 v1 σ = some z) : V E mX8_hasVote G 0 [some (vr v0), some (vi v1)] [] σ (none, z.2) := by
  unfold sX8_hasVote at h
  refine v_al0 dX8_hasVote_0 ?_
  refine v_il1 dX8_hasVote_1 ?_
  refine v_iconst dX8_hasVote_2 ?_
  obtain ⟨b3, er, ka, h⟩ := cV_some h
  obtain ⟨x1, s2, h1, h⟩ := cl_some h
  refine v_callV1 cok6 (As := [vi v1, vi (iI 3)]) er ka (tX8_the h1) (lw_V q1385 q1387 qs60 q167 q1388) rfl dsX8_the ⟨Nat.le_of_ble_eq_true rfl, Nat.le_of_ble_eq_true rfl⟩ (Nat.le_of_ble_eq_true rfl) dX8_hasVote_3 rfl ?_
  refine v_iconst dX8_hasVote_6 ?_
  refine v_icmp_ne (tgt := 36) dX8_hasVote_7 (by decide) (fun c => ?_) (fun c => ?_)
  · rw [if_neg c] at h
    exact v_retV h dX8_hasVote_36 rfl
  · rw [if_pos c] at h
    refine v_al0 dX8_hasVote_10 ?_
    refine v_gR cok6 h dX8_hasVote_11 (by decide) q1405 rfl (fun x3 h => ?_)
    refine v_iconst dX8_hasVote_14 ?_
    refine v_aI h dX8_hasVote_15 (fun x4 h => ?_)
    refine v_al0 dX8_hasVote_16 ?_
    refine v_il1 dX8_hasVote_17 ?_
    refine v_iconst dX8_hasVote_18 ?_
    obtain ⟨b19, er, ka, h⟩ := cV_some h
    obtain ⟨x5, s6, h1, h⟩ := cl_some h
    refine v_callV1 cok6 (As := [vi v1, vi (iI 1)]) er ka (tX8_the h1) (lw_V q1385 q1387 qs60 q167 q1388) rfl dsX8_the ⟨Nat.le_of_ble_eq_true rfl, Nat.le_of_ble_eq_true rfl⟩ (Nat.le_of_ble_eq_true rfl) dX8_hasVote_19 rfl ?_
    refine v_icmp_ne (tgt := 36) dX8_hasVote_22 (by decide) (fun c => ?_) (fun c => ?_)
    · rw [if_neg c] at h
      exact v_retV h dX8_hasVote_36 rfl
    · rw [if_pos c] at h
      refine v_al0 dX8_hasVote_25 ?_
      refine v_gR cok6 h dX8_hasVote_26 (by decide) q1405 rfl (fun x7 h => ?_)
      refine v_bipush dX8_hasVote_29 rfl ?_
      refine v_aI h dX8_hasVote_31 (fun x8 h => ?_)
      refine v_iconst dX8_hasVote_32 ?_
      refine v_icmp_eq (tgt := 37) dX8_hasVote_33 (by decide) (fun c => ?_) (fun c => ?_)
      · rw [if_pos c] at h
        refine v_al0 dX8_hasVote_37 ?_
        refine v_il1 dX8_hasVote_38 ?_
        refine v_bipush dX8_hasVote_39 rfl ?_
        refine v_al0 dX8_hasVote_41 ?_
        refine v_il1 dX8_hasVote_42 ?_
        refine v_bipush dX8_hasVote_43 rfl ?_
        obtain ⟨b45, er, ka, h⟩ := cV_some h
        obtain ⟨x9, s10, h1, h⟩ := cl_some h
        refine v_callV1 cok6 (As := [vi v1, vi (iI 12)]) er ka (tX8_the h1) (lw_V q1385 q1387 qs60 q167 q1388) rfl dsX8_the ⟨Nat.le_of_ble_eq_true rfl, Nat.le_of_ble_eq_true rfl⟩ (Nat.le_of_ble_eq_true rfl) dX8_hasVote_45 rfl ?_
        refine v_iconst dX8_hasVote_48 ?_
        refine v_al0 dX8_hasVote_49 ?_
        refine v_gR cok6 h dX8_hasVote_50 (by decide) q1405 rfl (fun x11 h => ?_)
        refine v_iconst dX8_hasVote_53 ?_
        refine v_aI h dX8_hasVote_54 (fun x12 h => ?_)
        refine v_ishl dX8_hasVote_55 ?_
        refine v_ior dX8_hasVote_56 ?_
        obtain ⟨b57, er, ka, h⟩ := cV_some h
        obtain ⟨_, s13, h1, h⟩ := cl_some h
        refine v_callV0 cok6 (As := [vi v1, vi (iI 12), vi (x9 ||| ((iI 1) <<< (x12 &&& 31)))]) er ka (tX8_sets h1) (lw_V q1372 q1374 qs57 q167 q1375) rfl dsX8_sets ⟨Nat.le_of_ble_eq_true rfl, Nat.le_of_ble_eq_true rfl⟩ (Nat.le_of_ble_eq_true rfl) dX8_hasVote_57 rfl ?_
        refine v_al0 dX8_hasVote_60 ?_
        refine v_il1 dX8_hasVote_61 ?_
        refine v_al0 dX8_hasVote_62 ?_
        refine v_il1 dX8_hasVote_63 ?_
        refine v_bipush dX8_hasVote_64 rfl ?_
        obtain ⟨b66, er, ka, h⟩ := cV_some h
        obtain ⟨x14, s15, h1, h⟩ := cl_some h
        refine v_callV1 cok6 (As := [vi v1, vi (iI 12)]) er ka (tX8_the h1) (lw_V q1385 q1387 qs60 q167 q1388) rfl dsX8_the ⟨Nat.le_of_ble_eq_true rfl, Nat.le_of_ble_eq_true rfl⟩ (Nat.le_of_ble_eq_true rfl) dX8_hasVote_66 rfl ?_
        obtain ⟨b69, er, ka, h⟩ := cV_some h
        obtain ⟨x16, s17, h1, h⟩ := cl_some h
        refine v_callV1 cok6 (As := [vi v1, vi x14]) er ka (tX8_isMost h1) (lw_V q1728 q1730 qs103 q167 q1731) rfl dsX8_isMost ⟨Nat.le_of_ble_eq_true rfl, Nat.le_of_ble_eq_true rfl⟩ (Nat.le_of_ble_eq_true rfl) dX8_hasVote_69 rfl ?_
        refine v_if_eq (tgt := 80) dX8_hasVote_72 (by decide) (fun c => ?_) (fun c => ?_)
        · rw [if_pos c] at h
          exact v_retV h dX8_hasVote_80 rfl
        · rw [if_neg c] at h
          refine v_al0 dX8_hasVote_75 ?_
          refine v_il1 dX8_hasVote_76 ?_
          obtain ⟨b77, er, ka, h⟩ := cV_some h
          obtain ⟨_, s18, h1, h⟩ := cl_some h
          refine v_callV0 cok6 (As := [vi v1]) er ka (tX8_leads h1) (lw_V q1747 q1749 qs107 q167 q1750) rfl dsX8_leads ⟨Nat.le_of_ble_eq_true rfl, Nat.le_of_ble_eq_true rfl⟩ (Nat.le_of_ble_eq_true rfl) dX8_hasVote_77 rfl ?_
          exact v_retV h dX8_hasVote_80 rfl
      · rw [if_neg c] at h
        exact v_retV h dX8_hasVote_36 rfl
theorem tX8_hasVote {E : EE} {l : Launch} {v0 : Option Nat} {v1 : Int32} {σ : Mem} {z : Unit × Mem} (h : sX8_hasVote v0 v1 σ = some z) : Mt E l mX8_hasVote [vr v0, vi v1] σ (none, z.2) :=
  Mt.ofVL (by decide) (Nat.le_of_ble_eq_true rfl) (fun G hG => lX8_hasVote h)
abbrev mX8_firstOfTerm : MM := (yX8_firstOfTerm, cX8_firstOfTerm, 4, (Option.some Jvm.ClassFile.FieldType.int), 3, 66)
theorem dsX8_firstOfTerm : DsOk yX8_firstOfTerm 2 := ⟨by decide, by decide, by decide +kernel⟩
theorem lX8_firstOfTerm_18b {E : EE} {G : GG} {k18 : Option Nat → Int32 → Int32 → Int32 → Mem → Option (Int32 × Mem)} (hk18 : ∀ (v0 : Option Nat) (v1 : Int32) (v2 : Int32) (v3 : Int32) (s : Mem) (z : Int32 × Mem), k18 v0 v1 v2 v3 s = some z → V E mX8_firstOfTerm G 18 [some (vr v0), some (vi v1), some (vi v2), some (vi v3)] [] s (some (vi z.1), z.2)) {v0 : Option Nat} {v1 : Int32} {v2 : Int32} {v3 : Int32} {σ : Mem} {z : Int32 × Mem} (h : sX8_firstOfTerm_18b k18 v0 v1 v2 v3 σ = some z) : V E mX8_firstOfTerm G 18 [some (vr v0), some (vi v1), some (vi v2), some (vi v3)] [] σ (some (vi z.1), z.2) := by
  unfold sX8_firstOfTerm_18b at h
  refine v_il3 dX8_firstOfTerm_18 ?_
  refine v_iconst dX8_firstOfTerm_19 ?_
  refine v_isub dX8_firstOfTerm_20 ?_
  refine v_al0 dX8_firstOfTerm_21 ?_
  refine v_il1 dX8_firstOfTerm_22 ?_
  refine v_iconst dX8_firstOfTerm_23 ?_
  obtain ⟨b24, er, ka, h⟩ := cV_some h
  obtain ⟨x1, s2, h1, h⟩ := cl_some h
  refine v_callV1 cok6 (As := [vi v1, vi (iI 4)]) er ka (tX8_the h1) (lw_V q1385 q1387 qs60 q167 q1388) rfl dsX8_the ⟨Nat.le_of_ble_eq_true rfl, Nat.le_of_ble_eq_true rfl⟩ (Nat.le_of_ble_eq_true rfl) dX8_firstOfTerm_24 rfl ?_
  refine v_icmp_le (tgt := 54) dX8_firstOfTerm_27 (by decide) (fun c => ?_) (fun c => ?_)
  · rw [if_pos c] at h
    refine v_il3 dX8_firstOfTerm_54 ?_
    exact v_retI h dX8_firstOfTerm_55 rfl
  · rw [if_neg c] at h
    refine v_al0 dX8_firstOfTerm_30 ?_
    refine v_il1 dX8_firstOfTerm_31 ?_
    refine v_il3 dX8_firstOfTerm_32 ?_
    refine v_iconst dX8_firstOfTerm_33 ?_
    refine v_isub dX8_firstOfTerm_34 ?_
    obtain ⟨b35, er, ka, h⟩ := cV_some h
    obtain ⟨x3, s4, h1, h⟩ := cl_some h
    refine v_callV1 cok6 (As := [vi v1, vi (v3 - (iI 1))]) er ka (tX8_termAt h1) (lw_V q1700 q1702 qs96 q167 q1703) rfl dsX8_termAt ⟨Nat.le_of_ble_eq_true rfl, Nat.le_of_ble_eq_true rfl⟩ (Nat.le_of_ble_eq_true rfl) dX8_firstOfTerm_35 rfl ?_
    refine v_al0 dX8_firstOfTerm_38 ?_
    refine v_il1 dX8_firstOfTerm_39 ?_
    refine v_il2 dX8_firstOfTerm_40 ?_
    obtain ⟨b41, er, ka, h⟩ := cV_some h
    obtain ⟨x5, s6, h1, h⟩ := cl_some h
    refine v_callV1 cok6 (As := [vi v1, vi v2]) er ka (tX8_termAt h1) (lw_V q1700 q1702 qs96 q167 q1703) rfl dsX8_termAt ⟨Nat.le_of_ble_eq_true rfl, Nat.le_of_ble_eq_true rfl⟩ (Nat.le_of_ble_eq_true rfl) dX8_firstOfTerm_41 rfl ?_
    refine v_icmp_ne (tgt := 54) dX8_firstOfTerm_44 (by decide) (fun c => ?_) (fun c => ?_)
    · rw [if_neg c] at h
      refine v_il3 dX8_firstOfTerm_54 ?_
      exact v_retI h dX8_firstOfTerm_55 rfl
    · rw [if_pos c] at h
      refine v_il3 dX8_firstOfTerm_47 ?_
      refine v_iconst dX8_firstOfTerm_48 ?_
      refine v_isub dX8_firstOfTerm_49 ?_
      refine v_istore_n (L' := [some (vr v0), some (vi v1), some (vi v2), some (vi (v3 - (iI 1)))]) dX8_firstOfTerm_50 (Nat.le_of_ble_eq_true rfl) (Nat.le_of_ble_eq_true rfl) rfl ?_
      refine v_goto (tgt := 18) dX8_firstOfTerm_51 (by decide) ?_
      exact v_weak (wss (wss (wss (wss wse)))) (hk18 _ _ _ _ _ _ h)
theorem lX8_firstOfTerm_18 {E : EE} {G : GG} : ∀ (f : Nat) {v0 : Option Nat} {v1 : Int32} {v2 : Int32} {v3 : Int32} {σ : Mem} {z : Int32 × Mem}, sX8_firstOfTerm_18 f v0 v1 v2 v3 σ = some z → V E mX8_firstOfTerm G 18 [some (vr v0), some (vi v1), some (vi v2), some (vi v3)] [] σ (some (vi z.1), z.2)
  | 0, _, _, _, _, _, _, h => by cases h
  | f + 1, _, _, _, _, _, _, h => lX8_firstOfTerm_18b (fun _ _ _ _ _ _ h => lX8_firstOfTerm_18 f h) h
theorem lX8_firstOfTerm {E : EE} {G : GG} {v0 : Option Nat} {v1 : Int32} {v2 : Int32} {σ : Mem} {z : Int32 × Mem} (h : sX8_firstOfTerm v0 v1 v2 σ = some z) : V E mX8_firstOfTerm G 0 [some (vr v0), some (vi v1), some (vi v2), none] [] σ (some (vi z.1), z.2) := by
  unfold sX8_firstOfTerm at h
  refine v_il2 dX8_firstOfTerm_0 ?_
  refine v_al0 dX8_firstOfTerm_1 ?_
  refine v_il1 dX8_firstOfTerm_2 ?_
  refine v_iconst dX8_firstOfTerm_3 ?_
  obtain ⟨b4, er, ka, h⟩ := cV_some h
  obtain ⟨x1, s2, h1, h⟩ := cl_some h
  refine v_callV1 cok6 (As := [vi v1, vi (iI 4)]) er ka (tX8_the h1) (lw_V q1385 q1387 qs60 q167 q1388) rfl dsX8_the ⟨Nat.le_of_ble_eq_true rfl, Nat.le_of_ble_eq_true rfl⟩ (Nat.le_of_ble_eq_true rfl) dX8_firstOfTerm_4 rfl ?_
  refine v_icmp_ne (tgt := 16) dX8_firstOfTerm_7 (by decide) (fun c => ?_) (fun c => ?_)
  · rw [if_neg c] at h
    refine v_il2 dX8_firstOfTerm_16 ?_
    refine v_istore_n (L' := [some (vr v0), some (vi v1), some (vi v2), some (vi v2)]) dX8_firstOfTerm_17 (Nat.le_of_ble_eq_true rfl) (Nat.le_of_ble_eq_true rfl) rfl ?_
    exact v_weak (wss (wss (wss (wss wse)))) (lX8_firstOfTerm_18 FU h)
  · rw [if_pos c] at h
    refine v_iconst dX8_firstOfTerm_10 ?_
    refine v_il2 dX8_firstOfTerm_11 ?_
    obtain ⟨x3, s4, h1, h⟩ := cl_some h
    refine v_callS1 (As := [vi (iI 1), vi v2]) (tX8_max h1) (lw_S q1767 q1768 q167 q1769) dsX8_max ⟨Nat.le_of_ble_eq_true rfl, Nat.le_of_ble_eq_true rfl⟩ (Nat.le_of_ble_eq_true rfl) dX8_firstOfTerm_12 rfl ?_
    exact v_retI h dX8_firstOfTerm_15 rfl
theorem tX8_firstOfTerm {E : EE} {l : Launch} {v0 : Option Nat} {v1 : Int32} {v2 : Int32} {σ : Mem} {z : Int32 × Mem} (h : sX8_firstOfTerm v0 v1 v2 σ = some z) : Mt E l mX8_firstOfTerm [vr v0, vi v1, vi v2] σ (some (vi z.1), z.2) :=
  Mt.ofVL (by decide) (Nat.le_of_ble_eq_true rfl) (fun G hG => lX8_firstOfTerm h)
abbrev mX8_laysAs : MM := (yX8_laysAs, cX8_laysAs, 4, (Option.some Jvm.ClassFile.FieldType.boolean), 5, 118)
theorem dsX8_laysAs : DsOk yX8_laysAs 3 := ⟨by decide, by decide, by decide +kernel⟩
theorem lX8_laysAs_80 {E : EE} {G : GG} {v0 : Option Nat} {v1 : Int32} {v3 : Int32} {σ : Mem} {z : Int32 × Mem} (h : sX8_laysAs_80 v0 v1 v3 σ = some z) : V E mX8_laysAs G 80 [some (vr v0), some (vi v1), none, some (vi v3)] [] σ (some (vi z.1), z.2) := by
  unfold sX8_laysAs_80 at h
  refine v_al0 dX8_laysAs_80 ?_
  refine v_il1 dX8_laysAs_81 ?_
  refine v_al0 dX8_laysAs_82 ?_
  refine v_gR cok6 h dX8_laysAs_83 (by decide) q1405 rfl (fun x1 h => ?_)
  refine v_il3 dX8_laysAs_86 ?_
  refine v_aI h dX8_laysAs_87 (fun x2 h => ?_)
  refine v_al0 dX8_laysAs_88 ?_
  refine v_gR cok6 h dX8_laysAs_89 (by decide) q1405 rfl (fun x3 h => ?_)
  refine v_il3 dX8_laysAs_92 ?_
  refine v_iconst dX8_laysAs_93 ?_
  refine v_iadd dX8_laysAs_94 ?_
  refine v_aI h dX8_laysAs_95 (fun x4 h => ?_)
  refine v_al0 dX8_laysAs_96 ?_
  refine v_gR cok6 h dX8_laysAs_97 (by decide) q1405 rfl (fun x5 h => ?_)
  refine v_il3 dX8_laysAs_100 ?_
  refine v_iconst dX8_laysAs_101 ?_
  refine v_iadd dX8_laysAs_102 ?_
  refine v_aI h dX8_laysAs_103 (fun x6 h => ?_)
  refine v_al0 dX8_laysAs_104 ?_
  refine v_gR cok6 h dX8_laysAs_105 (by decide) q1405 rfl (fun x7 h => ?_)
  refine v_il3 dX8_laysAs_108 ?_
  refine v_iconst dX8_laysAs_109 ?_
  refine v_iadd dX8_laysAs_110 ?_
  refine v_aI h dX8_laysAs_111 (fun x8 h => ?_)
  obtain ⟨b112, er, ka, h⟩ := cV_some h
  obtain ⟨x9, s10, h1, h⟩ := cl_some h
  refine v_callV1 cok6 (As := [vi v1, vi x2, vi x4, vi x6, vi x8]) er ka (tX8_lays h1) (lw_V q1755 q1757 qs109 q167 q1758) rfl dsX8_lays ⟨Nat.le_of_ble_eq_true rfl, Nat.le_of_ble_eq_true rfl⟩ (Nat.le_of_ble_eq_true rfl) dX8_laysAs_112 rfl ?_
  exact v_retZ h dX8_laysAs_115 rfl
theorem lX8_laysAs {E : EE} {G : GG} {v0 : Option Nat} {v1 : Int32} {v2 : Int32} {v3 : Int32} {σ : Mem} {z : Int32 × Mem} (h : sX8_laysAs v0 v1 v2 v3 σ = some z) : V E mX8_laysAs G 0 [some (vr v0), some (vi v1), some (vi v2), some (vi v3)] [] σ (some (vi z.1), z.2) := by
  unfold sX8_laysAs at h
  refine v_il2 dX8_laysAs_0 ?_
  refine v_al0 dX8_laysAs_1 ?_
  refine v_il1 dX8_laysAs_2 ?_
  refine v_iconst dX8_laysAs_3 ?_
  obtain ⟨b4, er, ka, h⟩ := cV_some h
  obtain ⟨x1, s2, h1, h⟩ := cl_some h
  refine v_callV1 cok6 (As := [vi v1, vi (iI 4)]) er ka (tX8_the h1) (lw_V q1385 q1387 qs60 q167 q1388) rfl dsX8_the ⟨Nat.le_of_ble_eq_true rfl, Nat.le_of_ble_eq_true rfl⟩ (Nat.le_of_ble_eq_true rfl) dX8_laysAs_4 rfl ?_
  refine v_icmp_gt (tgt := 12) dX8_laysAs_7 (by decide) (fun c => ?_) (fun c => ?_)
  · rw [if_pos c] at h
    refine v_il2 dX8_laysAs_12 ?_
    refine v_al0 dX8_laysAs_13 ?_
    refine v_il1 dX8_laysAs_14 ?_
    obtain ⟨b15, er, ka, h⟩ := cV_some h
    obtain ⟨x3, s4, h1, h⟩ := cl_some h
    refine v_callV1 cok6 (As := [vi v1]) er ka (tX8_lastOf h1) (lw_V q1696 q1698 qs95 q167 q1699) rfl dsX8_lastOf ⟨Nat.le_of_ble_eq_true rfl, Nat.le_of_ble_eq_true rfl⟩ (Nat.le_of_ble_eq_true rfl) dX8_laysAs_15 rfl ?_
    refine v_icmp_gt (tgt := 80) dX8_laysAs_18 (by decide) (fun c => ?_) (fun c => ?_)
    · rw [if_pos c] at h
      exact v_weak (wss (wss (wsn (wss wse)))) (lX8_laysAs_80 h)
    · rw [if_neg c] at h
      refine v_al0 dX8_laysAs_21 ?_
      refine v_il1 dX8_laysAs_22 ?_
      refine v_il2 dX8_laysAs_23 ?_
      obtain ⟨b24, er, ka, h⟩ := cV_some h
      obtain ⟨x5, s6, h1, h⟩ := cl_some h
      refine v_callV1 cok6 (As := [vi v1, vi v2]) er ka (tX8_termAt h1) (lw_V q1700 q1702 qs96 q167 q1703) rfl dsX8_termAt ⟨Nat.le_of_ble_eq_true rfl, Nat.le_of_ble_eq_true rfl⟩ (Nat.le_of_ble_eq_true rfl) dX8_laysAs_24 rfl ?_
      refine v_al0 dX8_laysAs_27 ?_
      refine v_gR cok6 h dX8_laysAs_28 (by decide) q1405 rfl (fun x7 h => ?_)
      refine v_il3 dX8_laysAs_31 ?_
      refine v_aI h dX8_laysAs_32 (fun x8 h => ?_)
      refine v_icmp_ne (tgt := 38) dX8_laysAs_33 (by decide) (fun c => ?_) (fun c => ?_)
      · rw [if_neg c] at h
        refine v_al0 dX8_laysAs_38 ?_
        refine v_il1 dX8_laysAs_39 ?_
        refine v_bipush dX8_laysAs_40 rfl ?_
        refine v_il2 dX8_laysAs_42 ?_
        refine v_al0 dX8_laysAs_43 ?_
        refine v_il1 dX8_laysAs_44 ?_
        refine v_iconst dX8_laysAs_45 ?_
        obtain ⟨b46, er, ka, h⟩ := cV_some h
        obtain ⟨x9, s10, h1, h⟩ := cl_some h
        refine v_callV1 cok6 (As := [vi v1, vi (iI 4)]) er ka (tX8_the h1) (lw_V q1385 q1387 qs60 q167 q1388) rfl dsX8_the ⟨Nat.le_of_ble_eq_true rfl, Nat.le_of_ble_eq_true rfl⟩ (Nat.le_of_ble_eq_true rfl) dX8_laysAs_46 rfl ?_
        refine v_isub dX8_laysAs_49 ?_
        refine v_iconst dX8_laysAs_50 ?_
        refine v_isub dX8_laysAs_51 ?_
        obtain ⟨b52, er, ka, h⟩ := cV_some h
        obtain ⟨_, s11, h1, h⟩ := cl_some h
        refine v_callV0 cok6 (As := [vi v1, vi (iI 8), vi ((v2 - x9) - (iI 1))]) er ka (tX8_sets h1) (lw_V q1372 q1374 qs57 q167 q1375) rfl dsX8_sets ⟨Nat.le_of_ble_eq_true rfl, Nat.le_of_ble_eq_true rfl⟩ (Nat.le_of_ble_eq_true rfl) dX8_laysAs_52 rfl ?_
        refine v_il2 dX8_laysAs_55 ?_
        refine v_al0 dX8_laysAs_56 ?_
        refine v_il1 dX8_laysAs_57 ?_
        refine v_bipush dX8_laysAs_58 rfl ?_
        obtain ⟨b60, er, ka, h⟩ := cV_some h
        obtain ⟨x12, s13, h1, h⟩ := cl_some h
        refine v_callV1 cok6 (As := [vi v1, vi (iI 9)]) er ka (tX8_the h1) (lw_V q1385 q1387 qs60 q167 q1388) rfl dsX8_the ⟨Nat.le_of_ble_eq_true rfl, Nat.le_of_ble_eq_true rfl⟩ (Nat.le_of_ble_eq_true rfl) dX8_laysAs_60 rfl ?_
        refine v_icmp_gt (tgt := 80) dX8_laysAs_63 (by decide) (fun c => ?_) (fun c => ?_)
        · rw [if_pos c] at h
          exact v_weak (wss (wss (wsn (wss wse)))) (lX8_laysAs_80 h)
        · rw [if_neg c] at h
          refine v_al0 dX8_laysAs_66 ?_
          obtain ⟨b67, er, ka, h⟩ := cV_some h
          obtain ⟨_, s14, h1, h⟩ := cl_some h
          refine v_callV0 cok6 (As := []) er ka (tX8_breaks h1) (lw_V q1751 q1753 qs108 q167 q1754) rfl dsX8_breaks ⟨Nat.le_of_ble_eq_true rfl, Nat.le_of_ble_eq_true rfl⟩ (Nat.le_of_ble_eq_true rfl) dX8_laysAs_67 rfl ?_
          refine v_al0 dX8_laysAs_70 ?_
          refine v_il1 dX8_laysAs_71 ?_
          refine v_bipush dX8_laysAs_72 rfl ?_
          refine v_il2 dX8_laysAs_74 ?_
          refine v_iconst dX8_laysAs_75 ?_
          refine v_isub dX8_laysAs_76 ?_
          obtain ⟨b77, er, ka, h⟩ := cV_some h
          obtain ⟨_, s15, h1, h⟩ := cl_some h
          refine v_callV0 cok6 (As := [vi v1, vi (iI 9), vi (v2 - (iI 1))]) er ka (tX8_sets h1) (lw_V q1372 q1374 qs57 q167 q1375) rfl dsX8_sets ⟨Nat.le_of_ble_eq_true rfl, Nat.le_of_ble_eq_true rfl⟩ (Nat.le_of_ble_eq_true rfl) dX8_laysAs_77 rfl ?_
          exact v_weak (wss (wss (wsn (wss wse)))) (lX8_laysAs_80 h)
      · rw [if_pos c] at h
        refine v_iconst dX8_laysAs_36 ?_
        exact v_retZ h dX8_laysAs_37 rfl
  · rw [if_neg c] at h
    refine v_iconst dX8_laysAs_10 ?_
    exact v_retZ h dX8_laysAs_11 rfl
theorem tX8_laysAs {E : EE} {l : Launch} {v0 : Option Nat} {v1 : Int32} {v2 : Int32} {v3 : Int32} {σ : Mem} {z : Int32 × Mem} (h : sX8_laysAs v0 v1 v2 v3 σ = some z) : Mt E l mX8_laysAs [vr v0, vi v1, vi v2, vi v3] σ (some (vi z.1), z.2) :=
  Mt.ofVL (by decide) (Nat.le_of_ble_eq_true rfl) (fun G hG => lX8_laysAs h)
abbrev mX8_hasEntries : MM := (yX8_hasEntries, cX8_hasEntries, 5, (Option.none : Option Jvm.ClassFile.FieldType), 6, 141)
theorem dsX8_hasEntries : DsOk yX8_hasEntries 1 := ⟨by decide, by decide, by decide +kernel⟩
theorem lX8_hasEntries_166 {E : EE} {G : GG} {v0 : Option Nat} {v1 : Int32} {v3 : Int32} {v4 : Int32} {σ : Mem} {z : Unit × Mem} (h : sX8_hasEntries_166 v0 v1 v3 v4 σ = some z) : V E mX8_hasEntries G 166 [some (vr v0), some (vi v1), none, some (vi v3), some (vi v4)] [] σ (none, z.2) := by
  unfold sX8_hasEntries_166 at h
  refine v_al0 dX8_hasEntries_166 ?_
  refine v_il1 dX8_hasEntries_167 ?_
  refine v_al0 dX8_hasEntries_168 ?_
  refine v_gR cok6 h dX8_hasEntries_169 (by decide) q1405 rfl (fun x1 h => ?_)
  refine v_bipush dX8_hasEntries_172 rfl ?_
  refine v_aI h dX8_hasEntries_174 (fun x2 h => ?_)
  refine v_iload dX8_hasEntries_175 rfl ?_
  obtain ⟨x3, s4, h1, h⟩ := cl_some h
  refine v_callS1 (As := [vi x2, vi v4]) (tX8_min h1) (lw_S q1677 q1678 q167 q1679) dsX8_min ⟨Nat.le_of_ble_eq_true rfl, Nat.le_of_ble_eq_true rfl⟩ (Nat.le_of_ble_eq_true rfl) dX8_hasEntries_177 rfl ?_
  obtain ⟨b180, er, ka, h⟩ := cV_some h
  obtain ⟨_, s5, h1, h⟩ := cl_some h
  refine v_callV0 cok6 (As := [vi v1, vi x3]) er ka (tX8_growsCommit h1) (lw_V q1806 q1808 qs121 q167 q1809) rfl dsX8_growsCommit ⟨Nat.le_of_ble_eq_true rfl, Nat.le_of_ble_eq_true rfl⟩ (Nat.le_of_ble_eq_true rfl) dX8_hasEntries_180 rfl ?_
  refine v_al0 dX8_hasEntries_183 ?_
  refine v_iconst dX8_hasEntries_184 ?_
  refine v_iconst dX8_hasEntries_185 ?_
  refine v_iload dX8_hasEntries_186 rfl ?_
  refine v_il3 dX8_hasEntries_188 ?_
  obtain ⟨b189, er, ka, h⟩ := cV_some h
  obtain ⟨_, s6, h1, h⟩ := cl_some h
  refine v_callV0 cok6 (As := [vi (iI 3), vi (iI 1), vi v4, vi v3]) er ka (tX8_answersBy h1) (lw_V q1708 q1710 qs98 q167 q1711) rfl dsX8_answersBy ⟨Nat.le_of_ble_eq_true rfl, Nat.le_of_ble_eq_true rfl⟩ (Nat.le_of_ble_eq_true rfl) dX8_hasEntries_189 rfl ?_
  exact v_retV h dX8_hasEntries_192 rfl
theorem lX8_hasEntries_123b {E : EE} {G : GG} {k123 : Option Nat → Int32 → Int32 → Int32 → Int32 → Mem → Option (Unit × Mem)} (hk123 : ∀ (v0 : Option Nat) (v1 : Int32) (v2 : Int32) (v3 : Int32) (v4 : Int32) (s : Mem) (z : Unit × Mem), k123 v0 v1 v2 v3 v4 s = some z → V E mX8_hasEntries G 123 [some (vr v0), some (vi v1), some (vi v2), some (vi v3), some (vi v4)] [] s (none, z.2)) {v0 : Option Nat} {v1 : Int32} {v2 : Int32} {v3 : Int32} {v4 : Int32} {σ : Mem} {z : Unit × Mem} (h : sX8_hasEntries_123b k123 v0 v1 v2 v3 v4 σ = some z) : V E mX8_hasEntries G 123 [some (vr v0), some (vi v1), some (vi v2), some (vi v3), some (vi v4)] [] σ (none, z.2) := by
  unfold sX8_hasEntries_123b at h
  refine v_iload dX8_hasEntries_123 rfl ?_
  refine v_il2 dX8_hasEntries_125 ?_
  refine v_al0 dX8_hasEntries_126 ?_
  refine v_gR cok6 h dX8_hasEntries_127 (by decide) q1405 rfl (fun x1 h => ?_)
  refine v_iconst dX8_hasEntries_130 ?_
  refine v_aI h dX8_hasEntries_131 (fun x2 h => ?_)
  refine v_iadd dX8_hasEntries_132 ?_
  refine v_icmp_ge (tgt := 166) dX8_hasEntries_133 (by decide) (fun c => ?_) (fun c => ?_)
  · rw [if_pos c] at h
    exact v_weak (wss (wss (wsn (wss (wss wse))))) (lX8_hasEntries_166 h)
  · rw [if_neg c] at h
    refine v_al0 dX8_hasEntries_136 ?_
    refine v_il1 dX8_hasEntries_137 ?_
    refine v_iload dX8_hasEntries_138 rfl ?_
    refine v_iconst dX8_hasEntries_140 ?_
    refine v_iadd dX8_hasEntries_141 ?_
    refine v_bipush dX8_hasEntries_142 rfl ?_
    refine v_iconst dX8_hasEntries_144 ?_
    refine v_iload dX8_hasEntries_145 rfl ?_
    refine v_il2 dX8_hasEntries_147 ?_
    refine v_isub dX8_hasEntries_148 ?_
    refine v_imul dX8_hasEntries_149 ?_
    refine v_iadd dX8_hasEntries_150 ?_
    obtain ⟨b151, er, ka, h⟩ := cV_some h
    obtain ⟨x3, s4, h1, h⟩ := cl_some h
    refine v_callV1 cok6 (As := [vi v1, vi (v4 + (iI 1)), vi ((iI 11) + ((iI 4) * (v4 - v2)))]) er ka (tX8_laysAs h1) (lw_V q1830 q1832 qs127 q167 q1833) rfl dsX8_laysAs ⟨Nat.le_of_ble_eq_true rfl, Nat.le_of_ble_eq_true rfl⟩ (Nat.le_of_ble_eq_true rfl) dX8_hasEntries_151 rfl ?_
    refine v_if_eq (tgt := 166) dX8_hasEntries_154 (by decide) (fun c => ?_) (fun c => ?_)
    · rw [if_pos c] at h
      exact v_weak (wss (wss (wsn (wss (wss wse))))) (lX8_hasEntries_166 h)
    · rw [if_neg c] at h
      refine v_iload dX8_hasEntries_157 rfl ?_
      refine v_iconst dX8_hasEntries_159 ?_
      refine v_iadd dX8_hasEntries_160 ?_
      refine v_istore (L' := [some (vr v0), some (vi v1), some (vi v2), some (vi v3), some (vi (v4 + (iI 1)))]) dX8_hasEntries_161 (Nat.le_of_ble_eq_true rfl) (Nat.le_of_ble_eq_true rfl) rfl ?_
      refine v_goto (tgt := 123) dX8_hasEntries_163 (by decide) ?_
      exact v_weak (wss (wss (wss (wss (wss wse))))) (hk123 _ _ _ _ _ _ _ h)
theorem lX8_hasEntries_123 {E : EE} {G : GG} : ∀ (f : Nat) {v0 : Option Nat} {v1 : Int32} {v2 : Int32} {v3 : Int32} {v4 : Int32} {σ : Mem} {z : Unit × Mem}, sX8_hasEntries_123 f v0 v1 v2 v3 v4 σ = some z → V E mX8_hasEntries G 123 [some (vr v0), some (vi v1), some (vi v2), some (vi v3), some (vi v4)] [] σ (none, z.2)
  | 0, _, _, _, _, _, _, _, h => by cases h
  | f + 1, _, _, _, _, _, _, _, h => lX8_hasEntries_123b (fun _ _ _ _ _ _ _ h => lX8_hasEntries_123 f h) h
theorem lX8_hasEntries_120 {E : EE} {G : GG} {v0 : Option Nat} {v1 : Int32} {v2 : Int32} {v3 : Int32} {σ : Mem} {z : Unit × Mem} (h : sX8_hasEntries_120 v0 v1 v2 v3 σ = some z) : V E mX8_hasEntries G 120 [some (vr v0), some (vi v1), some (vi v2), some (vi v3), none] [] σ (none, z.2) := by
  unfold sX8_hasEntries_120 at h
  refine v_il2 dX8_hasEntries_120 ?_
  refine v_istore (L' := [some (vr v0), some (vi v1), some (vi v2), some (vi v3), some (vi v2)]) dX8_hasEntries_121 (Nat.le_of_ble_eq_true rfl) (Nat.le_of_ble_eq_true rfl) rfl ?_
  exact v_weak (wss (wss (wss (wss (wss wse))))) (lX8_hasEntries_123 FU h)
theorem lX8_hasEntries {E : EE} {G : GG} {v0 : Option Nat} {v1 : Int32} {σ : Mem} {z : Unit × Mem} (h : sX8_hasEntries v0 v1 σ = some z) : V E mX8_hasEntries G 0 [some (vr v0), some (vi v1), none, none, none] [] σ (none, z.2) := by
  unfold sX8_hasEntries at h
  refine v_al0 dX8_hasEntries_0 ?_
  refine v_gR cok6 h dX8_hasEntries_1 (by decide) q1405 rfl (fun x1 h => ?_)
  refine v_bipush dX8_hasEntries_4 rfl ?_
  refine v_aI h dX8_hasEntries_6 (fun x2 h => ?_)
  refine v_istore_n (L' := [some (vr v0), some (vi v1), some (vi x2), none, none]) dX8_hasEntries_7 (Nat.le_of_ble_eq_true rfl) (Nat.le_of_ble_eq_true rfl) rfl ?_
  refine v_al0 dX8_hasEntries_8 ?_
  refine v_gR cok6 h dX8_hasEntries_9 (by decide) q1405 rfl (fun x3 h => ?_)
  refine v_bipush dX8_hasEntries_12 rfl ?_
  refine v_aI h dX8_hasEntries_14 (fun x4 h => ?_)
  refine v_istore_n (L' := [some (vr v0), some (vi v1), some (vi x2), some (vi x4), none]) dX8_hasEntries_15 (Nat.le_of_ble_eq_true rfl) (Nat.le_of_ble_eq_true rfl) rfl ?_
  refine v_al0 dX8_hasEntries_16 ?_
  refine v_gR cok6 h dX8_hasEntries_17 (by decide) q1405 rfl (fun x5 h => ?_)
  refine v_iconst dX8_hasEntries_20 ?_
  refine v_aI h dX8_hasEntries_21 (fun x6 h => ?_)
  refine v_al0 dX8_hasEntries_22 ?_
  refine v_il1 dX8_hasEntries_23 ?_
  refine v_iconst dX8_hasEntries_24 ?_
  obtain ⟨b25, er, ka, h⟩ := cV_some h
  obtain ⟨x7, s8, h1, h⟩ := cl_some h
  refine v_callV1 cok6 (As := [vi v1, vi (iI 1)]) er ka (tX8_the h1) (lw_V q1385 q1387 qs60 q167 q1388) rfl dsX8_the ⟨Nat.le_of_ble_eq_true rfl, Nat.le_of_ble_eq_true rfl⟩ (Nat.le_of_ble_eq_true rfl) dX8_hasEntries_25 rfl ?_
  refine v_icmp_ge (tgt := 40) dX8_hasEntries_28 (by decide) (fun c => ?_) (fun c => ?_)
  · rw [if_pos c] at h
    refine v_al0 dX8_hasEntries_40 ?_
    refine v_il1 dX8_hasEntries_41 ?_
    refine v_al0 dX8_hasEntries_42 ?_
    refine v_gR cok6 h dX8_hasEntries_43 (by decide) q1405 rfl (fun x9 h => ?_)
    refine v_iconst dX8_hasEntries_46 ?_
    refine v_aI h dX8_hasEntries_47 (fun x10 h => ?_)
    obtain ⟨b48, er, ka, h⟩ := cV_some h
    obtain ⟨_, s11, h1, h⟩ := cl_some h
    refine v_callV0 cok6 (As := [vi v1, vi x10]) er ka (tX8_follows h1) (lw_V q1680 q1682 qs91 q167 q1683) rfl dsX8_follows ⟨Nat.le_of_ble_eq_true rfl, Nat.le_of_ble_eq_true rfl⟩ (Nat.le_of_ble_eq_true rfl) dX8_hasEntries_48 rfl ?_
    refine v_al0 dX8_hasEntries_51 ?_
    refine v_il1 dX8_hasEntries_52 ?_
    obtain ⟨b53, er, ka, h⟩ := cV_some h
    obtain ⟨_, s12, h1, h⟩ := cl_some h
    refine v_callV0 cok6 (As := [vi v1]) er ka (tX8_setsTimer h1) (lw_V q1376 q1378 qs58 q167 q1379) rfl dsX8_setsTimer ⟨Nat.le_of_ble_eq_true rfl, Nat.le_of_ble_eq_true rfl⟩ (Nat.le_of_ble_eq_true rfl) dX8_hasEntries_53 rfl ?_
    refine v_il2 dX8_hasEntries_56 ?_
    refine v_al0 dX8_hasEntries_57 ?_
    refine v_il1 dX8_hasEntries_58 ?_
    obtain ⟨b59, er, ka, h⟩ := cV_some h
    obtain ⟨x13, s14, h1, h⟩ := cl_some h
    refine v_callV1 cok6 (As := [vi v1]) er ka (tX8_lastOf h1) (lw_V q1696 q1698 qs95 q167 q1699) rfl dsX8_lastOf ⟨Nat.le_of_ble_eq_true rfl, Nat.le_of_ble_eq_true rfl⟩ (Nat.le_of_ble_eq_true rfl) dX8_hasEntries_59 rfl ?_
    refine v_icmp_le (tgt := 80) dX8_hasEntries_62 (by decide) (fun c => ?_) (fun c => ?_)
    · rw [if_pos c] at h
      refine v_il2 dX8_hasEntries_80 ?_
      refine v_al0 dX8_hasEntries_81 ?_
      refine v_il1 dX8_hasEntries_82 ?_
      refine v_iconst dX8_hasEntries_83 ?_
      obtain ⟨b84, er, ka, h⟩ := cV_some h
      obtain ⟨x15, s16, h1, h⟩ := cl_some h
      refine v_callV1 cok6 (As := [vi v1, vi (iI 4)]) er ka (tX8_the h1) (lw_V q1385 q1387 qs60 q167 q1388) rfl dsX8_the ⟨Nat.le_of_ble_eq_true rfl, Nat.le_of_ble_eq_true rfl⟩ (Nat.le_of_ble_eq_true rfl) dX8_hasEntries_84 rfl ?_
      refine v_icmp_lt (tgt := 120) dX8_hasEntries_87 (by decide) (fun c => ?_) (fun c => ?_)
      · rw [if_pos c] at h
        exact v_weak (wss (wss (wss (wss (wsn wse))))) (lX8_hasEntries_120 h)
      · rw [if_neg c] at h
        refine v_al0 dX8_hasEntries_90 ?_
        refine v_il1 dX8_hasEntries_91 ?_
        refine v_il2 dX8_hasEntries_92 ?_
        obtain ⟨b93, er, ka, h⟩ := cV_some h
        obtain ⟨x17, s18, h1, h⟩ := cl_some h
        refine v_callV1 cok6 (As := [vi v1, vi x2]) er ka (tX8_termAt h1) (lw_V q1700 q1702 qs96 q167 q1703) rfl dsX8_termAt ⟨Nat.le_of_ble_eq_true rfl, Nat.le_of_ble_eq_true rfl⟩ (Nat.le_of_ble_eq_true rfl) dX8_hasEntries_93 rfl ?_
        refine v_al0 dX8_hasEntries_96 ?_
        refine v_gR cok6 h dX8_hasEntries_97 (by decide) q1405 rfl (fun x19 h => ?_)
        refine v_bipush dX8_hasEntries_100 rfl ?_
        refine v_aI h dX8_hasEntries_102 (fun x20 h => ?_)
        refine v_icmp_eq (tgt := 120) dX8_hasEntries_103 (by decide) (fun c => ?_) (fun c => ?_)
        · rw [if_pos c] at h
          exact v_weak (wss (wss (wss (wss (wsn wse))))) (lX8_hasEntries_120 h)
        · rw [if_neg c] at h
          refine v_al0 dX8_hasEntries_106 ?_
          refine v_iconst dX8_hasEntries_107 ?_
          refine v_iconst dX8_hasEntries_108 ?_
          refine v_al0 dX8_hasEntries_109 ?_
          refine v_il1 dX8_hasEntries_110 ?_
          refine v_il2 dX8_hasEntries_111 ?_
          obtain ⟨b112, er, ka, h⟩ := cV_some h
          obtain ⟨x21, s22, h1, h⟩ := cl_some h
          refine v_callV1 cok6 (As := [vi v1, vi x2]) er ka (tX8_firstOfTerm h1) (lw_V q1826 q1828 qs126 q167 q1829) rfl dsX8_firstOfTerm ⟨Nat.le_of_ble_eq_true rfl, Nat.le_of_ble_eq_true rfl⟩ (Nat.le_of_ble_eq_true rfl) dX8_hasEntries_112 rfl ?_
          refine v_il3 dX8_hasEntries_115 ?_
          obtain ⟨b116, er, ka, h⟩ := cV_some h
          obtain ⟨_, s23, h1, h⟩ := cl_some h
          refine v_callV0 cok6 (As := [vi (iI 3), vi (iI 0), vi x21, vi x4]) er ka (tX8_answersBy h1) (lw_V q1708 q1710 qs98 q167 q1711) rfl dsX8_answersBy ⟨Nat.le_of_ble_eq_true rfl, Nat.le_of_ble_eq_true rfl⟩ (Nat.le_of_ble_eq_true rfl) dX8_hasEntries_116 rfl ?_
          exact v_retV h dX8_hasEntries_119 rfl
    · rw [if_neg c] at h
      refine v_al0 dX8_hasEntries_65 ?_
      refine v_iconst dX8_hasEntries_66 ?_
      refine v_iconst dX8_hasEntries_67 ?_
      refine v_al0 dX8_hasEntries_68 ?_
      refine v_il1 dX8_hasEntries_69 ?_
      obtain ⟨b70, er, ka, h⟩ := cV_some h
      obtain ⟨x24, s25, h1, h⟩ := cl_some h
      refine v_callV1 cok6 (As := [vi v1]) er ka (tX8_lastOf h1) (lw_V q1696 q1698 qs95 q167 q1699) rfl dsX8_lastOf ⟨Nat.le_of_ble_eq_true rfl, Nat.le_of_ble_eq_true rfl⟩ (Nat.le_of_ble_eq_true rfl) dX8_hasEntries_70 rfl ?_
      refine v_iconst dX8_hasEntries_73 ?_
      refine v_iadd dX8_hasEntries_74 ?_
      refine v_il3 dX8_hasEntries_75 ?_
      obtain ⟨b76, er, ka, h⟩ := cV_some h
      obtain ⟨_, s26, h1, h⟩ := cl_some h
      refine v_callV0 cok6 (As := [vi (iI 3), vi (iI 0), vi (x24 + (iI 1)), vi x4]) er ka (tX8_answersBy h1) (lw_V q1708 q1710 qs98 q167 q1711) rfl dsX8_answersBy ⟨Nat.le_of_ble_eq_true rfl, Nat.le_of_ble_eq_true rfl⟩ (Nat.le_of_ble_eq_true rfl) dX8_hasEntries_76 rfl ?_
      exact v_retV h dX8_hasEntries_79 rfl
  · rw [if_neg c] at h
    refine v_al0 dX8_hasEntries_31 ?_
    refine v_iconst dX8_hasEntries_32 ?_
    refine v_iconst dX8_hasEntries_33 ?_
    refine v_iconst dX8_hasEntries_34 ?_
    refine v_iconst dX8_hasEntries_35 ?_
    obtain ⟨b36, er, ka, h⟩ := cV_some h
    obtain ⟨_, s27, h1, h⟩ := cl_some h
    refine v_callV0 cok6 (As := [vi (iI 3), vi (iI 0), vi (iI 1), vi (iI 0)]) er ka (tX8_answersBy h1) (lw_V q1708 q1710 qs98 q167 q1711) rfl dsX8_answersBy ⟨Nat.le_of_ble_eq_true rfl, Nat.le_of_ble_eq_true rfl⟩ (Nat.le_of_ble_eq_true rfl) dX8_hasEntries_36 rfl ?_
    exact v_retV h dX8_hasEntries_39 rfl
theorem tX8_hasEntries {E : EE} {l : Launch} {v0 : Option Nat} {v1 : Int32} {σ : Mem} {z : Unit × Mem} (h : sX8_hasEntries v0 v1 σ = some z) : Mt E l mX8_hasEntries [vr v0, vi v1] σ (none, z.2) :=
  Mt.ofVL (by decide) (Nat.le_of_ble_eq_true rfl) (fun G hG => lX8_hasEntries h)
abbrev mX8_isOfLeader : MM := (yX8_isOfLeader, cX8_isOfLeader, 3, (Option.some Jvm.ClassFile.FieldType.boolean), 1, 23)
theorem dsX8_isOfLeader : DsOk yX8_isOfLeader 1 := ⟨by decide, by decide, by decide +kernel⟩
theorem lX8_isOfLeader {E : EE} {G : GG} {v0 : Option Nat} {v1 : Int32} {σ : Mem} {z : Int32 × Mem} (h : sX8_isOfLeader v0 v1 σ = some z) : V E mX8_isOfLeader G 0 [some (vr v0), some (vi v1), none] [] σ (some (vi z.1), z.2) := by
  unfold sX8_isOfLeader at h
  refine v_al0 dX8_isOfLeader_0 ?_
  refine v_il1 dX8_isOfLeader_1 ?_
  refine v_iconst dX8_isOfLeader_2 ?_
  obtain ⟨b3, er, ka, h⟩ := cV_some h
  obtain ⟨x1, s2, h1, h⟩ := cl_some h
  refine v_callV1 cok6 (As := [vi v1, vi (iI 3)]) er ka (tX8_the h1) (lw_V q1385 q1387 qs60 q167 q1388) rfl dsX8_the ⟨Nat.le_of_ble_eq_true rfl, Nat.le_of_ble_eq_true rfl⟩ (Nat.le_of_ble_eq_true rfl) dX8_isOfLeader_3 rfl ?_
  refine v_iconst dX8_isOfLeader_6 ?_
  refine v_icmp_ne (tgt := 25) dX8_isOfLeader_7 (by decide) (fun c => ?_) (fun c => ?_)
  · rw [if_neg c] at h
    refine v_iconst dX8_isOfLeader_25 ?_
    exact v_retZ h dX8_isOfLeader_26 rfl
  · rw [if_pos c] at h
    refine v_al0 dX8_isOfLeader_10 ?_
    refine v_gR cok6 h dX8_isOfLeader_11 (by decide) q1405 rfl (fun x3 h => ?_)
    refine v_iconst dX8_isOfLeader_14 ?_
    refine v_aI h dX8_isOfLeader_15 (fun x4 h => ?_)
    refine v_al0 dX8_isOfLeader_16 ?_
    refine v_il1 dX8_isOfLeader_17 ?_
    refine v_iconst dX8_isOfLeader_18 ?_
    obtain ⟨b19, er, ka, h⟩ := cV_some h
    obtain ⟨x5, s6, h1, h⟩ := cl_some h
    refine v_callV1 cok6 (As := [vi v1, vi (iI 1)]) er ka (tX8_the h1) (lw_V q1385 q1387 qs60 q167 q1388) rfl dsX8_the ⟨Nat.le_of_ble_eq_true rfl, Nat.le_of_ble_eq_true rfl⟩ (Nat.le_of_ble_eq_true rfl) dX8_isOfLeader_19 rfl ?_
    refine v_icmp_eq (tgt := 27) dX8_isOfLeader_22 (by decide) (fun c => ?_) (fun c => ?_)
    · rw [if_pos c] at h
      refine v_al0 dX8_isOfLeader_27 ?_
      refine v_gR cok6 h dX8_isOfLeader_28 (by decide) q1405 rfl (fun x7 h => ?_)
      refine v_iconst dX8_isOfLeader_31 ?_
      refine v_aI h dX8_isOfLeader_32 (fun x8 h => ?_)
      refine v_istore_n (L' := [some (vr v0), some (vi v1), some (vi x8)]) dX8_isOfLeader_33 (Nat.le_of_ble_eq_true rfl) (Nat.le_of_ble_eq_true rfl) rfl ?_
      refine v_al0 dX8_isOfLeader_34 ?_
      refine v_il1 dX8_isOfLeader_35 ?_
      refine v_bipush dX8_isOfLeader_36 rfl ?_
      refine v_il2 dX8_isOfLeader_38 ?_
      refine v_iadd dX8_isOfLeader_39 ?_
      refine v_al0 dX8_isOfLeader_40 ?_
      refine v_il1 dX8_isOfLeader_41 ?_
      refine v_bipush dX8_isOfLeader_42 rfl ?_
      refine v_il2 dX8_isOfLeader_44 ?_
      refine v_iadd dX8_isOfLeader_45 ?_
      obtain ⟨b46, er, ka, h⟩ := cV_some h
      obtain ⟨x9, s10, h1, h⟩ := cl_some h
      refine v_callV1 cok6 (As := [vi v1, vi ((iI 45) + x8)]) er ka (tX8_the h1) (lw_V q1385 q1387 qs60 q167 q1388) rfl dsX8_the ⟨Nat.le_of_ble_eq_true rfl, Nat.le_of_ble_eq_true rfl⟩ (Nat.le_of_ble_eq_true rfl) dX8_isOfLeader_46 rfl ?_
      refine v_al0 dX8_isOfLeader_49 ?_
      refine v_gR cok6 h dX8_isOfLeader_50 (by decide) q1405 rfl (fun x11 h => ?_)
      refine v_bipush dX8_isOfLeader_53 rfl ?_
      refine v_aI h dX8_isOfLeader_55 (fun x12 h => ?_)
      obtain ⟨x13, s14, h1, h⟩ := cl_some h
      refine v_callS1 (As := [vi x9, vi x12]) (tX8_max h1) (lw_S q1767 q1768 q167 q1769) dsX8_max ⟨Nat.le_of_ble_eq_true rfl, Nat.le_of_ble_eq_true rfl⟩ (Nat.le_of_ble_eq_true rfl) dX8_isOfLeader_56 rfl ?_
      obtain ⟨b59, er, ka, h⟩ := cV_some h
      obtain ⟨_, s15, h1, h⟩ := cl_some h
      refine v_callV0 cok6 (As := [vi v1, vi ((iI 45) + x8), vi x13]) er ka (tX8_sets h1) (lw_V q1372 q1374 qs57 q167 q1375) rfl dsX8_sets ⟨Nat.le_of_ble_eq_true rfl, Nat.le_of_ble_eq_true rfl⟩ (Nat.le_of_ble_eq_true rfl) dX8_isOfLeader_59 rfl ?_
      refine v_iconst dX8_isOfLeader_62 ?_
      exact v_retZ h dX8_isOfLeader_63 rfl
    · rw [if_neg c] at h
      refine v_iconst dX8_isOfLeader_25 ?_
      exact v_retZ h dX8_isOfLeader_26 rfl
theorem tX8_isOfLeader {E : EE} {l : Launch} {v0 : Option Nat} {v1 : Int32} {σ : Mem} {z : Int32 × Mem} (h : sX8_isOfLeader v0 v1 σ = some z) : Mt E l mX8_isOfLeader [vr v0, vi v1] σ (some (vi z.1), z.2) :=
  Mt.ofVL (by decide) (Nat.le_of_ble_eq_true rfl) (fun G hG => lX8_isOfLeader h)
abbrev mX8_matches : MM := (yX8_matches, cX8_matches, 4, (Option.none : Option Jvm.ClassFile.FieldType), 7, 168)
theorem dsX8_matches : DsOk yX8_matches 2 := ⟨by decide, by decide, by decide +kernel⟩
theorem lX8_matches {E : EE} {G : GG} {v0 : Option Nat} {v1 : Int32} {v2 : Int32} {σ : Mem} {z : Unit × Mem} (h : sX8_matches v0 v1 v2 σ = some z) : V E mX8_matches G 0 [some (vr v0), some (vi v1), some (vi v2), none] [] σ (none, z.2) := by
  unfold sX8_matches at h
  refine v_al0 dX8_matches_0 ?_
  refine v_gR cok6 h dX8_matches_1 (by decide) q1405 rfl (fun x1 h => ?_)
  refine v_iconst dX8_matches_4 ?_
  refine v_aI h dX8_matches_5 (fun x2 h => ?_)
  refine v_istore_n (L' := [some (vr v0), some (vi v1), some (vi v2), some (vi x2)]) dX8_matches_6 (Nat.le_of_ble_eq_true rfl) (Nat.le_of_ble_eq_true rfl) rfl ?_
  refine v_al0 dX8_matches_7 ?_
  refine v_il1 dX8_matches_8 ?_
  refine v_bipush dX8_matches_9 rfl ?_
  refine v_il3 dX8_matches_11 ?_
  refine v_iadd dX8_matches_12 ?_
  refine v_al0 dX8_matches_13 ?_
  refine v_il1 dX8_matches_14 ?_
  refine v_bipush dX8_matches_15 rfl ?_
  refine v_il3 dX8_matches_17 ?_
  refine v_iadd dX8_matches_18 ?_
  obtain ⟨b19, er, ka, h⟩ := cV_some h
  obtain ⟨x3, s4, h1, h⟩ := cl_some h
  refine v_callV1 cok6 (As := [vi v1, vi ((iI 38) + x2)]) er ka (tX8_the h1) (lw_V q1385 q1387 qs60 q167 q1388) rfl dsX8_the ⟨Nat.le_of_ble_eq_true rfl, Nat.le_of_ble_eq_true rfl⟩ (Nat.le_of_ble_eq_true rfl) dX8_matches_19 rfl ?_
  refine v_il2 dX8_matches_22 ?_
  obtain ⟨x5, s6, h1, h⟩ := cl_some h
  refine v_callS1 (As := [vi x3, vi v2]) (tX8_max h1) (lw_S q1767 q1768 q167 q1769) dsX8_max ⟨Nat.le_of_ble_eq_true rfl, Nat.le_of_ble_eq_true rfl⟩ (Nat.le_of_ble_eq_true rfl) dX8_matches_23 rfl ?_
  obtain ⟨b26, er, ka, h⟩ := cV_some h
  obtain ⟨_, s7, h1, h⟩ := cl_some h
  refine v_callV0 cok6 (As := [vi v1, vi ((iI 38) + x2), vi x5]) er ka (tX8_sets h1) (lw_V q1372 q1374 qs57 q167 q1375) rfl dsX8_sets ⟨Nat.le_of_ble_eq_true rfl, Nat.le_of_ble_eq_true rfl⟩ (Nat.le_of_ble_eq_true rfl) dX8_matches_26 rfl ?_
  refine v_al0 dX8_matches_29 ?_
  refine v_il1 dX8_matches_30 ?_
  refine v_bipush dX8_matches_31 rfl ?_
  refine v_il3 dX8_matches_33 ?_
  refine v_iadd dX8_matches_34 ?_
  refine v_al0 dX8_matches_35 ?_
  refine v_il1 dX8_matches_36 ?_
  refine v_bipush dX8_matches_37 rfl ?_
  refine v_il3 dX8_matches_39 ?_
  refine v_iadd dX8_matches_40 ?_
  obtain ⟨b41, er, ka, h⟩ := cV_some h
  obtain ⟨x8, s9, h1, h⟩ := cl_some h
  refine v_callV1 cok6 (As := [vi v1, vi ((iI 38) + x2)]) er ka (tX8_the h1) (lw_V q1385 q1387 qs60 q167 q1388) rfl dsX8_the ⟨Nat.le_of_ble_eq_true rfl, Nat.le_of_ble_eq_true rfl⟩ (Nat.le_of_ble_eq_true rfl) dX8_matches_41 rfl ?_
  refine v_iconst dX8_matches_44 ?_
  refine v_iadd dX8_matches_45 ?_
  obtain ⟨b46, er, ka, h⟩ := cV_some h
  obtain ⟨_, s10, h1, h⟩ := cl_some h
  refine v_callV0 cok6 (As := [vi v1, vi ((iI 31) + x2), vi (x8 + (iI 1))]) er ka (tX8_sets h1) (lw_V q1372 q1374 qs57 q167 q1375) rfl dsX8_sets ⟨Nat.le_of_ble_eq_true rfl, Nat.le_of_ble_eq_true rfl⟩ (Nat.le_of_ble_eq_true rfl) dX8_matches_46 rfl ?_
  refine v_al0 dX8_matches_49 ?_
  refine v_il1 dX8_matches_50 ?_
  obtain ⟨b51, er, ka, h⟩ := cV_some h
  obtain ⟨_, s11, h1, h⟩ := cl_some h
  refine v_callV0 cok6 (As := [vi v1]) er ka (tX8_holds h1) (lw_V q1794 q1796 qs118 q167 q1797) rfl dsX8_holds ⟨Nat.le_of_ble_eq_true rfl, Nat.le_of_ble_eq_true rfl⟩ (Nat.le_of_ble_eq_true rfl) dX8_matches_51 rfl ?_
  refine v_al0 dX8_matches_54 ?_
  refine v_il1 dX8_matches_55 ?_
  refine v_iconst dX8_matches_56 ?_
  obtain ⟨b57, er, ka, h⟩ := cV_some h
  obtain ⟨x12, s13, h1, h⟩ := cl_some h
  refine v_callV1 cok6 (As := [vi v1, vi (iI 3)]) er ka (tX8_the h1) (lw_V q1385 q1387 qs60 q167 q1388) rfl dsX8_the ⟨Nat.le_of_ble_eq_true rfl, Nat.le_of_ble_eq_true rfl⟩ (Nat.le_of_ble_eq_true rfl) dX8_matches_57 rfl ?_
  refine v_iconst dX8_matches_60 ?_
  refine v_icmp_ne (tgt := 87) dX8_matches_61 (by decide) (fun c => ?_) (fun c => ?_)
  · rw [if_neg c] at h
    exact v_retV h dX8_matches_87 rfl
  · rw [if_pos c] at h
    refine v_al0 dX8_matches_64 ?_
    refine v_il1 dX8_matches_65 ?_
    refine v_bipush dX8_matches_66 rfl ?_
    refine v_il3 dX8_matches_68 ?_
    refine v_iadd dX8_matches_69 ?_
    obtain ⟨b70, er, ka, h⟩ := cV_some h
    obtain ⟨x14, s15, h1, h⟩ := cl_some h
    refine v_callV1 cok6 (As := [vi v1, vi ((iI 31) + x2)]) er ka (tX8_the h1) (lw_V q1385 q1387 qs60 q167 q1388) rfl dsX8_the ⟨Nat.le_of_ble_eq_true rfl, Nat.le_of_ble_eq_true rfl⟩ (Nat.le_of_ble_eq_true rfl) dX8_matches_70 rfl ?_
    refine v_al0 dX8_matches_73 ?_
    refine v_il1 dX8_matches_74 ?_
    obtain ⟨b75, er, ka, h⟩ := cV_some h
    obtain ⟨x16, s17, h1, h⟩ := cl_some h
    refine v_callV1 cok6 (As := [vi v1]) er ka (tX8_lastOf h1) (lw_V q1696 q1698 qs95 q167 q1699) rfl dsX8_lastOf ⟨Nat.le_of_ble_eq_true rfl, Nat.le_of_ble_eq_true rfl⟩ (Nat.le_of_ble_eq_true rfl) dX8_matches_75 rfl ?_
    refine v_icmp_gt (tgt := 87) dX8_matches_78 (by decide) (fun c => ?_) (fun c => ?_)
    · rw [if_pos c] at h
      exact v_retV h dX8_matches_87 rfl
    · rw [if_neg c] at h
      refine v_al0 dX8_matches_81 ?_
      refine v_il1 dX8_matches_82 ?_
      refine v_il3 dX8_matches_83 ?_
      obtain ⟨b84, er, ka, h⟩ := cV_some h
      obtain ⟨_, s18, h1, h⟩ := cl_some h
      refine v_callV0 cok6 (As := [vi v1, vi x2]) er ka (tX8_sendsOn h1) (lw_V q1782 q1784 qs115 q167 q1785) rfl dsX8_sendsOn ⟨Nat.le_of_ble_eq_true rfl, Nat.le_of_ble_eq_true rfl⟩ (Nat.le_of_ble_eq_true rfl) dX8_matches_84 rfl ?_
      exact v_retV h dX8_matches_87 rfl
theorem tX8_matches {E : EE} {l : Launch} {v0 : Option Nat} {v1 : Int32} {v2 : Int32} {σ : Mem} {z : Unit × Mem} (h : sX8_matches v0 v1 v2 σ = some z) : Mt E l mX8_matches [vr v0, vi v1, vi v2] σ (none, z.2) :=
  Mt.ofVL (by decide) (Nat.le_of_ble_eq_true rfl) (fun G hG => lX8_matches h)
abbrev mX8_whoHeard : MM := (yX8_whoHeard, cX8_whoHeard, 5, (Option.some Jvm.ClassFile.FieldType.int), 1, 22)
theorem dsX8_whoHeard : DsOk yX8_whoHeard 2 := ⟨by decide, by decide, by decide +kernel⟩
theorem lX8_whoHeard_35 {E : EE} {G : GG} {k7 : Option Nat → Int32 → Int32 → Int32 → Int32 → Mem → Option (Int32 × Mem)} (hk7 : ∀ (v0 : Option Nat) (v1 : Int32) (v2 : Int32) (v3 : Int32) (v4 : Int32) (s : Mem) (z : Int32 × Mem), k7 v0 v1 v2 v3 v4 s = some z → V E mX8_whoHeard G 7 [some (vr v0), some (vi v1), some (vi v2), some (vi v3), some (vi v4)] [] s (some (vi z.1), z.2)) {v0 : Option Nat} {v1 : Int32} {v2 : Int32} {v3 : Int32} {v4 : Int32} {σ : Mem} {z : Int32 × Mem} (h : sX8_whoHeard_35 k7 v0 v1 v2 v3 v4 σ = some z) : V E mX8_whoHeard G 35 [some (vr v0), some (vi v1), some (vi v2), some (vi v3), some (vi v4)] [] σ (some (vi z.1), z.2) := by
  unfold sX8_whoHeard_35 at h
  refine v_iinc (L' := [some (vr v0), some (vi v1), some (vi v2), some (vi v3), some (vi (v4 + iI 1))]) dX8_whoHeard_35 (Nat.le_of_ble_eq_true rfl) rfl rfl ?_
  refine v_goto (tgt := 7) dX8_whoHeard_38 (by decide) ?_
  exact v_weak (wss (wss (wss (wss (wss wse))))) (hk7 _ _ _ _ _ _ _ h)
theorem lX8_whoHeard_7b {E : EE} {G : GG} {k7 : Option Nat → Int32 → Int32 → Int32 → Int32 → Mem → Option (Int32 × Mem)} (hk7 : ∀ (v0 : Option Nat) (v1 : Int32) (v2 : Int32) (v3 : Int32) (v4 : Int32) (s : Mem) (z : Int32 × Mem), k7 v0 v1 v2 v3 v4 s = some z → V E mX8_whoHeard G 7 [some (vr v0), some (vi v1), some (vi v2), some (vi v3), some (vi v4)] [] s (some (vi z.1), z.2)) {v0 : Option Nat} {v1 : Int32} {v2 : Int32} {v3 : Int32} {v4 : Int32} {σ : Mem} {z : Int32 × Mem} (h : sX8_whoHeard_7b k7 v0 v1 v2 v3 v4 σ = some z) : V E mX8_whoHeard G 7 [some (vr v0), some (vi v1), some (vi v2), some (vi v3), some (vi v4)] [] σ (some (vi z.1), z.2) := by
  unfold sX8_whoHeard_7b at h
  refine v_iload dX8_whoHeard_7 rfl ?_
  refine v_bipush dX8_whoHeard_9 rfl ?_
  refine v_icmp_ge (tgt := 41) dX8_whoHeard_11 (by decide) (fun c => ?_) (fun c => ?_)
  · rw [if_pos c] at h
    refine v_il3 dX8_whoHeard_41 ?_
    exact v_retI h dX8_whoHeard_42 rfl
  · rw [if_neg c] at h
    refine v_al0 dX8_whoHeard_14 ?_
    refine v_il1 dX8_whoHeard_15 ?_
    refine v_bipush dX8_whoHeard_16 rfl ?_
    refine v_iload dX8_whoHeard_18 rfl ?_
    refine v_iadd dX8_whoHeard_20 ?_
    obtain ⟨b21, er, ka, h⟩ := cV_some h
    obtain ⟨x1, s2, h1, h⟩ := cl_some h
    refine v_callV1 cok6 (As := [vi v1, vi ((iI 45) + v4)]) er ka (tX8_the h1) (lw_V q1385 q1387 qs60 q167 q1388) rfl dsX8_the ⟨Nat.le_of_ble_eq_true rfl, Nat.le_of_ble_eq_true rfl⟩ (Nat.le_of_ble_eq_true rfl) dX8_whoHeard_21 rfl ?_
    refine v_il2 dX8_whoHeard_24 ?_
    refine v_icmp_lt (tgt := 35) dX8_whoHeard_25 (by decide) (fun c => ?_) (fun c => ?_)
    · rw [if_pos c] at h
      exact v_weak (wss (wss (wss (wss (wss wse))))) (lX8_whoHeard_35 hk7 h)
    · rw [if_neg c] at h
      refine v_il3 dX8_whoHeard_28 ?_
      refine v_iconst dX8_whoHeard_29 ?_
      refine v_iload dX8_whoHeard_30 rfl ?_
      refine v_ishl dX8_whoHeard_32 ?_
      refine v_ior dX8_whoHeard_33 ?_
      refine v_istore_n (L' := [some (vr v0), some (vi v1), some (vi v2), some (vi (v3 ||| ((iI 1) <<< (v4 &&& 31)))), some (vi v4)]) dX8_whoHeard_34 (Nat.le_of_ble_eq_true rfl) (Nat.le_of_ble_eq_true rfl) rfl ?_
      exact v_weak (wss (wss (wss (wss (wss wse))))) (lX8_whoHeard_35 hk7 h)
theorem lX8_whoHeard_7 {E : EE} {G : GG} : ∀ (f : Nat) {v0 : Option Nat} {v1 : Int32} {v2 : Int32} {v3 : Int32} {v4 : Int32} {σ : Mem} {z : Int32 × Mem}, sX8_whoHeard_7 f v0 v1 v2 v3 v4 σ = some z → V E mX8_whoHeard G 7 [some (vr v0), some (vi v1), some (vi v2), some (vi v3), some (vi v4)] [] σ (some (vi z.1), z.2)
  | 0, _, _, _, _, _, _, _, h => by cases h
  | f + 1, _, _, _, _, _, _, _, h => lX8_whoHeard_7b (fun _ _ _ _ _ _ _ h => lX8_whoHeard_7 f h) h
theorem lX8_whoHeard {E : EE} {G : GG} {v0 : Option Nat} {v1 : Int32} {v2 : Int32} {σ : Mem} {z : Int32 × Mem} (h : sX8_whoHeard v0 v1 v2 σ = some z) : V E mX8_whoHeard G 0 [some (vr v0), some (vi v1), some (vi v2), none, none] [] σ (some (vi z.1), z.2) := by
  unfold sX8_whoHeard at h
  refine v_iconst dX8_whoHeard_0 ?_
  refine v_il1 dX8_whoHeard_1 ?_
  refine v_ishl dX8_whoHeard_2 ?_
  refine v_istore_n (L' := [some (vr v0), some (vi v1), some (vi v2), some (vi ((iI 1) <<< (v1 &&& 31))), none]) dX8_whoHeard_3 (Nat.le_of_ble_eq_true rfl) (Nat.le_of_ble_eq_true rfl) rfl ?_
  refine v_iconst dX8_whoHeard_4 ?_
  refine v_istore (L' := [some (vr v0), some (vi v1), some (vi v2), some (vi ((iI 1) <<< (v1 &&& 31))), some (vi (iI 0))]) dX8_whoHeard_5 (Nat.le_of_ble_eq_true rfl) (Nat.le_of_ble_eq_true rfl) rfl ?_
  exact v_weak (wss (wss (wss (wss (wss wse))))) (lX8_whoHeard_7 FU h)
theorem tX8_whoHeard {E : EE} {l : Launch} {v0 : Option Nat} {v1 : Int32} {v2 : Int32} {σ : Mem} {z : Int32 × Mem} (h : sX8_whoHeard v0 v1 v2 σ = some z) : Mt E l mX8_whoHeard [vr v0, vi v1, vi v2] σ (some (vi z.1), z.2) :=
  Mt.ofVL (by decide) (Nat.le_of_ble_eq_true rfl) (fun G hG => lX8_whoHeard h)
abbrev mX8_answersReads : MM := (yX8_answersReads, cX8_answersReads, 4, (Option.none : Option Jvm.ClassFile.FieldType), 5, 113)
theorem dsX8_answersReads : DsOk yX8_answersReads 1 := ⟨by decide, by decide, by decide +kernel⟩
theorem lX8_answersReads_133 {E : EE} {G : GG} {k2 : Option Nat → Int32 → Int32 → Mem → Option (Unit × Mem)} (hk2 : ∀ (v0 : Option Nat) (v1 : Int32) (v2 : Int32) (s : Mem) (z : Unit × Mem), k2 v0 v1 v2 s = some z → V E mX8_answersReads G 2 [some (vr v0), some (vi v1), some (vi v2), none] [] s (none, z.2)) {v0 : Option Nat} {v1 : Int32} {v2 : Int32} {σ : Mem} {z : Unit × Mem} (h : sX8_answersReads_133 k2 v0 v1 v2 σ = some z) : V E mX8_answersReads G 133 [some (vr v0), some (vi v1), some (vi v2), none] [] σ (none, z.2) := by
  unfold sX8_answersReads_133 at h
  refine v_iinc (L' := [some (vr v0), some (vi v1), some (vi (v2 + iI 1)), none]) dX8_answersReads_133 (Nat.le_of_ble_eq_true rfl) rfl rfl ?_
  refine v_goto (tgt := 2) dX8_answersReads_136 (by decide) ?_
  exact v_weak (wss (wss (wss (wsn wse)))) (hk2 _ _ _ _ _ h)
theorem lX8_answersReads_2b {E : EE} {G : GG} {k2 : Option Nat → Int32 → Int32 → Mem → Option (Unit × Mem)} (hk2 : ∀ (v0 : Option Nat) (v1 : Int32) (v2 : Int32) (s : Mem) (z : Unit × Mem), k2 v0 v1 v2 s = some z → V E mX8_answersReads G 2 [some (vr v0), some (vi v1), some (vi v2), none] [] s (none, z.2)) {v0 : Option Nat} {v1 : Int32} {v2 : Int32} {σ : Mem} {z : Unit × Mem} (h : sX8_answersReads_2b k2 v0 v1 v2 σ = some z) : V E mX8_answersReads G 2 [some (vr v0), some (vi v1), some (vi v2), none] [] σ (none, z.2) := by
  unfold sX8_answersReads_2b at h
  refine v_il2 dX8_answersReads_2 ?_
  refine v_al0 dX8_answersReads_3 ?_
  refine v_gR cok6 h dX8_answersReads_4 (by decide) q1401 rfl (fun x1 h => ?_)
  refine v_sipush dX8_answersReads_7 rfl ?_
  refine v_aI h dX8_answersReads_10 (fun x2 h => ?_)
  refine v_icmp_ge (tgt := 139) dX8_answersReads_11 (by decide) (fun c => ?_) (fun c => ?_)
  · rw [if_pos c] at h
    exact v_retV h dX8_answersReads_139 rfl
  · rw [if_neg c] at h
    refine v_al0 dX8_answersReads_14 ?_
    refine v_il1 dX8_answersReads_15 ?_
    refine v_iconst dX8_answersReads_16 ?_
    obtain ⟨b17, er, ka, h⟩ := cV_some h
    obtain ⟨x3, s4, h1, h⟩ := cl_some h
    refine v_callV1 cok6 (As := [vi v1, vi (iI 3)]) er ka (tX8_the h1) (lw_V q1385 q1387 qs60 q167 q1388) rfl dsX8_the ⟨Nat.le_of_ble_eq_true rfl, Nat.le_of_ble_eq_true rfl⟩ (Nat.le_of_ble_eq_true rfl) dX8_answersReads_17 rfl ?_
    refine v_iconst dX8_answersReads_20 ?_
    refine v_icmp_ne (tgt := 139) dX8_answersReads_21 (by decide) (fun c => ?_) (fun c => ?_)
    · rw [if_neg c] at h
      exact v_retV h dX8_answersReads_139 rfl
    · rw [if_pos c] at h
      refine v_sipush dX8_answersReads_24 rfl ?_
      refine v_bipush dX8_answersReads_27 rfl ?_
      refine v_il2 dX8_answersReads_29 ?_
      refine v_imul dX8_answersReads_30 ?_
      refine v_iadd dX8_answersReads_31 ?_
      refine v_istore_n (L' := [some (vr v0), some (vi v1), some (vi v2), some (vi ((iI 11028) + ((iI 6) * v2)))]) dX8_answersReads_32 (Nat.le_of_ble_eq_true rfl) (Nat.le_of_ble_eq_true rfl) rfl ?_
      refine v_al0 dX8_answersReads_33 ?_
      refine v_gR cok6 h dX8_answersReads_34 (by decide) q1401 rfl (fun x5 h => ?_)
      refine v_il3 dX8_answersReads_37 ?_
      refine v_aI h dX8_answersReads_38 (fun x6 h => ?_)
      refine v_il1 dX8_answersReads_39 ?_
      refine v_icmp_ne (tgt := 133) dX8_answersReads_40 (by decide) (fun c => ?_) (fun c => ?_)
      · rw [if_neg c] at h
        exact v_weak (wss (wss (wss (wsn wse)))) (lX8_answersReads_133 hk2 h)
      · rw [if_pos c] at h
        refine v_al0 dX8_answersReads_43 ?_
        refine v_gR cok6 h dX8_answersReads_44 (by decide) q1401 rfl (fun x7 h => ?_)
        refine v_il3 dX8_answersReads_47 ?_
        refine v_iconst dX8_answersReads_48 ?_
        refine v_iadd dX8_answersReads_49 ?_
        refine v_aI h dX8_answersReads_50 (fun x8 h => ?_)
        refine v_if_ne (tgt := 133) dX8_answersReads_51 (by decide) (fun c => ?_) (fun c => ?_)
        · rw [if_neg c] at h
          exact v_weak (wss (wss (wss (wsn wse)))) (lX8_answersReads_133 hk2 h)
        · rw [if_pos c] at h
          refine v_al0 dX8_answersReads_54 ?_
          refine v_il1 dX8_answersReads_55 ?_
          refine v_al0 dX8_answersReads_56 ?_
          refine v_il1 dX8_answersReads_57 ?_
          refine v_al0 dX8_answersReads_58 ?_
          refine v_gR cok6 h dX8_answersReads_59 (by decide) q1401 rfl (fun x9 h => ?_)
          refine v_il3 dX8_answersReads_62 ?_
          refine v_iconst dX8_answersReads_63 ?_
          refine v_iadd dX8_answersReads_64 ?_
          refine v_aI h dX8_answersReads_65 (fun x10 h => ?_)
          obtain ⟨b66, er, ka, h⟩ := cV_some h
          obtain ⟨x11, s12, h1, h⟩ := cl_some h
          refine v_callV1 cok6 (As := [vi v1, vi x10]) er ka (tX8_whoHeard h1) (lw_V q1850 q1852 qs132 q167 q1853) rfl dsX8_whoHeard ⟨Nat.le_of_ble_eq_true rfl, Nat.le_of_ble_eq_true rfl⟩ (Nat.le_of_ble_eq_true rfl) dX8_answersReads_66 rfl ?_
          obtain ⟨b69, er, ka, h⟩ := cV_some h
          obtain ⟨x13, s14, h1, h⟩ := cl_some h
          refine v_callV1 cok6 (As := [vi v1, vi x11]) er ka (tX8_isMost h1) (lw_V q1728 q1730 qs103 q167 q1731) rfl dsX8_isMost ⟨Nat.le_of_ble_eq_true rfl, Nat.le_of_ble_eq_true rfl⟩ (Nat.le_of_ble_eq_true rfl) dX8_answersReads_69 rfl ?_
          refine v_if_ne (tgt := 78) dX8_answersReads_72 (by decide) (fun c => ?_) (fun c => ?_)
          · rw [if_neg c] at h
            refine v_al0 dX8_answersReads_78 ?_
            refine v_gR cok6 h dX8_answersReads_79 (by decide) q1401 rfl (fun x15 h => ?_)
            refine v_il3 dX8_answersReads_82 ?_
            refine v_iconst dX8_answersReads_83 ?_
            refine v_iadd dX8_answersReads_84 ?_
            refine v_iconst dX8_answersReads_85 ?_
            refine v_sI h dX8_answersReads_86 (fun s16 h => ?_)
            refine v_al0 dX8_answersReads_87 ?_
            refine v_gR cok6 h dX8_answersReads_88 (by decide) q1401 rfl (fun x17 h => ?_)
            refine v_il3 dX8_answersReads_91 ?_
            refine v_iconst dX8_answersReads_92 ?_
            refine v_iadd dX8_answersReads_93 ?_
            refine v_al0 dX8_answersReads_94 ?_
            refine v_il1 dX8_answersReads_95 ?_
            refine v_bipush dX8_answersReads_96 rfl ?_
            refine v_al0 dX8_answersReads_98 ?_
            refine v_gR cok6 h dX8_answersReads_99 (by decide) q1401 rfl (fun x18 h => ?_)
            refine v_il3 dX8_answersReads_102 ?_
            refine v_iconst dX8_answersReads_103 ?_
            refine v_iadd dX8_answersReads_104 ?_
            refine v_aI h dX8_answersReads_105 (fun x19 h => ?_)
            refine v_iadd dX8_answersReads_106 ?_
            obtain ⟨b107, er, ka, h⟩ := cV_some h
            obtain ⟨x20, s21, h1, h⟩ := cl_some h
            refine v_callV1 cok6 (As := [vi v1, vi ((iI 15) + x19)]) er ka (tX8_the h1) (lw_V q1385 q1387 qs60 q167 q1388) rfl dsX8_the ⟨Nat.le_of_ble_eq_true rfl, Nat.le_of_ble_eq_true rfl⟩ (Nat.le_of_ble_eq_true rfl) dX8_answersReads_107 rfl ?_
            refine v_sI h dX8_answersReads_110 (fun s22 h => ?_)
            refine v_al0 dX8_answersReads_111 ?_
            refine v_il1 dX8_answersReads_112 ?_
            refine v_bipush dX8_answersReads_113 rfl ?_
            obtain ⟨b115, er, ka, h⟩ := cV_some h
            obtain ⟨x23, s24, h1, h⟩ := cl_some h
            refine v_callV1 cok6 (As := [vi v1, vi (iI 9)]) er ka (tX8_the h1) (lw_V q1385 q1387 qs60 q167 q1388) rfl dsX8_the ⟨Nat.le_of_ble_eq_true rfl, Nat.le_of_ble_eq_true rfl⟩ (Nat.le_of_ble_eq_true rfl) dX8_answersReads_115 rfl ?_
            refine v_al0 dX8_answersReads_118 ?_
            refine v_gR cok6 h dX8_answersReads_119 (by decide) q1401 rfl (fun x25 h => ?_)
            refine v_il3 dX8_answersReads_122 ?_
            refine v_iconst dX8_answersReads_123 ?_
            refine v_iadd dX8_answersReads_124 ?_
            refine v_aI h dX8_answersReads_125 (fun x26 h => ?_)
            refine v_icmp_ge (tgt := 133) dX8_answersReads_126 (by decide) (fun c => ?_) (fun c => ?_)
            · rw [if_pos c] at h
              exact v_weak (wss (wss (wss (wsn wse)))) (lX8_answersReads_133 hk2 h)
            · rw [if_neg c] at h
              refine v_al0 dX8_answersReads_129 ?_
              obtain ⟨b130, er, ka, h⟩ := cV_some h
              obtain ⟨_, s27, h1, h⟩ := cl_some h
              refine v_callV0 cok6 (As := []) er ka (tX8_breaks h1) (lw_V q1751 q1753 qs108 q167 q1754) rfl dsX8_breaks ⟨Nat.le_of_ble_eq_true rfl, Nat.le_of_ble_eq_true rfl⟩ (Nat.le_of_ble_eq_true rfl) dX8_answersReads_130 rfl ?_
              exact v_weak (wss (wss (wss (wsn wse)))) (lX8_answersReads_133 hk2 h)
          · rw [if_pos c] at h
            refine v_goto (tgt := 133) dX8_answersReads_75 (by decide) ?_
            exact v_weak (wss (wss (wss (wsn wse)))) (lX8_answersReads_133 hk2 h)
theorem lX8_answersReads_2 {E : EE} {G : GG} : ∀ (f : Nat) {v0 : Option Nat} {v1 : Int32} {v2 : Int32} {σ : Mem} {z : Unit × Mem}, sX8_answersReads_2 f v0 v1 v2 σ = some z → V E mX8_answersReads G 2 [some (vr v0), some (vi v1), some (vi v2), none] [] σ (none, z.2)
  | 0, _, _, _, _, _, h => by cases h
  | f + 1, _, _, _, _, _, h => lX8_answersReads_2b (fun _ _ _ _ _ h => lX8_answersReads_2 f h) h
theorem lX8_answersReads {E : EE} {G : GG} {v0 : Option Nat} {v1 : Int32} {σ : Mem} {z : Unit × Mem} (h : sX8_answersReads v0 v1 σ = some z) : V E mX8_answersReads G 0 [some (vr v0), some (vi v1), none, none] [] σ (none, z.2) := by
  unfold sX8_answersReads at h
  refine v_iconst dX8_answersReads_0 ?_
  refine v_istore_n (L' := [some (vr v0), some (vi v1), some (vi (iI 0)), none]) dX8_answersReads_1 (Nat.le_of_ble_eq_true rfl) (Nat.le_of_ble_eq_true rfl) rfl ?_
  exact v_weak (wss (wss (wss (wsn wse)))) (lX8_answersReads_2 FU h)
theorem tX8_answersReads {E : EE} {l : Launch} {v0 : Option Nat} {v1 : Int32} {σ : Mem} {z : Unit × Mem} (h : sX8_answersReads v0 v1 σ = some z) : Mt E l mX8_answersReads [vr v0, vi v1] σ (none, z.2) :=
  Mt.ofVL (by decide) (Nat.le_of_ble_eq_true rfl) (fun G hG => lX8_answersReads h)
abbrev mX8_hearsOfEntries : MM := (yX8_hearsOfEntries, cX8_hearsOfEntries, 3, (Option.none : Option Jvm.ClassFile.FieldType), 8, 191)
theorem dsX8_hearsOfEntries : DsOk yX8_hearsOfEntries 1 := ⟨by decide, by decide, by decide +kernel⟩
theorem lX8_hearsOfEntries_90 {E : EE} {G : GG} {v0 : Option Nat} {v1 : Int32} {σ : Mem} {z : Unit × Mem} (h : sX8_hearsOfEntries_90 v0 v1 σ = some z) : V E mX8_hearsOfEntries G 90 [some (vr v0), some (vi v1), none] [] σ (none, z.2) := by
  unfold sX8_hearsOfEntries_90 at h
  refine v_al0 dX8_hearsOfEntries_90 ?_
  refine v_il1 dX8_hearsOfEntries_91 ?_
  obtain ⟨b92, er, ka, h⟩ := cV_some h
  obtain ⟨_, s1, h1, h⟩ := cl_some h
  refine v_callV0 cok6 (As := [vi v1]) er ka (tX8_answersReads h1) (lw_V q1846 q1848 qs131 q167 q1849) rfl dsX8_answersReads ⟨Nat.le_of_ble_eq_true rfl, Nat.le_of_ble_eq_true rfl⟩ (Nat.le_of_ble_eq_true rfl) dX8_hearsOfEntries_92 rfl ?_
  exact v_retV h dX8_hearsOfEntries_95 rfl
theorem lX8_hearsOfEntries {E : EE} {G : GG} {v0 : Option Nat} {v1 : Int32} {σ : Mem} {z : Unit × Mem} (h : sX8_hearsOfEntries v0 v1 σ = some z) : V E mX8_hearsOfEntries G 0 [some (vr v0), some (vi v1), none] [] σ (none, z.2) := by
  unfold sX8_hearsOfEntries at h
  refine v_al0 dX8_hearsOfEntries_0 ?_
  refine v_il1 dX8_hearsOfEntries_1 ?_
  obtain ⟨b2, er, ka, h⟩ := cV_some h
  obtain ⟨x1, s2, h1, h⟩ := cl_some h
  refine v_callV1 cok6 (As := [vi v1]) er ka (tX8_isOfLeader h1) (lw_V q1838 q1840 qs129 q167 q1841) rfl dsX8_isOfLeader ⟨Nat.le_of_ble_eq_true rfl, Nat.le_of_ble_eq_true rfl⟩ (Nat.le_of_ble_eq_true rfl) dX8_hearsOfEntries_2 rfl ?_
  refine v_if_ne (tgt := 9) dX8_hearsOfEntries_5 (by decide) (fun c => ?_) (fun c => ?_)
  · rw [if_neg c] at h
    refine v_al0 dX8_hearsOfEntries_9 ?_
    refine v_gR cok6 h dX8_hearsOfEntries_10 (by decide) q1405 rfl (fun x3 h => ?_)
    refine v_iconst dX8_hearsOfEntries_13 ?_
    refine v_aI h dX8_hearsOfEntries_14 (fun x4 h => ?_)
    refine v_istore_n (L' := [some (vr v0), some (vi v1), some (vi x4)]) dX8_hearsOfEntries_15 (Nat.le_of_ble_eq_true rfl) (Nat.le_of_ble_eq_true rfl) rfl ?_
    refine v_al0 dX8_hearsOfEntries_16 ?_
    refine v_gR cok6 h dX8_hearsOfEntries_17 (by decide) q1405 rfl (fun x5 h => ?_)
    refine v_bipush dX8_hearsOfEntries_20 rfl ?_
    refine v_aI h dX8_hearsOfEntries_22 (fun x6 h => ?_)
    refine v_iconst dX8_hearsOfEntries_23 ?_
    refine v_icmp_ne (tgt := 42) dX8_hearsOfEntries_24 (by decide) (fun c => ?_) (fun c => ?_)
    · rw [if_neg c] at h
      refine v_al0 dX8_hearsOfEntries_42 ?_
      refine v_il1 dX8_hearsOfEntries_43 ?_
      refine v_bipush dX8_hearsOfEntries_44 rfl ?_
      refine v_il2 dX8_hearsOfEntries_46 ?_
      refine v_iadd dX8_hearsOfEntries_47 ?_
      refine v_al0 dX8_hearsOfEntries_48 ?_
      refine v_il1 dX8_hearsOfEntries_49 ?_
      refine v_bipush dX8_hearsOfEntries_50 rfl ?_
      refine v_il2 dX8_hearsOfEntries_52 ?_
      refine v_iadd dX8_hearsOfEntries_53 ?_
      obtain ⟨b54, er, ka, h⟩ := cV_some h
      obtain ⟨x7, s8, h1, h⟩ := cl_some h
      refine v_callV1 cok6 (As := [vi v1, vi ((iI 38) + x4)]) er ka (tX8_the h1) (lw_V q1385 q1387 qs60 q167 q1388) rfl dsX8_the ⟨Nat.le_of_ble_eq_true rfl, Nat.le_of_ble_eq_true rfl⟩ (Nat.le_of_ble_eq_true rfl) dX8_hearsOfEntries_54 rfl ?_
      refine v_iconst dX8_hearsOfEntries_57 ?_
      refine v_iadd dX8_hearsOfEntries_58 ?_
      refine v_al0 dX8_hearsOfEntries_59 ?_
      refine v_il1 dX8_hearsOfEntries_60 ?_
      refine v_bipush dX8_hearsOfEntries_61 rfl ?_
      refine v_il2 dX8_hearsOfEntries_63 ?_
      refine v_iadd dX8_hearsOfEntries_64 ?_
      obtain ⟨b65, er, ka, h⟩ := cV_some h
      obtain ⟨x9, s10, h1, h⟩ := cl_some h
      refine v_callV1 cok6 (As := [vi v1, vi ((iI 31) + x4)]) er ka (tX8_the h1) (lw_V q1385 q1387 qs60 q167 q1388) rfl dsX8_the ⟨Nat.le_of_ble_eq_true rfl, Nat.le_of_ble_eq_true rfl⟩ (Nat.le_of_ble_eq_true rfl) dX8_hearsOfEntries_65 rfl ?_
      refine v_al0 dX8_hearsOfEntries_68 ?_
      refine v_gR cok6 h dX8_hearsOfEntries_69 (by decide) q1405 rfl (fun x11 h => ?_)
      refine v_bipush dX8_hearsOfEntries_72 rfl ?_
      refine v_aI h dX8_hearsOfEntries_74 (fun x12 h => ?_)
      obtain ⟨x13, s14, h1, h⟩ := cl_some h
      refine v_callS1 (As := [vi x9, vi x12]) (tX8_min h1) (lw_S q1677 q1678 q167 q1679) dsX8_min ⟨Nat.le_of_ble_eq_true rfl, Nat.le_of_ble_eq_true rfl⟩ (Nat.le_of_ble_eq_true rfl) dX8_hearsOfEntries_75 rfl ?_
      obtain ⟨x15, s16, h1, h⟩ := cl_some h
      refine v_callS1 (As := [vi (x7 + (iI 1)), vi x13]) (tX8_max h1) (lw_S q1767 q1768 q167 q1769) dsX8_max ⟨Nat.le_of_ble_eq_true rfl, Nat.le_of_ble_eq_true rfl⟩ (Nat.le_of_ble_eq_true rfl) dX8_hearsOfEntries_78 rfl ?_
      obtain ⟨b81, er, ka, h⟩ := cV_some h
      obtain ⟨_, s17, h1, h⟩ := cl_some h
      refine v_callV0 cok6 (As := [vi v1, vi ((iI 31) + x4), vi x15]) er ka (tX8_sets h1) (lw_V q1372 q1374 qs57 q167 q1375) rfl dsX8_sets ⟨Nat.le_of_ble_eq_true rfl, Nat.le_of_ble_eq_true rfl⟩ (Nat.le_of_ble_eq_true rfl) dX8_hearsOfEntries_81 rfl ?_
      refine v_al0 dX8_hearsOfEntries_84 ?_
      refine v_il1 dX8_hearsOfEntries_85 ?_
      refine v_il2 dX8_hearsOfEntries_86 ?_
      obtain ⟨b87, er, ka, h⟩ := cV_some h
      obtain ⟨_, s18, h1, h⟩ := cl_some h
      refine v_callV0 cok6 (As := [vi v1, vi x4]) er ka (tX8_sendsOn h1) (lw_V q1782 q1784 qs115 q167 q1785) rfl dsX8_sendsOn ⟨Nat.le_of_ble_eq_true rfl, Nat.le_of_ble_eq_true rfl⟩ (Nat.le_of_ble_eq_true rfl) dX8_hearsOfEntries_87 rfl ?_
      exact v_weak (wss (wss (wsn wse))) (lX8_hearsOfEntries_90 h)
    · rw [if_pos c] at h
      refine v_al0 dX8_hearsOfEntries_27 ?_
      refine v_il1 dX8_hearsOfEntries_28 ?_
      refine v_al0 dX8_hearsOfEntries_29 ?_
      refine v_gR cok6 h dX8_hearsOfEntries_30 (by decide) q1405 rfl (fun x19 h => ?_)
      refine v_bipush dX8_hearsOfEntries_33 rfl ?_
      refine v_aI h dX8_hearsOfEntries_35 (fun x20 h => ?_)
      obtain ⟨b36, er, ka, h⟩ := cV_some h
      obtain ⟨_, s21, h1, h⟩ := cl_some h
      refine v_callV0 cok6 (As := [vi v1, vi x20]) er ka (tX8_matches h1) (lw_V q1842 q1844 qs130 q167 q1845) rfl dsX8_matches ⟨Nat.le_of_ble_eq_true rfl, Nat.le_of_ble_eq_true rfl⟩ (Nat.le_of_ble_eq_true rfl) dX8_hearsOfEntries_36 rfl ?_
      refine v_goto (tgt := 90) dX8_hearsOfEntries_39 (by decide) ?_
      exact v_weak (wss (wss (wsn wse))) (lX8_hearsOfEntries_90 h)
  · rw [if_pos c] at h
    exact v_retV h dX8_hearsOfEntries_8 rfl
theorem tX8_hearsOfEntries {E : EE} {l : Launch} {v0 : Option Nat} {v1 : Int32} {σ : Mem} {z : Unit × Mem} (h : sX8_hearsOfEntries v0 v1 σ = some z) : Mt E l mX8_hearsOfEntries [vr v0, vi v1] σ (none, z.2) :=
  Mt.ofVL (by decide) (Nat.le_of_ble_eq_true rfl) (fun G hG => lX8_hearsOfEntries h)
abbrev mX8_hasSnapshot : MM := (yX8_hasSnapshot, cX8_hasSnapshot, 4, (Option.none : Option Jvm.ClassFile.FieldType), 5, 123)
theorem dsX8_hasSnapshot : DsOk yX8_hasSnapshot 1 := ⟨by decide, by decide, by decide +kernel⟩
theorem lX8_hasSnapshot_170b {E : EE} {G : GG} {k170 : Option Nat → Int32 → Int32 → Int32 → Mem → Option (Unit × Mem)} (hk170 : ∀ (v0 : Option Nat) (v1 : Int32) (v2 : Int32) (v3 : Int32) (s : Mem) (z : Unit × Mem), k170 v0 v1 v2 v3 s = some z → V E mX8_hasSnapshot G 170 [some (vr v0), some (vi v1), some (vi v2), some (vi v3)] [] s (none, z.2)) {v0 : Option Nat} {v1 : Int32} {v2 : Int32} {v3 : Int32} {σ : Mem} {z : Unit × Mem} (h : sX8_hasSnapshot_170b k170 v0 v1 v2 v3 σ = some z) : V E mX8_hasSnapshot G 170 [some (vr v0), some (vi v1), some (vi v2), some (vi v3)] [] σ (none, z.2) := by
  unfold sX8_hasSnapshot_170b at h
  refine v_il3 dX8_hasSnapshot_170 ?_
  refine v_bipush dX8_hasSnapshot_171 rfl ?_
  refine v_icmp_ge (tgt := 218) dX8_hasSnapshot_173 (by decide) (fun c => ?_) (fun c => ?_)
  · rw [if_pos c] at h
    refine v_al0 dX8_hasSnapshot_218 ?_
    refine v_iconst dX8_hasSnapshot_219 ?_
    refine v_il2 dX8_hasSnapshot_220 ?_
    refine v_iconst dX8_hasSnapshot_221 ?_
    refine v_al0 dX8_hasSnapshot_222 ?_
    refine v_gR cok6 h dX8_hasSnapshot_223 (by decide) q1405 rfl (fun x1 h => ?_)
    refine v_bipush dX8_hasSnapshot_226 rfl ?_
    refine v_aI h dX8_hasSnapshot_228 (fun x2 h => ?_)
    obtain ⟨b229, er, ka, h⟩ := cV_some h
    obtain ⟨_, s3, h1, h⟩ := cl_some h
    refine v_callV0 cok6 (As := [vi (iI 5), vi v2, vi (iI 0), vi x2]) er ka (tX8_answersBy h1) (lw_V q1708 q1710 qs98 q167 q1711) rfl dsX8_answersBy ⟨Nat.le_of_ble_eq_true rfl, Nat.le_of_ble_eq_true rfl⟩ (Nat.le_of_ble_eq_true rfl) dX8_hasSnapshot_229 rfl ?_
    exact v_retV h dX8_hasSnapshot_232 rfl
  · rw [if_neg c] at h
    refine v_al0 dX8_hasSnapshot_176 ?_
    refine v_il1 dX8_hasSnapshot_177 ?_
    refine v_bipush dX8_hasSnapshot_178 rfl ?_
    refine v_il3 dX8_hasSnapshot_180 ?_
    refine v_iadd dX8_hasSnapshot_181 ?_
    refine v_al0 dX8_hasSnapshot_182 ?_
    refine v_gR cok6 h dX8_hasSnapshot_183 (by decide) q1405 rfl (fun x4 h => ?_)
    refine v_bipush dX8_hasSnapshot_186 rfl ?_
    refine v_il3 dX8_hasSnapshot_188 ?_
    refine v_iadd dX8_hasSnapshot_189 ?_
    refine v_aI h dX8_hasSnapshot_190 (fun x5 h => ?_)
    obtain ⟨b191, er, ka, h⟩ := cV_some h
    obtain ⟨_, s6, h1, h⟩ := cl_some h
    refine v_callV0 cok6 (As := [vi v1, vi ((iI 23) + v3), vi x5]) er ka (tX8_sets h1) (lw_V q1372 q1374 qs57 q167 q1375) rfl dsX8_sets ⟨Nat.le_of_ble_eq_true rfl, Nat.le_of_ble_eq_true rfl⟩ (Nat.le_of_ble_eq_true rfl) dX8_hasSnapshot_191 rfl ?_
    refine v_al0 dX8_hasSnapshot_194 ?_
    refine v_il1 dX8_hasSnapshot_195 ?_
    refine v_bipush dX8_hasSnapshot_196 rfl ?_
    refine v_il3 dX8_hasSnapshot_198 ?_
    refine v_iadd dX8_hasSnapshot_199 ?_
    refine v_al0 dX8_hasSnapshot_200 ?_
    refine v_gR cok6 h dX8_hasSnapshot_201 (by decide) q1405 rfl (fun x7 h => ?_)
    refine v_bipush dX8_hasSnapshot_204 rfl ?_
    refine v_il3 dX8_hasSnapshot_206 ?_
    refine v_iadd dX8_hasSnapshot_207 ?_
    refine v_aI h dX8_hasSnapshot_208 (fun x8 h => ?_)
    obtain ⟨b209, er, ka, h⟩ := cV_some h
    obtain ⟨_, s9, h1, h⟩ := cl_some h
    refine v_callV0 cok6 (As := [vi v1, vi ((iI 15) + v3), vi x8]) er ka (tX8_sets h1) (lw_V q1372 q1374 qs57 q167 q1375) rfl dsX8_sets ⟨Nat.le_of_ble_eq_true rfl, Nat.le_of_ble_eq_true rfl⟩ (Nat.le_of_ble_eq_true rfl) dX8_hasSnapshot_209 rfl ?_
    refine v_iinc (L' := [some (vr v0), some (vi v1), some (vi v2), some (vi (v3 + iI 1))]) dX8_hasSnapshot_212 (Nat.le_of_ble_eq_true rfl) rfl rfl ?_
    refine v_goto (tgt := 170) dX8_hasSnapshot_215 (by decide) ?_
    exact v_weak (wss (wss (wss (wss wse)))) (hk170 _ _ _ _ _ _ h)
theorem lX8_hasSnapshot_170 {E : EE} {G : GG} : ∀ (f : Nat) {v0 : Option Nat} {v1 : Int32} {v2 : Int32} {v3 : Int32} {σ : Mem} {z : Unit × Mem}, sX8_hasSnapshot_170 f v0 v1 v2 v3 σ = some z → V E mX8_hasSnapshot G 170 [some (vr v0), some (vi v1), some (vi v2), some (vi v3)] [] σ (none, z.2)
  | 0, _, _, _, _, _, _, h => by cases h
  | f + 1, _, _, _, _, _, _, h => lX8_hasSnapshot_170b (fun _ _ _ _ _ _ h => lX8_hasSnapshot_170 f h) h
theorem lX8_hasSnapshot_113 {E : EE} {G : GG} {v0 : Option Nat} {v1 : Int32} {v2 : Int32} {σ : Mem} {z : Unit × Mem} (h : sX8_hasSnapshot_113 v0 v1 v2 σ = some z) : V E mX8_hasSnapshot G 113 [some (vr v0), some (vi v1), some (vi v2), none] [] σ (none, z.2) := by
  unfold sX8_hasSnapshot_113 at h
  refine v_al0 dX8_hasSnapshot_113 ?_
  refine v_il1 dX8_hasSnapshot_114 ?_
  refine v_il2 dX8_hasSnapshot_115 ?_
  obtain ⟨b116, er, ka, h⟩ := cV_some h
  obtain ⟨_, s1, h1, h⟩ := cl_some h
  refine v_callV0 cok6 (As := [vi v1, vi v2]) er ka (tX8_goesUpTo h1) (lw_V q1763 q1765 qs111 q167 q1766) rfl dsX8_goesUpTo ⟨Nat.le_of_ble_eq_true rfl, Nat.le_of_ble_eq_true rfl⟩ (Nat.le_of_ble_eq_true rfl) dX8_hasSnapshot_116 rfl ?_
  refine v_al0 dX8_hasSnapshot_119 ?_
  refine v_il1 dX8_hasSnapshot_120 ?_
  refine v_iconst dX8_hasSnapshot_121 ?_
  refine v_al0 dX8_hasSnapshot_122 ?_
  refine v_gR cok6 h dX8_hasSnapshot_123 (by decide) q1405 rfl (fun x2 h => ?_)
  refine v_bipush dX8_hasSnapshot_126 rfl ?_
  refine v_aI h dX8_hasSnapshot_128 (fun x3 h => ?_)
  obtain ⟨b129, er, ka, h⟩ := cV_some h
  obtain ⟨_, s4, h1, h⟩ := cl_some h
  refine v_callV0 cok6 (As := [vi v1, vi (iI 5), vi x3]) er ka (tX8_sets h1) (lw_V q1372 q1374 qs57 q167 q1375) rfl dsX8_sets ⟨Nat.le_of_ble_eq_true rfl, Nat.le_of_ble_eq_true rfl⟩ (Nat.le_of_ble_eq_true rfl) dX8_hasSnapshot_129 rfl ?_
  refine v_al0 dX8_hasSnapshot_132 ?_
  refine v_il1 dX8_hasSnapshot_133 ?_
  refine v_bipush dX8_hasSnapshot_134 rfl ?_
  refine v_al0 dX8_hasSnapshot_136 ?_
  refine v_gR cok6 h dX8_hasSnapshot_137 (by decide) q1405 rfl (fun x5 h => ?_)
  refine v_bipush dX8_hasSnapshot_140 rfl ?_
  refine v_aI h dX8_hasSnapshot_142 (fun x6 h => ?_)
  obtain ⟨b143, er, ka, h⟩ := cV_some h
  obtain ⟨_, s7, h1, h⟩ := cl_some h
  refine v_callV0 cok6 (As := [vi v1, vi (iI 6), vi x6]) er ka (tX8_sets h1) (lw_V q1372 q1374 qs57 q167 q1375) rfl dsX8_sets ⟨Nat.le_of_ble_eq_true rfl, Nat.le_of_ble_eq_true rfl⟩ (Nat.le_of_ble_eq_true rfl) dX8_hasSnapshot_143 rfl ?_
  refine v_al0 dX8_hasSnapshot_146 ?_
  refine v_il1 dX8_hasSnapshot_147 ?_
  refine v_bipush dX8_hasSnapshot_148 rfl ?_
  refine v_al0 dX8_hasSnapshot_150 ?_
  refine v_gR cok6 h dX8_hasSnapshot_151 (by decide) q1405 rfl (fun x8 h => ?_)
  refine v_bipush dX8_hasSnapshot_154 rfl ?_
  refine v_aI h dX8_hasSnapshot_156 (fun x9 h => ?_)
  obtain ⟨b157, er, ka, h⟩ := cV_some h
  obtain ⟨_, s10, h1, h⟩ := cl_some h
  refine v_callV0 cok6 (As := [vi v1, vi (iI 7), vi x9]) er ka (tX8_sets h1) (lw_V q1372 q1374 qs57 q167 q1375) rfl dsX8_sets ⟨Nat.le_of_ble_eq_true rfl, Nat.le_of_ble_eq_true rfl⟩ (Nat.le_of_ble_eq_true rfl) dX8_hasSnapshot_157 rfl ?_
  refine v_al0 dX8_hasSnapshot_160 ?_
  refine v_il1 dX8_hasSnapshot_161 ?_
  refine v_bipush dX8_hasSnapshot_162 rfl ?_
  refine v_il2 dX8_hasSnapshot_164 ?_
  obtain ⟨b165, er, ka, h⟩ := cV_some h
  obtain ⟨_, s11, h1, h⟩ := cl_some h
  refine v_callV0 cok6 (As := [vi v1, vi (iI 9), vi v2]) er ka (tX8_sets h1) (lw_V q1372 q1374 qs57 q167 q1375) rfl dsX8_sets ⟨Nat.le_of_ble_eq_true rfl, Nat.le_of_ble_eq_true rfl⟩ (Nat.le_of_ble_eq_true rfl) dX8_hasSnapshot_165 rfl ?_
  refine v_iconst dX8_hasSnapshot_168 ?_
  refine v_istore_n (L' := [some (vr v0), some (vi v1), some (vi v2), some (vi (iI 0))]) dX8_hasSnapshot_169 (Nat.le_of_ble_eq_true rfl) (Nat.le_of_ble_eq_true rfl) rfl ?_
  exact v_weak (wss (wss (wss (wss wse)))) (lX8_hasSnapshot_170 FU h)
theorem lX8_hasSnapshot_105 {E : EE} {G : GG} {v0 : Option Nat} {v1 : Int32} {v2 : Int32} {σ : Mem} {z : Unit × Mem} (h : sX8_hasSnapshot_105 v0 v1 v2 σ = some z) : V E mX8_hasSnapshot G 105 [some (vr v0), some (vi v1), some (vi v2), none] [] σ (none, z.2) := by
  unfold sX8_hasSnapshot_105 at h
  refine v_al0 dX8_hasSnapshot_105 ?_
  refine v_il1 dX8_hasSnapshot_106 ?_
  refine v_bipush dX8_hasSnapshot_107 rfl ?_
  refine v_iconst dX8_hasSnapshot_109 ?_
  obtain ⟨b110, er, ka, h⟩ := cV_some h
  obtain ⟨_, s1, h1, h⟩ := cl_some h
  refine v_callV0 cok6 (As := [vi v1, vi (iI 8), vi (iI 0)]) er ka (tX8_sets h1) (lw_V q1372 q1374 qs57 q167 q1375) rfl dsX8_sets ⟨Nat.le_of_ble_eq_true rfl, Nat.le_of_ble_eq_true rfl⟩ (Nat.le_of_ble_eq_true rfl) dX8_hasSnapshot_110 rfl ?_
  exact v_weak (wss (wss (wss (wsn wse)))) (lX8_hasSnapshot_113 h)
theorem lX8_hasSnapshot {E : EE} {G : GG} {v0 : Option Nat} {v1 : Int32} {σ : Mem} {z : Unit × Mem} (h : sX8_hasSnapshot v0 v1 σ = some z) : V E mX8_hasSnapshot G 0 [some (vr v0), some (vi v1), none, none] [] σ (none, z.2) := by
  unfold sX8_hasSnapshot at h
  refine v_al0 dX8_hasSnapshot_0 ?_
  refine v_gR cok6 h dX8_hasSnapshot_1 (by decide) q1405 rfl (fun x1 h => ?_)
  refine v_bipush dX8_hasSnapshot_4 rfl ?_
  refine v_aI h dX8_hasSnapshot_6 (fun x2 h => ?_)
  refine v_istore_n (L' := [some (vr v0), some (vi v1), some (vi x2), none]) dX8_hasSnapshot_7 (Nat.le_of_ble_eq_true rfl) (Nat.le_of_ble_eq_true rfl) rfl ?_
  refine v_al0 dX8_hasSnapshot_8 ?_
  refine v_gR cok6 h dX8_hasSnapshot_9 (by decide) q1405 rfl (fun x3 h => ?_)
  refine v_iconst dX8_hasSnapshot_12 ?_
  refine v_aI h dX8_hasSnapshot_13 (fun x4 h => ?_)
  refine v_al0 dX8_hasSnapshot_14 ?_
  refine v_il1 dX8_hasSnapshot_15 ?_
  refine v_iconst dX8_hasSnapshot_16 ?_
  obtain ⟨b17, er, ka, h⟩ := cV_some h
  obtain ⟨x5, s6, h1, h⟩ := cl_some h
  refine v_callV1 cok6 (As := [vi v1, vi (iI 1)]) er ka (tX8_the h1) (lw_V q1385 q1387 qs60 q167 q1388) rfl dsX8_the ⟨Nat.le_of_ble_eq_true rfl, Nat.le_of_ble_eq_true rfl⟩ (Nat.le_of_ble_eq_true rfl) dX8_hasSnapshot_17 rfl ?_
  refine v_icmp_ge (tgt := 32) dX8_hasSnapshot_20 (by decide) (fun c => ?_) (fun c => ?_)
  · rw [if_pos c] at h
    refine v_al0 dX8_hasSnapshot_32 ?_
    refine v_il1 dX8_hasSnapshot_33 ?_
    refine v_al0 dX8_hasSnapshot_34 ?_
    refine v_gR cok6 h dX8_hasSnapshot_35 (by decide) q1405 rfl (fun x7 h => ?_)
    refine v_iconst dX8_hasSnapshot_38 ?_
    refine v_aI h dX8_hasSnapshot_39 (fun x8 h => ?_)
    obtain ⟨b40, er, ka, h⟩ := cV_some h
    obtain ⟨_, s9, h1, h⟩ := cl_some h
    refine v_callV0 cok6 (As := [vi v1, vi x8]) er ka (tX8_follows h1) (lw_V q1680 q1682 qs91 q167 q1683) rfl dsX8_follows ⟨Nat.le_of_ble_eq_true rfl, Nat.le_of_ble_eq_true rfl⟩ (Nat.le_of_ble_eq_true rfl) dX8_hasSnapshot_40 rfl ?_
    refine v_al0 dX8_hasSnapshot_43 ?_
    refine v_il1 dX8_hasSnapshot_44 ?_
    obtain ⟨b45, er, ka, h⟩ := cV_some h
    obtain ⟨_, s10, h1, h⟩ := cl_some h
    refine v_callV0 cok6 (As := [vi v1]) er ka (tX8_setsTimer h1) (lw_V q1376 q1378 qs58 q167 q1379) rfl dsX8_setsTimer ⟨Nat.le_of_ble_eq_true rfl, Nat.le_of_ble_eq_true rfl⟩ (Nat.le_of_ble_eq_true rfl) dX8_hasSnapshot_45 rfl ?_
    refine v_il2 dX8_hasSnapshot_48 ?_
    refine v_al0 dX8_hasSnapshot_49 ?_
    refine v_il1 dX8_hasSnapshot_50 ?_
    refine v_bipush dX8_hasSnapshot_51 rfl ?_
    obtain ⟨b53, er, ka, h⟩ := cV_some h
    obtain ⟨x11, s12, h1, h⟩ := cl_some h
    refine v_callV1 cok6 (As := [vi v1, vi (iI 9)]) er ka (tX8_the h1) (lw_V q1385 q1387 qs60 q167 q1388) rfl dsX8_the ⟨Nat.le_of_ble_eq_true rfl, Nat.le_of_ble_eq_true rfl⟩ (Nat.le_of_ble_eq_true rfl) dX8_hasSnapshot_53 rfl ?_
    refine v_icmp_gt (tgt := 80) dX8_hasSnapshot_56 (by decide) (fun c => ?_) (fun c => ?_)
    · rw [if_pos c] at h
      refine v_al0 dX8_hasSnapshot_80 ?_
      refine v_il1 dX8_hasSnapshot_81 ?_
      refine v_il2 dX8_hasSnapshot_82 ?_
      obtain ⟨b83, er, ka, h⟩ := cV_some h
      obtain ⟨x13, s14, h1, h⟩ := cl_some h
      refine v_callV1 cok6 (As := [vi v1, vi x2]) er ka (tX8_hasEntry h1) (lw_V q1810 q1812 qs122 q167 q1813) rfl dsX8_hasEntry ⟨Nat.le_of_ble_eq_true rfl, Nat.le_of_ble_eq_true rfl⟩ (Nat.le_of_ble_eq_true rfl) dX8_hasSnapshot_83 rfl ?_
      refine v_if_eq (tgt := 105) dX8_hasSnapshot_86 (by decide) (fun c => ?_) (fun c => ?_)
      · rw [if_pos c] at h
        exact v_weak (wss (wss (wss (wsn wse)))) (lX8_hasSnapshot_105 h)
      · rw [if_neg c] at h
        refine v_al0 dX8_hasSnapshot_89 ?_
        refine v_il1 dX8_hasSnapshot_90 ?_
        refine v_il2 dX8_hasSnapshot_91 ?_
        obtain ⟨b92, er, ka, h⟩ := cV_some h
        obtain ⟨x15, s16, h1, h⟩ := cl_some h
        refine v_callV1 cok6 (As := [vi v1, vi x2]) er ka (tX8_termAt h1) (lw_V q1700 q1702 qs96 q167 q1703) rfl dsX8_termAt ⟨Nat.le_of_ble_eq_true rfl, Nat.le_of_ble_eq_true rfl⟩ (Nat.le_of_ble_eq_true rfl) dX8_hasSnapshot_92 rfl ?_
        refine v_al0 dX8_hasSnapshot_95 ?_
        refine v_gR cok6 h dX8_hasSnapshot_96 (by decide) q1405 rfl (fun x17 h => ?_)
        refine v_bipush dX8_hasSnapshot_99 rfl ?_
        refine v_aI h dX8_hasSnapshot_101 (fun x18 h => ?_)
        refine v_icmp_eq (tgt := 113) dX8_hasSnapshot_102 (by decide) (fun c => ?_) (fun c => ?_)
        · rw [if_pos c] at h
          exact v_weak (wss (wss (wss (wsn wse)))) (lX8_hasSnapshot_113 h)
        · rw [if_neg c] at h
          exact v_weak (wss (wss (wss (wsn wse)))) (lX8_hasSnapshot_105 h)
    · rw [if_neg c] at h
      refine v_al0 dX8_hasSnapshot_59 ?_
      refine v_iconst dX8_hasSnapshot_60 ?_
      refine v_al0 dX8_hasSnapshot_61 ?_
      refine v_il1 dX8_hasSnapshot_62 ?_
      refine v_bipush dX8_hasSnapshot_63 rfl ?_
      obtain ⟨b65, er, ka, h⟩ := cV_some h
      obtain ⟨x19, s20, h1, h⟩ := cl_some h
      refine v_callV1 cok6 (As := [vi v1, vi (iI 9)]) er ka (tX8_the h1) (lw_V q1385 q1387 qs60 q167 q1388) rfl dsX8_the ⟨Nat.le_of_ble_eq_true rfl, Nat.le_of_ble_eq_true rfl⟩ (Nat.le_of_ble_eq_true rfl) dX8_hasSnapshot_65 rfl ?_
      refine v_iconst dX8_hasSnapshot_68 ?_
      refine v_al0 dX8_hasSnapshot_69 ?_
      refine v_gR cok6 h dX8_hasSnapshot_70 (by decide) q1405 rfl (fun x21 h => ?_)
      refine v_bipush dX8_hasSnapshot_73 rfl ?_
      refine v_aI h dX8_hasSnapshot_75 (fun x22 h => ?_)
      obtain ⟨b76, er, ka, h⟩ := cV_some h
      obtain ⟨_, s23, h1, h⟩ := cl_some h
      refine v_callV0 cok6 (As := [vi (iI 5), vi x19, vi (iI 0), vi x22]) er ka (tX8_answersBy h1) (lw_V q1708 q1710 qs98 q167 q1711) rfl dsX8_answersBy ⟨Nat.le_of_ble_eq_true rfl, Nat.le_of_ble_eq_true rfl⟩ (Nat.le_of_ble_eq_true rfl) dX8_hasSnapshot_76 rfl ?_
      exact v_retV h dX8_hasSnapshot_79 rfl
  · rw [if_neg c] at h
    refine v_al0 dX8_hasSnapshot_23 ?_
    refine v_iconst dX8_hasSnapshot_24 ?_
    refine v_iconst dX8_hasSnapshot_25 ?_
    refine v_iconst dX8_hasSnapshot_26 ?_
    refine v_iconst dX8_hasSnapshot_27 ?_
    obtain ⟨b28, er, ka, h⟩ := cV_some h
    obtain ⟨_, s24, h1, h⟩ := cl_some h
    refine v_callV0 cok6 (As := [vi (iI 5), vi (iI 0), vi (iI 0), vi (iI 0)]) er ka (tX8_answersBy h1) (lw_V q1708 q1710 qs98 q167 q1711) rfl dsX8_answersBy ⟨Nat.le_of_ble_eq_true rfl, Nat.le_of_ble_eq_true rfl⟩ (Nat.le_of_ble_eq_true rfl) dX8_hasSnapshot_28 rfl ?_
    exact v_retV h dX8_hasSnapshot_31 rfl
theorem tX8_hasSnapshot {E : EE} {l : Launch} {v0 : Option Nat} {v1 : Int32} {σ : Mem} {z : Unit × Mem} (h : sX8_hasSnapshot v0 v1 σ = some z) : Mt E l mX8_hasSnapshot [vr v0, vi v1] σ (none, z.2) :=
  Mt.ofVL (by decide) (Nat.le_of_ble_eq_true rfl) (fun G hG => lX8_hasSnapshot h)
abbrev mX8_hearsOfSnapshot : MM := (yX8_hearsOfSnapshot, cX8_hearsOfSnapshot, 2, (Option.none : Option Jvm.ClassFile.FieldType), 8, 191)
theorem dsX8_hearsOfSnapshot : DsOk yX8_hearsOfSnapshot 1 := ⟨by decide, by decide, by decide +kernel⟩
theorem lX8_hearsOfSnapshot {E : EE} {G : GG} {v0 : Option Nat} {v1 : Int32} {σ : Mem} {z : Unit × Mem} (h : sX8_hearsOfSnapshot v0 v1 σ = some z) : V E mX8_hearsOfSnapshot G 0 [some (vr v0), some (vi v1)] [] σ (none, z.2) := by
  unfold sX8_hearsOfSnapshot at h
  refine v_al0 dX8_hearsOfSnapshot_0 ?_
  refine v_il1 dX8_hearsOfSnapshot_1 ?_
  obtain ⟨b2, er, ka, h⟩ := cV_some h
  obtain ⟨x1, s2, h1, h⟩ := cl_some h
  refine v_callV1 cok6 (As := [vi v1]) er ka (tX8_isOfLeader h1) (lw_V q1838 q1840 qs129 q167 q1841) rfl dsX8_isOfLeader ⟨Nat.le_of_ble_eq_true rfl, Nat.le_of_ble_eq_true rfl⟩ (Nat.le_of_ble_eq_true rfl) dX8_hearsOfSnapshot_2 rfl ?_
  refine v_if_ne (tgt := 9) dX8_hearsOfSnapshot_5 (by decide) (fun c => ?_) (fun c => ?_)
  · rw [if_neg c] at h
    refine v_al0 dX8_hearsOfSnapshot_9 ?_
    refine v_il1 dX8_hearsOfSnapshot_10 ?_
    refine v_al0 dX8_hearsOfSnapshot_11 ?_
    refine v_gR cok6 h dX8_hearsOfSnapshot_12 (by decide) q1405 rfl (fun x3 h => ?_)
    refine v_bipush dX8_hearsOfSnapshot_15 rfl ?_
    refine v_aI h dX8_hearsOfSnapshot_17 (fun x4 h => ?_)
    obtain ⟨b18, er, ka, h⟩ := cV_some h
    obtain ⟨_, s5, h1, h⟩ := cl_some h
    refine v_callV0 cok6 (As := [vi v1, vi x4]) er ka (tX8_matches h1) (lw_V q1842 q1844 qs130 q167 q1845) rfl dsX8_matches ⟨Nat.le_of_ble_eq_true rfl, Nat.le_of_ble_eq_true rfl⟩ (Nat.le_of_ble_eq_true rfl) dX8_hearsOfSnapshot_18 rfl ?_
    refine v_al0 dX8_hearsOfSnapshot_21 ?_
    refine v_il1 dX8_hearsOfSnapshot_22 ?_
    obtain ⟨b23, er, ka, h⟩ := cV_some h
    obtain ⟨_, s6, h1, h⟩ := cl_some h
    refine v_callV0 cok6 (As := [vi v1]) er ka (tX8_answersReads h1) (lw_V q1846 q1848 qs131 q167 q1849) rfl dsX8_answersReads ⟨Nat.le_of_ble_eq_true rfl, Nat.le_of_ble_eq_true rfl⟩ (Nat.le_of_ble_eq_true rfl) dX8_hearsOfSnapshot_23 rfl ?_
    exact v_retV h dX8_hearsOfSnapshot_26 rfl
  · rw [if_pos c] at h
    exact v_retV h dX8_hearsOfSnapshot_8 rfl
theorem tX8_hearsOfSnapshot {E : EE} {l : Launch} {v0 : Option Nat} {v1 : Int32} {σ : Mem} {z : Unit × Mem} (h : sX8_hearsOfSnapshot v0 v1 σ = some z) : Mt E l mX8_hearsOfSnapshot [vr v0, vi v1] σ (none, z.2) :=
  Mt.ofVL (by decide) (Nat.le_of_ble_eq_true rfl) (fun G hG => lX8_hearsOfSnapshot h)
abbrev mX8_isHanded : MM := (yX8_isHanded, cX8_isHanded, 2, (Option.none : Option Jvm.ClassFile.FieldType), 10, 233)
theorem dsX8_isHanded : DsOk yX8_isHanded 0 := ⟨by decide, by decide, by decide +kernel⟩
theorem lX8_isHanded_29 {E : EE} {G : GG} {v0 : Option Nat} {σ : Mem} {z : Unit × Mem} (h : sX8_isHanded_29 v0 σ = some z) : V E mX8_isHanded G 29 [some (vr v0), none] [] σ (none, z.2) := by
  unfold sX8_isHanded_29 at h
  refine v_al0 dX8_isHanded_29 ?_
  obtain ⟨b30, er, ka, h⟩ := cV_some h
  obtain ⟨_, s1, h1, h⟩ := cl_some h
  refine v_callV0 cok6 (As := []) er ka (tX8_loses h1) (lw_V q1672 q1674 qs90 q167 q1675) rfl dsX8_loses ⟨Nat.le_of_ble_eq_true rfl, Nat.le_of_ble_eq_true rfl⟩ (Nat.le_of_ble_eq_true rfl) dX8_isHanded_30 rfl ?_
  exact v_retV h dX8_isHanded_33 rfl
theorem lX8_isHanded_74 {E : EE} {G : GG} {v0 : Option Nat} {v1 : Int32} {σ : Mem} {z : Unit × Mem} (h : sX8_isHanded_74 v0 v1 σ = some z) : V E mX8_isHanded G 74 [some (vr v0), some (vi v1)] [] σ (none, z.2) := by
  unfold sX8_isHanded_74 at h
  refine v_al0 dX8_isHanded_74 ?_
  refine v_gR cok6 h dX8_isHanded_75 (by decide) q1405 rfl (fun x1 h => ?_)
  refine v_iconst dX8_isHanded_78 ?_
  refine v_aI h dX8_isHanded_79 (fun x2 h => ?_)
  by_cases c0 : x2 = iI 0
  · rw [if_pos c0] at h
    refine v_tabIn (tgt := 116) dX8_isHanded_80 (by rw [c0]; decide) (by rw [c0]; decide) (by rw [c0]; rfl) (by decide) ?_
    refine v_al0 dX8_isHanded_116 ?_
    refine v_il1 dX8_isHanded_117 ?_
    obtain ⟨b118, er, ka, h⟩ := cV_some h
    obtain ⟨_, s3, h1, h⟩ := cl_some h
    refine v_callV0 cok6 (As := [vi v1]) er ka (tX8_isAskedToVote h1) (lw_V q1688 q1690 qs93 q167 q1691) rfl dsX8_isAskedToVote ⟨Nat.le_of_ble_eq_true rfl, Nat.le_of_ble_eq_true rfl⟩ (Nat.le_of_ble_eq_true rfl) dX8_isHanded_118 rfl ?_
    refine v_goto (tgt := 161) dX8_isHanded_121 (by decide) ?_
    exact v_retV h dX8_isHanded_161 rfl
  · rw [if_neg c0] at h
    by_cases c1 : x2 = iI 1
    · rw [if_pos c1] at h
      refine v_tabIn (tgt := 124) dX8_isHanded_80 (by rw [c1]; decide) (by rw [c1]; decide) (by rw [c1]; rfl) (by decide) ?_
      refine v_al0 dX8_isHanded_124 ?_
      refine v_il1 dX8_isHanded_125 ?_
      obtain ⟨b126, er, ka, h⟩ := cV_some h
      obtain ⟨_, s4, h1, h⟩ := cl_some h
      refine v_callV0 cok6 (As := [vi v1]) er ka (tX8_hasVote h1) (lw_V q1724 q1726 qs102 q167 q1727) rfl dsX8_hasVote ⟨Nat.le_of_ble_eq_true rfl, Nat.le_of_ble_eq_true rfl⟩ (Nat.le_of_ble_eq_true rfl) dX8_isHanded_126 rfl ?_
      refine v_goto (tgt := 161) dX8_isHanded_129 (by decide) ?_
      exact v_retV h dX8_isHanded_161 rfl
    · rw [if_neg c1] at h
      by_cases c2 : x2 = iI 2
      · rw [if_pos c2] at h
        refine v_tabIn (tgt := 132) dX8_isHanded_80 (by rw [c2]; decide) (by rw [c2]; decide) (by rw [c2]; rfl) (by decide) ?_
        refine v_al0 dX8_isHanded_132 ?_
        refine v_il1 dX8_isHanded_133 ?_
        obtain ⟨b134, er, ka, h⟩ := cV_some h
        obtain ⟨_, s5, h1, h⟩ := cl_some h
        refine v_callV0 cok6 (As := [vi v1]) er ka (tX8_hasEntries h1) (lw_V q1822 q1824 qs125 q167 q1825) rfl dsX8_hasEntries ⟨Nat.le_of_ble_eq_true rfl, Nat.le_of_ble_eq_true rfl⟩ (Nat.le_of_ble_eq_true rfl) dX8_isHanded_134 rfl ?_
        refine v_goto (tgt := 161) dX8_isHanded_137 (by decide) ?_
        exact v_retV h dX8_isHanded_161 rfl
      · rw [if_neg c2] at h
        by_cases c3 : x2 = iI 3
        · rw [if_pos c3] at h
          refine v_tabIn (tgt := 140) dX8_isHanded_80 (by rw [c3]; decide) (by rw [c3]; decide) (by rw [c3]; rfl) (by decide) ?_
          refine v_al0 dX8_isHanded_140 ?_
          refine v_il1 dX8_isHanded_141 ?_
          obtain ⟨b142, er, ka, h⟩ := cV_some h
          obtain ⟨_, s6, h1, h⟩ := cl_some h
          refine v_callV0 cok6 (As := [vi v1]) er ka (tX8_hearsOfEntries h1) (lw_V q1834 q1836 qs128 q167 q1837) rfl dsX8_hearsOfEntries ⟨Nat.le_of_ble_eq_true rfl, Nat.le_of_ble_eq_true rfl⟩ (Nat.le_of_ble_eq_true rfl) dX8_isHanded_142 rfl ?_
          refine v_goto (tgt := 161) dX8_isHanded_145 (by decide) ?_
          exact v_retV h dX8_isHanded_161 rfl
        · rw [if_neg c3] at h
          by_cases c4 : x2 = iI 4
          · rw [if_pos c4] at h
            refine v_tabIn (tgt := 148) dX8_isHanded_80 (by rw [c4]; decide) (by rw [c4]; decide) (by rw [c4]; rfl) (by decide) ?_
            refine v_al0 dX8_isHanded_148 ?_
            refine v_il1 dX8_isHanded_149 ?_
            obtain ⟨b150, er, ka, h⟩ := cV_some h
            obtain ⟨_, s7, h1, h⟩ := cl_some h
            refine v_callV0 cok6 (As := [vi v1]) er ka (tX8_hasSnapshot h1) (lw_V q1854 q1856 qs133 q167 q1857) rfl dsX8_hasSnapshot ⟨Nat.le_of_ble_eq_true rfl, Nat.le_of_ble_eq_true rfl⟩ (Nat.le_of_ble_eq_true rfl) dX8_isHanded_150 rfl ?_
            refine v_goto (tgt := 161) dX8_isHanded_153 (by decide) ?_
            exact v_retV h dX8_isHanded_161 rfl
          · rw [if_neg c4] at h
            refine v_tabOut (tgt := 156) dX8_isHanded_80 (tab_out (fun j h1 h2 => ?_) (by decide) (by decide)) (by decide) ?_
            · rcases (show j = 0 ∨ j = 1 ∨ j = 2 ∨ j = 3 ∨ j = 4 by omega) with rfl | rfl | rfl | rfl | rfl
              · exact c0
              · exact c1
              · exact c2
              · exact c3
              · exact c4
            refine v_al0 dX8_isHanded_156 ?_
            refine v_il1 dX8_isHanded_157 ?_
            obtain ⟨b158, er, ka, h⟩ := cV_some h
            obtain ⟨_, s8, h1, h⟩ := cl_some h
            refine v_callV0 cok6 (As := [vi v1]) er ka (tX8_hearsOfSnapshot h1) (lw_V q1858 q1860 qs134 q167 q1861) rfl dsX8_hearsOfSnapshot ⟨Nat.le_of_ble_eq_true rfl, Nat.le_of_ble_eq_true rfl⟩ (Nat.le_of_ble_eq_true rfl) dX8_isHanded_158 rfl ?_
            exact v_retV h dX8_isHanded_161 rfl
theorem lX8_isHanded {E : EE} {G : GG} {v0 : Option Nat} {σ : Mem} {z : Unit × Mem} (h : sX8_isHanded v0 σ = some z) : V E mX8_isHanded G 0 [some (vr v0), none] [] σ (none, z.2) := by
  unfold sX8_isHanded at h
  refine v_al0 dX8_isHanded_0 ?_
  refine v_gR cok6 h dX8_isHanded_1 (by decide) q1405 rfl (fun x1 h => ?_)
  refine v_iconst dX8_isHanded_4 ?_
  refine v_aI h dX8_isHanded_5 (fun x2 h => ?_)
  refine v_istore_n (L' := [some (vr v0), some (vi x2)]) dX8_isHanded_6 (Nat.le_of_ble_eq_true rfl) (Nat.le_of_ble_eq_true rfl) rfl ?_
  refine v_al0 dX8_isHanded_7 ?_
  refine v_il1 dX8_isHanded_8 ?_
  obtain ⟨b9, er, ka, h⟩ := cV_some h
  obtain ⟨x3, s4, h1, h⟩ := cl_some h
  refine v_callV1 cok6 (As := [vi x2]) er ka (tX8_isUp h1) (lw_V q1658 q1660 qs88 q167 q1661) rfl dsX8_isUp ⟨Nat.le_of_ble_eq_true rfl, Nat.le_of_ble_eq_true rfl⟩ (Nat.le_of_ble_eq_true rfl) dX8_isHanded_9 rfl ?_
  refine v_if_eq (tgt := 29) dX8_isHanded_12 (by decide) (fun c => ?_) (fun c => ?_)
  · rw [if_pos c] at h
    exact v_weak (wss (wsn wse)) (lX8_isHanded_29 h)
  · rw [if_neg c] at h
    refine v_al0 dX8_isHanded_15 ?_
    refine v_il1 dX8_isHanded_16 ?_
    refine v_al0 dX8_isHanded_17 ?_
    refine v_gR cok6 h dX8_isHanded_18 (by decide) q1405 rfl (fun x5 h => ?_)
    refine v_iconst dX8_isHanded_21 ?_
    refine v_aI h dX8_isHanded_22 (fun x6 h => ?_)
    obtain ⟨b23, er, ka, h⟩ := cV_some h
    obtain ⟨x7, s8, h1, h⟩ := cl_some h
    refine v_callV1 cok6 (As := [vi x2, vi x6]) er ka (tX8_areLinked h1) (lw_V q1665 q1667 qs89 q167 q1668) rfl dsX8_areLinked ⟨Nat.le_of_ble_eq_true rfl, Nat.le_of_ble_eq_true rfl⟩ (Nat.le_of_ble_eq_true rfl) dX8_isHanded_23 rfl ?_
    refine v_if_ne (tgt := 34) dX8_isHanded_26 (by decide) (fun c => ?_) (fun c => ?_)
    · rw [if_neg c] at h
      refine v_al0 dX8_isHanded_34 ?_
      refine v_gR cok6 h dX8_isHanded_35 (by decide) q1405 rfl (fun x9 h => ?_)
      refine v_iconst dX8_isHanded_38 ?_
      refine v_aI h dX8_isHanded_39 (fun x10 h => ?_)
      refine v_al0 dX8_isHanded_40 ?_
      refine v_il1 dX8_isHanded_41 ?_
      refine v_iconst dX8_isHanded_42 ?_
      obtain ⟨b43, er, ka, h⟩ := cV_some h
      obtain ⟨x11, s12, h1, h⟩ := cl_some h
      refine v_callV1 cok6 (As := [vi x2, vi (iI 1)]) er ka (tX8_the h1) (lw_V q1385 q1387 qs60 q167 q1388) rfl dsX8_the ⟨Nat.le_of_ble_eq_true rfl, Nat.le_of_ble_eq_true rfl⟩ (Nat.le_of_ble_eq_true rfl) dX8_isHanded_43 rfl ?_
      refine v_icmp_le (tgt := 74) dX8_isHanded_46 (by decide) (fun c => ?_) (fun c => ?_)
      · rw [if_pos c] at h
        exact v_weak (wss (wss wse)) (lX8_isHanded_74 h)
      · rw [if_neg c] at h
        refine v_al0 dX8_isHanded_49 ?_
        refine v_il1 dX8_isHanded_50 ?_
        refine v_iconst dX8_isHanded_51 ?_
        refine v_al0 dX8_isHanded_52 ?_
        refine v_gR cok6 h dX8_isHanded_53 (by decide) q1405 rfl (fun x13 h => ?_)
        refine v_iconst dX8_isHanded_56 ?_
        refine v_aI h dX8_isHanded_57 (fun x14 h => ?_)
        obtain ⟨b58, er, ka, h⟩ := cV_some h
        obtain ⟨_, s15, h1, h⟩ := cl_some h
        refine v_callV0 cok6 (As := [vi x2, vi (iI 1), vi x14]) er ka (tX8_sets h1) (lw_V q1372 q1374 qs57 q167 q1375) rfl dsX8_sets ⟨Nat.le_of_ble_eq_true rfl, Nat.le_of_ble_eq_true rfl⟩ (Nat.le_of_ble_eq_true rfl) dX8_isHanded_58 rfl ?_
        refine v_al0 dX8_isHanded_61 ?_
        refine v_il1 dX8_isHanded_62 ?_
        refine v_iconst dX8_isHanded_63 ?_
        refine v_iconst dX8_isHanded_64 ?_
        obtain ⟨b65, er, ka, h⟩ := cV_some h
        obtain ⟨_, s16, h1, h⟩ := cl_some h
        refine v_callV0 cok6 (As := [vi x2, vi (iI 2), vi (iI (-1))]) er ka (tX8_sets h1) (lw_V q1372 q1374 qs57 q167 q1375) rfl dsX8_sets ⟨Nat.le_of_ble_eq_true rfl, Nat.le_of_ble_eq_true rfl⟩ (Nat.le_of_ble_eq_true rfl) dX8_isHanded_65 rfl ?_
        refine v_al0 dX8_isHanded_68 ?_
        refine v_il1 dX8_isHanded_69 ?_
        refine v_iconst dX8_isHanded_70 ?_
        obtain ⟨b71, er, ka, h⟩ := cV_some h
        obtain ⟨_, s17, h1, h⟩ := cl_some h
        refine v_callV0 cok6 (As := [vi x2, vi (iI (-1))]) er ka (tX8_follows h1) (lw_V q1680 q1682 qs91 q167 q1683) rfl dsX8_follows ⟨Nat.le_of_ble_eq_true rfl, Nat.le_of_ble_eq_true rfl⟩ (Nat.le_of_ble_eq_true rfl) dX8_isHanded_71 rfl ?_
        exact v_weak (wss (wss wse)) (lX8_isHanded_74 h)
    · rw [if_pos c] at h
      exact v_weak (wss (wsn wse)) (lX8_isHanded_29 h)
theorem tX8_isHanded {E : EE} {l : Launch} {v0 : Option Nat} {σ : Mem} {z : Unit × Mem} (h : sX8_isHanded v0 σ = some z) : Mt E l mX8_isHanded [vr v0] σ (none, z.2) :=
  Mt.ofVL (by decide) (Nat.le_of_ble_eq_true rfl) (fun G hG => lX8_isHanded h)
abbrev mX8_stands : MM := (yX8_stands, cX8_stands, 3, (Option.none : Option Jvm.ClassFile.FieldType), 9, 212)
theorem dsX8_stands : DsOk yX8_stands 1 := ⟨by decide, by decide, by decide +kernel⟩
theorem lX8_stands_24 {E : EE} {G : GG} {v0 : Option Nat} {v1 : Int32} {σ : Mem} {z : Unit × Mem} (h : sX8_stands_24 v0 v1 σ = some z) : V E mX8_stands G 24 [some (vr v0), some (vi v1), none] [] σ (none, z.2) := by
  unfold sX8_stands_24 at h
  refine v_al0 dX8_stands_24 ?_
  refine v_il1 dX8_stands_25 ?_
  obtain ⟨b26, er, ka, h⟩ := cV_some h
  obtain ⟨_, s1, h1, h⟩ := cl_some h
  refine v_callV0 cok6 (As := [vi v1]) er ka (tX8_setsTimer h1) (lw_V q1376 q1378 qs58 q167 q1379) rfl dsX8_setsTimer ⟨Nat.le_of_ble_eq_true rfl, Nat.le_of_ble_eq_true rfl⟩ (Nat.le_of_ble_eq_true rfl) dX8_stands_26 rfl ?_
  exact v_retV h dX8_stands_29 rfl
theorem lX8_stands_170 {E : EE} {G : GG} {k104 : Option Nat → Int32 → Int32 → Mem → Option (Unit × Mem)} (hk104 : ∀ (v0 : Option Nat) (v1 : Int32) (v2 : Int32) (s : Mem) (z : Unit × Mem), k104 v0 v1 v2 s = some z → V E mX8_stands G 104 [some (vr v0), some (vi v1), some (vi v2)] [] s (none, z.2)) {v0 : Option Nat} {v1 : Int32} {v2 : Int32} {σ : Mem} {z : Unit × Mem} (h : sX8_stands_170 k104 v0 v1 v2 σ = some z) : V E mX8_stands G 170 [some (vr v0), some (vi v1), some (vi v2)] [] σ (none, z.2) := by
  unfold sX8_stands_170 at h
  refine v_iinc (L' := [some (vr v0), some (vi v1), some (vi (v2 + iI 1))]) dX8_stands_170 (Nat.le_of_ble_eq_true rfl) rfl rfl ?_
  refine v_goto (tgt := 104) dX8_stands_173 (by decide) ?_
  exact v_weak (wss (wss (wss wse))) (hk104 _ _ _ _ _ h)
theorem lX8_stands_104b {E : EE} {G : GG} {k104 : Option Nat → Int32 → Int32 → Mem → Option (Unit × Mem)} (hk104 : ∀ (v0 : Option Nat) (v1 : Int32) (v2 : Int32) (s : Mem) (z : Unit × Mem), k104 v0 v1 v2 s = some z → V E mX8_stands G 104 [some (vr v0), some (vi v1), some (vi v2)] [] s (none, z.2)) {v0 : Option Nat} {v1 : Int32} {v2 : Int32} {σ : Mem} {z : Unit × Mem} (h : sX8_stands_104b k104 v0 v1 v2 σ = some z) : V E mX8_stands G 104 [some (vr v0), some (vi v1), some (vi v2)] [] σ (none, z.2) := by
  unfold sX8_stands_104b at h
  refine v_il2 dX8_stands_104 ?_
  refine v_bipush dX8_stands_105 rfl ?_
  refine v_icmp_ge (tgt := 176) dX8_stands_107 (by decide) (fun c => ?_) (fun c => ?_)
  · rw [if_pos c] at h
    exact v_retV h dX8_stands_176 rfl
  · rw [if_neg c] at h
    refine v_il2 dX8_stands_110 ?_
    refine v_il1 dX8_stands_111 ?_
    refine v_icmp_eq (tgt := 170) dX8_stands_112 (by decide) (fun c => ?_) (fun c => ?_)
    · rw [if_pos c] at h
      exact v_weak (wss (wss (wss wse))) (lX8_stands_170 hk104 h)
    · rw [if_neg c] at h
      refine v_al0 dX8_stands_115 ?_
      refine v_il1 dX8_stands_116 ?_
      obtain ⟨b117, er, ka, h⟩ := cV_some h
      obtain ⟨x1, s2, h1, h⟩ := cl_some h
      refine v_callV1 cok6 (As := [vi v1]) er ka (tX8_membersOf h1) (lw_V q1778 q1780 qs114 q167 q1781) rfl dsX8_membersOf ⟨Nat.le_of_ble_eq_true rfl, Nat.le_of_ble_eq_true rfl⟩ (Nat.le_of_ble_eq_true rfl) dX8_stands_117 rfl ?_
      refine v_il2 dX8_stands_120 ?_
      obtain ⟨x3, s4, h1, h⟩ := cl_some h
      refine v_callS1 (As := [vi x1, vi v2]) (tX8_has h1) (lw_S q1669 q1670 q167 q1671) dsX8_has ⟨Nat.le_of_ble_eq_true rfl, Nat.le_of_ble_eq_true rfl⟩ (Nat.le_of_ble_eq_true rfl) dX8_stands_121 rfl ?_
      refine v_if_ne (tgt := 130) dX8_stands_124 (by decide) (fun c => ?_) (fun c => ?_)
      · rw [if_neg c] at h
        refine v_al0 dX8_stands_130 ?_
        refine v_il1 dX8_stands_131 ?_
        refine v_il2 dX8_stands_132 ?_
        refine v_iconst dX8_stands_133 ?_
        obtain ⟨b134, er, ka, h⟩ := cV_some h
        obtain ⟨_, s5, h1, h⟩ := cl_some h
        refine v_callV0 cok6 (As := [vi v1, vi v2, vi (iI 0)]) er ka (tX8_beginsMail h1) (lw_V q1712 q1714 qs99 q167 q1715) rfl dsX8_beginsMail ⟨Nat.le_of_ble_eq_true rfl, Nat.le_of_ble_eq_true rfl⟩ (Nat.le_of_ble_eq_true rfl) dX8_stands_134 rfl ?_
        refine v_al0 dX8_stands_137 ?_
        refine v_gR cok6 h dX8_stands_138 (by decide) q1404 rfl (fun x6 h => ?_)
        refine v_bipush dX8_stands_141 rfl ?_
        refine v_al0 dX8_stands_143 ?_
        refine v_il1 dX8_stands_144 ?_
        obtain ⟨b145, er, ka, h⟩ := cV_some h
        obtain ⟨x7, s8, h1, h⟩ := cl_some h
        refine v_callV1 cok6 (As := [vi v1]) er ka (tX8_lastOf h1) (lw_V q1696 q1698 qs95 q167 q1699) rfl dsX8_lastOf ⟨Nat.le_of_ble_eq_true rfl, Nat.le_of_ble_eq_true rfl⟩ (Nat.le_of_ble_eq_true rfl) dX8_stands_145 rfl ?_
        refine v_sI h dX8_stands_148 (fun s9 h => ?_)
        refine v_al0 dX8_stands_149 ?_
        refine v_gR cok6 h dX8_stands_150 (by decide) q1404 rfl (fun x10 h => ?_)
        refine v_bipush dX8_stands_153 rfl ?_
        refine v_al0 dX8_stands_155 ?_
        refine v_il1 dX8_stands_156 ?_
        refine v_al0 dX8_stands_157 ?_
        refine v_il1 dX8_stands_158 ?_
        obtain ⟨b159, er, ka, h⟩ := cV_some h
        obtain ⟨x11, s12, h1, h⟩ := cl_some h
        refine v_callV1 cok6 (As := [vi v1]) er ka (tX8_lastOf h1) (lw_V q1696 q1698 qs95 q167 q1699) rfl dsX8_lastOf ⟨Nat.le_of_ble_eq_true rfl, Nat.le_of_ble_eq_true rfl⟩ (Nat.le_of_ble_eq_true rfl) dX8_stands_159 rfl ?_
        obtain ⟨b162, er, ka, h⟩ := cV_some h
        obtain ⟨x13, s14, h1, h⟩ := cl_some h
        refine v_callV1 cok6 (As := [vi v1, vi x11]) er ka (tX8_termAt h1) (lw_V q1700 q1702 qs96 q167 q1703) rfl dsX8_termAt ⟨Nat.le_of_ble_eq_true rfl, Nat.le_of_ble_eq_true rfl⟩ (Nat.le_of_ble_eq_true rfl) dX8_stands_162 rfl ?_
        refine v_sI h dX8_stands_165 (fun s15 h => ?_)
        refine v_al0 dX8_stands_166 ?_
        obtain ⟨b167, er, ka, h⟩ := cV_some h
        obtain ⟨_, s16, h1, h⟩ := cl_some h
        refine v_callV0 cok6 (As := []) er ka (tX8_posts h1) (lw_V q1716 q1718 qs100 q167 q1719) rfl dsX8_posts ⟨Nat.le_of_ble_eq_true rfl, Nat.le_of_ble_eq_true rfl⟩ (Nat.le_of_ble_eq_true rfl) dX8_stands_167 rfl ?_
        exact v_weak (wss (wss (wss wse))) (lX8_stands_170 hk104 h)
      · rw [if_pos c] at h
        refine v_goto (tgt := 170) dX8_stands_127 (by decide) ?_
        exact v_weak (wss (wss (wss wse))) (lX8_stands_170 hk104 h)
theorem lX8_stands_104 {E : EE} {G : GG} : ∀ (f : Nat) {v0 : Option Nat} {v1 : Int32} {v2 : Int32} {σ : Mem} {z : Unit × Mem}, sX8_stands_104 f v0 v1 v2 σ = some z → V E mX8_stands G 104 [some (vr v0), some (vi v1), some (vi v2)] [] σ (none, z.2)
  | 0, _, _, _, _, _, h => by cases h
  | f + 1, _, _, _, _, _, h => lX8_stands_104b (fun _ _ _ _ _ h => lX8_stands_104 f h) h
theorem lX8_stands {E : EE} {G : GG} {v0 : Option Nat} {v1 : Int32} {σ : Mem} {z : Unit × Mem} (h : sX8_stands v0 v1 σ = some z) : V E mX8_stands G 0 [some (vr v0), some (vi v1), none] [] σ (none, z.2) := by
  unfold sX8_stands at h
  refine v_al0 dX8_stands_0 ?_
  refine v_il1 dX8_stands_1 ?_
  obtain ⟨b2, er, ka, h⟩ := cV_some h
  obtain ⟨x1, s2, h1, h⟩ := cl_some h
  refine v_callV1 cok6 (As := [vi v1]) er ka (tX8_membersOf h1) (lw_V q1778 q1780 qs114 q167 q1781) rfl dsX8_membersOf ⟨Nat.le_of_ble_eq_true rfl, Nat.le_of_ble_eq_true rfl⟩ (Nat.le_of_ble_eq_true rfl) dX8_stands_2 rfl ?_
  refine v_il1 dX8_stands_5 ?_
  obtain ⟨x3, s4, h1, h⟩ := cl_some h
  refine v_callS1 (As := [vi x1, vi v1]) (tX8_has h1) (lw_S q1669 q1670 q167 q1671) dsX8_has ⟨Nat.le_of_ble_eq_true rfl, Nat.le_of_ble_eq_true rfl⟩ (Nat.le_of_ble_eq_true rfl) dX8_stands_6 rfl ?_
  refine v_if_eq (tgt := 24) dX8_stands_9 (by decide) (fun c => ?_) (fun c => ?_)
  · rw [if_pos c] at h
    exact v_weak (wss (wss (wsn wse))) (lX8_stands_24 h)
  · rw [if_neg c] at h
    refine v_al0 dX8_stands_12 ?_
    refine v_il1 dX8_stands_13 ?_
    refine v_iconst dX8_stands_14 ?_
    obtain ⟨b15, er, ka, h⟩ := cV_some h
    obtain ⟨x5, s6, h1, h⟩ := cl_some h
    refine v_callV1 cok6 (As := [vi v1, vi (iI 1)]) er ka (tX8_the h1) (lw_V q1385 q1387 qs60 q167 q1388) rfl dsX8_the ⟨Nat.le_of_ble_eq_true rfl, Nat.le_of_ble_eq_true rfl⟩ (Nat.le_of_ble_eq_true rfl) dX8_stands_15 rfl ?_
    refine v_sipush dX8_stands_18 rfl ?_
    refine v_icmp_ne (tgt := 30) dX8_stands_21 (by decide) (fun c => ?_) (fun c => ?_)
    · rw [if_neg c] at h
      refine v_al0 dX8_stands_30 ?_
      refine v_il1 dX8_stands_31 ?_
      refine v_iconst dX8_stands_32 ?_
      refine v_al0 dX8_stands_33 ?_
      refine v_il1 dX8_stands_34 ?_
      refine v_iconst dX8_stands_35 ?_
      obtain ⟨b36, er, ka, h⟩ := cV_some h
      obtain ⟨x7, s8, h1, h⟩ := cl_some h
      refine v_callV1 cok6 (As := [vi v1, vi (iI 1)]) er ka (tX8_the h1) (lw_V q1385 q1387 qs60 q167 q1388) rfl dsX8_the ⟨Nat.le_of_ble_eq_true rfl, Nat.le_of_ble_eq_true rfl⟩ (Nat.le_of_ble_eq_true rfl) dX8_stands_36 rfl ?_
      refine v_iconst dX8_stands_39 ?_
      refine v_iadd dX8_stands_40 ?_
      obtain ⟨b41, er, ka, h⟩ := cV_some h
      obtain ⟨_, s9, h1, h⟩ := cl_some h
      refine v_callV0 cok6 (As := [vi v1, vi (iI 1), vi (x7 + (iI 1))]) er ka (tX8_sets h1) (lw_V q1372 q1374 qs57 q167 q1375) rfl dsX8_sets ⟨Nat.le_of_ble_eq_true rfl, Nat.le_of_ble_eq_true rfl⟩ (Nat.le_of_ble_eq_true rfl) dX8_stands_41 rfl ?_
      refine v_al0 dX8_stands_44 ?_
      refine v_il1 dX8_stands_45 ?_
      refine v_iconst dX8_stands_46 ?_
      refine v_iconst dX8_stands_47 ?_
      obtain ⟨b48, er, ka, h⟩ := cV_some h
      obtain ⟨_, s10, h1, h⟩ := cl_some h
      refine v_callV0 cok6 (As := [vi v1, vi (iI 3), vi (iI 1)]) er ka (tX8_sets h1) (lw_V q1372 q1374 qs57 q167 q1375) rfl dsX8_sets ⟨Nat.le_of_ble_eq_true rfl, Nat.le_of_ble_eq_true rfl⟩ (Nat.le_of_ble_eq_true rfl) dX8_stands_48 rfl ?_
      refine v_al0 dX8_stands_51 ?_
      refine v_il1 dX8_stands_52 ?_
      refine v_iconst dX8_stands_53 ?_
      refine v_il1 dX8_stands_54 ?_
      obtain ⟨b55, er, ka, h⟩ := cV_some h
      obtain ⟨_, s11, h1, h⟩ := cl_some h
      refine v_callV0 cok6 (As := [vi v1, vi (iI 2), vi v1]) er ka (tX8_sets h1) (lw_V q1372 q1374 qs57 q167 q1375) rfl dsX8_sets ⟨Nat.le_of_ble_eq_true rfl, Nat.le_of_ble_eq_true rfl⟩ (Nat.le_of_ble_eq_true rfl) dX8_stands_55 rfl ?_
      refine v_al0 dX8_stands_58 ?_
      refine v_il1 dX8_stands_59 ?_
      refine v_bipush dX8_stands_60 rfl ?_
      refine v_iconst dX8_stands_62 ?_
      refine v_il1 dX8_stands_63 ?_
      refine v_ishl dX8_stands_64 ?_
      obtain ⟨b65, er, ka, h⟩ := cV_some h
      obtain ⟨_, s12, h1, h⟩ := cl_some h
      refine v_callV0 cok6 (As := [vi v1, vi (iI 12), vi ((iI 1) <<< (v1 &&& 31))]) er ka (tX8_sets h1) (lw_V q1372 q1374 qs57 q167 q1375) rfl dsX8_sets ⟨Nat.le_of_ble_eq_true rfl, Nat.le_of_ble_eq_true rfl⟩ (Nat.le_of_ble_eq_true rfl) dX8_stands_65 rfl ?_
      refine v_al0 dX8_stands_68 ?_
      refine v_il1 dX8_stands_69 ?_
      refine v_bipush dX8_stands_70 rfl ?_
      refine v_iconst dX8_stands_72 ?_
      obtain ⟨b73, er, ka, h⟩ := cV_some h
      obtain ⟨_, s13, h1, h⟩ := cl_some h
      refine v_callV0 cok6 (As := [vi v1, vi (iI 11), vi (iI (-1))]) er ka (tX8_sets h1) (lw_V q1372 q1374 qs57 q167 q1375) rfl dsX8_sets ⟨Nat.le_of_ble_eq_true rfl, Nat.le_of_ble_eq_true rfl⟩ (Nat.le_of_ble_eq_true rfl) dX8_stands_73 rfl ?_
      refine v_al0 dX8_stands_76 ?_
      refine v_il1 dX8_stands_77 ?_
      obtain ⟨b78, er, ka, h⟩ := cV_some h
      obtain ⟨_, s14, h1, h⟩ := cl_some h
      refine v_callV0 cok6 (As := [vi v1]) er ka (tX8_setsTimer h1) (lw_V q1376 q1378 qs58 q167 q1379) rfl dsX8_setsTimer ⟨Nat.le_of_ble_eq_true rfl, Nat.le_of_ble_eq_true rfl⟩ (Nat.le_of_ble_eq_true rfl) dX8_stands_78 rfl ?_
      refine v_al0 dX8_stands_81 ?_
      refine v_il1 dX8_stands_82 ?_
      refine v_al0 dX8_stands_83 ?_
      refine v_il1 dX8_stands_84 ?_
      refine v_bipush dX8_stands_85 rfl ?_
      obtain ⟨b87, er, ka, h⟩ := cV_some h
      obtain ⟨x15, s16, h1, h⟩ := cl_some h
      refine v_callV1 cok6 (As := [vi v1, vi (iI 12)]) er ka (tX8_the h1) (lw_V q1385 q1387 qs60 q167 q1388) rfl dsX8_the ⟨Nat.le_of_ble_eq_true rfl, Nat.le_of_ble_eq_true rfl⟩ (Nat.le_of_ble_eq_true rfl) dX8_stands_87 rfl ?_
      obtain ⟨b90, er, ka, h⟩ := cV_some h
      obtain ⟨x17, s18, h1, h⟩ := cl_some h
      refine v_callV1 cok6 (As := [vi v1, vi x15]) er ka (tX8_isMost h1) (lw_V q1728 q1730 qs103 q167 q1731) rfl dsX8_isMost ⟨Nat.le_of_ble_eq_true rfl, Nat.le_of_ble_eq_true rfl⟩ (Nat.le_of_ble_eq_true rfl) dX8_stands_90 rfl ?_
      refine v_if_eq (tgt := 102) dX8_stands_93 (by decide) (fun c => ?_) (fun c => ?_)
      · rw [if_pos c] at h
        refine v_iconst dX8_stands_102 ?_
        refine v_istore_n (L' := [some (vr v0), some (vi v1), some (vi (iI 0))]) dX8_stands_103 (Nat.le_of_ble_eq_true rfl) (Nat.le_of_ble_eq_true rfl) rfl ?_
        exact v_weak (wss (wss (wss wse))) (lX8_stands_104 FU h)
      · rw [if_neg c] at h
        refine v_al0 dX8_stands_96 ?_
        refine v_il1 dX8_stands_97 ?_
        obtain ⟨b98, er, ka, h⟩ := cV_some h
        obtain ⟨_, s19, h1, h⟩ := cl_some h
        refine v_callV0 cok6 (As := [vi v1]) er ka (tX8_leads h1) (lw_V q1747 q1749 qs107 q167 q1750) rfl dsX8_leads ⟨Nat.le_of_ble_eq_true rfl, Nat.le_of_ble_eq_true rfl⟩ (Nat.le_of_ble_eq_true rfl) dX8_stands_98 rfl ?_
        exact v_retV h dX8_stands_101 rfl
    · rw [if_pos c] at h
      exact v_weak (wss (wss (wsn wse))) (lX8_stands_24 h)
theorem tX8_stands {E : EE} {l : Launch} {v0 : Option Nat} {v1 : Int32} {σ : Mem} {z : Unit × Mem} (h : sX8_stands v0 v1 σ = some z) : Mt E l mX8_stands [vr v0, vi v1] σ (none, z.2) :=
  Mt.ofVL (by decide) (Nat.le_of_ble_eq_true rfl) (fun G hG => lX8_stands h)
abbrev mX8_asksAll : MM := (yX8_asksAll, cX8_asksAll, 2, (Option.none : Option Jvm.ClassFile.FieldType), 6, 145)
theorem dsX8_asksAll : DsOk yX8_asksAll 1 := ⟨by decide, by decide, by decide +kernel⟩
theorem lX8_asksAll {E : EE} {G : GG} {v0 : Option Nat} {v1 : Int32} {σ : Mem} {z : Unit × Mem} (h : sX8_asksAll v0 v1 σ = some z) : V E mX8_asksAll G 0 [some (vr v0), some (vi v1)] [] σ (none, z.2) := by
  unfold sX8_asksAll at h
  refine v_al0 dX8_asksAll_0 ?_
  refine v_il1 dX8_asksAll_1 ?_
  refine v_bipush dX8_asksAll_2 rfl ?_
  refine v_iconst dX8_asksAll_4 ?_
  obtain ⟨b5, er, ka, h⟩ := cV_some h
  obtain ⟨_, s1, h1, h⟩ := cl_some h
  refine v_callV0 cok6 (As := [vi v1, vi (iI 14), vi (iI 0)]) er ka (tX8_sets h1) (lw_V q1372 q1374 qs57 q167 q1375) rfl dsX8_sets ⟨Nat.le_of_ble_eq_true rfl, Nat.le_of_ble_eq_true rfl⟩ (Nat.le_of_ble_eq_true rfl) dX8_asksAll_5 rfl ?_
  refine v_al0 dX8_asksAll_8 ?_
  refine v_il1 dX8_asksAll_9 ?_
  refine v_bipush dX8_asksAll_10 rfl ?_
  refine v_al0 dX8_asksAll_12 ?_
  refine v_il1 dX8_asksAll_13 ?_
  refine v_bipush dX8_asksAll_14 rfl ?_
  obtain ⟨b16, er, ka, h⟩ := cV_some h
  obtain ⟨x2, s3, h1, h⟩ := cl_some h
  refine v_callV1 cok6 (As := [vi v1, vi (iI 13)]) er ka (tX8_the h1) (lw_V q1385 q1387 qs60 q167 q1388) rfl dsX8_the ⟨Nat.le_of_ble_eq_true rfl, Nat.le_of_ble_eq_true rfl⟩ (Nat.le_of_ble_eq_true rfl) dX8_asksAll_16 rfl ?_
  refine v_iconst dX8_asksAll_19 ?_
  refine v_iadd dX8_asksAll_20 ?_
  obtain ⟨b21, er, ka, h⟩ := cV_some h
  obtain ⟨_, s4, h1, h⟩ := cl_some h
  refine v_callV0 cok6 (As := [vi v1, vi (iI 13), vi (x2 + (iI 1))]) er ka (tX8_sets h1) (lw_V q1372 q1374 qs57 q167 q1375) rfl dsX8_sets ⟨Nat.le_of_ble_eq_true rfl, Nat.le_of_ble_eq_true rfl⟩ (Nat.le_of_ble_eq_true rfl) dX8_asksAll_21 rfl ?_
  refine v_al0 dX8_asksAll_24 ?_
  refine v_il1 dX8_asksAll_25 ?_
  obtain ⟨b26, er, ka, h⟩ := cV_some h
  obtain ⟨_, s5, h1, h⟩ := cl_some h
  refine v_callV0 cok6 (As := [vi v1]) er ka (tX8_sendsToAll h1) (lw_V q1774 q1776 qs113 q167 q1777) rfl dsX8_sendsToAll ⟨Nat.le_of_ble_eq_true rfl, Nat.le_of_ble_eq_true rfl⟩ (Nat.le_of_ble_eq_true rfl) dX8_asksAll_26 rfl ?_
  exact v_retV h dX8_asksAll_29 rfl
theorem tX8_asksAll {E : EE} {l : Launch} {v0 : Option Nat} {v1 : Int32} {σ : Mem} {z : Unit × Mem} (h : sX8_asksAll v0 v1 σ = some z) : Mt E l mX8_asksAll [vr v0, vi v1] σ (none, z.2) :=
  Mt.ofVL (by decide) (Nat.le_of_ble_eq_true rfl) (fun G hG => lX8_asksAll h)
abbrev mX8_nodeGoes : MM := (yX8_nodeGoes, cX8_nodeGoes, 2, (Option.none : Option Jvm.ClassFile.FieldType), 10, 234)
theorem dsX8_nodeGoes : DsOk yX8_nodeGoes 1 := ⟨by decide, by decide, by decide +kernel⟩
theorem lX8_nodeGoes {E : EE} {G : GG} {v0 : Option Nat} {v1 : Int32} {σ : Mem} {z : Unit × Mem} (h : sX8_nodeGoes v0 v1 σ = some z) : V E mX8_nodeGoes G 0 [some (vr v0), some (vi v1)] [] σ (none, z.2) := by
  unfold sX8_nodeGoes at h
  refine v_al0 dX8_nodeGoes_0 ?_
  refine v_il1 dX8_nodeGoes_1 ?_
  refine v_iconst dX8_nodeGoes_2 ?_
  obtain ⟨b3, er, ka, h⟩ := cV_some h
  obtain ⟨x1, s2, h1, h⟩ := cl_some h
  refine v_callV1 cok6 (As := [vi v1, vi (iI 3)]) er ka (tX8_the h1) (lw_V q1385 q1387 qs60 q167 q1388) rfl dsX8_the ⟨Nat.le_of_ble_eq_true rfl, Nat.le_of_ble_eq_true rfl⟩ (Nat.le_of_ble_eq_true rfl) dX8_nodeGoes_3 rfl ?_
  refine v_iconst dX8_nodeGoes_6 ?_
  refine v_icmp_eq (tgt := 42) dX8_nodeGoes_7 (by decide) (fun c => ?_) (fun c => ?_)
  · rw [if_pos c] at h
    refine v_al0 dX8_nodeGoes_42 ?_
    refine v_il1 dX8_nodeGoes_43 ?_
    refine v_bipush dX8_nodeGoes_44 rfl ?_
    refine v_al0 dX8_nodeGoes_46 ?_
    refine v_il1 dX8_nodeGoes_47 ?_
    refine v_bipush dX8_nodeGoes_48 rfl ?_
    obtain ⟨b50, er, ka, h⟩ := cV_some h
    obtain ⟨x3, s4, h1, h⟩ := cl_some h
    refine v_callV1 cok6 (As := [vi v1, vi (iI 14)]) er ka (tX8_the h1) (lw_V q1385 q1387 qs60 q167 q1388) rfl dsX8_the ⟨Nat.le_of_ble_eq_true rfl, Nat.le_of_ble_eq_true rfl⟩ (Nat.le_of_ble_eq_true rfl) dX8_nodeGoes_50 rfl ?_
    refine v_iconst dX8_nodeGoes_53 ?_
    refine v_iadd dX8_nodeGoes_54 ?_
    obtain ⟨b55, er, ka, h⟩ := cV_some h
    obtain ⟨_, s5, h1, h⟩ := cl_some h
    refine v_callV0 cok6 (As := [vi v1, vi (iI 14), vi (x3 + (iI 1))]) er ka (tX8_sets h1) (lw_V q1372 q1374 qs57 q167 q1375) rfl dsX8_sets ⟨Nat.le_of_ble_eq_true rfl, Nat.le_of_ble_eq_true rfl⟩ (Nat.le_of_ble_eq_true rfl) dX8_nodeGoes_55 rfl ?_
    refine v_al0 dX8_nodeGoes_58 ?_
    refine v_il1 dX8_nodeGoes_59 ?_
    refine v_bipush dX8_nodeGoes_60 rfl ?_
    obtain ⟨b62, er, ka, h⟩ := cV_some h
    obtain ⟨x6, s7, h1, h⟩ := cl_some h
    refine v_callV1 cok6 (As := [vi v1, vi (iI 14)]) er ka (tX8_the h1) (lw_V q1385 q1387 qs60 q167 q1388) rfl dsX8_the ⟨Nat.le_of_ble_eq_true rfl, Nat.le_of_ble_eq_true rfl⟩ (Nat.le_of_ble_eq_true rfl) dX8_nodeGoes_62 rfl ?_
    refine v_iconst dX8_nodeGoes_65 ?_
    refine v_icmp_ge (tgt := 70) dX8_nodeGoes_66 (by decide) (fun c => ?_) (fun c => ?_)
    · rw [if_pos c] at h
      refine v_al0 dX8_nodeGoes_70 ?_
      refine v_il1 dX8_nodeGoes_71 ?_
      obtain ⟨b72, er, ka, h⟩ := cV_some h
      obtain ⟨_, s8, h1, h⟩ := cl_some h
      refine v_callV0 cok6 (As := [vi v1]) er ka (tX8_asksAll h1) (lw_V q1870 q1872 qs137 q167 q1873) rfl dsX8_asksAll ⟨Nat.le_of_ble_eq_true rfl, Nat.le_of_ble_eq_true rfl⟩ (Nat.le_of_ble_eq_true rfl) dX8_nodeGoes_72 rfl ?_
      exact v_retV h dX8_nodeGoes_75 rfl
    · rw [if_neg c] at h
      exact v_retV h dX8_nodeGoes_69 rfl
  · rw [if_neg c] at h
    refine v_al0 dX8_nodeGoes_10 ?_
    refine v_il1 dX8_nodeGoes_11 ?_
    refine v_bipush dX8_nodeGoes_12 rfl ?_
    refine v_al0 dX8_nodeGoes_14 ?_
    refine v_il1 dX8_nodeGoes_15 ?_
    refine v_bipush dX8_nodeGoes_16 rfl ?_
    obtain ⟨b18, er, ka, h⟩ := cV_some h
    obtain ⟨x9, s10, h1, h⟩ := cl_some h
    refine v_callV1 cok6 (As := [vi v1, vi (iI 10)]) er ka (tX8_the h1) (lw_V q1385 q1387 qs60 q167 q1388) rfl dsX8_the ⟨Nat.le_of_ble_eq_true rfl, Nat.le_of_ble_eq_true rfl⟩ (Nat.le_of_ble_eq_true rfl) dX8_nodeGoes_18 rfl ?_
    refine v_iconst dX8_nodeGoes_21 ?_
    refine v_isub dX8_nodeGoes_22 ?_
    obtain ⟨b23, er, ka, h⟩ := cV_some h
    obtain ⟨_, s11, h1, h⟩ := cl_some h
    refine v_callV0 cok6 (As := [vi v1, vi (iI 10), vi (x9 - (iI 1))]) er ka (tX8_sets h1) (lw_V q1372 q1374 qs57 q167 q1375) rfl dsX8_sets ⟨Nat.le_of_ble_eq_true rfl, Nat.le_of_ble_eq_true rfl⟩ (Nat.le_of_ble_eq_true rfl) dX8_nodeGoes_23 rfl ?_
    refine v_al0 dX8_nodeGoes_26 ?_
    refine v_il1 dX8_nodeGoes_27 ?_
    refine v_bipush dX8_nodeGoes_28 rfl ?_
    obtain ⟨b30, er, ka, h⟩ := cV_some h
    obtain ⟨x12, s13, h1, h⟩ := cl_some h
    refine v_callV1 cok6 (As := [vi v1, vi (iI 10)]) er ka (tX8_the h1) (lw_V q1385 q1387 qs60 q167 q1388) rfl dsX8_the ⟨Nat.le_of_ble_eq_true rfl, Nat.le_of_ble_eq_true rfl⟩ (Nat.le_of_ble_eq_true rfl) dX8_nodeGoes_30 rfl ?_
    refine v_if_ne (tgt := 41) dX8_nodeGoes_33 (by decide) (fun c => ?_) (fun c => ?_)
    · rw [if_neg c] at h
      exact v_retV h dX8_nodeGoes_41 rfl
    · rw [if_pos c] at h
      refine v_al0 dX8_nodeGoes_36 ?_
      refine v_il1 dX8_nodeGoes_37 ?_
      obtain ⟨b38, er, ka, h⟩ := cV_some h
      obtain ⟨_, s14, h1, h⟩ := cl_some h
      refine v_callV0 cok6 (As := [vi v1]) er ka (tX8_stands h1) (lw_V q1866 q1868 qs136 q167 q1869) rfl dsX8_stands ⟨Nat.le_of_ble_eq_true rfl, Nat.le_of_ble_eq_true rfl⟩ (Nat.le_of_ble_eq_true rfl) dX8_nodeGoes_38 rfl ?_
      exact v_retV h dX8_nodeGoes_41 rfl
theorem tX8_nodeGoes {E : EE} {l : Launch} {v0 : Option Nat} {v1 : Int32} {σ : Mem} {z : Unit × Mem} (h : sX8_nodeGoes v0 v1 σ = some z) : Mt E l mX8_nodeGoes [vr v0, vi v1] σ (none, z.2) :=
  Mt.ofVL (by decide) (Nat.le_of_ble_eq_true rfl) (fun G hG => lX8_nodeGoes h)
abbrev mX8_tickGoes : MM := (yX8_tickGoes, cX8_tickGoes, 2, (Option.none : Option Jvm.ClassFile.FieldType), 11, 255)
theorem dsX8_tickGoes : DsOk yX8_tickGoes 0 := ⟨by decide, by decide, by decide +kernel⟩
theorem lX8_tickGoes_53 {E : EE} {G : GG} {k34 : Option Nat → Int32 → Mem → Option (Unit × Mem)} (hk34 : ∀ (v0 : Option Nat) (v1 : Int32) (s : Mem) (z : Unit × Mem), k34 v0 v1 s = some z → V E mX8_tickGoes G 34 [some (vr v0), some (vi v1)] [] s (none, z.2)) {v0 : Option Nat} {v1 : Int32} {σ : Mem} {z : Unit × Mem} (h : sX8_tickGoes_53 k34 v0 v1 σ = some z) : V E mX8_tickGoes G 53 [some (vr v0), some (vi v1)] [] σ (none, z.2) := by
  unfold sX8_tickGoes_53 at h
  refine v_iinc (L' := [some (vr v0), some (vi (v1 + iI 1))]) dX8_tickGoes_53 (Nat.le_of_ble_eq_true rfl) rfl rfl ?_
  refine v_goto (tgt := 34) dX8_tickGoes_56 (by decide) ?_
  exact v_weak (wss (wss wse)) (hk34 _ _ _ _ h)
theorem lX8_tickGoes_34b {E : EE} {G : GG} {k34 : Option Nat → Int32 → Mem → Option (Unit × Mem)} (hk34 : ∀ (v0 : Option Nat) (v1 : Int32) (s : Mem) (z : Unit × Mem), k34 v0 v1 s = some z → V E mX8_tickGoes G 34 [some (vr v0), some (vi v1)] [] s (none, z.2)) {v0 : Option Nat} {v1 : Int32} {σ : Mem} {z : Unit × Mem} (h : sX8_tickGoes_34b k34 v0 v1 σ = some z) : V E mX8_tickGoes G 34 [some (vr v0), some (vi v1)] [] σ (none, z.2) := by
  unfold sX8_tickGoes_34b at h
  refine v_il1 dX8_tickGoes_34 ?_
  refine v_bipush dX8_tickGoes_35 rfl ?_
  refine v_icmp_ge (tgt := 59) dX8_tickGoes_37 (by decide) (fun c => ?_) (fun c => ?_)
  · rw [if_pos c] at h
    exact v_retV h dX8_tickGoes_59 rfl
  · rw [if_neg c] at h
    refine v_al0 dX8_tickGoes_40 ?_
    refine v_il1 dX8_tickGoes_41 ?_
    obtain ⟨b42, er, ka, h⟩ := cV_some h
    obtain ⟨x1, s2, h1, h⟩ := cl_some h
    refine v_callV1 cok6 (As := [vi v1]) er ka (tX8_isUp h1) (lw_V q1658 q1660 qs88 q167 q1661) rfl dsX8_isUp ⟨Nat.le_of_ble_eq_true rfl, Nat.le_of_ble_eq_true rfl⟩ (Nat.le_of_ble_eq_true rfl) dX8_tickGoes_42 rfl ?_
    refine v_if_eq (tgt := 53) dX8_tickGoes_45 (by decide) (fun c => ?_) (fun c => ?_)
    · rw [if_pos c] at h
      exact v_weak (wss (wss wse)) (lX8_tickGoes_53 hk34 h)
    · rw [if_neg c] at h
      refine v_al0 dX8_tickGoes_48 ?_
      refine v_il1 dX8_tickGoes_49 ?_
      obtain ⟨b50, er, ka, h⟩ := cV_some h
      obtain ⟨_, s3, h1, h⟩ := cl_some h
      refine v_callV0 cok6 (As := [vi v1]) er ka (tX8_nodeGoes h1) (lw_V q1862 q1864 qs135 q167 q1865) rfl dsX8_nodeGoes ⟨Nat.le_of_ble_eq_true rfl, Nat.le_of_ble_eq_true rfl⟩ (Nat.le_of_ble_eq_true rfl) dX8_tickGoes_50 rfl ?_
      exact v_weak (wss (wss wse)) (lX8_tickGoes_53 hk34 h)
theorem lX8_tickGoes_34 {E : EE} {G : GG} : ∀ (f : Nat) {v0 : Option Nat} {v1 : Int32} {σ : Mem} {z : Unit × Mem}, sX8_tickGoes_34 f v0 v1 σ = some z → V E mX8_tickGoes G 34 [some (vr v0), some (vi v1)] [] σ (none, z.2)
  | 0, _, _, _, _, h => by cases h
  | f + 1, _, _, _, _, h => lX8_tickGoes_34b (fun _ _ _ _ h => lX8_tickGoes_34 f h) h
theorem lX8_tickGoes_18b {E : EE} {G : GG} {k18 : Option Nat → Mem → Option (Unit × Mem)} (hk18 : ∀ (v0 : Option Nat) (s : Mem) (z : Unit × Mem), k18 v0 s = some z → V E mX8_tickGoes G 18 [some (vr v0), none] [] s (none, z.2)) {v0 : Option Nat} {σ : Mem} {z : Unit × Mem} (h : sX8_tickGoes_18b k18 v0 σ = some z) : V E mX8_tickGoes G 18 [some (vr v0), none] [] σ (none, z.2) := by
  unfold sX8_tickGoes_18b at h
  refine v_al0 dX8_tickGoes_18 ?_
  obtain ⟨b19, er, ka, h⟩ := cV_some h
  obtain ⟨x1, s2, h1, h⟩ := cl_some h
  refine v_callV1 cok6 (As := []) er ka (tX8_takesDue h1) (lw_V q1650 q1652 qs86 q167 q1653) rfl dsX8_takesDue ⟨Nat.le_of_ble_eq_true rfl, Nat.le_of_ble_eq_true rfl⟩ (Nat.le_of_ble_eq_true rfl) dX8_tickGoes_19 rfl ?_
  refine v_if_eq (tgt := 32) dX8_tickGoes_22 (by decide) (fun c => ?_) (fun c => ?_)
  · rw [if_pos c] at h
    refine v_iconst dX8_tickGoes_32 ?_
    refine v_istore_n (L' := [some (vr v0), some (vi (iI 0))]) dX8_tickGoes_33 (Nat.le_of_ble_eq_true rfl) (Nat.le_of_ble_eq_true rfl) rfl ?_
    exact v_weak (wss (wss wse)) (lX8_tickGoes_34 FU h)
  · rw [if_neg c] at h
    refine v_al0 dX8_tickGoes_25 ?_
    obtain ⟨b26, er, ka, h⟩ := cV_some h
    obtain ⟨_, s3, h1, h⟩ := cl_some h
    refine v_callV0 cok6 (As := []) er ka (tX8_isHanded h1) (lw_V q1654 q1656 qs87 q167 q1657) rfl dsX8_isHanded ⟨Nat.le_of_ble_eq_true rfl, Nat.le_of_ble_eq_true rfl⟩ (Nat.le_of_ble_eq_true rfl) dX8_tickGoes_26 rfl ?_
    refine v_goto (tgt := 18) dX8_tickGoes_29 (by decide) ?_
    exact v_weak (wss (wsn wse)) (hk18 _ _ _ h)
theorem lX8_tickGoes_18 {E : EE} {G : GG} : ∀ (f : Nat) {v0 : Option Nat} {σ : Mem} {z : Unit × Mem}, sX8_tickGoes_18 f v0 σ = some z → V E mX8_tickGoes G 18 [some (vr v0), none] [] σ (none, z.2)
  | 0, _, _, _, h => by cases h
  | f + 1, _, _, _, h => lX8_tickGoes_18b (fun _ _ _ h => lX8_tickGoes_18 f h) h
theorem lX8_tickGoes {E : EE} {G : GG} {v0 : Option Nat} {σ : Mem} {z : Unit × Mem} (h : sX8_tickGoes v0 σ = some z) : V E mX8_tickGoes G 0 [some (vr v0), none] [] σ (none, z.2) := by
  unfold sX8_tickGoes at h
  refine v_al0 dX8_tickGoes_0 ?_
  refine v_gR cok6 h dX8_tickGoes_1 (by decide) q1401 rfl (fun x1 h => ?_)
  refine v_sipush dX8_tickGoes_4 rfl ?_
  refine v_al0 dX8_tickGoes_7 ?_
  refine v_gR cok6 h dX8_tickGoes_8 (by decide) q1401 rfl (fun x2 h => ?_)
  refine v_sipush dX8_tickGoes_11 rfl ?_
  refine v_aI h dX8_tickGoes_14 (fun x3 h => ?_)
  refine v_iconst dX8_tickGoes_15 ?_
  refine v_iadd dX8_tickGoes_16 ?_
  refine v_sI h dX8_tickGoes_17 (fun s4 h => ?_)
  exact v_weak (wss (wsn wse)) (lX8_tickGoes_18 FU h)
theorem tX8_tickGoes {E : EE} {l : Launch} {v0 : Option Nat} {σ : Mem} {z : Unit × Mem} (h : sX8_tickGoes v0 σ = some z) : Mt E l mX8_tickGoes [vr v0] σ (none, z.2) :=
  Mt.ofVL (by decide) (Nat.le_of_ble_eq_true rfl) (fun G hG => lX8_tickGoes h)
abbrev mX8_oneTick : MM := (yX8_oneTick, cX8_oneTick, 1, (Option.some Jvm.ClassFile.FieldType.boolean), 12, 276)
theorem dsX8_oneTick : DsOk yX8_oneTick 0 := ⟨by decide, by decide, by decide +kernel⟩
theorem lX8_oneTick {E : EE} {G : GG} {v0 : Option Nat} {σ : Mem} {z : Int32 × Mem} (h : sX8_oneTick v0 σ = some z) : V E mX8_oneTick G 0 [some (vr v0)] [] σ (some (vi z.1), z.2) := by
  unfold sX8_oneTick at h
  refine v_al0 dX8_oneTick_0 ?_
  refine v_gR cok6 h dX8_oneTick_1 (by decide) q1401 rfl (fun x1 h => ?_)
  refine v_sipush dX8_oneTick_4 rfl ?_
  refine v_aI h dX8_oneTick_7 (fun x2 h => ?_)
  refine v_sipush dX8_oneTick_8 rfl ?_
  refine v_icmp_lt (tgt := 16) dX8_oneTick_11 (by decide) (fun c => ?_) (fun c => ?_)
  · rw [if_pos c] at h
    refine v_al0 dX8_oneTick_16 ?_
    obtain ⟨b17, er, ka, h⟩ := cV_some h
    obtain ⟨_, s3, h1, h⟩ := cl_some h
    refine v_callV0 cok6 (As := []) er ka (tX8_tickGoes h1) (lw_V q1646 q1648 qs85 q167 q1649) rfl dsX8_tickGoes ⟨Nat.le_of_ble_eq_true rfl, Nat.le_of_ble_eq_true rfl⟩ (Nat.le_of_ble_eq_true rfl) dX8_oneTick_17 rfl ?_
    refine v_iconst dX8_oneTick_20 ?_
    exact v_retZ h dX8_oneTick_21 rfl
  · rw [if_neg c] at h
    refine v_iconst dX8_oneTick_14 ?_
    exact v_retZ h dX8_oneTick_15 rfl
theorem tX8_oneTick {E : EE} {l : Launch} {v0 : Option Nat} {σ : Mem} {z : Int32 × Mem} (h : sX8_oneTick v0 σ = some z) : Mt E l mX8_oneTick [vr v0] σ (some (vi z.1), z.2) :=
  Mt.ofVL (by decide) (Nat.le_of_ble_eq_true rfl) (fun G hG => lX8_oneTick h)
abbrev mX8_ticksGo : MM := (yX8_ticksGo, cX8_ticksGo, 3, (Option.none : Option Jvm.ClassFile.FieldType), 13, 296)
theorem dsX8_ticksGo : DsOk yX8_ticksGo 1 := ⟨by decide, by decide, by decide +kernel⟩
theorem lX8_ticksGo_7b {E : EE} {G : GG} {k7 : Option Nat → Int32 → Int32 → Mem → Option (Unit × Mem)} (hk7 : ∀ (v0 : Option Nat) (v1 : Int32) (v2 : Int32) (s : Mem) (z : Unit × Mem), k7 v0 v1 v2 s = some z → V E mX8_ticksGo G 7 [some (vr v0), some (vi v1), some (vi v2)] [] s (none, z.2)) {v0 : Option Nat} {v1 : Int32} {v2 : Int32} {σ : Mem} {z : Unit × Mem} (h : sX8_ticksGo_7b k7 v0 v1 v2 σ = some z) : V E mX8_ticksGo G 7 [some (vr v0), some (vi v1), some (vi v2)] [] σ (none, z.2) := by
  unfold sX8_ticksGo_7b at h
  refine v_il2 dX8_ticksGo_7 ?_
  refine v_il1 dX8_ticksGo_8 ?_
  refine v_icmp_ge (tgt := 23) dX8_ticksGo_9 (by decide) (fun c => ?_) (fun c => ?_)
  · rw [if_pos c] at h
    exact v_retV h dX8_ticksGo_23 rfl
  · rw [if_neg c] at h
    refine v_al0 dX8_ticksGo_12 ?_
    obtain ⟨b13, er, ka, h⟩ := cV_some h
    obtain ⟨x1, s2, h1, h⟩ := cl_some h
    refine v_callV1 cok6 (As := []) er ka (tX8_oneTick h1) (lw_V q1642 q1644 qs84 q167 q1645) rfl dsX8_oneTick ⟨Nat.le_of_ble_eq_true rfl, Nat.le_of_ble_eq_true rfl⟩ (Nat.le_of_ble_eq_true rfl) dX8_ticksGo_13 rfl ?_
    refine v_pop dX8_ticksGo_16 ?_
    refine v_iinc (L' := [some (vr v0), some (vi v1), some (vi (v2 + iI 1))]) dX8_ticksGo_17 (Nat.le_of_ble_eq_true rfl) rfl rfl ?_
    refine v_goto (tgt := 7) dX8_ticksGo_20 (by decide) ?_
    exact v_weak (wss (wss (wss wse))) (hk7 _ _ _ _ _ h)
theorem lX8_ticksGo_7 {E : EE} {G : GG} : ∀ (f : Nat) {v0 : Option Nat} {v1 : Int32} {v2 : Int32} {σ : Mem} {z : Unit × Mem}, sX8_ticksGo_7 f v0 v1 v2 σ = some z → V E mX8_ticksGo G 7 [some (vr v0), some (vi v1), some (vi v2)] [] σ (none, z.2)
  | 0, _, _, _, _, _, h => by cases h
  | f + 1, _, _, _, _, _, h => lX8_ticksGo_7b (fun _ _ _ _ _ h => lX8_ticksGo_7 f h) h
theorem lX8_ticksGo {E : EE} {G : GG} {v0 : Option Nat} {v1 : Int32} {σ : Mem} {z : Unit × Mem} (h : sX8_ticksGo v0 v1 σ = some z) : V E mX8_ticksGo G 0 [some (vr v0), some (vi v1), none] [] σ (none, z.2) := by
  unfold sX8_ticksGo at h
  refine v_al0 dX8_ticksGo_0 ?_
  refine v_iconst dX8_ticksGo_1 ?_
  refine v_pI cok6 h dX8_ticksGo_2 (by decide) q1430 rfl rfl (fun s1 h => ?_)
  refine v_iconst dX8_ticksGo_5 ?_
  refine v_istore_n (L' := [some (vr v0), some (vi v1), some (vi (iI 0))]) dX8_ticksGo_6 (Nat.le_of_ble_eq_true rfl) (Nat.le_of_ble_eq_true rfl) rfl ?_
  exact v_weak (wss (wss (wss wse))) (lX8_ticksGo_7 FU h)
theorem tX8_ticksGo {E : EE} {l : Launch} {v0 : Option Nat} {v1 : Int32} {σ : Mem} {z : Unit × Mem} (h : sX8_ticksGo v0 v1 σ = some z) : Mt E l mX8_ticksGo [vr v0, vi v1] σ (none, z.2) :=
  Mt.ofVL (by decide) (Nat.le_of_ble_eq_true rfl) (fun G hG => lX8_ticksGo h)
abbrev mX8_ticks : MM := (yX8_ticks, cX8_ticks, 2, (Option.some Jvm.ClassFile.FieldType.int), 14, 318)
theorem dsX8_ticks : DsOk yX8_ticks 1 := ⟨by decide, by decide, by decide +kernel⟩
theorem lX8_ticks {E : EE} {G : GG} {v0 : Option Nat} {v1 : Int32} {σ : Mem} {z : Int32 × Mem} (h : sX8_ticks v0 v1 σ = some z) : V E mX8_ticks G 0 [some (vr v0), some (vi v1)] [] σ (some (vi z.1), z.2) := by
  unfold sX8_ticks at h
  refine v_il1 dX8_ticks_0 ?_
  refine v_iconst dX8_ticks_1 ?_
  refine v_sipush dX8_ticks_2 rfl ?_
  obtain ⟨x1, s2, h1, h⟩ := cl_some h
  refine v_callS1 (As := [vi v1, vi (iI 1), vi (iI 200)]) (tX8_in h1) (lw_S q1549 q1550 q167 q1551) dsX8_in ⟨Nat.le_of_ble_eq_true rfl, Nat.le_of_ble_eq_true rfl⟩ (Nat.le_of_ble_eq_true rfl) dX8_ticks_5 rfl ?_
  refine v_if_ne (tgt := 13) dX8_ticks_8 (by decide) (fun c => ?_) (fun c => ?_)
  · rw [if_neg c] at h
    refine v_al0 dX8_ticks_13 ?_
    refine v_il1 dX8_ticks_14 ?_
    obtain ⟨b15, er, ka, h⟩ := cV_some h
    obtain ⟨_, s3, h1, h⟩ := cl_some h
    refine v_callV0 cok6 (As := [vi v1]) er ka (tX8_ticksGo h1) (lw_V q1638 q1640 qs83 q167 q1641) rfl dsX8_ticksGo ⟨Nat.le_of_ble_eq_true rfl, Nat.le_of_ble_eq_true rfl⟩ (Nat.le_of_ble_eq_true rfl) dX8_ticks_15 rfl ?_
    refine v_al0 dX8_ticks_18 ?_
    refine v_gI cok6 h dX8_ticks_19 (by decide) q1430 rfl (fun x4 h => ?_)
    exact v_retI h dX8_ticks_22 rfl
  · rw [if_pos c] at h
    refine v_iconst dX8_ticks_11 ?_
    exact v_retI h dX8_ticks_12 rfl
theorem tX8_ticks {E : EE} {l : Launch} {v0 : Option Nat} {v1 : Int32} {σ : Mem} {z : Int32 × Mem} (h : sX8_ticks v0 v1 σ = some z) : Mt E l mX8_ticks [vr v0, vi v1] σ (some (vi z.1), z.2) :=
  Mt.ofVL (by decide) (Nat.le_of_ble_eq_true rfl) (fun G hG => lX8_ticks h)
abbrev mX8_found : MM := (yX8_found, cX8_found, 2, (Option.some Jvm.ClassFile.FieldType.boolean), 5, 120)
theorem dsX8_found : DsOk yX8_found 1 := ⟨by decide, by decide, by decide +kernel⟩
theorem lX8_found {E : EE} {G : GG} {v0 : Option Nat} {v1 : Int32} {σ : Mem} {z : Int32 × Mem} (h : sX8_found v0 v1 σ = some z) : V E mX8_found G 0 [some (vr v0), some (vi v1)] [] σ (some (vi z.1), z.2) := by
  unfold sX8_found at h
  refine v_il1 dX8_found_0 ?_
  refine v_iconst dX8_found_1 ?_
  refine v_bipush dX8_found_2 rfl ?_
  obtain ⟨x1, s2, h1, h⟩ := cl_some h
  refine v_callS1 (As := [vi v1, vi (iI 1), vi (iI 127)]) (tX8_in h1) (lw_S q1549 q1550 q167 q1551) dsX8_in ⟨Nat.le_of_ble_eq_true rfl, Nat.le_of_ble_eq_true rfl⟩ (Nat.le_of_ble_eq_true rfl) dX8_found_4 rfl ?_
  refine v_if_ne (tgt := 12) dX8_found_7 (by decide) (fun c => ?_) (fun c => ?_)
  · rw [if_neg c] at h
    refine v_al0 dX8_found_12 ?_
    refine v_il1 dX8_found_13 ?_
    obtain ⟨b14, er, ka, h⟩ := cV_some h
    obtain ⟨_, s3, h1, h⟩ := cl_some h
    refine v_callV0 cok6 (As := [vi v1]) er ka (tX8_founds h1) (lw_V q1368 q1370 qs56 q167 q1371) rfl dsX8_founds ⟨Nat.le_of_ble_eq_true rfl, Nat.le_of_ble_eq_true rfl⟩ (Nat.le_of_ble_eq_true rfl) dX8_found_14 rfl ?_
    refine v_iconst dX8_found_17 ?_
    exact v_retZ h dX8_found_18 rfl
  · rw [if_pos c] at h
    refine v_iconst dX8_found_10 ?_
    exact v_retZ h dX8_found_11 rfl
theorem tX8_found {E : EE} {l : Launch} {v0 : Option Nat} {v1 : Int32} {σ : Mem} {z : Int32 × Mem} (h : sX8_found v0 v1 σ = some z) : Mt E l mX8_found [vr v0, vi v1] σ (some (vi z.1), z.2) :=
  Mt.ofVL (by decide) (Nat.le_of_ble_eq_true rfl) (fun G hG => lX8_found h)
abbrev mX8_crash : MM := (yX8_crash, cX8_crash, 2, (Option.some Jvm.ClassFile.FieldType.boolean), 3, 63)
theorem dsX8_crash : DsOk yX8_crash 1 := ⟨by decide, by decide, by decide +kernel⟩
theorem lX8_crash {E : EE} {G : GG} {v0 : Option Nat} {v1 : Int32} {σ : Mem} {z : Int32 × Mem} (h : sX8_crash v0 v1 σ = some z) : V E mX8_crash G 0 [some (vr v0), some (vi v1)] [] σ (some (vi z.1), z.2) := by
  unfold sX8_crash at h
  refine v_al0 dX8_crash_0 ?_
  refine v_il1 dX8_crash_1 ?_
  obtain ⟨b2, er, ka, h⟩ := cV_some h
  obtain ⟨x1, s2, h1, h⟩ := cl_some h
  refine v_callV1 cok6 (As := [vi v1]) er ka (tX8_isUp h1) (lw_V q1658 q1660 qs88 q167 q1661) rfl dsX8_isUp ⟨Nat.le_of_ble_eq_true rfl, Nat.le_of_ble_eq_true rfl⟩ (Nat.le_of_ble_eq_true rfl) dX8_crash_2 rfl ?_
  refine v_if_ne (tgt := 10) dX8_crash_5 (by decide) (fun c => ?_) (fun c => ?_)
  · rw [if_neg c] at h
    refine v_al0 dX8_crash_10 ?_
    refine v_il1 dX8_crash_11 ?_
    refine v_iconst dX8_crash_12 ?_
    obtain ⟨b13, er, ka, h⟩ := cV_some h
    obtain ⟨_, s3, h1, h⟩ := cl_some h
    refine v_callV0 cok6 (As := [vi v1, vi (iI (-1))]) er ka (tX8_follows h1) (lw_V q1680 q1682 qs91 q167 q1683) rfl dsX8_follows ⟨Nat.le_of_ble_eq_true rfl, Nat.le_of_ble_eq_true rfl⟩ (Nat.le_of_ble_eq_true rfl) dX8_crash_13 rfl ?_
    refine v_al0 dX8_crash_16 ?_
    refine v_il1 dX8_crash_17 ?_
    refine v_iconst dX8_crash_18 ?_
    refine v_iconst dX8_crash_19 ?_
    obtain ⟨b20, er, ka, h⟩ := cV_some h
    obtain ⟨_, s4, h1, h⟩ := cl_some h
    refine v_callV0 cok6 (As := [vi v1, vi (iI 0), vi (iI 0)]) er ka (tX8_sets h1) (lw_V q1372 q1374 qs57 q167 q1375) rfl dsX8_sets ⟨Nat.le_of_ble_eq_true rfl, Nat.le_of_ble_eq_true rfl⟩ (Nat.le_of_ble_eq_true rfl) dX8_crash_20 rfl ?_
    refine v_iconst dX8_crash_23 ?_
    exact v_retZ h dX8_crash_24 rfl
  · rw [if_pos c] at h
    refine v_iconst dX8_crash_8 ?_
    exact v_retZ h dX8_crash_9 rfl
theorem tX8_crash {E : EE} {l : Launch} {v0 : Option Nat} {v1 : Int32} {σ : Mem} {z : Int32 × Mem} (h : sX8_crash v0 v1 σ = some z) : Mt E l mX8_crash [vr v0, vi v1] σ (some (vi z.1), z.2) :=
  Mt.ofVL (by decide) (Nat.le_of_ble_eq_true rfl) (fun G hG => lX8_crash h)
abbrev mX8_comeUp : MM := (yX8_comeUp, cX8_comeUp, 3, (Option.some Jvm.ClassFile.FieldType.boolean), 4, 97)
theorem dsX8_comeUp : DsOk yX8_comeUp 1 := ⟨by decide, by decide, by decide +kernel⟩
theorem lX8_comeUp_65b {E : EE} {G : GG} {k65 : Option Nat → Int32 → Int32 → Mem → Option (Int32 × Mem)} (hk65 : ∀ (v0 : Option Nat) (v1 : Int32) (v2 : Int32) (s : Mem) (z : Int32 × Mem), k65 v0 v1 v2 s = some z → V E mX8_comeUp G 65 [some (vr v0), some (vi v1), some (vi v2)] [] s (some (vi z.1), z.2)) {v0 : Option Nat} {v1 : Int32} {v2 : Int32} {σ : Mem} {z : Int32 × Mem} (h : sX8_comeUp_65b k65 v0 v1 v2 σ = some z) : V E mX8_comeUp G 65 [some (vr v0), some (vi v1), some (vi v2)] [] σ (some (vi z.1), z.2) := by
  unfold sX8_comeUp_65b at h
  refine v_il2 dX8_comeUp_65 ?_
  refine v_bipush dX8_comeUp_66 rfl ?_
  refine v_icmp_ge (tgt := 95) dX8_comeUp_68 (by decide) (fun c => ?_) (fun c => ?_)
  · rw [if_pos c] at h
    refine v_al0 dX8_comeUp_95 ?_
    refine v_il1 dX8_comeUp_96 ?_
    obtain ⟨b97, er, ka, h⟩ := cV_some h
    obtain ⟨_, s1, h1, h⟩ := cl_some h
    refine v_callV0 cok6 (As := [vi v1]) er ka (tX8_setsTimer h1) (lw_V q1376 q1378 qs58 q167 q1379) rfl dsX8_setsTimer ⟨Nat.le_of_ble_eq_true rfl, Nat.le_of_ble_eq_true rfl⟩ (Nat.le_of_ble_eq_true rfl) dX8_comeUp_97 rfl ?_
    refine v_iconst dX8_comeUp_100 ?_
    exact v_retZ h dX8_comeUp_101 rfl
  · rw [if_neg c] at h
    refine v_al0 dX8_comeUp_71 ?_
    refine v_il1 dX8_comeUp_72 ?_
    refine v_bipush dX8_comeUp_73 rfl ?_
    refine v_il2 dX8_comeUp_75 ?_
    refine v_iadd dX8_comeUp_76 ?_
    refine v_al0 dX8_comeUp_77 ?_
    refine v_il1 dX8_comeUp_78 ?_
    refine v_bipush dX8_comeUp_79 rfl ?_
    refine v_il2 dX8_comeUp_81 ?_
    refine v_iadd dX8_comeUp_82 ?_
    obtain ⟨b83, er, ka, h⟩ := cV_some h
    obtain ⟨x2, s3, h1, h⟩ := cl_some h
    refine v_callV1 cok6 (As := [vi v1, vi ((iI 23) + v2)]) er ka (tX8_the h1) (lw_V q1385 q1387 qs60 q167 q1388) rfl dsX8_the ⟨Nat.le_of_ble_eq_true rfl, Nat.le_of_ble_eq_true rfl⟩ (Nat.le_of_ble_eq_true rfl) dX8_comeUp_83 rfl ?_
    obtain ⟨b86, er, ka, h⟩ := cV_some h
    obtain ⟨_, s4, h1, h⟩ := cl_some h
    refine v_callV0 cok6 (As := [vi v1, vi ((iI 15) + v2), vi x2]) er ka (tX8_sets h1) (lw_V q1372 q1374 qs57 q167 q1375) rfl dsX8_sets ⟨Nat.le_of_ble_eq_true rfl, Nat.le_of_ble_eq_true rfl⟩ (Nat.le_of_ble_eq_true rfl) dX8_comeUp_86 rfl ?_
    refine v_iinc (L' := [some (vr v0), some (vi v1), some (vi (v2 + iI 1))]) dX8_comeUp_89 (Nat.le_of_ble_eq_true rfl) rfl rfl ?_
    refine v_goto (tgt := 65) dX8_comeUp_92 (by decide) ?_
    exact v_weak (wss (wss (wss wse))) (hk65 _ _ _ _ _ h)
theorem lX8_comeUp_65 {E : EE} {G : GG} : ∀ (f : Nat) {v0 : Option Nat} {v1 : Int32} {v2 : Int32} {σ : Mem} {z : Int32 × Mem}, sX8_comeUp_65 f v0 v1 v2 σ = some z → V E mX8_comeUp G 65 [some (vr v0), some (vi v1), some (vi v2)] [] σ (some (vi z.1), z.2)
  | 0, _, _, _, _, _, h => by cases h
  | f + 1, _, _, _, _, _, h => lX8_comeUp_65b (fun _ _ _ _ _ h => lX8_comeUp_65 f h) h
theorem lX8_comeUp {E : EE} {G : GG} {v0 : Option Nat} {v1 : Int32} {σ : Mem} {z : Int32 × Mem} (h : sX8_comeUp v0 v1 σ = some z) : V E mX8_comeUp G 0 [some (vr v0), some (vi v1), none] [] σ (some (vi z.1), z.2) := by
  unfold sX8_comeUp at h
  refine v_il1 dX8_comeUp_0 ?_
  obtain ⟨x1, s2, h1, h⟩ := cl_some h
  refine v_callS1 (As := [vi v1]) (tX8_isNode h1) (lw_S q1662 q1663 q167 q1664) dsX8_isNode ⟨Nat.le_of_ble_eq_true rfl, Nat.le_of_ble_eq_true rfl⟩ (Nat.le_of_ble_eq_true rfl) dX8_comeUp_1 rfl ?_
  refine v_if_eq (tgt := 17) dX8_comeUp_4 (by decide) (fun c => ?_) (fun c => ?_)
  · rw [if_pos c] at h
    refine v_iconst dX8_comeUp_17 ?_
    exact v_retZ h dX8_comeUp_18 rfl
  · rw [if_neg c] at h
    refine v_al0 dX8_comeUp_7 ?_
    refine v_il1 dX8_comeUp_8 ?_
    refine v_iconst dX8_comeUp_9 ?_
    obtain ⟨b10, er, ka, h⟩ := cV_some h
    obtain ⟨x3, s4, h1, h⟩ := cl_some h
    refine v_callV1 cok6 (As := [vi v1, vi (iI 0)]) er ka (tX8_the h1) (lw_V q1385 q1387 qs60 q167 q1388) rfl dsX8_the ⟨Nat.le_of_ble_eq_true rfl, Nat.le_of_ble_eq_true rfl⟩ (Nat.le_of_ble_eq_true rfl) dX8_comeUp_10 rfl ?_
    refine v_iconst dX8_comeUp_13 ?_
    refine v_icmp_ne (tgt := 19) dX8_comeUp_14 (by decide) (fun c => ?_) (fun c => ?_)
    · rw [if_neg c] at h
      refine v_al0 dX8_comeUp_19 ?_
      refine v_il1 dX8_comeUp_20 ?_
      refine v_iconst dX8_comeUp_21 ?_
      refine v_iconst dX8_comeUp_22 ?_
      obtain ⟨b23, er, ka, h⟩ := cV_some h
      obtain ⟨_, s5, h1, h⟩ := cl_some h
      refine v_callV0 cok6 (As := [vi v1, vi (iI 0), vi (iI 1)]) er ka (tX8_sets h1) (lw_V q1372 q1374 qs57 q167 q1375) rfl dsX8_sets ⟨Nat.le_of_ble_eq_true rfl, Nat.le_of_ble_eq_true rfl⟩ (Nat.le_of_ble_eq_true rfl) dX8_comeUp_23 rfl ?_
      refine v_al0 dX8_comeUp_26 ?_
      refine v_il1 dX8_comeUp_27 ?_
      refine v_bipush dX8_comeUp_28 rfl ?_
      refine v_al0 dX8_comeUp_30 ?_
      refine v_il1 dX8_comeUp_31 ?_
      refine v_iconst dX8_comeUp_32 ?_
      obtain ⟨b33, er, ka, h⟩ := cV_some h
      obtain ⟨x6, s7, h1, h⟩ := cl_some h
      refine v_callV1 cok6 (As := [vi v1, vi (iI 4)]) er ka (tX8_the h1) (lw_V q1385 q1387 qs60 q167 q1388) rfl dsX8_the ⟨Nat.le_of_ble_eq_true rfl, Nat.le_of_ble_eq_true rfl⟩ (Nat.le_of_ble_eq_true rfl) dX8_comeUp_33 rfl ?_
      obtain ⟨b36, er, ka, h⟩ := cV_some h
      obtain ⟨_, s8, h1, h⟩ := cl_some h
      refine v_callV0 cok6 (As := [vi v1, vi (iI 9), vi x6]) er ka (tX8_sets h1) (lw_V q1372 q1374 qs57 q167 q1375) rfl dsX8_sets ⟨Nat.le_of_ble_eq_true rfl, Nat.le_of_ble_eq_true rfl⟩ (Nat.le_of_ble_eq_true rfl) dX8_comeUp_36 rfl ?_
      refine v_al0 dX8_comeUp_39 ?_
      refine v_il1 dX8_comeUp_40 ?_
      refine v_bipush dX8_comeUp_41 rfl ?_
      refine v_iconst dX8_comeUp_43 ?_
      obtain ⟨b44, er, ka, h⟩ := cV_some h
      obtain ⟨_, s9, h1, h⟩ := cl_some h
      refine v_callV0 cok6 (As := [vi v1, vi (iI 12), vi (iI 0)]) er ka (tX8_sets h1) (lw_V q1372 q1374 qs57 q167 q1375) rfl dsX8_sets ⟨Nat.le_of_ble_eq_true rfl, Nat.le_of_ble_eq_true rfl⟩ (Nat.le_of_ble_eq_true rfl) dX8_comeUp_44 rfl ?_
      refine v_al0 dX8_comeUp_47 ?_
      refine v_il1 dX8_comeUp_48 ?_
      refine v_bipush dX8_comeUp_49 rfl ?_
      refine v_iconst dX8_comeUp_51 ?_
      obtain ⟨b52, er, ka, h⟩ := cV_some h
      obtain ⟨_, s10, h1, h⟩ := cl_some h
      refine v_callV0 cok6 (As := [vi v1, vi (iI 13), vi (iI 0)]) er ka (tX8_sets h1) (lw_V q1372 q1374 qs57 q167 q1375) rfl dsX8_sets ⟨Nat.le_of_ble_eq_true rfl, Nat.le_of_ble_eq_true rfl⟩ (Nat.le_of_ble_eq_true rfl) dX8_comeUp_52 rfl ?_
      refine v_al0 dX8_comeUp_55 ?_
      refine v_il1 dX8_comeUp_56 ?_
      refine v_bipush dX8_comeUp_57 rfl ?_
      refine v_iconst dX8_comeUp_59 ?_
      obtain ⟨b60, er, ka, h⟩ := cV_some h
      obtain ⟨_, s11, h1, h⟩ := cl_some h
      refine v_callV0 cok6 (As := [vi v1, vi (iI 14), vi (iI 0)]) er ka (tX8_sets h1) (lw_V q1372 q1374 qs57 q167 q1375) rfl dsX8_sets ⟨Nat.le_of_ble_eq_true rfl, Nat.le_of_ble_eq_true rfl⟩ (Nat.le_of_ble_eq_true rfl) dX8_comeUp_60 rfl ?_
      refine v_iconst dX8_comeUp_63 ?_
      refine v_istore_n (L' := [some (vr v0), some (vi v1), some (vi (iI 0))]) dX8_comeUp_64 (Nat.le_of_ble_eq_true rfl) (Nat.le_of_ble_eq_true rfl) rfl ?_
      exact v_weak (wss (wss (wss wse))) (lX8_comeUp_65 FU h)
    · rw [if_pos c] at h
      refine v_iconst dX8_comeUp_17 ?_
      exact v_retZ h dX8_comeUp_18 rfl
theorem tX8_comeUp {E : EE} {l : Launch} {v0 : Option Nat} {v1 : Int32} {σ : Mem} {z : Int32 × Mem} (h : sX8_comeUp v0 v1 σ = some z) : Mt E l mX8_comeUp [vr v0, vi v1] σ (some (vi z.1), z.2) :=
  Mt.ofVL (by decide) (Nat.le_of_ble_eq_true rfl) (fun G hG => lX8_comeUp h)
abbrev mX8_cut : MM := (yX8_cut, cX8_cut, 4, (Option.some Jvm.ClassFile.FieldType.boolean), 2, 42)
theorem dsX8_cut : DsOk yX8_cut 3 := ⟨by decide, by decide, by decide +kernel⟩
theorem lX8_cut_67 {E : EE} {G : GG} {v0 : Option Nat} {v1 : Int32} {v2 : Int32} {v3 : Int32} {t0 : Option Nat} {t1 : Int32} {t2 : Int32} {σ : Mem} {z : Int32 × Mem} (h : sX8_cut_67 v0 v1 v2 v3 t0 t1 t2 σ = some z) : V E mX8_cut G 67 [some (vr v0), some (vi v1), some (vi v2), some (vi v3)] [vi t2, vi t1, vr t0] σ (some (vi z.1), z.2) := by
  unfold sX8_cut_67 at h
  refine v_sI h dX8_cut_67 (fun s1 h => ?_)
  refine v_al0 dX8_cut_68 ?_
  refine v_gR cok6 h dX8_cut_69 (by decide) q1401 rfl (fun x2 h => ?_)
  refine v_sipush dX8_cut_72 rfl ?_
  refine v_il2 dX8_cut_75 ?_
  refine v_iadd dX8_cut_76 ?_
  refine v_il3 dX8_cut_77 ?_
  refine v_if_eq (tgt := 98) dX8_cut_78 (by decide) (fun c => ?_) (fun c => ?_)
  · rw [if_pos c] at h
    refine v_al0 dX8_cut_98 ?_
    refine v_gR cok6 h dX8_cut_99 (by decide) q1401 rfl (fun x3 h => ?_)
    refine v_sipush dX8_cut_102 rfl ?_
    refine v_il2 dX8_cut_105 ?_
    refine v_iadd dX8_cut_106 ?_
    refine v_aI h dX8_cut_107 (fun x4 h => ?_)
    refine v_iconst dX8_cut_108 ?_
    refine v_il1 dX8_cut_109 ?_
    refine v_ishl dX8_cut_110 ?_
    refine v_iconst dX8_cut_111 ?_
    refine v_ixor dX8_cut_112 ?_
    refine v_iand dX8_cut_113 ?_
    refine v_sI h dX8_cut_114 (fun s5 h => ?_)
    refine v_iconst dX8_cut_115 ?_
    exact v_retZ h dX8_cut_116 rfl
  · rw [if_neg c] at h
    refine v_al0 dX8_cut_81 ?_
    refine v_gR cok6 h dX8_cut_82 (by decide) q1401 rfl (fun x6 h => ?_)
    refine v_sipush dX8_cut_85 rfl ?_
    refine v_il2 dX8_cut_88 ?_
    refine v_iadd dX8_cut_89 ?_
    refine v_aI h dX8_cut_90 (fun x7 h => ?_)
    refine v_iconst dX8_cut_91 ?_
    refine v_il1 dX8_cut_92 ?_
    refine v_ishl dX8_cut_93 ?_
    refine v_ior dX8_cut_94 ?_
    refine v_goto (tgt := 114) dX8_cut_95 (by decide) ?_
    refine v_sI h dX8_cut_114 (fun s8 h => ?_)
    refine v_iconst dX8_cut_115 ?_
    exact v_retZ h dX8_cut_116 rfl
theorem lX8_cut {E : EE} {G : GG} {v0 : Option Nat} {v1 : Int32} {v2 : Int32} {v3 : Int32} {σ : Mem} {z : Int32 × Mem} (h : sX8_cut v0 v1 v2 v3 σ = some z) : V E mX8_cut G 0 [some (vr v0), some (vi v1), some (vi v2), some (vi v3)] [] σ (some (vi z.1), z.2) := by
  unfold sX8_cut at h
  refine v_il1 dX8_cut_0 ?_
  obtain ⟨x1, s2, h1, h⟩ := cl_some h
  refine v_callS1 (As := [vi v1]) (tX8_isNode h1) (lw_S q1662 q1663 q167 q1664) dsX8_isNode ⟨Nat.le_of_ble_eq_true rfl, Nat.le_of_ble_eq_true rfl⟩ (Nat.le_of_ble_eq_true rfl) dX8_cut_1 rfl ?_
  refine v_if_eq (tgt := 19) dX8_cut_4 (by decide) (fun c => ?_) (fun c => ?_)
  · rw [if_pos c] at h
    refine v_iconst dX8_cut_19 ?_
    exact v_retZ h dX8_cut_20 rfl
  · rw [if_neg c] at h
    refine v_il2 dX8_cut_7 ?_
    obtain ⟨x3, s4, h1, h⟩ := cl_some h
    refine v_callS1 (As := [vi v2]) (tX8_isNode h1) (lw_S q1662 q1663 q167 q1664) dsX8_isNode ⟨Nat.le_of_ble_eq_true rfl, Nat.le_of_ble_eq_true rfl⟩ (Nat.le_of_ble_eq_true rfl) dX8_cut_8 rfl ?_
    refine v_if_eq (tgt := 19) dX8_cut_11 (by decide) (fun c => ?_) (fun c => ?_)
    · rw [if_pos c] at h
      refine v_iconst dX8_cut_19 ?_
      exact v_retZ h dX8_cut_20 rfl
    · rw [if_neg c] at h
      refine v_il1 dX8_cut_14 ?_
      refine v_il2 dX8_cut_15 ?_
      refine v_icmp_ne (tgt := 21) dX8_cut_16 (by decide) (fun c => ?_) (fun c => ?_)
      · rw [if_neg c] at h
        refine v_al0 dX8_cut_21 ?_
        refine v_gR cok6 h dX8_cut_22 (by decide) q1401 rfl (fun x5 h => ?_)
        refine v_sipush dX8_cut_25 rfl ?_
        refine v_il1 dX8_cut_28 ?_
        refine v_iadd dX8_cut_29 ?_
        refine v_il3 dX8_cut_30 ?_
        refine v_if_eq (tgt := 51) dX8_cut_31 (by decide) (fun c => ?_) (fun c => ?_)
        · rw [if_pos c] at h
          refine v_al0 dX8_cut_51 ?_
          refine v_gR cok6 h dX8_cut_52 (by decide) q1401 rfl (fun x6 h => ?_)
          refine v_sipush dX8_cut_55 rfl ?_
          refine v_il1 dX8_cut_58 ?_
          refine v_iadd dX8_cut_59 ?_
          refine v_aI h dX8_cut_60 (fun x7 h => ?_)
          refine v_iconst dX8_cut_61 ?_
          refine v_il2 dX8_cut_62 ?_
          refine v_ishl dX8_cut_63 ?_
          refine v_iconst dX8_cut_64 ?_
          refine v_ixor dX8_cut_65 ?_
          refine v_iand dX8_cut_66 ?_
          exact v_weak (wss (wss (wss (wss wse)))) (lX8_cut_67 h)
        · rw [if_neg c] at h
          refine v_al0 dX8_cut_34 ?_
          refine v_gR cok6 h dX8_cut_35 (by decide) q1401 rfl (fun x8 h => ?_)
          refine v_sipush dX8_cut_38 rfl ?_
          refine v_il1 dX8_cut_41 ?_
          refine v_iadd dX8_cut_42 ?_
          refine v_aI h dX8_cut_43 (fun x9 h => ?_)
          refine v_iconst dX8_cut_44 ?_
          refine v_il2 dX8_cut_45 ?_
          refine v_ishl dX8_cut_46 ?_
          refine v_ior dX8_cut_47 ?_
          refine v_goto (tgt := 67) dX8_cut_48 (by decide) ?_
          exact v_weak (wss (wss (wss (wss wse)))) (lX8_cut_67 h)
      · rw [if_pos c] at h
        refine v_iconst dX8_cut_19 ?_
        exact v_retZ h dX8_cut_20 rfl
theorem tX8_cut {E : EE} {l : Launch} {v0 : Option Nat} {v1 : Int32} {v2 : Int32} {v3 : Int32} {σ : Mem} {z : Int32 × Mem} (h : sX8_cut v0 v1 v2 v3 σ = some z) : Mt E l mX8_cut [vr v0, vi v1, vi v2, vi v3] σ (some (vi z.1), z.2) :=
  Mt.ofVL (by decide) (Nat.le_of_ble_eq_true rfl) (fun G hG => lX8_cut h)
abbrev mX8_compact : MM := (yX8_compact, cX8_compact, 2, (Option.some Jvm.ClassFile.FieldType.boolean), 4, 92)
theorem dsX8_compact : DsOk yX8_compact 1 := ⟨by decide, by decide, by decide +kernel⟩
theorem lX8_compact {E : EE} {G : GG} {v0 : Option Nat} {v1 : Int32} {σ : Mem} {z : Int32 × Mem} (h : sX8_compact v0 v1 σ = some z) : V E mX8_compact G 0 [some (vr v0), some (vi v1)] [] σ (some (vi z.1), z.2) := by
  unfold sX8_compact at h
  refine v_al0 dX8_compact_0 ?_
  refine v_il1 dX8_compact_1 ?_
  obtain ⟨b2, er, ka, h⟩ := cV_some h
  obtain ⟨x1, s2, h1, h⟩ := cl_some h
  refine v_callV1 cok6 (As := [vi v1]) er ka (tX8_isUp h1) (lw_V q1658 q1660 qs88 q167 q1661) rfl dsX8_isUp ⟨Nat.le_of_ble_eq_true rfl, Nat.le_of_ble_eq_true rfl⟩ (Nat.le_of_ble_eq_true rfl) dX8_compact_2 rfl ?_
  refine v_if_eq (tgt := 24) dX8_compact_5 (by decide) (fun c => ?_) (fun c => ?_)
  · rw [if_pos c] at h
    refine v_iconst dX8_compact_24 ?_
    exact v_retZ h dX8_compact_25 rfl
  · rw [if_neg c] at h
    refine v_al0 dX8_compact_8 ?_
    refine v_il1 dX8_compact_9 ?_
    refine v_bipush dX8_compact_10 rfl ?_
    obtain ⟨b12, er, ka, h⟩ := cV_some h
    obtain ⟨x3, s4, h1, h⟩ := cl_some h
    refine v_callV1 cok6 (As := [vi v1, vi (iI 9)]) er ka (tX8_the h1) (lw_V q1385 q1387 qs60 q167 q1388) rfl dsX8_the ⟨Nat.le_of_ble_eq_true rfl, Nat.le_of_ble_eq_true rfl⟩ (Nat.le_of_ble_eq_true rfl) dX8_compact_12 rfl ?_
    refine v_al0 dX8_compact_15 ?_
    refine v_il1 dX8_compact_16 ?_
    refine v_iconst dX8_compact_17 ?_
    obtain ⟨b18, er, ka, h⟩ := cV_some h
    obtain ⟨x5, s6, h1, h⟩ := cl_some h
    refine v_callV1 cok6 (As := [vi v1, vi (iI 4)]) er ka (tX8_the h1) (lw_V q1385 q1387 qs60 q167 q1388) rfl dsX8_the ⟨Nat.le_of_ble_eq_true rfl, Nat.le_of_ble_eq_true rfl⟩ (Nat.le_of_ble_eq_true rfl) dX8_compact_18 rfl ?_
    refine v_icmp_ne (tgt := 26) dX8_compact_21 (by decide) (fun c => ?_) (fun c => ?_)
    · rw [if_neg c] at h
      refine v_al0 dX8_compact_26 ?_
      refine v_il1 dX8_compact_27 ?_
      obtain ⟨b28, er, ka, h⟩ := cV_some h
      obtain ⟨_, s7, h1, h⟩ := cl_some h
      refine v_callV0 cok6 (As := [vi v1]) er ka (tX8_compacts h1) (lw_V q1759 q1761 qs110 q167 q1762) rfl dsX8_compacts ⟨Nat.le_of_ble_eq_true rfl, Nat.le_of_ble_eq_true rfl⟩ (Nat.le_of_ble_eq_true rfl) dX8_compact_28 rfl ?_
      refine v_iconst dX8_compact_31 ?_
      exact v_retZ h dX8_compact_32 rfl
    · rw [if_pos c] at h
      refine v_iconst dX8_compact_24 ?_
      exact v_retZ h dX8_compact_25 rfl
theorem tX8_compact {E : EE} {l : Launch} {v0 : Option Nat} {v1 : Int32} {σ : Mem} {z : Int32 × Mem} (h : sX8_compact v0 v1 σ = some z) : Mt E l mX8_compact [vr v0, vi v1] σ (some (vi z.1), z.2) :=
  Mt.ofVL (by decide) (Nat.le_of_ble_eq_true rfl) (fun G hG => lX8_compact h)
abbrev mX8_isLeader : MM := (yX8_isLeader, cX8_isLeader, 2, (Option.some Jvm.ClassFile.FieldType.boolean), 3, 63)
theorem dsX8_isLeader : DsOk yX8_isLeader 1 := ⟨by decide, by decide, by decide +kernel⟩
theorem lX8_isLeader {E : EE} {G : GG} {v0 : Option Nat} {v1 : Int32} {σ : Mem} {z : Int32 × Mem} (h : sX8_isLeader v0 v1 σ = some z) : V E mX8_isLeader G 0 [some (vr v0), some (vi v1)] [] σ (some (vi z.1), z.2) := by
  unfold sX8_isLeader at h
  refine v_al0 dX8_isLeader_0 ?_
  refine v_il1 dX8_isLeader_1 ?_
  obtain ⟨b2, er, ka, h⟩ := cV_some h
  obtain ⟨x1, s2, h1, h⟩ := cl_some h
  refine v_callV1 cok6 (As := [vi v1]) er ka (tX8_isUp h1) (lw_V q1658 q1660 qs88 q167 q1661) rfl dsX8_isUp ⟨Nat.le_of_ble_eq_true rfl, Nat.le_of_ble_eq_true rfl⟩ (Nat.le_of_ble_eq_true rfl) dX8_isLeader_2 rfl ?_
  refine v_if_eq (tgt := 22) dX8_isLeader_5 (by decide) (fun c => ?_) (fun c => ?_)
  · rw [if_pos c] at h
    refine v_iconst dX8_isLeader_22 ?_
    exact v_retZ h dX8_isLeader_23 rfl
  · rw [if_neg c] at h
    refine v_al0 dX8_isLeader_8 ?_
    refine v_il1 dX8_isLeader_9 ?_
    refine v_iconst dX8_isLeader_10 ?_
    obtain ⟨b11, er, ka, h⟩ := cV_some h
    obtain ⟨x3, s4, h1, h⟩ := cl_some h
    refine v_callV1 cok6 (As := [vi v1, vi (iI 3)]) er ka (tX8_the h1) (lw_V q1385 q1387 qs60 q167 q1388) rfl dsX8_the ⟨Nat.le_of_ble_eq_true rfl, Nat.le_of_ble_eq_true rfl⟩ (Nat.le_of_ble_eq_true rfl) dX8_isLeader_11 rfl ?_
    refine v_iconst dX8_isLeader_14 ?_
    refine v_icmp_ne (tgt := 22) dX8_isLeader_15 (by decide) (fun c => ?_) (fun c => ?_)
    · rw [if_neg c] at h
      refine v_iconst dX8_isLeader_22 ?_
      exact v_retZ h dX8_isLeader_23 rfl
    · rw [if_pos c] at h
      refine v_iconst dX8_isLeader_18 ?_
      refine v_goto (tgt := 23) dX8_isLeader_19 (by decide) ?_
      exact v_retZ h dX8_isLeader_23 rfl
theorem tX8_isLeader {E : EE} {l : Launch} {v0 : Option Nat} {v1 : Int32} {σ : Mem} {z : Int32 × Mem} (h : sX8_isLeader v0 v1 σ = some z) : Mt E l mX8_isLeader [vr v0, vi v1] σ (some (vi z.1), z.2) :=
  Mt.ofVL (by decide) (Nat.le_of_ble_eq_true rfl) (fun G hG => lX8_isLeader h)
abbrev mX8_isFull : MM := (yX8_isFull, cX8_isFull, 2, (Option.some Jvm.ClassFile.FieldType.boolean), 2, 43)
theorem dsX8_isFull : DsOk yX8_isFull 1 := ⟨by decide, by decide, by decide +kernel⟩
theorem lX8_isFull {E : EE} {G : GG} {v0 : Option Nat} {v1 : Int32} {σ : Mem} {z : Int32 × Mem} (h : sX8_isFull v0 v1 σ = some z) : V E mX8_isFull G 0 [some (vr v0), some (vi v1)] [] σ (some (vi z.1), z.2) := by
  unfold sX8_isFull at h
  refine v_al0 dX8_isFull_0 ?_
  refine v_il1 dX8_isFull_1 ?_
  refine v_bipush dX8_isFull_2 rfl ?_
  obtain ⟨b4, er, ka, h⟩ := cV_some h
  obtain ⟨x1, s2, h1, h⟩ := cl_some h
  refine v_callV1 cok6 (As := [vi v1, vi (iI 8)]) er ka (tX8_the h1) (lw_V q1385 q1387 qs60 q167 q1388) rfl dsX8_the ⟨Nat.le_of_ble_eq_true rfl, Nat.le_of_ble_eq_true rfl⟩ (Nat.le_of_ble_eq_true rfl) dX8_isFull_4 rfl ?_
  refine v_bipush dX8_isFull_7 rfl ?_
  refine v_icmp_ge (tgt := 23) dX8_isFull_9 (by decide) (fun c => ?_) (fun c => ?_)
  · rw [if_pos c] at h
    refine v_iconst dX8_isFull_23 ?_
    refine v_goto (tgt := 28) dX8_isFull_24 (by decide) ?_
    exact v_retZ h dX8_isFull_28 rfl
  · rw [if_neg c] at h
    refine v_al0 dX8_isFull_12 ?_
    refine v_il1 dX8_isFull_13 ?_
    obtain ⟨b14, er, ka, h⟩ := cV_some h
    obtain ⟨x3, s4, h1, h⟩ := cl_some h
    refine v_callV1 cok6 (As := [vi v1]) er ka (tX8_lastOf h1) (lw_V q1696 q1698 qs95 q167 q1699) rfl dsX8_lastOf ⟨Nat.le_of_ble_eq_true rfl, Nat.le_of_ble_eq_true rfl⟩ (Nat.le_of_ble_eq_true rfl) dX8_isFull_14 rfl ?_
    refine v_sipush dX8_isFull_17 rfl ?_
    refine v_icmp_ne (tgt := 27) dX8_isFull_20 (by decide) (fun c => ?_) (fun c => ?_)
    · rw [if_neg c] at h
      refine v_iconst dX8_isFull_27 ?_
      exact v_retZ h dX8_isFull_28 rfl
    · rw [if_pos c] at h
      refine v_iconst dX8_isFull_23 ?_
      refine v_goto (tgt := 28) dX8_isFull_24 (by decide) ?_
      exact v_retZ h dX8_isFull_28 rfl
theorem tX8_isFull {E : EE} {l : Launch} {v0 : Option Nat} {v1 : Int32} {σ : Mem} {z : Int32 × Mem} (h : sX8_isFull v0 v1 σ = some z) : Mt E l mX8_isFull [vr v0, vi v1] σ (some (vi z.1), z.2) :=
  Mt.ofVL (by decide) (Nat.le_of_ble_eq_true rfl) (fun G hG => lX8_isFull h)
abbrev mX8_write : MM := (yX8_write, cX8_write, 5, (Option.some Jvm.ClassFile.FieldType.int), 8, 189)
theorem dsX8_write : DsOk yX8_write 3 := ⟨by decide, by decide, by decide +kernel⟩
theorem lX8_write {E : EE} {G : GG} {v0 : Option Nat} {v1 : Int32} {v2 : Int32} {v3 : Int32} {σ : Mem} {z : Int32 × Mem} (h : sX8_write v0 v1 v2 v3 σ = some z) : V E mX8_write G 0 [some (vr v0), some (vi v1), some (vi v2), some (vi v3), none] [] σ (some (vi z.1), z.2) := by
  unfold sX8_write at h
  refine v_il1 dX8_write_0 ?_
  obtain ⟨x1, s2, h1, h⟩ := cl_some h
  refine v_callS1 (As := [vi v1]) (tX8_isNode h1) (lw_S q1662 q1663 q167 q1664) dsX8_isNode ⟨Nat.le_of_ble_eq_true rfl, Nat.le_of_ble_eq_true rfl⟩ (Nat.le_of_ble_eq_true rfl) dX8_write_1 rfl ?_
  refine v_if_eq (tgt := 27) dX8_write_4 (by decide) (fun c => ?_) (fun c => ?_)
  · rw [if_pos c] at h
    refine v_iconst dX8_write_27 ?_
    exact v_retI h dX8_write_28 rfl
  · rw [if_neg c] at h
    refine v_il2 dX8_write_7 ?_
    refine v_iconst dX8_write_8 ?_
    refine v_bipush dX8_write_9 rfl ?_
    obtain ⟨x3, s4, h1, h⟩ := cl_some h
    refine v_callS1 (As := [vi v2, vi (iI 0), vi (iI 7)]) (tX8_in h1) (lw_S q1549 q1550 q167 q1551) dsX8_in ⟨Nat.le_of_ble_eq_true rfl, Nat.le_of_ble_eq_true rfl⟩ (Nat.le_of_ble_eq_true rfl) dX8_write_11 rfl ?_
    refine v_if_eq (tgt := 27) dX8_write_14 (by decide) (fun c => ?_) (fun c => ?_)
    · rw [if_pos c] at h
      refine v_iconst dX8_write_27 ?_
      exact v_retI h dX8_write_28 rfl
    · rw [if_neg c] at h
      refine v_il3 dX8_write_17 ?_
      refine v_iconst dX8_write_18 ?_
      refine v_bipush dX8_write_19 rfl ?_
      obtain ⟨x5, s6, h1, h⟩ := cl_some h
      refine v_callS1 (As := [vi v3, vi (iI 0), vi (iI 99)]) (tX8_in h1) (lw_S q1549 q1550 q167 q1551) dsX8_in ⟨Nat.le_of_ble_eq_true rfl, Nat.le_of_ble_eq_true rfl⟩ (Nat.le_of_ble_eq_true rfl) dX8_write_21 rfl ?_
      refine v_if_ne (tgt := 29) dX8_write_24 (by decide) (fun c => ?_) (fun c => ?_)
      · rw [if_neg c] at h
        refine v_al0 dX8_write_29 ?_
        refine v_il1 dX8_write_30 ?_
        obtain ⟨b31, er, ka, h⟩ := cV_some h
        obtain ⟨x7, s8, h1, h⟩ := cl_some h
        refine v_callV1 cok6 (As := [vi v1]) er ka (tX8_isLeader h1) (lw_V q1898 q1900 qs138 q167 q1901) rfl dsX8_isLeader ⟨Nat.le_of_ble_eq_true rfl, Nat.le_of_ble_eq_true rfl⟩ (Nat.le_of_ble_eq_true rfl) dX8_write_31 rfl ?_
        refine v_if_ne (tgt := 40) dX8_write_34 (by decide) (fun c => ?_) (fun c => ?_)
        · rw [if_neg c] at h
          refine v_al0 dX8_write_40 ?_
          refine v_il1 dX8_write_41 ?_
          obtain ⟨b42, er, ka, h⟩ := cV_some h
          obtain ⟨x9, s10, h1, h⟩ := cl_some h
          refine v_callV1 cok6 (As := [vi v1]) er ka (tX8_isFull h1) (lw_V q1902 q1904 qs139 q167 q1905) rfl dsX8_isFull ⟨Nat.le_of_ble_eq_true rfl, Nat.le_of_ble_eq_true rfl⟩ (Nat.le_of_ble_eq_true rfl) dX8_write_42 rfl ?_
          refine v_if_eq (tgt := 51) dX8_write_45 (by decide) (fun c => ?_) (fun c => ?_)
          · rw [if_pos c] at h
            refine v_al0 dX8_write_51 ?_
            refine v_il1 dX8_write_52 ?_
            refine v_al0 dX8_write_53 ?_
            refine v_il1 dX8_write_54 ?_
            refine v_iconst dX8_write_55 ?_
            obtain ⟨b56, er, ka, h⟩ := cV_some h
            obtain ⟨x11, s12, h1, h⟩ := cl_some h
            refine v_callV1 cok6 (As := [vi v1, vi (iI 1)]) er ka (tX8_the h1) (lw_V q1385 q1387 qs60 q167 q1388) rfl dsX8_the ⟨Nat.le_of_ble_eq_true rfl, Nat.le_of_ble_eq_true rfl⟩ (Nat.le_of_ble_eq_true rfl) dX8_write_56 rfl ?_
            refine v_iconst dX8_write_59 ?_
            refine v_il2 dX8_write_60 ?_
            refine v_il3 dX8_write_61 ?_
            obtain ⟨b62, er, ka, h⟩ := cV_some h
            obtain ⟨x13, s14, h1, h⟩ := cl_some h
            refine v_callV1 cok6 (As := [vi v1, vi x11, vi (iI 0), vi v2, vi v3]) er ka (tX8_lays h1) (lw_V q1755 q1757 qs109 q167 q1758) rfl dsX8_lays ⟨Nat.le_of_ble_eq_true rfl, Nat.le_of_ble_eq_true rfl⟩ (Nat.le_of_ble_eq_true rfl) dX8_write_62 rfl ?_
            refine v_pop dX8_write_65 ?_
            refine v_al0 dX8_write_66 ?_
            refine v_il1 dX8_write_67 ?_
            obtain ⟨b68, er, ka, h⟩ := cV_some h
            obtain ⟨x15, s16, h1, h⟩ := cl_some h
            refine v_callV1 cok6 (As := [vi v1]) er ka (tX8_lastOf h1) (lw_V q1696 q1698 qs95 q167 q1699) rfl dsX8_lastOf ⟨Nat.le_of_ble_eq_true rfl, Nat.le_of_ble_eq_true rfl⟩ (Nat.le_of_ble_eq_true rfl) dX8_write_68 rfl ?_
            refine v_istore (L' := [some (vr v0), some (vi v1), some (vi v2), some (vi v3), some (vi x15)]) dX8_write_71 (Nat.le_of_ble_eq_true rfl) (Nat.le_of_ble_eq_true rfl) rfl ?_
            refine v_al0 dX8_write_73 ?_
            refine v_il1 dX8_write_74 ?_
            obtain ⟨b75, er, ka, h⟩ := cV_some h
            obtain ⟨_, s17, h1, h⟩ := cl_some h
            refine v_callV0 cok6 (As := [vi v1]) er ka (tX8_laidByLeader h1) (lw_V q1770 q1772 qs112 q167 q1773) rfl dsX8_laidByLeader ⟨Nat.le_of_ble_eq_true rfl, Nat.le_of_ble_eq_true rfl⟩ (Nat.le_of_ble_eq_true rfl) dX8_write_75 rfl ?_
            refine v_iload dX8_write_78 rfl ?_
            exact v_retI h dX8_write_80 rfl
          · rw [if_neg c] at h
            refine v_bipush dX8_write_48 rfl ?_
            exact v_retI h dX8_write_50 rfl
        · rw [if_pos c] at h
          refine v_bipush dX8_write_37 rfl ?_
          exact v_retI h dX8_write_39 rfl
      · rw [if_pos c] at h
        refine v_iconst dX8_write_27 ?_
        exact v_retI h dX8_write_28 rfl
theorem tX8_write {E : EE} {l : Launch} {v0 : Option Nat} {v1 : Int32} {v2 : Int32} {v3 : Int32} {σ : Mem} {z : Int32 × Mem} (h : sX8_write v0 v1 v2 v3 σ = some z) : Mt E l mX8_write [vr v0, vi v1, vi v2, vi v3] σ (some (vi z.1), z.2) :=
  Mt.ofVL (by decide) (Nat.le_of_ble_eq_true rfl) (fun G hG => lX8_write h)
abbrev mX8_change : MM := (yX8_change, cX8_change, 4, (Option.some Jvm.ClassFile.FieldType.int), 8, 189)
theorem dsX8_change : DsOk yX8_change 2 := ⟨by decide, by decide, by decide +kernel⟩
theorem lX8_change {E : EE} {G : GG} {v0 : Option Nat} {v1 : Int32} {v2 : Int32} {σ : Mem} {z : Int32 × Mem} (h : sX8_change v0 v1 v2 σ = some z) : V E mX8_change G 0 [some (vr v0), some (vi v1), some (vi v2), none] [] σ (some (vi z.1), z.2) := by
  unfold sX8_change at h
  refine v_il1 dX8_change_0 ?_
  obtain ⟨x1, s2, h1, h⟩ := cl_some h
  refine v_callS1 (As := [vi v1]) (tX8_isNode h1) (lw_S q1662 q1663 q167 q1664) dsX8_isNode ⟨Nat.le_of_ble_eq_true rfl, Nat.le_of_ble_eq_true rfl⟩ (Nat.le_of_ble_eq_true rfl) dX8_change_1 rfl ?_
  refine v_if_eq (tgt := 17) dX8_change_4 (by decide) (fun c => ?_) (fun c => ?_)
  · rw [if_pos c] at h
    refine v_iconst dX8_change_17 ?_
    exact v_retI h dX8_change_18 rfl
  · rw [if_neg c] at h
    refine v_il2 dX8_change_7 ?_
    refine v_iconst dX8_change_8 ?_
    refine v_bipush dX8_change_9 rfl ?_
    obtain ⟨x3, s4, h1, h⟩ := cl_some h
    refine v_callS1 (As := [vi v2, vi (iI 1), vi (iI 127)]) (tX8_in h1) (lw_S q1549 q1550 q167 q1551) dsX8_in ⟨Nat.le_of_ble_eq_true rfl, Nat.le_of_ble_eq_true rfl⟩ (Nat.le_of_ble_eq_true rfl) dX8_change_11 rfl ?_
    refine v_if_ne (tgt := 19) dX8_change_14 (by decide) (fun c => ?_) (fun c => ?_)
    · rw [if_neg c] at h
      refine v_al0 dX8_change_19 ?_
      refine v_il1 dX8_change_20 ?_
      obtain ⟨b21, er, ka, h⟩ := cV_some h
      obtain ⟨x5, s6, h1, h⟩ := cl_some h
      refine v_callV1 cok6 (As := [vi v1]) er ka (tX8_isLeader h1) (lw_V q1898 q1900 qs138 q167 q1901) rfl dsX8_isLeader ⟨Nat.le_of_ble_eq_true rfl, Nat.le_of_ble_eq_true rfl⟩ (Nat.le_of_ble_eq_true rfl) dX8_change_21 rfl ?_
      refine v_if_ne (tgt := 30) dX8_change_24 (by decide) (fun c => ?_) (fun c => ?_)
      · rw [if_neg c] at h
        refine v_al0 dX8_change_30 ?_
        refine v_il1 dX8_change_31 ?_
        obtain ⟨b32, er, ka, h⟩ := cV_some h
        obtain ⟨x7, s8, h1, h⟩ := cl_some h
        refine v_callV1 cok6 (As := [vi v1]) er ka (tX8_isFull h1) (lw_V q1902 q1904 qs139 q167 q1905) rfl dsX8_isFull ⟨Nat.le_of_ble_eq_true rfl, Nat.le_of_ble_eq_true rfl⟩ (Nat.le_of_ble_eq_true rfl) dX8_change_32 rfl ?_
        refine v_if_eq (tgt := 41) dX8_change_35 (by decide) (fun c => ?_) (fun c => ?_)
        · rw [if_pos c] at h
          refine v_al0 dX8_change_41 ?_
          refine v_il1 dX8_change_42 ?_
          obtain ⟨b43, er, ka, h⟩ := cV_some h
          obtain ⟨x9, s10, h1, h⟩ := cl_some h
          refine v_callV1 cok6 (As := [vi v1]) er ka (tX8_newOf h1) (lw_V q1740 q1742 qs106 q167 q1743) rfl dsX8_newOf ⟨Nat.le_of_ble_eq_true rfl, Nat.le_of_ble_eq_true rfl⟩ (Nat.le_of_ble_eq_true rfl) dX8_change_43 rfl ?_
          refine v_if_ne (tgt := 66) dX8_change_46 (by decide) (fun c => ?_) (fun c => ?_)
          · rw [if_neg c] at h
            refine v_bipush dX8_change_66 rfl ?_
            exact v_retI h dX8_change_68 rfl
          · rw [if_pos c] at h
            refine v_al0 dX8_change_49 ?_
            refine v_il1 dX8_change_50 ?_
            obtain ⟨b51, er, ka, h⟩ := cV_some h
            obtain ⟨x11, s12, h1, h⟩ := cl_some h
            refine v_callV1 cok6 (As := [vi v1]) er ka (tX8_isHeldConfig h1) (lw_V q1818 q1820 qs124 q167 q1821) rfl dsX8_isHeldConfig ⟨Nat.le_of_ble_eq_true rfl, Nat.le_of_ble_eq_true rfl⟩ (Nat.le_of_ble_eq_true rfl) dX8_change_51 rfl ?_
            refine v_if_eq (tgt := 66) dX8_change_54 (by decide) (fun c => ?_) (fun c => ?_)
            · rw [if_pos c] at h
              refine v_bipush dX8_change_66 rfl ?_
              exact v_retI h dX8_change_68 rfl
            · rw [if_neg c] at h
              refine v_al0 dX8_change_57 ?_
              refine v_il1 dX8_change_58 ?_
              obtain ⟨b59, er, ka, h⟩ := cV_some h
              obtain ⟨x13, s14, h1, h⟩ := cl_some h
              refine v_callV1 cok6 (As := [vi v1]) er ka (tX8_oldOf h1) (lw_V q1732 q1734 qs104 q167 q1735) rfl dsX8_oldOf ⟨Nat.le_of_ble_eq_true rfl, Nat.le_of_ble_eq_true rfl⟩ (Nat.le_of_ble_eq_true rfl) dX8_change_59 rfl ?_
              refine v_il2 dX8_change_62 ?_
              refine v_icmp_ne (tgt := 69) dX8_change_63 (by decide) (fun c => ?_) (fun c => ?_)
              · rw [if_neg c] at h
                refine v_al0 dX8_change_69 ?_
                refine v_il1 dX8_change_70 ?_
                refine v_al0 dX8_change_71 ?_
                refine v_il1 dX8_change_72 ?_
                refine v_iconst dX8_change_73 ?_
                obtain ⟨b74, er, ka, h⟩ := cV_some h
                obtain ⟨x15, s16, h1, h⟩ := cl_some h
                refine v_callV1 cok6 (As := [vi v1, vi (iI 1)]) er ka (tX8_the h1) (lw_V q1385 q1387 qs60 q167 q1388) rfl dsX8_the ⟨Nat.le_of_ble_eq_true rfl, Nat.le_of_ble_eq_true rfl⟩ (Nat.le_of_ble_eq_true rfl) dX8_change_74 rfl ?_
                refine v_iconst dX8_change_77 ?_
                refine v_al0 dX8_change_78 ?_
                refine v_il1 dX8_change_79 ?_
                obtain ⟨b80, er, ka, h⟩ := cV_some h
                obtain ⟨x17, s18, h1, h⟩ := cl_some h
                refine v_callV1 cok6 (As := [vi v1]) er ka (tX8_oldOf h1) (lw_V q1732 q1734 qs104 q167 q1735) rfl dsX8_oldOf ⟨Nat.le_of_ble_eq_true rfl, Nat.le_of_ble_eq_true rfl⟩ (Nat.le_of_ble_eq_true rfl) dX8_change_80 rfl ?_
                refine v_il2 dX8_change_83 ?_
                obtain ⟨b84, er, ka, h⟩ := cV_some h
                obtain ⟨x19, s20, h1, h⟩ := cl_some h
                refine v_callV1 cok6 (As := [vi v1, vi x15, vi (iI 1), vi x17, vi v2]) er ka (tX8_lays h1) (lw_V q1755 q1757 qs109 q167 q1758) rfl dsX8_lays ⟨Nat.le_of_ble_eq_true rfl, Nat.le_of_ble_eq_true rfl⟩ (Nat.le_of_ble_eq_true rfl) dX8_change_84 rfl ?_
                refine v_pop dX8_change_87 ?_
                refine v_al0 dX8_change_88 ?_
                refine v_il1 dX8_change_89 ?_
                obtain ⟨b90, er, ka, h⟩ := cV_some h
                obtain ⟨x21, s22, h1, h⟩ := cl_some h
                refine v_callV1 cok6 (As := [vi v1]) er ka (tX8_lastOf h1) (lw_V q1696 q1698 qs95 q167 q1699) rfl dsX8_lastOf ⟨Nat.le_of_ble_eq_true rfl, Nat.le_of_ble_eq_true rfl⟩ (Nat.le_of_ble_eq_true rfl) dX8_change_90 rfl ?_
                refine v_istore_n (L' := [some (vr v0), some (vi v1), some (vi v2), some (vi x21)]) dX8_change_93 (Nat.le_of_ble_eq_true rfl) (Nat.le_of_ble_eq_true rfl) rfl ?_
                refine v_al0 dX8_change_94 ?_
                refine v_il1 dX8_change_95 ?_
                obtain ⟨b96, er, ka, h⟩ := cV_some h
                obtain ⟨_, s23, h1, h⟩ := cl_some h
                refine v_callV0 cok6 (As := [vi v1]) er ka (tX8_laidByLeader h1) (lw_V q1770 q1772 qs112 q167 q1773) rfl dsX8_laidByLeader ⟨Nat.le_of_ble_eq_true rfl, Nat.le_of_ble_eq_true rfl⟩ (Nat.le_of_ble_eq_true rfl) dX8_change_96 rfl ?_
                refine v_il3 dX8_change_99 ?_
                exact v_retI h dX8_change_100 rfl
              · rw [if_pos c] at h
                refine v_bipush dX8_change_66 rfl ?_
                exact v_retI h dX8_change_68 rfl
        · rw [if_neg c] at h
          refine v_bipush dX8_change_38 rfl ?_
          exact v_retI h dX8_change_40 rfl
      · rw [if_pos c] at h
        refine v_bipush dX8_change_27 rfl ?_
        exact v_retI h dX8_change_29 rfl
    · rw [if_pos c] at h
      refine v_iconst dX8_change_17 ?_
      exact v_retI h dX8_change_18 rfl
theorem tX8_change {E : EE} {l : Launch} {v0 : Option Nat} {v1 : Int32} {v2 : Int32} {σ : Mem} {z : Int32 × Mem} (h : sX8_change v0 v1 v2 σ = some z) : Mt E l mX8_change [vr v0, vi v1, vi v2] σ (some (vi z.1), z.2) :=
  Mt.ofVL (by decide) (Nat.le_of_ble_eq_true rfl) (fun G hG => lX8_change h)
abbrev mX8_ask : MM := (yX8_ask, cX8_ask, 4, (Option.some Jvm.ClassFile.FieldType.int), 7, 166)
theorem dsX8_ask : DsOk yX8_ask 2 := ⟨by decide, by decide, by decide +kernel⟩
theorem lX8_ask {E : EE} {G : GG} {v0 : Option Nat} {v1 : Int32} {v2 : Int32} {σ : Mem} {z : Int32 × Mem} (h : sX8_ask v0 v1 v2 σ = some z) : V E mX8_ask G 0 [some (vr v0), some (vi v1), some (vi v2), none] [] σ (some (vi z.1), z.2) := by
  unfold sX8_ask at h
  refine v_il1 dX8_ask_0 ?_
  obtain ⟨x1, s2, h1, h⟩ := cl_some h
  refine v_callS1 (As := [vi v1]) (tX8_isNode h1) (lw_S q1662 q1663 q167 q1664) dsX8_isNode ⟨Nat.le_of_ble_eq_true rfl, Nat.le_of_ble_eq_true rfl⟩ (Nat.le_of_ble_eq_true rfl) dX8_ask_1 rfl ?_
  refine v_if_eq (tgt := 17) dX8_ask_4 (by decide) (fun c => ?_) (fun c => ?_)
  · rw [if_pos c] at h
    refine v_iconst dX8_ask_17 ?_
    exact v_retI h dX8_ask_18 rfl
  · rw [if_neg c] at h
    refine v_il2 dX8_ask_7 ?_
    refine v_iconst dX8_ask_8 ?_
    refine v_bipush dX8_ask_9 rfl ?_
    obtain ⟨x3, s4, h1, h⟩ := cl_some h
    refine v_callS1 (As := [vi v2, vi (iI 0), vi (iI 7)]) (tX8_in h1) (lw_S q1549 q1550 q167 q1551) dsX8_in ⟨Nat.le_of_ble_eq_true rfl, Nat.le_of_ble_eq_true rfl⟩ (Nat.le_of_ble_eq_true rfl) dX8_ask_11 rfl ?_
    refine v_if_ne (tgt := 19) dX8_ask_14 (by decide) (fun c => ?_) (fun c => ?_)
    · rw [if_neg c] at h
      refine v_al0 dX8_ask_19 ?_
      refine v_il1 dX8_ask_20 ?_
      obtain ⟨b21, er, ka, h⟩ := cV_some h
      obtain ⟨x5, s6, h1, h⟩ := cl_some h
      refine v_callV1 cok6 (As := [vi v1]) er ka (tX8_isLeader h1) (lw_V q1898 q1900 qs138 q167 q1901) rfl dsX8_isLeader ⟨Nat.le_of_ble_eq_true rfl, Nat.le_of_ble_eq_true rfl⟩ (Nat.le_of_ble_eq_true rfl) dX8_ask_21 rfl ?_
      refine v_if_ne (tgt := 30) dX8_ask_24 (by decide) (fun c => ?_) (fun c => ?_)
      · rw [if_neg c] at h
        refine v_al0 dX8_ask_30 ?_
        refine v_gR cok6 h dX8_ask_31 (by decide) q1401 rfl (fun x7 h => ?_)
        refine v_sipush dX8_ask_34 rfl ?_
        refine v_aI h dX8_ask_37 (fun x8 h => ?_)
        refine v_bipush dX8_ask_38 rfl ?_
        refine v_icmp_ne (tgt := 46) dX8_ask_40 (by decide) (fun c => ?_) (fun c => ?_)
        · rw [if_neg c] at h
          refine v_al0 dX8_ask_46 ?_
          refine v_il1 dX8_ask_47 ?_
          refine v_al0 dX8_ask_48 ?_
          refine v_il1 dX8_ask_49 ?_
          refine v_bipush dX8_ask_50 rfl ?_
          obtain ⟨b52, er, ka, h⟩ := cV_some h
          obtain ⟨x9, s10, h1, h⟩ := cl_some h
          refine v_callV1 cok6 (As := [vi v1, vi (iI 9)]) er ka (tX8_the h1) (lw_V q1385 q1387 qs60 q167 q1388) rfl dsX8_the ⟨Nat.le_of_ble_eq_true rfl, Nat.le_of_ble_eq_true rfl⟩ (Nat.le_of_ble_eq_true rfl) dX8_ask_52 rfl ?_
          obtain ⟨b55, er, ka, h⟩ := cV_some h
          obtain ⟨x11, s12, h1, h⟩ := cl_some h
          refine v_callV1 cok6 (As := [vi v1, vi x9]) er ka (tX8_termAt h1) (lw_V q1700 q1702 qs96 q167 q1703) rfl dsX8_termAt ⟨Nat.le_of_ble_eq_true rfl, Nat.le_of_ble_eq_true rfl⟩ (Nat.le_of_ble_eq_true rfl) dX8_ask_55 rfl ?_
          refine v_al0 dX8_ask_58 ?_
          refine v_il1 dX8_ask_59 ?_
          refine v_iconst dX8_ask_60 ?_
          obtain ⟨b61, er, ka, h⟩ := cV_some h
          obtain ⟨x13, s14, h1, h⟩ := cl_some h
          refine v_callV1 cok6 (As := [vi v1, vi (iI 1)]) er ka (tX8_the h1) (lw_V q1385 q1387 qs60 q167 q1388) rfl dsX8_the ⟨Nat.le_of_ble_eq_true rfl, Nat.le_of_ble_eq_true rfl⟩ (Nat.le_of_ble_eq_true rfl) dX8_ask_61 rfl ?_
          refine v_icmp_eq (tgt := 70) dX8_ask_64 (by decide) (fun c => ?_) (fun c => ?_)
          · rw [if_pos c] at h
            refine v_al0 dX8_ask_70 ?_
            refine v_il1 dX8_ask_71 ?_
            obtain ⟨b72, er, ka, h⟩ := cV_some h
            obtain ⟨_, s15, h1, h⟩ := cl_some h
            refine v_callV0 cok6 (As := [vi v1]) er ka (tX8_asksAll h1) (lw_V q1870 q1872 qs137 q167 q1873) rfl dsX8_asksAll ⟨Nat.le_of_ble_eq_true rfl, Nat.le_of_ble_eq_true rfl⟩ (Nat.le_of_ble_eq_true rfl) dX8_ask_72 rfl ?_
            refine v_al0 dX8_ask_75 ?_
            refine v_gR cok6 h dX8_ask_76 (by decide) q1401 rfl (fun x16 h => ?_)
            refine v_sipush dX8_ask_79 rfl ?_
            refine v_aI h dX8_ask_82 (fun x17 h => ?_)
            refine v_istore_n (L' := [some (vr v0), some (vi v1), some (vi v2), some (vi x17)]) dX8_ask_83 (Nat.le_of_ble_eq_true rfl) (Nat.le_of_ble_eq_true rfl) rfl ?_
            refine v_al0 dX8_ask_84 ?_
            refine v_gR cok6 h dX8_ask_85 (by decide) q1401 rfl (fun x18 h => ?_)
            refine v_sipush dX8_ask_88 rfl ?_
            refine v_bipush dX8_ask_91 rfl ?_
            refine v_il3 dX8_ask_93 ?_
            refine v_imul dX8_ask_94 ?_
            refine v_iadd dX8_ask_95 ?_
            refine v_il1 dX8_ask_96 ?_
            refine v_sI h dX8_ask_97 (fun s19 h => ?_)
            refine v_al0 dX8_ask_98 ?_
            refine v_gR cok6 h dX8_ask_99 (by decide) q1401 rfl (fun x20 h => ?_)
            refine v_sipush dX8_ask_102 rfl ?_
            refine v_bipush dX8_ask_105 rfl ?_
            refine v_il3 dX8_ask_107 ?_
            refine v_imul dX8_ask_108 ?_
            refine v_iadd dX8_ask_109 ?_
            refine v_iconst dX8_ask_110 ?_
            refine v_iadd dX8_ask_111 ?_
            refine v_il2 dX8_ask_112 ?_
            refine v_sI h dX8_ask_113 (fun s21 h => ?_)
            refine v_al0 dX8_ask_114 ?_
            refine v_gR cok6 h dX8_ask_115 (by decide) q1401 rfl (fun x22 h => ?_)
            refine v_sipush dX8_ask_118 rfl ?_
            refine v_bipush dX8_ask_121 rfl ?_
            refine v_il3 dX8_ask_123 ?_
            refine v_imul dX8_ask_124 ?_
            refine v_iadd dX8_ask_125 ?_
            refine v_iconst dX8_ask_126 ?_
            refine v_iadd dX8_ask_127 ?_
            refine v_al0 dX8_ask_128 ?_
            refine v_il1 dX8_ask_129 ?_
            refine v_bipush dX8_ask_130 rfl ?_
            obtain ⟨b132, er, ka, h⟩ := cV_some h
            obtain ⟨x23, s24, h1, h⟩ := cl_some h
            refine v_callV1 cok6 (As := [vi v1, vi (iI 13)]) er ka (tX8_the h1) (lw_V q1385 q1387 qs60 q167 q1388) rfl dsX8_the ⟨Nat.le_of_ble_eq_true rfl, Nat.le_of_ble_eq_true rfl⟩ (Nat.le_of_ble_eq_true rfl) dX8_ask_132 rfl ?_
            refine v_sI h dX8_ask_135 (fun s25 h => ?_)
            refine v_al0 dX8_ask_136 ?_
            refine v_gR cok6 h dX8_ask_137 (by decide) q1401 rfl (fun x26 h => ?_)
            refine v_sipush dX8_ask_140 rfl ?_
            refine v_bipush dX8_ask_143 rfl ?_
            refine v_il3 dX8_ask_145 ?_
            refine v_imul dX8_ask_146 ?_
            refine v_iadd dX8_ask_147 ?_
            refine v_iconst dX8_ask_148 ?_
            refine v_iadd dX8_ask_149 ?_
            refine v_al0 dX8_ask_150 ?_
            refine v_gR cok6 h dX8_ask_151 (by decide) q1401 rfl (fun x27 h => ?_)
            refine v_sipush dX8_ask_154 rfl ?_
            refine v_aI h dX8_ask_157 (fun x28 h => ?_)
            refine v_sI h dX8_ask_158 (fun s29 h => ?_)
            refine v_al0 dX8_ask_159 ?_
            refine v_gR cok6 h dX8_ask_160 (by decide) q1401 rfl (fun x30 h => ?_)
            refine v_sipush dX8_ask_163 rfl ?_
            refine v_bipush dX8_ask_166 rfl ?_
            refine v_il3 dX8_ask_168 ?_
            refine v_imul dX8_ask_169 ?_
            refine v_iadd dX8_ask_170 ?_
            refine v_iconst dX8_ask_171 ?_
            refine v_iadd dX8_ask_172 ?_
            refine v_iconst dX8_ask_173 ?_
            refine v_sI h dX8_ask_174 (fun s31 h => ?_)
            refine v_al0 dX8_ask_175 ?_
            refine v_gR cok6 h dX8_ask_176 (by decide) q1401 rfl (fun x32 h => ?_)
            refine v_sipush dX8_ask_179 rfl ?_
            refine v_bipush dX8_ask_182 rfl ?_
            refine v_il3 dX8_ask_184 ?_
            refine v_imul dX8_ask_185 ?_
            refine v_iadd dX8_ask_186 ?_
            refine v_iconst dX8_ask_187 ?_
            refine v_iadd dX8_ask_188 ?_
            refine v_iconst dX8_ask_189 ?_
            refine v_sI h dX8_ask_190 (fun s33 h => ?_)
            refine v_al0 dX8_ask_191 ?_
            refine v_gR cok6 h dX8_ask_192 (by decide) q1401 rfl (fun x34 h => ?_)
            refine v_sipush dX8_ask_195 rfl ?_
            refine v_il3 dX8_ask_198 ?_
            refine v_iconst dX8_ask_199 ?_
            refine v_iadd dX8_ask_200 ?_
            refine v_sI h dX8_ask_201 (fun s35 h => ?_)
            refine v_al0 dX8_ask_202 ?_
            refine v_il1 dX8_ask_203 ?_
            obtain ⟨b204, er, ka, h⟩ := cV_some h
            obtain ⟨_, s36, h1, h⟩ := cl_some h
            refine v_callV0 cok6 (As := [vi v1]) er ka (tX8_answersReads h1) (lw_V q1846 q1848 qs131 q167 q1849) rfl dsX8_answersReads ⟨Nat.le_of_ble_eq_true rfl, Nat.le_of_ble_eq_true rfl⟩ (Nat.le_of_ble_eq_true rfl) dX8_ask_204 rfl ?_
            refine v_il3 dX8_ask_207 ?_
            exact v_retI h dX8_ask_208 rfl
          · rw [if_neg c] at h
            refine v_bipush dX8_ask_67 rfl ?_
            exact v_retI h dX8_ask_69 rfl
        · rw [if_pos c] at h
          refine v_bipush dX8_ask_43 rfl ?_
          exact v_retI h dX8_ask_45 rfl
      · rw [if_pos c] at h
        refine v_bipush dX8_ask_27 rfl ?_
        exact v_retI h dX8_ask_29 rfl
    · rw [if_pos c] at h
      refine v_iconst dX8_ask_17 ?_
      exact v_retI h dX8_ask_18 rfl
theorem tX8_ask {E : EE} {l : Launch} {v0 : Option Nat} {v1 : Int32} {v2 : Int32} {σ : Mem} {z : Int32 × Mem} (h : sX8_ask v0 v1 v2 σ = some z) : Mt E l mX8_ask [vr v0, vi v1, vi v2] σ (some (vi z.1), z.2) :=
  Mt.ofVL (by decide) (Nat.le_of_ble_eq_true rfl) (fun G hG => lX8_ask h)
abbrev mX8_readsTimes : MM := (yX8_readsTimes, cX8_readsTimes, 1, (Option.none : Option Jvm.ClassFile.FieldType), 1, 22)
theorem dsX8_readsTimes : DsOk yX8_readsTimes 0 := ⟨by decide, by decide, by decide +kernel⟩
theorem lX8_readsTimes {E : EE} {G : GG} {v0 : Option Nat} {σ : Mem} {z : Unit × Mem} (h : sX8_readsTimes v0 σ = some z) : V E mX8_readsTimes G 0 [some (vr v0)] [] σ (none, z.2) := by
  unfold sX8_readsTimes at h
  refine v_al0 dX8_readsTimes_0 ?_
  refine v_al0 dX8_readsTimes_1 ?_
  refine v_gI cok6 h dX8_readsTimes_2 (by decide) q1408 rfl (fun x1 h => ?_)
  refine v_pI cok6 h dX8_readsTimes_5 (by decide) q1440 rfl rfl (fun s2 h => ?_)
  refine v_al0 dX8_readsTimes_8 ?_
  refine v_iconst dX8_readsTimes_9 ?_
  refine v_pI cok6 h dX8_readsTimes_10 (by decide) q1441 rfl rfl (fun s3 h => ?_)
  refine v_al0 dX8_readsTimes_13 ?_
  obtain ⟨b14, er, ka, h⟩ := cV_some h
  obtain ⟨x4, s5, h1, h⟩ := cl_some h
  refine v_callV1 cok6 (As := []) er ka (tX8_here h1) (lw_V q1560 q1562 qs66 q167 q1563) rfl dsX8_here ⟨Nat.le_of_ble_eq_true rfl, Nat.le_of_ble_eq_true rfl⟩ (Nat.le_of_ble_eq_true rfl) dX8_readsTimes_14 rfl ?_
  refine v_bipush dX8_readsTimes_17 rfl ?_
  refine v_bipush dX8_readsTimes_19 rfl ?_
  obtain ⟨x6, s7, h1, h⟩ := cl_some h
  refine v_callS1 (As := [vi x4, vi (iI 50), vi (iI 57)]) (tX8_in h1) (lw_S q1549 q1550 q167 q1551) dsX8_in ⟨Nat.le_of_ble_eq_true rfl, Nat.le_of_ble_eq_true rfl⟩ (Nat.le_of_ble_eq_true rfl) dX8_readsTimes_21 rfl ?_
  refine v_if_ne (tgt := 28) dX8_readsTimes_24 (by decide) (fun c => ?_) (fun c => ?_)
  · rw [if_neg c] at h
    refine v_al0 dX8_readsTimes_28 ?_
    refine v_al0 dX8_readsTimes_29 ?_
    obtain ⟨b30, er, ka, h⟩ := cV_some h
    obtain ⟨x8, s9, h1, h⟩ := cl_some h
    refine v_callV1 cok6 (As := []) er ka (tX8_here h1) (lw_V q1560 q1562 qs66 q167 q1563) rfl dsX8_here ⟨Nat.le_of_ble_eq_true rfl, Nat.le_of_ble_eq_true rfl⟩ (Nat.le_of_ble_eq_true rfl) dX8_readsTimes_30 rfl ?_
    refine v_bipush dX8_readsTimes_33 rfl ?_
    refine v_isub dX8_readsTimes_35 ?_
    refine v_pI cok6 h dX8_readsTimes_36 (by decide) q1441 rfl rfl (fun s10 h => ?_)
    refine v_al0 dX8_readsTimes_39 ?_
    refine v_al0 dX8_readsTimes_40 ?_
    refine v_gI cok6 h dX8_readsTimes_41 (by decide) q1408 rfl (fun x11 h => ?_)
    refine v_iconst dX8_readsTimes_44 ?_
    refine v_iadd dX8_readsTimes_45 ?_
    refine v_pI cok6 h dX8_readsTimes_46 (by decide) q1408 rfl rfl (fun s12 h => ?_)
    exact v_retV h dX8_readsTimes_49 rfl
  · rw [if_pos c] at h
    exact v_retV h dX8_readsTimes_27 rfl
theorem tX8_readsTimes {E : EE} {l : Launch} {v0 : Option Nat} {σ : Mem} {z : Unit × Mem} (h : sX8_readsTimes v0 σ = some z) : Mt E l mX8_readsTimes [vr v0] σ (none, z.2) :=
  Mt.ofVL (by decide) (Nat.le_of_ble_eq_true rfl) (fun G hG => lX8_readsTimes h)
abbrev mX8_isAct : MM := (yX8_isAct, cX8_isAct, 1, (Option.some Jvm.ClassFile.FieldType.boolean), 0, 0)
theorem dsX8_isAct : DsOk yX8_isAct 1 := ⟨by decide, by decide, by decide +kernel⟩
theorem lX8_isAct {E : EE} {G : GG} {v0 : Int32} {σ : Mem} {z : Int32 × Mem} (h : sX8_isAct v0 σ = some z) : V E mX8_isAct G 0 [some (vi v0)] [] σ (some (vi z.1), z.2) := by
  unfold sX8_isAct at h
  refine v_il0 dX8_isAct_0 ?_
  refine v_bipush dX8_isAct_1 rfl ?_
  refine v_icmp_eq (tgt := 48) dX8_isAct_3 (by decide) (fun c => ?_) (fun c => ?_)
  · rw [if_pos c] at h
    refine v_iconst dX8_isAct_48 ?_
    refine v_goto (tgt := 53) dX8_isAct_49 (by decide) ?_
    exact v_retZ h dX8_isAct_53 rfl
  · rw [if_neg c] at h
    refine v_il0 dX8_isAct_6 ?_
    refine v_bipush dX8_isAct_7 rfl ?_
    refine v_icmp_eq (tgt := 48) dX8_isAct_9 (by decide) (fun c => ?_) (fun c => ?_)
    · rw [if_pos c] at h
      refine v_iconst dX8_isAct_48 ?_
      refine v_goto (tgt := 53) dX8_isAct_49 (by decide) ?_
      exact v_retZ h dX8_isAct_53 rfl
    · rw [if_neg c] at h
      refine v_il0 dX8_isAct_12 ?_
      refine v_bipush dX8_isAct_13 rfl ?_
      refine v_icmp_eq (tgt := 48) dX8_isAct_15 (by decide) (fun c => ?_) (fun c => ?_)
      · rw [if_pos c] at h
        refine v_iconst dX8_isAct_48 ?_
        refine v_goto (tgt := 53) dX8_isAct_49 (by decide) ?_
        exact v_retZ h dX8_isAct_53 rfl
      · rw [if_neg c] at h
        refine v_il0 dX8_isAct_18 ?_
        refine v_bipush dX8_isAct_19 rfl ?_
        refine v_icmp_eq (tgt := 48) dX8_isAct_21 (by decide) (fun c => ?_) (fun c => ?_)
        · rw [if_pos c] at h
          refine v_iconst dX8_isAct_48 ?_
          refine v_goto (tgt := 53) dX8_isAct_49 (by decide) ?_
          exact v_retZ h dX8_isAct_53 rfl
        · rw [if_neg c] at h
          refine v_il0 dX8_isAct_24 ?_
          refine v_bipush dX8_isAct_25 rfl ?_
          refine v_icmp_eq (tgt := 48) dX8_isAct_27 (by decide) (fun c => ?_) (fun c => ?_)
          · rw [if_pos c] at h
            refine v_iconst dX8_isAct_48 ?_
            refine v_goto (tgt := 53) dX8_isAct_49 (by decide) ?_
            exact v_retZ h dX8_isAct_53 rfl
          · rw [if_neg c] at h
            refine v_il0 dX8_isAct_30 ?_
            refine v_bipush dX8_isAct_31 rfl ?_
            refine v_icmp_eq (tgt := 48) dX8_isAct_33 (by decide) (fun c => ?_) (fun c => ?_)
            · rw [if_pos c] at h
              refine v_iconst dX8_isAct_48 ?_
              refine v_goto (tgt := 53) dX8_isAct_49 (by decide) ?_
              exact v_retZ h dX8_isAct_53 rfl
            · rw [if_neg c] at h
              refine v_il0 dX8_isAct_36 ?_
              refine v_bipush dX8_isAct_37 rfl ?_
              refine v_icmp_eq (tgt := 48) dX8_isAct_39 (by decide) (fun c => ?_) (fun c => ?_)
              · rw [if_pos c] at h
                refine v_iconst dX8_isAct_48 ?_
                refine v_goto (tgt := 53) dX8_isAct_49 (by decide) ?_
                exact v_retZ h dX8_isAct_53 rfl
              · rw [if_neg c] at h
                refine v_il0 dX8_isAct_42 ?_
                refine v_bipush dX8_isAct_43 rfl ?_
                refine v_icmp_ne (tgt := 52) dX8_isAct_45 (by decide) (fun c => ?_) (fun c => ?_)
                · rw [if_neg c] at h
                  refine v_iconst dX8_isAct_52 ?_
                  exact v_retZ h dX8_isAct_53 rfl
                · rw [if_pos c] at h
                  refine v_iconst dX8_isAct_48 ?_
                  refine v_goto (tgt := 53) dX8_isAct_49 (by decide) ?_
                  exact v_retZ h dX8_isAct_53 rfl
theorem tX8_isAct {E : EE} {l : Launch} {v0 : Int32} {σ : Mem} {z : Int32 × Mem} (h : sX8_isAct v0 σ = some z) : Mt E l mX8_isAct [vi v0] σ (some (vi z.1), z.2) :=
  Mt.ofVL (by decide) (Nat.le_of_ble_eq_true rfl) (fun G hG => lX8_isAct h)
abbrev mX8_readsDigit : MM := (yX8_readsDigit, cX8_readsDigit, 2, (Option.some Jvm.ClassFile.FieldType.boolean), 1, 22)
theorem dsX8_readsDigit : DsOk yX8_readsDigit 1 := ⟨by decide, by decide, by decide +kernel⟩
theorem lX8_readsDigit {E : EE} {G : GG} {v0 : Option Nat} {v1 : Int32} {σ : Mem} {z : Int32 × Mem} (h : sX8_readsDigit v0 v1 σ = some z) : V E mX8_readsDigit G 0 [some (vr v0), some (vi v1)] [] σ (some (vi z.1), z.2) := by
  unfold sX8_readsDigit at h
  refine v_al0 dX8_readsDigit_0 ?_
  obtain ⟨b1, er, ka, h⟩ := cV_some h
  obtain ⟨x1, s2, h1, h⟩ := cl_some h
  refine v_callV1 cok6 (As := []) er ka (tX8_here h1) (lw_V q1560 q1562 qs66 q167 q1563) rfl dsX8_here ⟨Nat.le_of_ble_eq_true rfl, Nat.le_of_ble_eq_true rfl⟩ (Nat.le_of_ble_eq_true rfl) dX8_readsDigit_1 rfl ?_
  refine v_bipush dX8_readsDigit_4 rfl ?_
  refine v_bipush dX8_readsDigit_6 rfl ?_
  refine v_il1 dX8_readsDigit_8 ?_
  refine v_iadd dX8_readsDigit_9 ?_
  obtain ⟨x3, s4, h1, h⟩ := cl_some h
  refine v_callS1 (As := [vi x1, vi (iI 48), vi ((iI 48) + v1)]) (tX8_in h1) (lw_S q1549 q1550 q167 q1551) dsX8_in ⟨Nat.le_of_ble_eq_true rfl, Nat.le_of_ble_eq_true rfl⟩ (Nat.le_of_ble_eq_true rfl) dX8_readsDigit_10 rfl ?_
  refine v_if_ne (tgt := 26) dX8_readsDigit_13 (by decide) (fun c => ?_) (fun c => ?_)
  · rw [if_neg c] at h
    refine v_al0 dX8_readsDigit_26 ?_
    refine v_al0 dX8_readsDigit_27 ?_
    obtain ⟨b28, er, ka, h⟩ := cV_some h
    obtain ⟨x5, s6, h1, h⟩ := cl_some h
    refine v_callV1 cok6 (As := []) er ka (tX8_here h1) (lw_V q1560 q1562 qs66 q167 q1563) rfl dsX8_here ⟨Nat.le_of_ble_eq_true rfl, Nat.le_of_ble_eq_true rfl⟩ (Nat.le_of_ble_eq_true rfl) dX8_readsDigit_28 rfl ?_
    refine v_bipush dX8_readsDigit_31 rfl ?_
    refine v_isub dX8_readsDigit_33 ?_
    refine v_pI cok6 h dX8_readsDigit_34 (by decide) q1411 rfl rfl (fun s7 h => ?_)
    refine v_al0 dX8_readsDigit_37 ?_
    refine v_al0 dX8_readsDigit_38 ?_
    refine v_gI cok6 h dX8_readsDigit_39 (by decide) q1408 rfl (fun x8 h => ?_)
    refine v_iconst dX8_readsDigit_42 ?_
    refine v_iadd dX8_readsDigit_43 ?_
    refine v_pI cok6 h dX8_readsDigit_44 (by decide) q1408 rfl rfl (fun s9 h => ?_)
    refine v_iconst dX8_readsDigit_47 ?_
    exact v_retZ h dX8_readsDigit_48 rfl
  · rw [if_pos c] at h
    refine v_al0 dX8_readsDigit_16 ?_
    refine v_iconst dX8_readsDigit_17 ?_
    refine v_al0 dX8_readsDigit_18 ?_
    refine v_gI cok6 h dX8_readsDigit_19 (by decide) q1408 rfl (fun x10 h => ?_)
    obtain ⟨b22, er, ka, h⟩ := cV_some h
    obtain ⟨x11, s12, h1, h⟩ := cl_some h
    refine v_callV1 cok6 (As := [vi (iI 1), vi x10]) er ka (tX8_wrongAt h1) (lw_V q1564 q1566 qs67 q167 q1567) rfl dsX8_wrongAt ⟨Nat.le_of_ble_eq_true rfl, Nat.le_of_ble_eq_true rfl⟩ (Nat.le_of_ble_eq_true rfl) dX8_readsDigit_22 rfl ?_
    exact v_retZ h dX8_readsDigit_25 rfl
theorem tX8_readsDigit {E : EE} {l : Launch} {v0 : Option Nat} {v1 : Int32} {σ : Mem} {z : Int32 × Mem} (h : sX8_readsDigit v0 v1 σ = some z) : Mt E l mX8_readsDigit [vr v0, vi v1] σ (some (vi z.1), z.2) :=
  Mt.ofVL (by decide) (Nat.le_of_ble_eq_true rfl) (fun G hG => lX8_readsDigit h)
abbrev mX8_readsNumbers : MM := (yX8_readsNumbers, cX8_readsNumbers, 2, (Option.some Jvm.ClassFile.FieldType.boolean), 2, 43)
theorem dsX8_readsNumbers : DsOk yX8_readsNumbers 1 := ⟨by decide, by decide, by decide +kernel⟩
theorem lX8_readsNumbers_134 {E : EE} {G : GG} {v0 : Option Nat} {v1 : Int32} {σ : Mem} {z : Int32 × Mem} (h : sX8_readsNumbers_134 v0 v1 σ = some z) : V E mX8_readsNumbers G 134 [some (vr v0), some (vi v1)] [] σ (some (vi z.1), z.2) := by
  unfold sX8_readsNumbers_134 at h
  refine v_il1 dX8_readsNumbers_134 ?_
  refine v_bipush dX8_readsNumbers_135 rfl ?_
  refine v_icmp_eq (tgt := 142) dX8_readsNumbers_137 (by decide) (fun c => ?_) (fun c => ?_)
  · rw [if_pos c] at h
    refine v_al0 dX8_readsNumbers_142 ?_
    refine v_bipush dX8_readsNumbers_143 rfl ?_
    obtain ⟨b145, er, ka, h⟩ := cV_some h
    obtain ⟨x1, s2, h1, h⟩ := cl_some h
    refine v_callV1 cok6 (As := [vi (iI 9)]) er ka (tX8_readsDigit h1) (lw_V q1933 q1935 qs143 q167 q1936) rfl dsX8_readsDigit ⟨Nat.le_of_ble_eq_true rfl, Nat.le_of_ble_eq_true rfl⟩ (Nat.le_of_ble_eq_true rfl) dX8_readsNumbers_145 rfl ?_
    refine v_if_ne (tgt := 153) dX8_readsNumbers_148 (by decide) (fun c => ?_) (fun c => ?_)
    · rw [if_neg c] at h
      refine v_al0 dX8_readsNumbers_153 ?_
      refine v_al0 dX8_readsNumbers_154 ?_
      refine v_gI cok6 h dX8_readsNumbers_155 (by decide) q1411 rfl (fun x3 h => ?_)
      refine v_pI cok6 h dX8_readsNumbers_158 (by decide) q1444 rfl rfl (fun s4 h => ?_)
      refine v_iconst dX8_readsNumbers_161 ?_
      exact v_retZ h dX8_readsNumbers_162 rfl
    · rw [if_pos c] at h
      refine v_iconst dX8_readsNumbers_151 ?_
      exact v_retZ h dX8_readsNumbers_152 rfl
  · rw [if_neg c] at h
    refine v_iconst dX8_readsNumbers_140 ?_
    exact v_retZ h dX8_readsNumbers_141 rfl
theorem lX8_readsNumbers_110 {E : EE} {G : GG} {v0 : Option Nat} {v1 : Int32} {σ : Mem} {z : Int32 × Mem} (h : sX8_readsNumbers_110 v0 v1 σ = some z) : V E mX8_readsNumbers G 110 [some (vr v0), some (vi v1)] [] σ (some (vi z.1), z.2) := by
  unfold sX8_readsNumbers_110 at h
  refine v_al0 dX8_readsNumbers_110 ?_
  refine v_gI cok6 h dX8_readsNumbers_111 (by decide) q1442 rfl (fun x1 h => ?_)
  refine v_al0 dX8_readsNumbers_114 ?_
  refine v_gI cok6 h dX8_readsNumbers_115 (by decide) q1443 rfl (fun x2 h => ?_)
  refine v_icmp_ne (tgt := 134) dX8_readsNumbers_118 (by decide) (fun c => ?_) (fun c => ?_)
  · rw [if_neg c] at h
    exact v_weak (wss (wss wse)) (lX8_readsNumbers_134 h)
  · rw [if_pos c] at h
    refine v_al0 dX8_readsNumbers_121 ?_
    refine v_bipush dX8_readsNumbers_122 rfl ?_
    refine v_al0 dX8_readsNumbers_124 ?_
    refine v_gI cok6 h dX8_readsNumbers_125 (by decide) q1408 rfl (fun x3 h => ?_)
    refine v_iconst dX8_readsNumbers_128 ?_
    refine v_isub dX8_readsNumbers_129 ?_
    obtain ⟨b130, er, ka, h⟩ := cV_some h
    obtain ⟨x4, s5, h1, h⟩ := cl_some h
    refine v_callV1 cok6 (As := [vi (iI 7), vi (x3 - (iI 1))]) er ka (tX8_wrongAt h1) (lw_V q1564 q1566 qs67 q167 q1567) rfl dsX8_wrongAt ⟨Nat.le_of_ble_eq_true rfl, Nat.le_of_ble_eq_true rfl⟩ (Nat.le_of_ble_eq_true rfl) dX8_readsNumbers_130 rfl ?_
    exact v_retZ h dX8_readsNumbers_133 rfl
theorem lX8_readsNumbers_82 {E : EE} {G : GG} {v0 : Option Nat} {v1 : Int32} {t0 : Option Nat} {t1 : Int32} {σ : Mem} {z : Int32 × Mem} (h : sX8_readsNumbers_82 v0 v1 t0 t1 σ = some z) : V E mX8_readsNumbers G 82 [some (vr v0), some (vi v1)] [vi t1, vr t0] σ (some (vi z.1), z.2) := by
  unfold sX8_readsNumbers_82 at h
  obtain ⟨b82, er, ka, h⟩ := cV_some h
  obtain ⟨x1, s2, h1, h⟩ := cl_some h
  refine v_callV1 cok6 (As := [vi t1]) er ka (tX8_readsDigit h1) (lw_V q1933 q1935 qs143 q167 q1936) rfl dsX8_readsDigit ⟨Nat.le_of_ble_eq_true rfl, Nat.le_of_ble_eq_true rfl⟩ (Nat.le_of_ble_eq_true rfl) dX8_readsNumbers_82 rfl ?_
  refine v_if_ne (tgt := 90) dX8_readsNumbers_85 (by decide) (fun c => ?_) (fun c => ?_)
  · rw [if_neg c] at h
    refine v_al0 dX8_readsNumbers_90 ?_
    refine v_al0 dX8_readsNumbers_91 ?_
    refine v_gI cok6 h dX8_readsNumbers_92 (by decide) q1411 rfl (fun x3 h => ?_)
    refine v_pI cok6 h dX8_readsNumbers_95 (by decide) q1443 rfl rfl (fun s4 h => ?_)
    refine v_il1 dX8_readsNumbers_98 ?_
    refine v_bipush dX8_readsNumbers_99 rfl ?_
    refine v_icmp_eq (tgt := 110) dX8_readsNumbers_101 (by decide) (fun c => ?_) (fun c => ?_)
    · rw [if_pos c] at h
      exact v_weak (wss (wss wse)) (lX8_readsNumbers_110 h)
    · rw [if_neg c] at h
      refine v_il1 dX8_readsNumbers_104 ?_
      refine v_bipush dX8_readsNumbers_105 rfl ?_
      refine v_icmp_ne (tgt := 134) dX8_readsNumbers_107 (by decide) (fun c => ?_) (fun c => ?_)
      · rw [if_neg c] at h
        exact v_weak (wss (wss wse)) (lX8_readsNumbers_134 h)
      · rw [if_pos c] at h
        exact v_weak (wss (wss wse)) (lX8_readsNumbers_110 h)
  · rw [if_pos c] at h
    refine v_iconst dX8_readsNumbers_88 ?_
    exact v_retZ h dX8_readsNumbers_89 rfl
theorem lX8_readsNumbers_75 {E : EE} {G : GG} {v0 : Option Nat} {v1 : Int32} {t0 : Option Nat} {σ : Mem} {z : Int32 × Mem} (h : sX8_readsNumbers_75 v0 v1 t0 σ = some z) : V E mX8_readsNumbers G 75 [some (vr v0), some (vi v1)] [vr t0] σ (some (vi z.1), z.2) := by
  unfold sX8_readsNumbers_75 at h
  refine v_bipush dX8_readsNumbers_75 rfl ?_
  refine v_goto (tgt := 82) dX8_readsNumbers_77 (by decide) ?_
  exact v_weak (wss (wss wse)) (lX8_readsNumbers_82 h)
theorem lX8_readsNumbers {E : EE} {G : GG} {v0 : Option Nat} {v1 : Int32} {σ : Mem} {z : Int32 × Mem} (h : sX8_readsNumbers v0 v1 σ = some z) : V E mX8_readsNumbers G 0 [some (vr v0), some (vi v1)] [] σ (some (vi z.1), z.2) := by
  unfold sX8_readsNumbers at h
  refine v_al0 dX8_readsNumbers_0 ?_
  refine v_iconst dX8_readsNumbers_1 ?_
  refine v_pI cok6 h dX8_readsNumbers_2 (by decide) q1442 rfl rfl (fun s1 h => ?_)
  refine v_al0 dX8_readsNumbers_5 ?_
  refine v_iconst dX8_readsNumbers_6 ?_
  refine v_pI cok6 h dX8_readsNumbers_7 (by decide) q1443 rfl rfl (fun s2 h => ?_)
  refine v_al0 dX8_readsNumbers_10 ?_
  refine v_iconst dX8_readsNumbers_11 ?_
  refine v_pI cok6 h dX8_readsNumbers_12 (by decide) q1444 rfl rfl (fun s3 h => ?_)
  refine v_il1 dX8_readsNumbers_15 ?_
  refine v_bipush dX8_readsNumbers_16 rfl ?_
  refine v_icmp_ne (tgt := 23) dX8_readsNumbers_18 (by decide) (fun c => ?_) (fun c => ?_)
  · rw [if_neg c] at h
    refine v_al0 dX8_readsNumbers_23 ?_
    refine v_bipush dX8_readsNumbers_24 rfl ?_
    obtain ⟨b26, er, ka, h⟩ := cV_some h
    obtain ⟨x4, s5, h1, h⟩ := cl_some h
    refine v_callV1 cok6 (As := [vi (iI 6)]) er ka (tX8_readsDigit h1) (lw_V q1933 q1935 qs143 q167 q1936) rfl dsX8_readsDigit ⟨Nat.le_of_ble_eq_true rfl, Nat.le_of_ble_eq_true rfl⟩ (Nat.le_of_ble_eq_true rfl) dX8_readsNumbers_26 rfl ?_
    refine v_if_ne (tgt := 34) dX8_readsNumbers_29 (by decide) (fun c => ?_) (fun c => ?_)
    · rw [if_neg c] at h
      refine v_al0 dX8_readsNumbers_34 ?_
      refine v_al0 dX8_readsNumbers_35 ?_
      refine v_gI cok6 h dX8_readsNumbers_36 (by decide) q1411 rfl (fun x6 h => ?_)
      refine v_pI cok6 h dX8_readsNumbers_39 (by decide) q1442 rfl rfl (fun s7 h => ?_)
      refine v_il1 dX8_readsNumbers_42 ?_
      refine v_bipush dX8_readsNumbers_43 rfl ?_
      refine v_icmp_eq (tgt := 60) dX8_readsNumbers_45 (by decide) (fun c => ?_) (fun c => ?_)
      · rw [if_pos c] at h
        refine v_iconst dX8_readsNumbers_60 ?_
        exact v_retZ h dX8_readsNumbers_61 rfl
      · rw [if_neg c] at h
        refine v_il1 dX8_readsNumbers_48 ?_
        refine v_bipush dX8_readsNumbers_49 rfl ?_
        refine v_icmp_eq (tgt := 60) dX8_readsNumbers_51 (by decide) (fun c => ?_) (fun c => ?_)
        · rw [if_pos c] at h
          refine v_iconst dX8_readsNumbers_60 ?_
          exact v_retZ h dX8_readsNumbers_61 rfl
        · rw [if_neg c] at h
          refine v_il1 dX8_readsNumbers_54 ?_
          refine v_bipush dX8_readsNumbers_55 rfl ?_
          refine v_icmp_ne (tgt := 62) dX8_readsNumbers_57 (by decide) (fun c => ?_) (fun c => ?_)
          · rw [if_neg c] at h
            refine v_al0 dX8_readsNumbers_62 ?_
            refine v_il1 dX8_readsNumbers_63 ?_
            refine v_bipush dX8_readsNumbers_64 rfl ?_
            refine v_icmp_eq (tgt := 75) dX8_readsNumbers_66 (by decide) (fun c => ?_) (fun c => ?_)
            · rw [if_pos c] at h
              exact v_weak (wss (wss wse)) (lX8_readsNumbers_75 h)
            · rw [if_neg c] at h
              refine v_il1 dX8_readsNumbers_69 ?_
              refine v_bipush dX8_readsNumbers_70 rfl ?_
              refine v_icmp_ne (tgt := 80) dX8_readsNumbers_72 (by decide) (fun c => ?_) (fun c => ?_)
              · rw [if_neg c] at h
                refine v_bipush dX8_readsNumbers_80 rfl ?_
                exact v_weak (wss (wss wse)) (lX8_readsNumbers_82 h)
              · rw [if_pos c] at h
                exact v_weak (wss (wss wse)) (lX8_readsNumbers_75 h)
          · rw [if_pos c] at h
            refine v_iconst dX8_readsNumbers_60 ?_
            exact v_retZ h dX8_readsNumbers_61 rfl
    · rw [if_pos c] at h
      refine v_iconst dX8_readsNumbers_32 ?_
      exact v_retZ h dX8_readsNumbers_33 rfl
  · rw [if_pos c] at h
    refine v_iconst dX8_readsNumbers_21 ?_
    exact v_retZ h dX8_readsNumbers_22 rfl
theorem tX8_readsNumbers {E : EE} {l : Launch} {v0 : Option Nat} {v1 : Int32} {σ : Mem} {z : Int32 × Mem} (h : sX8_readsNumbers v0 v1 σ = some z) : Mt E l mX8_readsNumbers [vr v0, vi v1] σ (some (vi z.1), z.2) :=
  Mt.ofVL (by decide) (Nat.le_of_ble_eq_true rfl) (fun G hG => lX8_readsNumbers h)
abbrev mX8_repeats : MM := (yX8_repeats, cX8_repeats, 6, (Option.some Jvm.ClassFile.FieldType.boolean), 1, 22)
theorem dsX8_repeats : DsOk yX8_repeats 3 := ⟨by decide, by decide, by decide +kernel⟩
theorem lX8_repeats_34b {E : EE} {G : GG} {k34 : Option Nat → Int32 → Int32 → Int32 → Int32 → Mem → Option (Int32 × Mem)} (hk34 : ∀ (v0 : Option Nat) (v1 : Int32) (v2 : Int32) (v4 : Int32) (v5 : Int32) (s : Mem) (z : Int32 × Mem), k34 v0 v1 v2 v4 v5 s = some z → V E mX8_repeats G 34 [some (vr v0), some (vi v1), some (vi v2), none, some (vi v4), some (vi v5)] [] s (some (vi z.1), z.2)) {v0 : Option Nat} {v1 : Int32} {v2 : Int32} {v4 : Int32} {v5 : Int32} {σ : Mem} {z : Int32 × Mem} (h : sX8_repeats_34b k34 v0 v1 v2 v4 v5 σ = some z) : V E mX8_repeats G 34 [some (vr v0), some (vi v1), some (vi v2), none, some (vi v4), some (vi v5)] [] σ (some (vi z.1), z.2) := by
  unfold sX8_repeats_34b at h
  refine v_iload dX8_repeats_34 rfl ?_
  refine v_il1 dX8_repeats_36 ?_
  refine v_iload dX8_repeats_37 rfl ?_
  refine v_il2 dX8_repeats_39 ?_
  refine v_imul dX8_repeats_40 ?_
  refine v_iadd dX8_repeats_41 ?_
  refine v_icmp_ge (tgt := 119) dX8_repeats_42 (by decide) (fun c => ?_) (fun c => ?_)
  · rw [if_pos c] at h
    refine v_al0 dX8_repeats_119 ?_
    refine v_il1 dX8_repeats_120 ?_
    refine v_iload dX8_repeats_121 rfl ?_
    refine v_il2 dX8_repeats_123 ?_
    refine v_imul dX8_repeats_124 ?_
    refine v_iadd dX8_repeats_125 ?_
    refine v_pI cok6 h dX8_repeats_126 (by decide) q1438 rfl rfl (fun s1 h => ?_)
    refine v_iconst dX8_repeats_129 ?_
    exact v_retZ h dX8_repeats_130 rfl
  · rw [if_neg c] at h
    refine v_al0 dX8_repeats_45 ?_
    refine v_gR cok6 h dX8_repeats_46 (by decide) q1431 rfl (fun x2 h => ?_)
    refine v_iload dX8_repeats_49 rfl ?_
    refine v_al0 dX8_repeats_51 ?_
    refine v_gR cok6 h dX8_repeats_52 (by decide) q1431 rfl (fun x3 h => ?_)
    refine v_iload dX8_repeats_55 rfl ?_
    refine v_iload dX8_repeats_57 rfl ?_
    refine v_isub dX8_repeats_59 ?_
    refine v_aI h dX8_repeats_60 (fun x4 h => ?_)
    refine v_sI h dX8_repeats_61 (fun s5 h => ?_)
    refine v_al0 dX8_repeats_62 ?_
    refine v_gR cok6 h dX8_repeats_63 (by decide) q1432 rfl (fun x6 h => ?_)
    refine v_iload dX8_repeats_66 rfl ?_
    refine v_al0 dX8_repeats_68 ?_
    refine v_gR cok6 h dX8_repeats_69 (by decide) q1432 rfl (fun x7 h => ?_)
    refine v_iload dX8_repeats_72 rfl ?_
    refine v_iload dX8_repeats_74 rfl ?_
    refine v_isub dX8_repeats_76 ?_
    refine v_aI h dX8_repeats_77 (fun x8 h => ?_)
    refine v_sI h dX8_repeats_78 (fun s9 h => ?_)
    refine v_al0 dX8_repeats_79 ?_
    refine v_gR cok6 h dX8_repeats_80 (by decide) q1433 rfl (fun x10 h => ?_)
    refine v_iload dX8_repeats_83 rfl ?_
    refine v_al0 dX8_repeats_85 ?_
    refine v_gR cok6 h dX8_repeats_86 (by decide) q1433 rfl (fun x11 h => ?_)
    refine v_iload dX8_repeats_89 rfl ?_
    refine v_iload dX8_repeats_91 rfl ?_
    refine v_isub dX8_repeats_93 ?_
    refine v_aI h dX8_repeats_94 (fun x12 h => ?_)
    refine v_sI h dX8_repeats_95 (fun s13 h => ?_)
    refine v_al0 dX8_repeats_96 ?_
    refine v_gR cok6 h dX8_repeats_97 (by decide) q1434 rfl (fun x14 h => ?_)
    refine v_iload dX8_repeats_100 rfl ?_
    refine v_al0 dX8_repeats_102 ?_
    refine v_gR cok6 h dX8_repeats_103 (by decide) q1434 rfl (fun x15 h => ?_)
    refine v_iload dX8_repeats_106 rfl ?_
    refine v_iload dX8_repeats_108 rfl ?_
    refine v_isub dX8_repeats_110 ?_
    refine v_aI h dX8_repeats_111 (fun x16 h => ?_)
    refine v_sI h dX8_repeats_112 (fun s17 h => ?_)
    refine v_iinc (L' := [some (vr v0), some (vi v1), some (vi v2), none, some (vi v4), some (vi (v5 + iI 1))]) dX8_repeats_113 (Nat.le_of_ble_eq_true rfl) rfl rfl ?_
    refine v_goto (tgt := 34) dX8_repeats_116 (by decide) ?_
    exact v_weak (wss (wss (wss (wsn (wss (wss wse)))))) (hk34 _ _ _ _ _ _ _ h)
theorem lX8_repeats_34 {E : EE} {G : GG} : ∀ (f : Nat) {v0 : Option Nat} {v1 : Int32} {v2 : Int32} {v4 : Int32} {v5 : Int32} {σ : Mem} {z : Int32 × Mem}, sX8_repeats_34 f v0 v1 v2 v4 v5 σ = some z → V E mX8_repeats G 34 [some (vr v0), some (vi v1), some (vi v2), none, some (vi v4), some (vi v5)] [] σ (some (vi z.1), z.2)
  | 0, _, _, _, _, _, _, _, h => by cases h
  | f + 1, _, _, _, _, _, _, _, h => lX8_repeats_34b (fun _ _ _ _ _ _ _ h => lX8_repeats_34 f h) h
theorem lX8_repeats {E : EE} {G : GG} {v0 : Option Nat} {v1 : Int32} {v2 : Int32} {v3 : Int32} {σ : Mem} {z : Int32 × Mem} (h : sX8_repeats v0 v1 v2 v3 σ = some z) : V E mX8_repeats G 0 [some (vr v0), some (vi v1), some (vi v2), some (vi v3), none, none] [] σ (some (vi z.1), z.2) := by
  unfold sX8_repeats at h
  refine v_al0 dX8_repeats_0 ?_
  refine v_gI cok6 h dX8_repeats_1 (by decide) q1438 rfl (fun x1 h => ?_)
  refine v_il1 dX8_repeats_4 ?_
  refine v_isub dX8_repeats_5 ?_
  refine v_istore (L' := [some (vr v0), some (vi v1), some (vi v2), some (vi v3), some (vi (x1 - v1)), none]) dX8_repeats_6 (Nat.le_of_ble_eq_true rfl) (Nat.le_of_ble_eq_true rfl) rfl ?_
  refine v_il1 dX8_repeats_8 ?_
  refine v_iload dX8_repeats_9 rfl ?_
  refine v_il2 dX8_repeats_11 ?_
  refine v_imul dX8_repeats_12 ?_
  refine v_iadd dX8_repeats_13 ?_
  refine v_sipush dX8_repeats_14 rfl ?_
  refine v_icmp_le (tgt := 28) dX8_repeats_17 (by decide) (fun c => ?_) (fun c => ?_)
  · rw [if_pos c] at h
    refine v_il1 dX8_repeats_28 ?_
    refine v_iload dX8_repeats_29 rfl ?_
    refine v_iadd dX8_repeats_31 ?_
    refine v_istore (L' := [some (vr v0), some (vi v1), some (vi v2), some (vi v3), some (vi (x1 - v1)), some (vi (v1 + (x1 - v1)))]) dX8_repeats_32 (Nat.le_of_ble_eq_true rfl) (Nat.le_of_ble_eq_true rfl) rfl ?_
    exact v_weak (wss (wss (wss (wsn (wss (wss wse)))))) (lX8_repeats_34 FU h)
  · rw [if_neg c] at h
    refine v_al0 dX8_repeats_20 ?_
    refine v_bipush dX8_repeats_21 rfl ?_
    refine v_il3 dX8_repeats_23 ?_
    obtain ⟨b24, er, ka, h⟩ := cV_some h
    obtain ⟨x2, s3, h1, h⟩ := cl_some h
    refine v_callV1 cok6 (As := [vi (iI 6), vi v3]) er ka (tX8_wrongAt h1) (lw_V q1564 q1566 qs67 q167 q1567) rfl dsX8_wrongAt ⟨Nat.le_of_ble_eq_true rfl, Nat.le_of_ble_eq_true rfl⟩ (Nat.le_of_ble_eq_true rfl) dX8_repeats_24 rfl ?_
    exact v_retZ h dX8_repeats_27 rfl
theorem tX8_repeats {E : EE} {l : Launch} {v0 : Option Nat} {v1 : Int32} {v2 : Int32} {v3 : Int32} {σ : Mem} {z : Int32 × Mem} (h : sX8_repeats v0 v1 v2 v3 σ = some z) : Mt E l mX8_repeats [vr v0, vi v1, vi v2, vi v3] σ (some (vi z.1), z.2) :=
  Mt.ofVL (by decide) (Nat.le_of_ble_eq_true rfl) (fun G hG => lX8_repeats h)
abbrev mX8_readsAct : MM := (yX8_readsAct, cX8_readsAct, 4, (Option.some Jvm.ClassFile.FieldType.boolean), 3, 64)
theorem dsX8_readsAct : DsOk yX8_readsAct 0 := ⟨by decide, by decide, by decide +kernel⟩
theorem lX8_readsAct_245b {E : EE} {G : GG} {k245 : Option Nat → Mem → Option (Int32 × Mem)} (hk245 : ∀ (v0 : Option Nat) (s : Mem) (z : Int32 × Mem), k245 v0 s = some z → V E mX8_readsAct G 245 [some (vr v0), none, none, none] [] s (some (vi z.1), z.2)) {v0 : Option Nat} {σ : Mem} {z : Int32 × Mem} (h : sX8_readsAct_245b k245 v0 σ = some z) : V E mX8_readsAct G 245 [some (vr v0), none, none, none] [] σ (some (vi z.1), z.2) := by
  unfold sX8_readsAct_245b at h
  refine v_al0 dX8_readsAct_245 ?_
  obtain ⟨b246, er, ka, h⟩ := cV_some h
  obtain ⟨x1, s2, h1, h⟩ := cl_some h
  refine v_callV1 cok6 (As := []) er ka (tX8_here h1) (lw_V q1560 q1562 qs66 q167 q1563) rfl dsX8_here ⟨Nat.le_of_ble_eq_true rfl, Nat.le_of_ble_eq_true rfl⟩ (Nat.le_of_ble_eq_true rfl) dX8_readsAct_246 rfl ?_
  refine v_bipush dX8_readsAct_249 rfl ?_
  refine v_icmp_ne (tgt := 317) dX8_readsAct_251 (by decide) (fun c => ?_) (fun c => ?_)
  · rw [if_neg c] at h
    refine v_iconst dX8_readsAct_317 ?_
    exact v_retZ h dX8_readsAct_318 rfl
  · rw [if_pos c] at h
    refine v_al0 dX8_readsAct_254 ?_
    refine v_gI cok6 h dX8_readsAct_255 (by decide) q1439 rfl (fun x3 h => ?_)
    refine v_if_le (tgt := 317) dX8_readsAct_258 (by decide) (fun c => ?_) (fun c => ?_)
    · rw [if_pos c] at h
      refine v_iconst dX8_readsAct_317 ?_
      exact v_retZ h dX8_readsAct_318 rfl
    · rw [if_neg c] at h
      refine v_al0 dX8_readsAct_261 ?_
      refine v_al0 dX8_readsAct_262 ?_
      refine v_gI cok6 h dX8_readsAct_263 (by decide) q1408 rfl (fun x4 h => ?_)
      refine v_iconst dX8_readsAct_266 ?_
      refine v_iadd dX8_readsAct_267 ?_
      refine v_pI cok6 h dX8_readsAct_268 (by decide) q1408 rfl rfl (fun s5 h => ?_)
      refine v_al0 dX8_readsAct_271 ?_
      refine v_al0 dX8_readsAct_272 ?_
      refine v_gI cok6 h dX8_readsAct_273 (by decide) q1439 rfl (fun x6 h => ?_)
      refine v_iconst dX8_readsAct_276 ?_
      refine v_isub dX8_readsAct_277 ?_
      refine v_pI cok6 h dX8_readsAct_278 (by decide) q1439 rfl rfl (fun s7 h => ?_)
      refine v_al0 dX8_readsAct_281 ?_
      refine v_al0 dX8_readsAct_282 ?_
      refine v_gR cok6 h dX8_readsAct_283 (by decide) q1436 rfl (fun x8 h => ?_)
      refine v_al0 dX8_readsAct_286 ?_
      refine v_gI cok6 h dX8_readsAct_287 (by decide) q1439 rfl (fun x9 h => ?_)
      refine v_aI h dX8_readsAct_290 (fun x10 h => ?_)
      refine v_al0 dX8_readsAct_291 ?_
      refine v_gR cok6 h dX8_readsAct_292 (by decide) q1437 rfl (fun x11 h => ?_)
      refine v_al0 dX8_readsAct_295 ?_
      refine v_gI cok6 h dX8_readsAct_296 (by decide) q1439 rfl (fun x12 h => ?_)
      refine v_aI h dX8_readsAct_299 (fun x13 h => ?_)
      refine v_al0 dX8_readsAct_300 ?_
      refine v_gR cok6 h dX8_readsAct_301 (by decide) q1435 rfl (fun x14 h => ?_)
      refine v_al0 dX8_readsAct_304 ?_
      refine v_gI cok6 h dX8_readsAct_305 (by decide) q1439 rfl (fun x15 h => ?_)
      refine v_aI h dX8_readsAct_308 (fun x16 h => ?_)
      obtain ⟨b309, er, ka, h⟩ := cV_some h
      obtain ⟨x17, s18, h1, h⟩ := cl_some h
      refine v_callV1 cok6 (As := [vi x10, vi x13, vi x16]) er ka (tX8_repeats h1) (lw_V q1937 q1939 qs144 q167 q1940) rfl dsX8_repeats ⟨Nat.le_of_ble_eq_true rfl, Nat.le_of_ble_eq_true rfl⟩ (Nat.le_of_ble_eq_true rfl) dX8_readsAct_309 rfl ?_
      refine v_if_ne (tgt := 245) dX8_readsAct_312 (by decide) (fun c => ?_) (fun c => ?_)
      · rw [if_neg c] at h
        exact v_weak (wss (wsn (wsn (wsn wse)))) (hk245 _ _ _ h)
      · rw [if_pos c] at h
        refine v_iconst dX8_readsAct_315 ?_
        exact v_retZ h dX8_readsAct_316 rfl
theorem lX8_readsAct_245 {E : EE} {G : GG} : ∀ (f : Nat) {v0 : Option Nat} {σ : Mem} {z : Int32 × Mem}, sX8_readsAct_245 f v0 σ = some z → V E mX8_readsAct G 245 [some (vr v0), none, none, none] [] σ (some (vi z.1), z.2)
  | 0, _, _, _, h => by cases h
  | f + 1, _, _, _, h => lX8_readsAct_245b (fun _ _ _ h => lX8_readsAct_245 f h) h
theorem lX8_readsAct_4b {E : EE} {G : GG} {k4 : Option Nat → Mem → Option (Int32 × Mem)} (hk4 : ∀ (v0 : Option Nat) (s : Mem) (z : Int32 × Mem), k4 v0 s = some z → V E mX8_readsAct G 4 [some (vr v0), none, none, none] [] s (some (vi z.1), z.2)) {v0 : Option Nat} {σ : Mem} {z : Int32 × Mem} (h : sX8_readsAct_4b k4 v0 σ = some z) : V E mX8_readsAct G 4 [some (vr v0), none, none, none] [] σ (some (vi z.1), z.2) := by
  unfold sX8_readsAct_4b at h
  refine v_al0 dX8_readsAct_4 ?_
  obtain ⟨b5, er, ka, h⟩ := cV_some h
  obtain ⟨x1, s2, h1, h⟩ := cl_some h
  refine v_callV1 cok6 (As := []) er ka (tX8_here h1) (lw_V q1560 q1562 qs66 q167 q1563) rfl dsX8_here ⟨Nat.le_of_ble_eq_true rfl, Nat.le_of_ble_eq_true rfl⟩ (Nat.le_of_ble_eq_true rfl) dX8_readsAct_5 rfl ?_
  refine v_bipush dX8_readsAct_8 rfl ?_
  refine v_icmp_ne (tgt := 97) dX8_readsAct_10 (by decide) (fun c => ?_) (fun c => ?_)
  · rw [if_neg c] at h
    refine v_al0 dX8_readsAct_97 ?_
    refine v_gI cok6 h dX8_readsAct_98 (by decide) q1440 rfl (fun x3 h => ?_)
    refine v_istore_n (L' := [some (vr v0), some (vi x3), none, none]) dX8_readsAct_101 (Nat.le_of_ble_eq_true rfl) (Nat.le_of_ble_eq_true rfl) rfl ?_
    refine v_al0 dX8_readsAct_102 ?_
    refine v_gI cok6 h dX8_readsAct_103 (by decide) q1441 rfl (fun x4 h => ?_)
    refine v_istore_n (L' := [some (vr v0), some (vi x3), some (vi x4), none]) dX8_readsAct_106 (Nat.le_of_ble_eq_true rfl) (Nat.le_of_ble_eq_true rfl) rfl ?_
    refine v_al0 dX8_readsAct_107 ?_
    obtain ⟨b108, er, ka, h⟩ := cV_some h
    obtain ⟨x5, s6, h1, h⟩ := cl_some h
    refine v_callV1 cok6 (As := []) er ka (tX8_here h1) (lw_V q1560 q1562 qs66 q167 q1563) rfl dsX8_here ⟨Nat.le_of_ble_eq_true rfl, Nat.le_of_ble_eq_true rfl⟩ (Nat.le_of_ble_eq_true rfl) dX8_readsAct_108 rfl ?_
    refine v_istore_n (L' := [some (vr v0), some (vi x3), some (vi x4), some (vi x5)]) dX8_readsAct_111 (Nat.le_of_ble_eq_true rfl) (Nat.le_of_ble_eq_true rfl) rfl ?_
    refine v_il3 dX8_readsAct_112 ?_
    obtain ⟨x7, s8, h1, h⟩ := cl_some h
    refine v_callS1 (As := [vi x5]) (tX8_isAct h1) (lw_S q1926 q1927 q167 q1928) dsX8_isAct ⟨Nat.le_of_ble_eq_true rfl, Nat.le_of_ble_eq_true rfl⟩ (Nat.le_of_ble_eq_true rfl) dX8_readsAct_113 rfl ?_
    refine v_if_ne (tgt := 129) dX8_readsAct_116 (by decide) (fun c => ?_) (fun c => ?_)
    · rw [if_neg c] at h
      refine v_al0 dX8_readsAct_129 ?_
      refine v_al0 dX8_readsAct_130 ?_
      refine v_gI cok6 h dX8_readsAct_131 (by decide) q1408 rfl (fun x9 h => ?_)
      refine v_iconst dX8_readsAct_134 ?_
      refine v_iadd dX8_readsAct_135 ?_
      refine v_pI cok6 h dX8_readsAct_136 (by decide) q1408 rfl rfl (fun s10 h => ?_)
      refine v_al0 dX8_readsAct_139 ?_
      refine v_il3 dX8_readsAct_140 ?_
      obtain ⟨b141, er, ka, h⟩ := cV_some h
      obtain ⟨x11, s12, h1, h⟩ := cl_some h
      refine v_callV1 cok6 (As := [vi x5]) er ka (tX8_readsNumbers h1) (lw_V q1929 q1931 qs142 q167 q1932) rfl dsX8_readsNumbers ⟨Nat.le_of_ble_eq_true rfl, Nat.le_of_ble_eq_true rfl⟩ (Nat.le_of_ble_eq_true rfl) dX8_readsAct_141 rfl ?_
      refine v_if_ne (tgt := 149) dX8_readsAct_144 (by decide) (fun c => ?_) (fun c => ?_)
      · rw [if_neg c] at h
        refine v_al0 dX8_readsAct_149 ?_
        refine v_gI cok6 h dX8_readsAct_150 (by decide) q1438 rfl (fun x13 h => ?_)
        refine v_il2 dX8_readsAct_153 ?_
        refine v_iadd dX8_readsAct_154 ?_
        refine v_sipush dX8_readsAct_155 rfl ?_
        refine v_icmp_le (tgt := 169) dX8_readsAct_158 (by decide) (fun c => ?_) (fun c => ?_)
        · rw [if_pos c] at h
          refine v_al0 dX8_readsAct_169 ?_
          refine v_gR cok6 h dX8_readsAct_170 (by decide) q1431 rfl (fun x14 h => ?_)
          refine v_al0 dX8_readsAct_173 ?_
          refine v_gI cok6 h dX8_readsAct_174 (by decide) q1438 rfl (fun x15 h => ?_)
          refine v_il3 dX8_readsAct_177 ?_
          refine v_sI h dX8_readsAct_178 (fun s16 h => ?_)
          refine v_al0 dX8_readsAct_179 ?_
          refine v_gR cok6 h dX8_readsAct_180 (by decide) q1432 rfl (fun x17 h => ?_)
          refine v_al0 dX8_readsAct_183 ?_
          refine v_gI cok6 h dX8_readsAct_184 (by decide) q1438 rfl (fun x18 h => ?_)
          refine v_al0 dX8_readsAct_187 ?_
          refine v_gI cok6 h dX8_readsAct_188 (by decide) q1442 rfl (fun x19 h => ?_)
          refine v_sI h dX8_readsAct_191 (fun s20 h => ?_)
          refine v_al0 dX8_readsAct_192 ?_
          refine v_gR cok6 h dX8_readsAct_193 (by decide) q1433 rfl (fun x21 h => ?_)
          refine v_al0 dX8_readsAct_196 ?_
          refine v_gI cok6 h dX8_readsAct_197 (by decide) q1438 rfl (fun x22 h => ?_)
          refine v_al0 dX8_readsAct_200 ?_
          refine v_gI cok6 h dX8_readsAct_201 (by decide) q1443 rfl (fun x23 h => ?_)
          refine v_sI h dX8_readsAct_204 (fun s24 h => ?_)
          refine v_al0 dX8_readsAct_205 ?_
          refine v_gR cok6 h dX8_readsAct_206 (by decide) q1434 rfl (fun x25 h => ?_)
          refine v_al0 dX8_readsAct_209 ?_
          refine v_gI cok6 h dX8_readsAct_210 (by decide) q1438 rfl (fun x26 h => ?_)
          refine v_al0 dX8_readsAct_213 ?_
          refine v_gI cok6 h dX8_readsAct_214 (by decide) q1444 rfl (fun x27 h => ?_)
          refine v_sI h dX8_readsAct_217 (fun s28 h => ?_)
          refine v_al0 dX8_readsAct_218 ?_
          refine v_al0 dX8_readsAct_219 ?_
          refine v_gI cok6 h dX8_readsAct_220 (by decide) q1438 rfl (fun x29 h => ?_)
          refine v_iconst dX8_readsAct_223 ?_
          refine v_iadd dX8_readsAct_224 ?_
          refine v_pI cok6 h dX8_readsAct_225 (by decide) q1438 rfl rfl (fun s30 h => ?_)
          refine v_al0 dX8_readsAct_228 ?_
          refine v_al0 dX8_readsAct_229 ?_
          refine v_gI cok6 h dX8_readsAct_230 (by decide) q1438 rfl (fun x31 h => ?_)
          refine v_iconst dX8_readsAct_233 ?_
          refine v_isub dX8_readsAct_234 ?_
          refine v_il2 dX8_readsAct_235 ?_
          refine v_il1 dX8_readsAct_236 ?_
          obtain ⟨b237, er, ka, h⟩ := cV_some h
          obtain ⟨x32, s33, h1, h⟩ := cl_some h
          refine v_callV1 cok6 (As := [vi (x31 - (iI 1)), vi x4, vi x3]) er ka (tX8_repeats h1) (lw_V q1937 q1939 qs144 q167 q1940) rfl dsX8_repeats ⟨Nat.le_of_ble_eq_true rfl, Nat.le_of_ble_eq_true rfl⟩ (Nat.le_of_ble_eq_true rfl) dX8_readsAct_237 rfl ?_
          refine v_if_ne (tgt := 245) dX8_readsAct_240 (by decide) (fun c => ?_) (fun c => ?_)
          · rw [if_neg c] at h
            exact v_weak (wss (wsn (wsn (wsn wse)))) (lX8_readsAct_245 FU h)
          · rw [if_pos c] at h
            refine v_iconst dX8_readsAct_243 ?_
            exact v_retZ h dX8_readsAct_244 rfl
        · rw [if_neg c] at h
          refine v_al0 dX8_readsAct_161 ?_
          refine v_bipush dX8_readsAct_162 rfl ?_
          refine v_il1 dX8_readsAct_164 ?_
          obtain ⟨b165, er, ka, h⟩ := cV_some h
          obtain ⟨x34, s35, h1, h⟩ := cl_some h
          refine v_callV1 cok6 (As := [vi (iI 6), vi x3]) er ka (tX8_wrongAt h1) (lw_V q1564 q1566 qs67 q167 q1567) rfl dsX8_wrongAt ⟨Nat.le_of_ble_eq_true rfl, Nat.le_of_ble_eq_true rfl⟩ (Nat.le_of_ble_eq_true rfl) dX8_readsAct_165 rfl ?_
          exact v_retZ h dX8_readsAct_168 rfl
      · rw [if_pos c] at h
        refine v_iconst dX8_readsAct_147 ?_
        exact v_retZ h dX8_readsAct_148 rfl
    · rw [if_pos c] at h
      refine v_al0 dX8_readsAct_119 ?_
      refine v_iconst dX8_readsAct_120 ?_
      refine v_al0 dX8_readsAct_121 ?_
      refine v_gI cok6 h dX8_readsAct_122 (by decide) q1408 rfl (fun x36 h => ?_)
      obtain ⟨b125, er, ka, h⟩ := cV_some h
      obtain ⟨x37, s38, h1, h⟩ := cl_some h
      refine v_callV1 cok6 (As := [vi (iI 1), vi x36]) er ka (tX8_wrongAt h1) (lw_V q1564 q1566 qs67 q167 q1567) rfl dsX8_wrongAt ⟨Nat.le_of_ble_eq_true rfl, Nat.le_of_ble_eq_true rfl⟩ (Nat.le_of_ble_eq_true rfl) dX8_readsAct_125 rfl ?_
      exact v_retZ h dX8_readsAct_128 rfl
  · rw [if_pos c] at h
    refine v_al0 dX8_readsAct_13 ?_
    refine v_gI cok6 h dX8_readsAct_14 (by decide) q1439 rfl (fun x39 h => ?_)
    refine v_iconst dX8_readsAct_17 ?_
    refine v_icmp_ne (tgt := 31) dX8_readsAct_18 (by decide) (fun c => ?_) (fun c => ?_)
    · rw [if_neg c] at h
      refine v_al0 dX8_readsAct_31 ?_
      refine v_gR cok6 h dX8_readsAct_32 (by decide) q1435 rfl (fun x40 h => ?_)
      refine v_al0 dX8_readsAct_35 ?_
      refine v_gI cok6 h dX8_readsAct_36 (by decide) q1439 rfl (fun x41 h => ?_)
      refine v_al0 dX8_readsAct_39 ?_
      refine v_gI cok6 h dX8_readsAct_40 (by decide) q1440 rfl (fun x42 h => ?_)
      refine v_sI h dX8_readsAct_43 (fun s43 h => ?_)
      refine v_al0 dX8_readsAct_44 ?_
      refine v_gR cok6 h dX8_readsAct_45 (by decide) q1436 rfl (fun x44 h => ?_)
      refine v_al0 dX8_readsAct_48 ?_
      refine v_gI cok6 h dX8_readsAct_49 (by decide) q1439 rfl (fun x45 h => ?_)
      refine v_al0 dX8_readsAct_52 ?_
      refine v_gI cok6 h dX8_readsAct_53 (by decide) q1438 rfl (fun x46 h => ?_)
      refine v_sI h dX8_readsAct_56 (fun s47 h => ?_)
      refine v_al0 dX8_readsAct_57 ?_
      refine v_gR cok6 h dX8_readsAct_58 (by decide) q1437 rfl (fun x48 h => ?_)
      refine v_al0 dX8_readsAct_61 ?_
      refine v_gI cok6 h dX8_readsAct_62 (by decide) q1439 rfl (fun x49 h => ?_)
      refine v_al0 dX8_readsAct_65 ?_
      refine v_gI cok6 h dX8_readsAct_66 (by decide) q1441 rfl (fun x50 h => ?_)
      refine v_sI h dX8_readsAct_69 (fun s51 h => ?_)
      refine v_al0 dX8_readsAct_70 ?_
      refine v_al0 dX8_readsAct_71 ?_
      refine v_gI cok6 h dX8_readsAct_72 (by decide) q1439 rfl (fun x52 h => ?_)
      refine v_iconst dX8_readsAct_75 ?_
      refine v_iadd dX8_readsAct_76 ?_
      refine v_pI cok6 h dX8_readsAct_77 (by decide) q1439 rfl rfl (fun s53 h => ?_)
      refine v_al0 dX8_readsAct_80 ?_
      refine v_al0 dX8_readsAct_81 ?_
      refine v_gI cok6 h dX8_readsAct_82 (by decide) q1408 rfl (fun x54 h => ?_)
      refine v_iconst dX8_readsAct_85 ?_
      refine v_iadd dX8_readsAct_86 ?_
      refine v_pI cok6 h dX8_readsAct_87 (by decide) q1408 rfl rfl (fun s55 h => ?_)
      refine v_al0 dX8_readsAct_90 ?_
      obtain ⟨b91, er, ka, h⟩ := cV_some h
      obtain ⟨_, s56, h1, h⟩ := cl_some h
      refine v_callV0 cok6 (As := []) er ka (tX8_readsTimes h1) (lw_V q1922 q1924 qs141 q167 q1925) rfl dsX8_readsTimes ⟨Nat.le_of_ble_eq_true rfl, Nat.le_of_ble_eq_true rfl⟩ (Nat.le_of_ble_eq_true rfl) dX8_readsAct_91 rfl ?_
      refine v_goto (tgt := 4) dX8_readsAct_94 (by decide) ?_
      exact v_weak (wss (wsn (wsn (wsn wse)))) (hk4 _ _ _ h)
    · rw [if_pos c] at h
      refine v_al0 dX8_readsAct_21 ?_
      refine v_iconst dX8_readsAct_22 ?_
      refine v_al0 dX8_readsAct_23 ?_
      refine v_gI cok6 h dX8_readsAct_24 (by decide) q1408 rfl (fun x57 h => ?_)
      obtain ⟨b27, er, ka, h⟩ := cV_some h
      obtain ⟨x58, s59, h1, h⟩ := cl_some h
      refine v_callV1 cok6 (As := [vi (iI 5), vi x57]) er ka (tX8_wrongAt h1) (lw_V q1564 q1566 qs67 q167 q1567) rfl dsX8_wrongAt ⟨Nat.le_of_ble_eq_true rfl, Nat.le_of_ble_eq_true rfl⟩ (Nat.le_of_ble_eq_true rfl) dX8_readsAct_27 rfl ?_
      exact v_retZ h dX8_readsAct_30 rfl
theorem lX8_readsAct_4 {E : EE} {G : GG} : ∀ (f : Nat) {v0 : Option Nat} {σ : Mem} {z : Int32 × Mem}, sX8_readsAct_4 f v0 σ = some z → V E mX8_readsAct G 4 [some (vr v0), none, none, none] [] σ (some (vi z.1), z.2)
  | 0, _, _, _, h => by cases h
  | f + 1, _, _, _, h => lX8_readsAct_4b (fun _ _ _ h => lX8_readsAct_4 f h) h
theorem lX8_readsAct {E : EE} {G : GG} {v0 : Option Nat} {σ : Mem} {z : Int32 × Mem} (h : sX8_readsAct v0 σ = some z) : V E mX8_readsAct G 0 [some (vr v0), none, none, none] [] σ (some (vi z.1), z.2) := by
  unfold sX8_readsAct at h
  refine v_al0 dX8_readsAct_0 ?_
  obtain ⟨b1, er, ka, h⟩ := cV_some h
  obtain ⟨_, s1, h1, h⟩ := cl_some h
  refine v_callV0 cok6 (As := []) er ka (tX8_readsTimes h1) (lw_V q1922 q1924 qs141 q167 q1925) rfl dsX8_readsTimes ⟨Nat.le_of_ble_eq_true rfl, Nat.le_of_ble_eq_true rfl⟩ (Nat.le_of_ble_eq_true rfl) dX8_readsAct_1 rfl ?_
  exact v_weak (wss (wsn (wsn (wsn wse)))) (lX8_readsAct_4 FU h)
theorem tX8_readsAct {E : EE} {l : Launch} {v0 : Option Nat} {σ : Mem} {z : Int32 × Mem} (h : sX8_readsAct v0 σ = some z) : Mt E l mX8_readsAct [vr v0] σ (some (vi z.1), z.2) :=
  Mt.ofVL (by decide) (Nat.le_of_ble_eq_true rfl) (fun G hG => lX8_readsAct h)
abbrev mX8_isDone : MM := (yX8_isDone, cX8_isDone, 2, (Option.some Jvm.ClassFile.FieldType.boolean), 13, 296)
theorem dsX8_isDone : DsOk yX8_isDone 1 := ⟨by decide, by decide, by decide +kernel⟩
theorem lX8_isDone_187 {E : EE} {G : GG} {t0 : Option Nat} {t1 : Int32} {t2 : Int32} {t3 : Int32} {σ : Mem} {z : Int32 × Mem} (h : sX8_isDone_187 t0 t1 t2 t3 σ = some z) : V E mX8_isDone G 187 [none, none] [vi t3, vi t2, vi t1, vr t0] σ (some (vi z.1), z.2) := by
  unfold sX8_isDone_187 at h
  obtain ⟨b187, er, ka, h⟩ := cV_some h
  obtain ⟨x1, s2, h1, h⟩ := cl_some h
  refine v_callV1 cok6 (As := [vi t1, vi t2, vi t3]) er ka (tX8_cut h1) (lw_V q1950 q1887 q1888 q167 q1889) rfl dsX8_cut ⟨Nat.le_of_ble_eq_true rfl, Nat.le_of_ble_eq_true rfl⟩ (Nat.le_of_ble_eq_true rfl) dX8_isDone_187 rfl ?_
  exact v_retZ h dX8_isDone_190 rfl
theorem lX8_isDone {E : EE} {G : GG} {v0 : Option Nat} {v1 : Int32} {σ : Mem} {z : Int32 × Mem} (h : sX8_isDone v0 v1 σ = some z) : V E mX8_isDone G 0 [some (vr v0), some (vi v1)] [] σ (some (vi z.1), z.2) := by
  unfold sX8_isDone at h
  refine v_al0 dX8_isDone_0 ?_
  refine v_gR cok6 h dX8_isDone_1 (by decide) q1431 rfl (fun x1 h => ?_)
  refine v_il1 dX8_isDone_4 ?_
  refine v_aI h dX8_isDone_5 (fun x2 h => ?_)
  by_cases c0 : x2 = iI 46
  · rw [if_pos c0] at h
    refine v_look (tgt := 64) dX8_isDone_6 (by decide) (by rw [c0]; try rfl) (by decide) ?_
    refine v_al0 dX8_isDone_64 ?_
    obtain ⟨b65, er, ka, h⟩ := cV_some h
    obtain ⟨x3, s4, h1, h⟩ := cl_some h
    refine v_callV1 cok6 (As := []) er ka (tX8_oneTick h1) (lw_V q1642 q1644 qs84 q167 q1645) rfl dsX8_oneTick ⟨Nat.le_of_ble_eq_true rfl, Nat.le_of_ble_eq_true rfl⟩ (Nat.le_of_ble_eq_true rfl) dX8_isDone_65 rfl ?_
    exact v_retZ h dX8_isDone_68 rfl
  · rw [if_neg c0] at h
    by_cases c1 : x2 = iI 99
    · rw [if_pos c1] at h
      refine v_look (tgt := 91) dX8_isDone_6 (by decide) (by rw [c1]; try rfl) (by decide) ?_
      refine v_al0 dX8_isDone_91 ?_
      refine v_al0 dX8_isDone_92 ?_
      refine v_gR cok6 h dX8_isDone_93 (by decide) q1432 rfl (fun x5 h => ?_)
      refine v_il1 dX8_isDone_96 ?_
      refine v_aI h dX8_isDone_97 (fun x6 h => ?_)
      obtain ⟨b98, er, ka, h⟩ := cV_some h
      obtain ⟨x7, s8, h1, h⟩ := cl_some h
      refine v_callV1 cok6 (As := [vi x6]) er ka (tX8_compact h1) (lw_V q1947 q1891 q1892 q167 q1893) rfl dsX8_compact ⟨Nat.le_of_ble_eq_true rfl, Nat.le_of_ble_eq_true rfl⟩ (Nat.le_of_ble_eq_true rfl) dX8_isDone_98 rfl ?_
      exact v_retZ h dX8_isDone_101 rfl
    · rw [if_neg c1] at h
      by_cases c2 : x2 = iI 107
      · rw [if_pos c2] at h
        refine v_look (tgt := 69) dX8_isDone_6 (by decide) (by rw [c2]; try rfl) (by decide) ?_
        refine v_al0 dX8_isDone_69 ?_
        refine v_al0 dX8_isDone_70 ?_
        refine v_gR cok6 h dX8_isDone_71 (by decide) q1432 rfl (fun x9 h => ?_)
        refine v_il1 dX8_isDone_74 ?_
        refine v_aI h dX8_isDone_75 (fun x10 h => ?_)
        obtain ⟨b76, er, ka, h⟩ := cV_some h
        obtain ⟨x11, s12, h1, h⟩ := cl_some h
        refine v_callV1 cok6 (As := [vi x10]) er ka (tX8_crash h1) (lw_V q1945 q1879 q1880 q167 q1881) rfl dsX8_crash ⟨Nat.le_of_ble_eq_true rfl, Nat.le_of_ble_eq_true rfl⟩ (Nat.le_of_ble_eq_true rfl) dX8_isDone_76 rfl ?_
        exact v_retZ h dX8_isDone_79 rfl
      · rw [if_neg c2] at h
        by_cases c3 : x2 = iI 114
        · rw [if_pos c3] at h
          refine v_look (tgt := 133) dX8_isDone_6 (by decide) (by rw [c3]; try rfl) (by decide) ?_
          refine v_al0 dX8_isDone_133 ?_
          refine v_al0 dX8_isDone_134 ?_
          refine v_gR cok6 h dX8_isDone_135 (by decide) q1432 rfl (fun x13 h => ?_)
          refine v_il1 dX8_isDone_138 ?_
          refine v_aI h dX8_isDone_139 (fun x14 h => ?_)
          refine v_al0 dX8_isDone_140 ?_
          refine v_gR cok6 h dX8_isDone_141 (by decide) q1433 rfl (fun x15 h => ?_)
          refine v_il1 dX8_isDone_144 ?_
          refine v_aI h dX8_isDone_145 (fun x16 h => ?_)
          obtain ⟨b146, er, ka, h⟩ := cV_some h
          obtain ⟨x17, s18, h1, h⟩ := cl_some h
          refine v_callV1 cok6 (As := [vi x14, vi x16]) er ka (tX8_ask h1) (lw_V q1949 q1911 q1912 q167 q1913) rfl dsX8_ask ⟨Nat.le_of_ble_eq_true rfl, Nat.le_of_ble_eq_true rfl⟩ (Nat.le_of_ble_eq_true rfl) dX8_isDone_146 rfl ?_
          refine v_if_lt (tgt := 156) dX8_isDone_149 (by decide) (fun c => ?_) (fun c => ?_)
          · rw [if_pos c] at h
            refine v_iconst dX8_isDone_156 ?_
            exact v_retZ h dX8_isDone_157 rfl
          · rw [if_neg c] at h
            refine v_iconst dX8_isDone_152 ?_
            refine v_goto (tgt := 157) dX8_isDone_153 (by decide) ?_
            exact v_retZ h dX8_isDone_157 rfl
        · rw [if_neg c3] at h
          by_cases c4 : x2 = iI 117
          · rw [if_pos c4] at h
            refine v_look (tgt := 80) dX8_isDone_6 (by decide) (by rw [c4]; try rfl) (by decide) ?_
            refine v_al0 dX8_isDone_80 ?_
            refine v_al0 dX8_isDone_81 ?_
            refine v_gR cok6 h dX8_isDone_82 (by decide) q1432 rfl (fun x19 h => ?_)
            refine v_il1 dX8_isDone_85 ?_
            refine v_aI h dX8_isDone_86 (fun x20 h => ?_)
            obtain ⟨b87, er, ka, h⟩ := cV_some h
            obtain ⟨x21, s22, h1, h⟩ := cl_some h
            refine v_callV1 cok6 (As := [vi x20]) er ka (tX8_comeUp h1) (lw_V q1946 q1883 q1884 q167 q1885) rfl dsX8_comeUp ⟨Nat.le_of_ble_eq_true rfl, Nat.le_of_ble_eq_true rfl⟩ (Nat.le_of_ble_eq_true rfl) dX8_isDone_87 rfl ?_
            exact v_retZ h dX8_isDone_90 rfl
          · rw [if_neg c4] at h
            by_cases c5 : x2 = iI 119
            · rw [if_pos c5] at h
              refine v_look (tgt := 102) dX8_isDone_6 (by decide) (by rw [c5]; try rfl) (by decide) ?_
              refine v_al0 dX8_isDone_102 ?_
              refine v_al0 dX8_isDone_103 ?_
              refine v_gR cok6 h dX8_isDone_104 (by decide) q1432 rfl (fun x23 h => ?_)
              refine v_il1 dX8_isDone_107 ?_
              refine v_aI h dX8_isDone_108 (fun x24 h => ?_)
              refine v_al0 dX8_isDone_109 ?_
              refine v_gR cok6 h dX8_isDone_110 (by decide) q1433 rfl (fun x25 h => ?_)
              refine v_il1 dX8_isDone_113 ?_
              refine v_aI h dX8_isDone_114 (fun x26 h => ?_)
              refine v_al0 dX8_isDone_115 ?_
              refine v_gR cok6 h dX8_isDone_116 (by decide) q1434 rfl (fun x27 h => ?_)
              refine v_il1 dX8_isDone_119 ?_
              refine v_aI h dX8_isDone_120 (fun x28 h => ?_)
              obtain ⟨b121, er, ka, h⟩ := cV_some h
              obtain ⟨x29, s30, h1, h⟩ := cl_some h
              refine v_callV1 cok6 (As := [vi x24, vi x26, vi x28]) er ka (tX8_write h1) (lw_V q1948 q1895 q1896 q167 q1897) rfl dsX8_write ⟨Nat.le_of_ble_eq_true rfl, Nat.le_of_ble_eq_true rfl⟩ (Nat.le_of_ble_eq_true rfl) dX8_isDone_121 rfl ?_
              refine v_if_lt (tgt := 131) dX8_isDone_124 (by decide) (fun c => ?_) (fun c => ?_)
              · rw [if_pos c] at h
                refine v_iconst dX8_isDone_131 ?_
                exact v_retZ h dX8_isDone_132 rfl
              · rw [if_neg c] at h
                refine v_iconst dX8_isDone_127 ?_
                refine v_goto (tgt := 132) dX8_isDone_128 (by decide) ?_
                exact v_retZ h dX8_isDone_132 rfl
            · rw [if_neg c5] at h
              refine v_look (tgt := 158) dX8_isDone_6 (by decide) (look_out (by intro q hq; simp only [List.mem_cons, List.not_mem_nil, or_false] at hq; rcases hq with rfl | rfl | rfl | rfl | rfl | rfl <;> assumption) (by decide)) (by decide) ?_
              refine v_al0 dX8_isDone_158 ?_
              refine v_al0 dX8_isDone_159 ?_
              refine v_gR cok6 h dX8_isDone_160 (by decide) q1432 rfl (fun x31 h => ?_)
              refine v_il1 dX8_isDone_163 ?_
              refine v_aI h dX8_isDone_164 (fun x32 h => ?_)
              refine v_al0 dX8_isDone_165 ?_
              refine v_gR cok6 h dX8_isDone_166 (by decide) q1433 rfl (fun x33 h => ?_)
              refine v_il1 dX8_isDone_169 ?_
              refine v_aI h dX8_isDone_170 (fun x34 h => ?_)
              refine v_al0 dX8_isDone_171 ?_
              refine v_gR cok6 h dX8_isDone_172 (by decide) q1431 rfl (fun x35 h => ?_)
              refine v_il1 dX8_isDone_175 ?_
              refine v_aI h dX8_isDone_176 (fun x36 h => ?_)
              refine v_bipush dX8_isDone_177 rfl ?_
              refine v_icmp_ne (tgt := 186) dX8_isDone_179 (by decide) (fun c => ?_) (fun c => ?_)
              · rw [if_neg c] at h
                refine v_iconst dX8_isDone_186 ?_
                exact v_weak (wsn (wsn wse)) (lX8_isDone_187 h)
              · rw [if_pos c] at h
                refine v_iconst dX8_isDone_182 ?_
                refine v_goto (tgt := 187) dX8_isDone_183 (by decide) ?_
                exact v_weak (wsn (wsn wse)) (lX8_isDone_187 h)
theorem tX8_isDone {E : EE} {l : Launch} {v0 : Option Nat} {v1 : Int32} {σ : Mem} {z : Int32 × Mem} (h : sX8_isDone v0 v1 σ = some z) : Mt E l mX8_isDone [vr v0, vi v1] σ (some (vi z.1), z.2) :=
  Mt.ofVL (by decide) (Nat.le_of_ble_eq_true rfl) (fun G hG => lX8_isDone h)
abbrev mX8_plan : MM := (yX8_plan, cX8_plan, 5, (Option.some Jvm.ClassFile.FieldType.int), 14, 317)
theorem dsX8_plan : DsOk yX8_plan 1 := ⟨by decide, by decide, by decide +kernel⟩
theorem lX8_plan_111 {E : EE} {G : GG} {k89 : Option Nat → Int32 → Int32 → Mem → Option (Int32 × Mem)} (hk89 : ∀ (v0 : Option Nat) (v3 : Int32) (v4 : Int32) (s : Mem) (z : Int32 × Mem), k89 v0 v3 v4 s = some z → V E mX8_plan G 89 [some (vr v0), none, none, some (vi v3), some (vi v4)] [] s (some (vi z.1), z.2)) {v0 : Option Nat} {v3 : Int32} {v4 : Int32} {σ : Mem} {z : Int32 × Mem} (h : sX8_plan_111 k89 v0 v3 v4 σ = some z) : V E mX8_plan G 111 [some (vr v0), none, none, some (vi v3), some (vi v4)] [] σ (some (vi z.1), z.2) := by
  unfold sX8_plan_111 at h
  refine v_iinc (L' := [some (vr v0), none, none, some (vi v3), some (vi (v4 + iI 1))]) dX8_plan_111 (Nat.le_of_ble_eq_true rfl) rfl rfl ?_
  refine v_goto (tgt := 89) dX8_plan_114 (by decide) ?_
  exact v_weak (wss (wsn (wsn (wss (wss wse))))) (hk89 _ _ _ _ _ h)
theorem lX8_plan_89b {E : EE} {G : GG} {k89 : Option Nat → Int32 → Int32 → Mem → Option (Int32 × Mem)} (hk89 : ∀ (v0 : Option Nat) (v3 : Int32) (v4 : Int32) (s : Mem) (z : Int32 × Mem), k89 v0 v3 v4 s = some z → V E mX8_plan G 89 [some (vr v0), none, none, some (vi v3), some (vi v4)] [] s (some (vi z.1), z.2)) {v0 : Option Nat} {v3 : Int32} {v4 : Int32} {σ : Mem} {z : Int32 × Mem} (h : sX8_plan_89b k89 v0 v3 v4 σ = some z) : V E mX8_plan G 89 [some (vr v0), none, none, some (vi v3), some (vi v4)] [] σ (some (vi z.1), z.2) := by
  unfold sX8_plan_89b at h
  refine v_iload dX8_plan_89 rfl ?_
  refine v_al0 dX8_plan_91 ?_
  refine v_gI cok6 h dX8_plan_92 (by decide) q1438 rfl (fun x1 h => ?_)
  refine v_icmp_ge (tgt := 117) dX8_plan_95 (by decide) (fun c => ?_) (fun c => ?_)
  · rw [if_pos c] at h
    refine v_il3 dX8_plan_117 ?_
    exact v_retI h dX8_plan_118 rfl
  · rw [if_neg c] at h
    refine v_al0 dX8_plan_98 ?_
    refine v_iload dX8_plan_99 rfl ?_
    obtain ⟨b101, er, ka, h⟩ := cV_some h
    obtain ⟨x2, s3, h1, h⟩ := cl_some h
    refine v_callV1 cok6 (As := [vi v4]) er ka (tX8_isDone h1) (lw_V q1941 q1943 qs145 q167 q1944) rfl dsX8_isDone ⟨Nat.le_of_ble_eq_true rfl, Nat.le_of_ble_eq_true rfl⟩ (Nat.le_of_ble_eq_true rfl) dX8_plan_101 rfl ?_
    refine v_if_eq (tgt := 111) dX8_plan_104 (by decide) (fun c => ?_) (fun c => ?_)
    · rw [if_pos c] at h
      exact v_weak (wss (wsn (wsn (wss (wss wse))))) (lX8_plan_111 hk89 h)
    · rw [if_neg c] at h
      refine v_il3 dX8_plan_107 ?_
      refine v_iconst dX8_plan_108 ?_
      refine v_iadd dX8_plan_109 ?_
      refine v_istore_n (L' := [some (vr v0), none, none, some (vi (v3 + (iI 1))), some (vi v4)]) dX8_plan_110 (Nat.le_of_ble_eq_true rfl) (Nat.le_of_ble_eq_true rfl) rfl ?_
      exact v_weak (wss (wsn (wsn (wss (wss wse))))) (lX8_plan_111 hk89 h)
theorem lX8_plan_89 {E : EE} {G : GG} : ∀ (f : Nat) {v0 : Option Nat} {v3 : Int32} {v4 : Int32} {σ : Mem} {z : Int32 × Mem}, sX8_plan_89 f v0 v3 v4 σ = some z → V E mX8_plan G 89 [some (vr v0), none, none, some (vi v3), some (vi v4)] [] σ (some (vi z.1), z.2)
  | 0, _, _, _, _, _, h => by cases h
  | f + 1, _, _, _, _, _, h => lX8_plan_89b (fun _ _ _ _ _ h => lX8_plan_89 f h) h
theorem lX8_plan_70 {E : EE} {G : GG} {v0 : Option Nat} {v2 : Int32} {σ : Mem} {z : Int32 × Mem} (h : sX8_plan_70 v0 v2 σ = some z) : V E mX8_plan G 70 [some (vr v0), none, some (vi v2), none, none] [] σ (some (vi z.1), z.2) := by
  unfold sX8_plan_70 at h
  refine v_al0 dX8_plan_70 ?_
  refine v_iconst dX8_plan_71 ?_
  refine v_pI cok6 h dX8_plan_72 (by decide) q1407 rfl rfl (fun s1 h => ?_)
  refine v_il2 dX8_plan_75 ?_
  refine v_if_ne (tgt := 84) dX8_plan_76 (by decide) (fun c => ?_) (fun c => ?_)
  · rw [if_neg c] at h
    refine v_iconst dX8_plan_84 ?_
    refine v_istore_n (L' := [some (vr v0), none, some (vi v2), some (vi (iI 0)), none]) dX8_plan_85 (Nat.le_of_ble_eq_true rfl) (Nat.le_of_ble_eq_true rfl) rfl ?_
    refine v_iconst dX8_plan_86 ?_
    refine v_istore (L' := [some (vr v0), none, some (vi v2), some (vi (iI 0)), some (vi (iI 0))]) dX8_plan_87 (Nat.le_of_ble_eq_true rfl) (Nat.le_of_ble_eq_true rfl) rfl ?_
    exact v_weak (wss (wsn (wsn (wss (wss wse))))) (lX8_plan_89 FU h)
  · rw [if_pos c] at h
    refine v_al0 dX8_plan_79 ?_
    refine v_gI cok6 h dX8_plan_80 (by decide) q1410 rfl (fun x2 h => ?_)
    exact v_retI h dX8_plan_83 rfl
theorem lX8_plan_62 {E : EE} {G : GG} {k40 : Option Nat → Int32 → Mem → Option (Int32 × Mem)} (hk40 : ∀ (v0 : Option Nat) (v2 : Int32) (s : Mem) (z : Int32 × Mem), k40 v0 v2 s = some z → V E mX8_plan G 40 [some (vr v0), none, some (vi v2), none, none] [] s (some (vi z.1), z.2)) {v0 : Option Nat} {σ : Mem} {z : Int32 × Mem} (h : sX8_plan_62 k40 v0 σ = some z) : V E mX8_plan G 62 [some (vr v0), none, none, none, none] [] σ (some (vi z.1), z.2) := by
  unfold sX8_plan_62 at h
  refine v_al0 dX8_plan_62 ?_
  obtain ⟨b63, er, ka, h⟩ := cV_some h
  obtain ⟨x1, s2, h1, h⟩ := cl_some h
  refine v_callV1 cok6 (As := []) er ka (tX8_readsAct h1) (lw_V q1918 q1920 qs140 q167 q1921) rfl dsX8_readsAct ⟨Nat.le_of_ble_eq_true rfl, Nat.le_of_ble_eq_true rfl⟩ (Nat.le_of_ble_eq_true rfl) dX8_plan_63 rfl ?_
  refine v_istore_n (L' := [some (vr v0), none, some (vi x1), none, none]) dX8_plan_66 (Nat.le_of_ble_eq_true rfl) (Nat.le_of_ble_eq_true rfl) rfl ?_
  refine v_goto (tgt := 40) dX8_plan_67 (by decide) ?_
  exact v_weak (wss (wsn (wss (wsn (wsn wse))))) (hk40 _ _ _ _ h)
theorem lX8_plan_40b {E : EE} {G : GG} {k40 : Option Nat → Int32 → Mem → Option (Int32 × Mem)} (hk40 : ∀ (v0 : Option Nat) (v2 : Int32) (s : Mem) (z : Int32 × Mem), k40 v0 v2 s = some z → V E mX8_plan G 40 [some (vr v0), none, some (vi v2), none, none] [] s (some (vi z.1), z.2)) {v0 : Option Nat} {v2 : Int32} {σ : Mem} {z : Int32 × Mem} (h : sX8_plan_40b k40 v0 v2 σ = some z) : V E mX8_plan G 40 [some (vr v0), none, some (vi v2), none, none] [] σ (some (vi z.1), z.2) := by
  unfold sX8_plan_40b at h
  refine v_il2 dX8_plan_40 ?_
  refine v_if_eq (tgt := 70) dX8_plan_41 (by decide) (fun c => ?_) (fun c => ?_)
  · rw [if_pos c] at h
    exact v_weak (wss (wsn (wss (wsn (wsn wse))))) (lX8_plan_70 h)
  · rw [if_neg c] at h
    refine v_al0 dX8_plan_44 ?_
    refine v_gI cok6 h dX8_plan_45 (by decide) q1408 rfl (fun x1 h => ?_)
    refine v_al0 dX8_plan_48 ?_
    refine v_gI cok6 h dX8_plan_49 (by decide) q1409 rfl (fun x2 h => ?_)
    refine v_icmp_lt (tgt := 62) dX8_plan_52 (by decide) (fun c => ?_) (fun c => ?_)
    · rw [if_pos c] at h
      exact v_weak (wss (wsn (wsn (wsn (wsn wse))))) (lX8_plan_62 hk40 h)
    · rw [if_neg c] at h
      refine v_al0 dX8_plan_55 ?_
      refine v_gI cok6 h dX8_plan_56 (by decide) q1439 rfl (fun x3 h => ?_)
      refine v_if_le (tgt := 70) dX8_plan_59 (by decide) (fun c => ?_) (fun c => ?_)
      · rw [if_pos c] at h
        exact v_weak (wss (wsn (wss (wsn (wsn wse))))) (lX8_plan_70 h)
      · rw [if_neg c] at h
        exact v_weak (wss (wsn (wsn (wsn (wsn wse))))) (lX8_plan_62 hk40 h)
theorem lX8_plan_40 {E : EE} {G : GG} : ∀ (f : Nat) {v0 : Option Nat} {v2 : Int32} {σ : Mem} {z : Int32 × Mem}, sX8_plan_40 f v0 v2 σ = some z → V E mX8_plan G 40 [some (vr v0), none, some (vi v2), none, none] [] σ (some (vi z.1), z.2)
  | 0, _, _, _, _, h => by cases h
  | f + 1, _, _, _, _, h => lX8_plan_40b (fun _ _ _ _ h => lX8_plan_40 f h) h
theorem lX8_plan {E : EE} {G : GG} {v0 : Option Nat} {v1 : Int32} {σ : Mem} {z : Int32 × Mem} (h : sX8_plan v0 v1 σ = some z) : V E mX8_plan G 0 [some (vr v0), some (vi v1), none, none, none] [] σ (some (vi z.1), z.2) := by
  unfold sX8_plan at h
  refine v_il1 dX8_plan_0 ?_
  refine v_iconst dX8_plan_1 ?_
  refine v_bipush dX8_plan_2 rfl ?_
  obtain ⟨x1, s2, h1, h⟩ := cl_some h
  refine v_callS1 (As := [vi v1, vi (iI 1), vi (iI 120)]) (tX8_in h1) (lw_S q1549 q1550 q167 q1551) dsX8_in ⟨Nat.le_of_ble_eq_true rfl, Nat.le_of_ble_eq_true rfl⟩ (Nat.le_of_ble_eq_true rfl) dX8_plan_4 rfl ?_
  refine v_if_eq (tgt := 18) dX8_plan_7 (by decide) (fun c => ?_) (fun c => ?_)
  · rw [if_pos c] at h
    refine v_iconst dX8_plan_18 ?_
    exact v_retI h dX8_plan_19 rfl
  · rw [if_neg c] at h
    refine v_il1 dX8_plan_10 ?_
    refine v_al0 dX8_plan_11 ?_
    refine v_gI cok6 h dX8_plan_12 (by decide) q1407 rfl (fun x3 h => ?_)
    refine v_icmp_le (tgt := 20) dX8_plan_15 (by decide) (fun c => ?_) (fun c => ?_)
    · rw [if_pos c] at h
      refine v_al0 dX8_plan_20 ?_
      refine v_il1 dX8_plan_21 ?_
      obtain ⟨b22, er, ka, h⟩ := cV_some h
      obtain ⟨_, s4, h1, h⟩ := cl_some h
      refine v_callV0 cok6 (As := [vi v1]) er ka (tX8_beginsText h1) (lw_V q1552 q1554 qs64 q167 q1555) rfl dsX8_beginsText ⟨Nat.le_of_ble_eq_true rfl, Nat.le_of_ble_eq_true rfl⟩ (Nat.le_of_ble_eq_true rfl) dX8_plan_22 rfl ?_
      refine v_al0 dX8_plan_25 ?_
      refine v_iconst dX8_plan_26 ?_
      refine v_pI cok6 h dX8_plan_27 (by decide) q1438 rfl rfl (fun s5 h => ?_)
      refine v_al0 dX8_plan_30 ?_
      refine v_iconst dX8_plan_31 ?_
      refine v_pI cok6 h dX8_plan_32 (by decide) q1439 rfl rfl (fun s6 h => ?_)
      refine v_al0 dX8_plan_35 ?_
      obtain ⟨b36, er, ka, h⟩ := cV_some h
      obtain ⟨x7, s8, h1, h⟩ := cl_some h
      refine v_callV1 cok6 (As := []) er ka (tX8_readsAct h1) (lw_V q1918 q1920 qs140 q167 q1921) rfl dsX8_readsAct ⟨Nat.le_of_ble_eq_true rfl, Nat.le_of_ble_eq_true rfl⟩ (Nat.le_of_ble_eq_true rfl) dX8_plan_36 rfl ?_
      refine v_istore_n (L' := [some (vr v0), some (vi v1), some (vi x7), none, none]) dX8_plan_39 (Nat.le_of_ble_eq_true rfl) (Nat.le_of_ble_eq_true rfl) rfl ?_
      exact v_weak (wss (wsn (wss (wsn (wsn wse))))) (lX8_plan_40 FU h)
    · rw [if_neg c] at h
      refine v_iconst dX8_plan_18 ?_
      exact v_retI h dX8_plan_19 rfl
theorem tX8_plan {E : EE} {l : Launch} {v0 : Option Nat} {v1 : Int32} {σ : Mem} {z : Int32 × Mem} (h : sX8_plan v0 v1 σ = some z) : Mt E l mX8_plan [vr v0, vi v1] σ (some (vi z.1), z.2) :=
  Mt.ofVL (by decide) (Nat.le_of_ble_eq_true rfl) (fun G hG => lX8_plan h)
abbrev mX8_leading : MM := (yX8_leading, cX8_leading, 3, (Option.some Jvm.ClassFile.FieldType.int), 4, 84)
theorem dsX8_leading : DsOk yX8_leading 0 := ⟨by decide, by decide, by decide +kernel⟩
theorem lX8_leading_42 {E : EE} {G : GG} {k5 : Option Nat → Int32 → Int32 → Mem → Option (Int32 × Mem)} (hk5 : ∀ (v0 : Option Nat) (v1 : Int32) (v2 : Int32) (s : Mem) (z : Int32 × Mem), k5 v0 v1 v2 s = some z → V E mX8_leading G 5 [some (vr v0), some (vi v1), some (vi v2)] [] s (some (vi z.1), z.2)) {v0 : Option Nat} {v1 : Int32} {v2 : Int32} {σ : Mem} {z : Int32 × Mem} (h : sX8_leading_42 k5 v0 v1 v2 σ = some z) : V E mX8_leading G 42 [some (vr v0), some (vi v1), some (vi v2)] [] σ (some (vi z.1), z.2) := by
  unfold sX8_leading_42 at h
  refine v_iinc (L' := [some (vr v0), some (vi v1), some (vi (v2 + iI 1))]) dX8_leading_42 (Nat.le_of_ble_eq_true rfl) rfl rfl ?_
  refine v_goto (tgt := 5) dX8_leading_45 (by decide) ?_
  exact v_weak (wss (wss (wss wse))) (hk5 _ _ _ _ _ h)
theorem lX8_leading_40 {E : EE} {G : GG} {k5 : Option Nat → Int32 → Int32 → Mem → Option (Int32 × Mem)} (hk5 : ∀ (v0 : Option Nat) (v1 : Int32) (v2 : Int32) (s : Mem) (z : Int32 × Mem), k5 v0 v1 v2 s = some z → V E mX8_leading G 5 [some (vr v0), some (vi v1), some (vi v2)] [] s (some (vi z.1), z.2)) {v0 : Option Nat} {v2 : Int32} {σ : Mem} {z : Int32 × Mem} (h : sX8_leading_40 k5 v0 v2 σ = some z) : V E mX8_leading G 40 [some (vr v0), none, some (vi v2)] [] σ (some (vi z.1), z.2) := by
  unfold sX8_leading_40 at h
  refine v_il2 dX8_leading_40 ?_
  refine v_istore_n (L' := [some (vr v0), some (vi v2), some (vi v2)]) dX8_leading_41 (Nat.le_of_ble_eq_true rfl) (Nat.le_of_ble_eq_true rfl) rfl ?_
  exact v_weak (wss (wss (wss wse))) (lX8_leading_42 hk5 h)
theorem lX8_leading_5b {E : EE} {G : GG} {k5 : Option Nat → Int32 → Int32 → Mem → Option (Int32 × Mem)} (hk5 : ∀ (v0 : Option Nat) (v1 : Int32) (v2 : Int32) (s : Mem) (z : Int32 × Mem), k5 v0 v1 v2 s = some z → V E mX8_leading G 5 [some (vr v0), some (vi v1), some (vi v2)] [] s (some (vi z.1), z.2)) {v0 : Option Nat} {v1 : Int32} {v2 : Int32} {σ : Mem} {z : Int32 × Mem} (h : sX8_leading_5b k5 v0 v1 v2 σ = some z) : V E mX8_leading G 5 [some (vr v0), some (vi v1), some (vi v2)] [] σ (some (vi z.1), z.2) := by
  unfold sX8_leading_5b at h
  refine v_il2 dX8_leading_5 ?_
  refine v_bipush dX8_leading_6 rfl ?_
  refine v_icmp_ge (tgt := 48) dX8_leading_8 (by decide) (fun c => ?_) (fun c => ?_)
  · rw [if_pos c] at h
    refine v_il1 dX8_leading_48 ?_
    exact v_retI h dX8_leading_49 rfl
  · rw [if_neg c] at h
    refine v_al0 dX8_leading_11 ?_
    refine v_il2 dX8_leading_12 ?_
    obtain ⟨b13, er, ka, h⟩ := cV_some h
    obtain ⟨x1, s2, h1, h⟩ := cl_some h
    refine v_callV1 cok6 (As := [vi v2]) er ka (tX8_isLeader h1) (lw_V q1898 q1900 qs138 q167 q1901) rfl dsX8_isLeader ⟨Nat.le_of_ble_eq_true rfl, Nat.le_of_ble_eq_true rfl⟩ (Nat.le_of_ble_eq_true rfl) dX8_leading_13 rfl ?_
    refine v_if_eq (tgt := 42) dX8_leading_16 (by decide) (fun c => ?_) (fun c => ?_)
    · rw [if_pos c] at h
      exact v_weak (wss (wss (wss wse))) (lX8_leading_42 hk5 h)
    · rw [if_neg c] at h
      refine v_il1 dX8_leading_19 ?_
      refine v_bipush dX8_leading_20 rfl ?_
      refine v_icmp_eq (tgt := 40) dX8_leading_22 (by decide) (fun c => ?_) (fun c => ?_)
      · rw [if_pos c] at h
        exact v_weak (wss (wsn (wss wse))) (lX8_leading_40 hk5 h)
      · rw [if_neg c] at h
        refine v_al0 dX8_leading_25 ?_
        refine v_il2 dX8_leading_26 ?_
        refine v_iconst dX8_leading_27 ?_
        obtain ⟨b28, er, ka, h⟩ := cV_some h
        obtain ⟨x3, s4, h1, h⟩ := cl_some h
        refine v_callV1 cok6 (As := [vi v2, vi (iI 1)]) er ka (tX8_the h1) (lw_V q1385 q1387 qs60 q167 q1388) rfl dsX8_the ⟨Nat.le_of_ble_eq_true rfl, Nat.le_of_ble_eq_true rfl⟩ (Nat.le_of_ble_eq_true rfl) dX8_leading_28 rfl ?_
        refine v_al0 dX8_leading_31 ?_
        refine v_il1 dX8_leading_32 ?_
        refine v_iconst dX8_leading_33 ?_
        obtain ⟨b34, er, ka, h⟩ := cV_some h
        obtain ⟨x5, s6, h1, h⟩ := cl_some h
        refine v_callV1 cok6 (As := [vi v1, vi (iI 1)]) er ka (tX8_the h1) (lw_V q1385 q1387 qs60 q167 q1388) rfl dsX8_the ⟨Nat.le_of_ble_eq_true rfl, Nat.le_of_ble_eq_true rfl⟩ (Nat.le_of_ble_eq_true rfl) dX8_leading_34 rfl ?_
        refine v_icmp_le (tgt := 42) dX8_leading_37 (by decide) (fun c => ?_) (fun c => ?_)
        · rw [if_pos c] at h
          exact v_weak (wss (wss (wss wse))) (lX8_leading_42 hk5 h)
        · rw [if_neg c] at h
          exact v_weak (wss (wsn (wss wse))) (lX8_leading_40 hk5 h)
theorem lX8_leading_5 {E : EE} {G : GG} : ∀ (f : Nat) {v0 : Option Nat} {v1 : Int32} {v2 : Int32} {σ : Mem} {z : Int32 × Mem}, sX8_leading_5 f v0 v1 v2 σ = some z → V E mX8_leading G 5 [some (vr v0), some (vi v1), some (vi v2)] [] σ (some (vi z.1), z.2)
  | 0, _, _, _, _, _, h => by cases h
  | f + 1, _, _, _, _, _, h => lX8_leading_5b (fun _ _ _ _ _ h => lX8_leading_5 f h) h
theorem lX8_leading {E : EE} {G : GG} {v0 : Option Nat} {σ : Mem} {z : Int32 × Mem} (h : sX8_leading v0 σ = some z) : V E mX8_leading G 0 [some (vr v0), none, none] [] σ (some (vi z.1), z.2) := by
  unfold sX8_leading at h
  refine v_bipush dX8_leading_0 rfl ?_
  refine v_istore_n (L' := [some (vr v0), some (vi (iI (-2))), none]) dX8_leading_2 (Nat.le_of_ble_eq_true rfl) (Nat.le_of_ble_eq_true rfl) rfl ?_
  refine v_iconst dX8_leading_3 ?_
  refine v_istore_n (L' := [some (vr v0), some (vi (iI (-2))), some (vi (iI 0))]) dX8_leading_4 (Nat.le_of_ble_eq_true rfl) (Nat.le_of_ble_eq_true rfl) rfl ?_
  exact v_weak (wss (wss (wss wse))) (lX8_leading_5 FU h)
theorem tX8_leading {E : EE} {l : Launch} {v0 : Option Nat} {σ : Mem} {z : Int32 × Mem} (h : sX8_leading v0 σ = some z) : Mt E l mX8_leading [vr v0] σ (some (vi z.1), z.2) :=
  Mt.ofVL (by decide) (Nat.le_of_ble_eq_true rfl) (fun G hG => lX8_leading h)
abbrev mX8_leaderNow : MM := (yX8_leaderNow, cX8_leaderNow, 1, (Option.some Jvm.ClassFile.FieldType.int), 5, 106)
theorem dsX8_leaderNow : DsOk yX8_leaderNow 0 := ⟨by decide, by decide, by decide +kernel⟩
theorem lX8_leaderNow {E : EE} {G : GG} {v0 : Option Nat} {σ : Mem} {z : Int32 × Mem} (h : sX8_leaderNow v0 σ = some z) : V E mX8_leaderNow G 0 [some (vr v0)] [] σ (some (vi z.1), z.2) := by
  unfold sX8_leaderNow at h
  refine v_al0 dX8_leaderNow_0 ?_
  obtain ⟨b1, er, ka, h⟩ := cV_some h
  obtain ⟨x1, s2, h1, h⟩ := cl_some h
  refine v_callV1 cok6 (As := []) er ka (tX8_leading h1) (lw_V q1955 q1957 qs146 q167 q1958) rfl dsX8_leading ⟨Nat.le_of_ble_eq_true rfl, Nat.le_of_ble_eq_true rfl⟩ (Nat.le_of_ble_eq_true rfl) dX8_leaderNow_1 rfl ?_
  exact v_retI h dX8_leaderNow_4 rfl
theorem tX8_leaderNow {E : EE} {l : Launch} {v0 : Option Nat} {σ : Mem} {z : Int32 × Mem} (h : sX8_leaderNow v0 σ = some z) : Mt E l mX8_leaderNow [vr v0] σ (some (vi z.1), z.2) :=
  Mt.ofVL (by decide) (Nat.le_of_ble_eq_true rfl) (fun G hG => lX8_leaderNow h)
abbrev mX8_copies : MM := (yX8_copies, cX8_copies, 3, (Option.none : Option Jvm.ClassFile.FieldType), 0, 0)
theorem dsX8_copies : DsOk yX8_copies 2 := ⟨by decide, by decide, by decide +kernel⟩
theorem lX8_copies_2b {E : EE} {G : GG} {k2 : Option Nat → Option Nat → Int32 → Mem → Option (Unit × Mem)} (hk2 : ∀ (v0 : Option Nat) (v1 : Option Nat) (v2 : Int32) (s : Mem) (z : Unit × Mem), k2 v0 v1 v2 s = some z → V E mX8_copies G 2 [some (vr v0), some (vr v1), some (vi v2)] [] s (none, z.2)) {v0 : Option Nat} {v1 : Option Nat} {v2 : Int32} {σ : Mem} {z : Unit × Mem} (h : sX8_copies_2b k2 v0 v1 v2 σ = some z) : V E mX8_copies G 2 [some (vr v0), some (vr v1), some (vi v2)] [] σ (none, z.2) := by
  unfold sX8_copies_2b at h
  refine v_il2 dX8_copies_2 ?_
  refine v_sipush dX8_copies_3 rfl ?_
  refine v_icmp_ge (tgt := 21) dX8_copies_6 (by decide) (fun c => ?_) (fun c => ?_)
  · rw [if_pos c] at h
    exact v_retV h dX8_copies_21 rfl
  · rw [if_neg c] at h
    refine v_al1 dX8_copies_9 ?_
    refine v_il2 dX8_copies_10 ?_
    refine v_al0 dX8_copies_11 ?_
    refine v_il2 dX8_copies_12 ?_
    refine v_aI h dX8_copies_13 (fun x1 h => ?_)
    refine v_sI h dX8_copies_14 (fun s2 h => ?_)
    refine v_iinc (L' := [some (vr v0), some (vr v1), some (vi (v2 + iI 1))]) dX8_copies_15 (Nat.le_of_ble_eq_true rfl) rfl rfl ?_
    refine v_goto (tgt := 2) dX8_copies_18 (by decide) ?_
    exact v_weak (wss (wss (wss wse))) (hk2 _ _ _ _ _ h)
theorem lX8_copies_2 {E : EE} {G : GG} : ∀ (f : Nat) {v0 : Option Nat} {v1 : Option Nat} {v2 : Int32} {σ : Mem} {z : Unit × Mem}, sX8_copies_2 f v0 v1 v2 σ = some z → V E mX8_copies G 2 [some (vr v0), some (vr v1), some (vi v2)] [] σ (none, z.2)
  | 0, _, _, _, _, _, h => by cases h
  | f + 1, _, _, _, _, _, h => lX8_copies_2b (fun _ _ _ _ _ h => lX8_copies_2 f h) h
theorem lX8_copies {E : EE} {G : GG} {v0 : Option Nat} {v1 : Option Nat} {σ : Mem} {z : Unit × Mem} (h : sX8_copies v0 v1 σ = some z) : V E mX8_copies G 0 [some (vr v0), some (vr v1), none] [] σ (none, z.2) := by
  unfold sX8_copies at h
  refine v_iconst dX8_copies_0 ?_
  refine v_istore_n (L' := [some (vr v0), some (vr v1), some (vi (iI 0))]) dX8_copies_1 (Nat.le_of_ble_eq_true rfl) (Nat.le_of_ble_eq_true rfl) rfl ?_
  exact v_weak (wss (wss (wss wse))) (lX8_copies_2 FU h)
theorem tX8_copies {E : EE} {l : Launch} {v0 : Option Nat} {v1 : Option Nat} {σ : Mem} {z : Unit × Mem} (h : sX8_copies v0 v1 σ = some z) : Mt E l mX8_copies [vr v0, vr v1] σ (none, z.2) :=
  Mt.ofVL (by decide) (Nat.le_of_ble_eq_true rfl) (fun G hG => lX8_copies h)
abbrev mX8_tried : MM := (yX8_tried, cX8_tried, 4, (Option.some Jvm.ClassFile.FieldType.int), 14, 318)
theorem dsX8_tried : DsOk yX8_tried 2 := ⟨by decide, by decide, by decide +kernel⟩
theorem lX8_tried_187 {E : EE} {G : GG} {v0 : Option Nat} {v3 : Int32} {σ : Mem} {z : Int32 × Mem} (h : sX8_tried_187 v0 v3 σ = some z) : V E mX8_tried G 187 [some (vr v0), none, none, some (vi v3)] [] σ (some (vi z.1), z.2) := by
  unfold sX8_tried_187 at h
  refine v_al0 dX8_tried_187 ?_
  refine v_gR cok6 h dX8_tried_188 (by decide) q1402 rfl (fun x1 h => ?_)
  refine v_al0 dX8_tried_191 ?_
  refine v_gR cok6 h dX8_tried_192 (by decide) q1401 rfl (fun x2 h => ?_)
  obtain ⟨_, s3, h1, h⟩ := cl_some h
  refine v_callS0 (As := [vr x1, vr x2]) (tX8_copies h1) (lw_S q1963 q1964 q167 q1965) dsX8_copies ⟨Nat.le_of_ble_eq_true rfl, Nat.le_of_ble_eq_true rfl⟩ (Nat.le_of_ble_eq_true rfl) dX8_tried_195 rfl ?_
  refine v_il3 dX8_tried_198 ?_
  exact v_retI h dX8_tried_199 rfl
theorem lX8_tried_186 {E : EE} {G : GG} {v0 : Option Nat} {t0 : Int32} {σ : Mem} {z : Int32 × Mem} (h : sX8_tried_186 v0 t0 σ = some z) : V E mX8_tried G 186 [some (vr v0), none, none, none] [vi t0] σ (some (vi z.1), z.2) := by
  unfold sX8_tried_186 at h
  refine v_istore_n (L' := [some (vr v0), none, none, some (vi t0)]) dX8_tried_186 (Nat.le_of_ble_eq_true rfl) (Nat.le_of_ble_eq_true rfl) rfl ?_
  exact v_weak (wss (wsn (wsn (wss wse)))) (lX8_tried_187 h)
theorem lX8_tried_52 {E : EE} {G : GG} {v0 : Option Nat} {v1 : Int32} {v2 : Int32} {σ : Mem} {z : Int32 × Mem} (h : sX8_tried_52 v0 v1 v2 σ = some z) : V E mX8_tried G 52 [some (vr v0), some (vi v1), some (vi v2), none] [] σ (some (vi z.1), z.2) := by
  unfold sX8_tried_52 at h
  refine v_al0 dX8_tried_52 ?_
  refine v_gR cok6 h dX8_tried_53 (by decide) q1401 rfl (fun x1 h => ?_)
  refine v_al0 dX8_tried_56 ?_
  refine v_gR cok6 h dX8_tried_57 (by decide) q1402 rfl (fun x2 h => ?_)
  obtain ⟨_, s3, h1, h⟩ := cl_some h
  refine v_callS0 (As := [vr x1, vr x2]) (tX8_copies h1) (lw_S q1963 q1964 q167 q1965) dsX8_copies ⟨Nat.le_of_ble_eq_true rfl, Nat.le_of_ble_eq_true rfl⟩ (Nat.le_of_ble_eq_true rfl) dX8_tried_60 rfl ?_
  refine v_al0 dX8_tried_63 ?_
  refine v_il1 dX8_tried_64 ?_
  obtain ⟨b65, er, ka, h⟩ := cV_some h
  obtain ⟨_, s4, h1, h⟩ := cl_some h
  refine v_callV0 cok6 (As := [vi v1]) er ka (tX8_ticksGo h1) (lw_V q1638 q1640 qs83 q167 q1641) rfl dsX8_ticksGo ⟨Nat.le_of_ble_eq_true rfl, Nat.le_of_ble_eq_true rfl⟩ (Nat.le_of_ble_eq_true rfl) dX8_tried_65 rfl ?_
  refine v_il2 dX8_tried_68 ?_
  by_cases c0 : v2 = iI 0
  · rw [if_pos c0] at h
    refine v_tabIn (tgt := 100) dX8_tried_69 (by rw [c0]; decide) (by rw [c0]; decide) (by rw [c0]; rfl) (by decide) ?_
    refine v_al0 dX8_tried_100 ?_
    refine v_gI cok6 h dX8_tried_101 (by decide) q1430 rfl (fun x5 h => ?_)
    refine v_istore_n (L' := [some (vr v0), some (vi v1), some (vi v2), some (vi x5)]) dX8_tried_104 (Nat.le_of_ble_eq_true rfl) (Nat.le_of_ble_eq_true rfl) rfl ?_
    refine v_goto (tgt := 187) dX8_tried_105 (by decide) ?_
    exact v_weak (wss (wsn (wsn (wss wse)))) (lX8_tried_187 h)
  · rw [if_neg c0] at h
    by_cases c1 : v2 = iI 1
    · rw [if_pos c1] at h
      refine v_tabIn (tgt := 108) dX8_tried_69 (by rw [c1]; decide) (by rw [c1]; decide) (by rw [c1]; rfl) (by decide) ?_
      refine v_al0 dX8_tried_108 ?_
      obtain ⟨b109, er, ka, h⟩ := cV_some h
      obtain ⟨x6, s7, h1, h⟩ := cl_some h
      refine v_callV1 cok6 (As := []) er ka (tX8_leading h1) (lw_V q1955 q1957 qs146 q167 q1958) rfl dsX8_leading ⟨Nat.le_of_ble_eq_true rfl, Nat.le_of_ble_eq_true rfl⟩ (Nat.le_of_ble_eq_true rfl) dX8_tried_109 rfl ?_
      refine v_istore_n (L' := [some (vr v0), some (vi v1), some (vi v2), some (vi x6)]) dX8_tried_112 (Nat.le_of_ble_eq_true rfl) (Nat.le_of_ble_eq_true rfl) rfl ?_
      refine v_goto (tgt := 187) dX8_tried_113 (by decide) ?_
      exact v_weak (wss (wsn (wsn (wss wse)))) (lX8_tried_187 h)
    · rw [if_neg c1] at h
      by_cases c2 : v2 = iI 2
      · rw [if_pos c2] at h
        refine v_tabIn (tgt := 116) dX8_tried_69 (by rw [c2]; decide) (by rw [c2]; decide) (by rw [c2]; rfl) (by decide) ?_
        refine v_al0 dX8_tried_116 ?_
        refine v_gR cok6 h dX8_tried_117 (by decide) q1401 rfl (fun x8 h => ?_)
        refine v_sipush dX8_tried_120 rfl ?_
        refine v_aI h dX8_tried_123 (fun x9 h => ?_)
        refine v_istore_n (L' := [some (vr v0), some (vi v1), some (vi v2), some (vi x9)]) dX8_tried_124 (Nat.le_of_ble_eq_true rfl) (Nat.le_of_ble_eq_true rfl) rfl ?_
        refine v_goto (tgt := 187) dX8_tried_125 (by decide) ?_
        exact v_weak (wss (wsn (wsn (wss wse)))) (lX8_tried_187 h)
      · rw [if_neg c2] at h
        by_cases c3 : v2 = iI 3
        · rw [if_pos c3] at h
          refine v_tabIn (tgt := 128) dX8_tried_69 (by rw [c3]; decide) (by rw [c3]; decide) (by rw [c3]; rfl) (by decide) ?_
          refine v_al0 dX8_tried_128 ?_
          refine v_gR cok6 h dX8_tried_129 (by decide) q1401 rfl (fun x10 h => ?_)
          refine v_sipush dX8_tried_132 rfl ?_
          refine v_aI h dX8_tried_135 (fun x11 h => ?_)
          refine v_istore_n (L' := [some (vr v0), some (vi v1), some (vi v2), some (vi x11)]) dX8_tried_136 (Nat.le_of_ble_eq_true rfl) (Nat.le_of_ble_eq_true rfl) rfl ?_
          refine v_goto (tgt := 187) dX8_tried_137 (by decide) ?_
          exact v_weak (wss (wsn (wsn (wss wse)))) (lX8_tried_187 h)
        · rw [if_neg c3] at h
          refine v_tabOut (tgt := 140) dX8_tried_69 (tab_out (fun j h1 h2 => ?_) (by decide) (by decide)) (by decide) ?_
          · rcases (show j = 0 ∨ j = 1 ∨ j = 2 ∨ j = 3 by omega) with rfl | rfl | rfl | rfl
            · exact c0
            · exact c1
            · exact c2
            · exact c3
          refine v_il2 dX8_tried_140 ?_
          refine v_bipush dX8_tried_141 rfl ?_
          refine v_icmp_ge (tgt := 159) dX8_tried_143 (by decide) (fun c => ?_) (fun c => ?_)
          · rw [if_pos c] at h
            refine v_il2 dX8_tried_159 ?_
            refine v_bipush dX8_tried_160 rfl ?_
            refine v_icmp_ge (tgt := 177) dX8_tried_162 (by decide) (fun c => ?_) (fun c => ?_)
            · rw [if_pos c] at h
              refine v_al0 dX8_tried_177 ?_
              refine v_il2 dX8_tried_178 ?_
              refine v_bipush dX8_tried_179 rfl ?_
              refine v_isub dX8_tried_181 ?_
              refine v_iconst dX8_tried_182 ?_
              obtain ⟨b183, er, ka, h⟩ := cV_some h
              obtain ⟨x12, s13, h1, h⟩ := cl_some h
              refine v_callV1 cok6 (As := [vi (v2 - (iI 30)), vi (iI 3)]) er ka (tX8_the h1) (lw_V q1385 q1387 qs60 q167 q1388) rfl dsX8_the ⟨Nat.le_of_ble_eq_true rfl, Nat.le_of_ble_eq_true rfl⟩ (Nat.le_of_ble_eq_true rfl) dX8_tried_183 rfl ?_
              exact v_weak (wss (wsn (wsn (wsn wse)))) (lX8_tried_186 h)
            · rw [if_neg c] at h
              refine v_al0 dX8_tried_165 ?_
              refine v_il2 dX8_tried_166 ?_
              refine v_bipush dX8_tried_167 rfl ?_
              refine v_isub dX8_tried_169 ?_
              refine v_iconst dX8_tried_170 ?_
              obtain ⟨b171, er, ka, h⟩ := cV_some h
              obtain ⟨x14, s15, h1, h⟩ := cl_some h
              refine v_callV1 cok6 (As := [vi (v2 - (iI 20)), vi (iI 1)]) er ka (tX8_the h1) (lw_V q1385 q1387 qs60 q167 q1388) rfl dsX8_the ⟨Nat.le_of_ble_eq_true rfl, Nat.le_of_ble_eq_true rfl⟩ (Nat.le_of_ble_eq_true rfl) dX8_tried_171 rfl ?_
              refine v_goto (tgt := 186) dX8_tried_174 (by decide) ?_
              exact v_weak (wss (wsn (wsn (wsn wse)))) (lX8_tried_186 h)
          · rw [if_neg c] at h
            refine v_al0 dX8_tried_146 ?_
            refine v_il2 dX8_tried_147 ?_
            refine v_bipush dX8_tried_148 rfl ?_
            refine v_isub dX8_tried_150 ?_
            refine v_bipush dX8_tried_151 rfl ?_
            obtain ⟨b153, er, ka, h⟩ := cV_some h
            obtain ⟨x16, s17, h1, h⟩ := cl_some h
            refine v_callV1 cok6 (As := [vi (v2 - (iI 10)), vi (iI 9)]) er ka (tX8_the h1) (lw_V q1385 q1387 qs60 q167 q1388) rfl dsX8_the ⟨Nat.le_of_ble_eq_true rfl, Nat.le_of_ble_eq_true rfl⟩ (Nat.le_of_ble_eq_true rfl) dX8_tried_153 rfl ?_
            refine v_goto (tgt := 186) dX8_tried_156 (by decide) ?_
            exact v_weak (wss (wsn (wsn (wsn wse)))) (lX8_tried_186 h)
theorem lX8_tried {E : EE} {G : GG} {v0 : Option Nat} {v1 : Int32} {v2 : Int32} {σ : Mem} {z : Int32 × Mem} (h : sX8_tried v0 v1 v2 σ = some z) : V E mX8_tried G 0 [some (vr v0), some (vi v1), some (vi v2), none] [] σ (some (vi z.1), z.2) := by
  unfold sX8_tried at h
  refine v_il1 dX8_tried_0 ?_
  refine v_iconst dX8_tried_1 ?_
  refine v_sipush dX8_tried_2 rfl ?_
  obtain ⟨x1, s2, h1, h⟩ := cl_some h
  refine v_callS1 (As := [vi v1, vi (iI 1), vi (iI 200)]) (tX8_in h1) (lw_S q1549 q1550 q167 q1551) dsX8_in ⟨Nat.le_of_ble_eq_true rfl, Nat.le_of_ble_eq_true rfl⟩ (Nat.le_of_ble_eq_true rfl) dX8_tried_5 rfl ?_
  refine v_if_eq (tgt := 50) dX8_tried_8 (by decide) (fun c => ?_) (fun c => ?_)
  · rw [if_pos c] at h
    refine v_iconst dX8_tried_50 ?_
    exact v_retI h dX8_tried_51 rfl
  · rw [if_neg c] at h
    refine v_il2 dX8_tried_11 ?_
    refine v_iconst dX8_tried_12 ?_
    refine v_iconst dX8_tried_13 ?_
    obtain ⟨x3, s4, h1, h⟩ := cl_some h
    refine v_callS1 (As := [vi v2, vi (iI 0), vi (iI 3)]) (tX8_in h1) (lw_S q1549 q1550 q167 q1551) dsX8_in ⟨Nat.le_of_ble_eq_true rfl, Nat.le_of_ble_eq_true rfl⟩ (Nat.le_of_ble_eq_true rfl) dX8_tried_14 rfl ?_
    refine v_if_ne (tgt := 52) dX8_tried_17 (by decide) (fun c => ?_) (fun c => ?_)
    · rw [if_neg c] at h
      exact v_weak (wss (wss (wss (wsn wse)))) (lX8_tried_52 h)
    · rw [if_pos c] at h
      refine v_il2 dX8_tried_20 ?_
      refine v_bipush dX8_tried_21 rfl ?_
      refine v_isub dX8_tried_23 ?_
      obtain ⟨x5, s6, h1, h⟩ := cl_some h
      refine v_callS1 (As := [vi (v2 - (iI 10))]) (tX8_isNode h1) (lw_S q1662 q1663 q167 q1664) dsX8_isNode ⟨Nat.le_of_ble_eq_true rfl, Nat.le_of_ble_eq_true rfl⟩ (Nat.le_of_ble_eq_true rfl) dX8_tried_24 rfl ?_
      refine v_if_ne (tgt := 52) dX8_tried_27 (by decide) (fun c => ?_) (fun c => ?_)
      · rw [if_neg c] at h
        exact v_weak (wss (wss (wss (wsn wse)))) (lX8_tried_52 h)
      · rw [if_pos c] at h
        refine v_il2 dX8_tried_30 ?_
        refine v_bipush dX8_tried_31 rfl ?_
        refine v_isub dX8_tried_33 ?_
        obtain ⟨x7, s8, h1, h⟩ := cl_some h
        refine v_callS1 (As := [vi (v2 - (iI 20))]) (tX8_isNode h1) (lw_S q1662 q1663 q167 q1664) dsX8_isNode ⟨Nat.le_of_ble_eq_true rfl, Nat.le_of_ble_eq_true rfl⟩ (Nat.le_of_ble_eq_true rfl) dX8_tried_34 rfl ?_
        refine v_if_ne (tgt := 52) dX8_tried_37 (by decide) (fun c => ?_) (fun c => ?_)
        · rw [if_neg c] at h
          exact v_weak (wss (wss (wss (wsn wse)))) (lX8_tried_52 h)
        · rw [if_pos c] at h
          refine v_il2 dX8_tried_40 ?_
          refine v_bipush dX8_tried_41 rfl ?_
          refine v_isub dX8_tried_43 ?_
          obtain ⟨x9, s10, h1, h⟩ := cl_some h
          refine v_callS1 (As := [vi (v2 - (iI 30))]) (tX8_isNode h1) (lw_S q1662 q1663 q167 q1664) dsX8_isNode ⟨Nat.le_of_ble_eq_true rfl, Nat.le_of_ble_eq_true rfl⟩ (Nat.le_of_ble_eq_true rfl) dX8_tried_44 rfl ?_
          refine v_if_ne (tgt := 52) dX8_tried_47 (by decide) (fun c => ?_) (fun c => ?_)
          · rw [if_neg c] at h
            exact v_weak (wss (wss (wss (wsn wse)))) (lX8_tried_52 h)
          · rw [if_pos c] at h
            refine v_iconst dX8_tried_50 ?_
            exact v_retI h dX8_tried_51 rfl
theorem tX8_tried {E : EE} {l : Launch} {v0 : Option Nat} {v1 : Int32} {v2 : Int32} {σ : Mem} {z : Int32 × Mem} (h : sX8_tried v0 v1 v2 σ = some z) : Mt E l mX8_tried [vr v0, vi v1, vi v2] σ (some (vi z.1), z.2) :=
  Mt.ofVL (by decide) (Nat.le_of_ble_eq_true rfl) (fun G hG => lX8_tried h)
abbrev mX8_orNone : MM := (yX8_orNone, cX8_orNone, 1, (Option.some Jvm.ClassFile.FieldType.int), 0, 0)
theorem dsX8_orNone : DsOk yX8_orNone 1 := ⟨by decide, by decide, by decide +kernel⟩
theorem lX8_orNone {E : EE} {G : GG} {v0 : Int32} {σ : Mem} {z : Int32 × Mem} (h : sX8_orNone v0 σ = some z) : V E mX8_orNone G 0 [some (vi v0)] [] σ (some (vi z.1), z.2) := by
  unfold sX8_orNone at h
  refine v_il0 dX8_orNone_0 ?_
  refine v_iconst dX8_orNone_1 ?_
  refine v_icmp_ne (tgt := 10) dX8_orNone_2 (by decide) (fun c => ?_) (fun c => ?_)
  · rw [if_neg c] at h
    refine v_il0 dX8_orNone_10 ?_
    exact v_retI h dX8_orNone_11 rfl
  · rw [if_pos c] at h
    refine v_bipush dX8_orNone_5 rfl ?_
    refine v_goto (tgt := 11) dX8_orNone_7 (by decide) ?_
    exact v_retI h dX8_orNone_11 rfl
theorem tX8_orNone {E : EE} {l : Launch} {v0 : Int32} {σ : Mem} {z : Int32 × Mem} (h : sX8_orNone v0 σ = some z) : Mt E l mX8_orNone [vi v0] σ (some (vi z.1), z.2) :=
  Mt.ofVL (by decide) (Nat.le_of_ble_eq_true rfl) (fun G hG => lX8_orNone h)
abbrev mX8_nodeIs : MM := (yX8_nodeIs, cX8_nodeIs, 4, (Option.some Jvm.ClassFile.FieldType.int), 4, 89)
theorem dsX8_nodeIs : DsOk yX8_nodeIs 2 := ⟨by decide, by decide, by decide +kernel⟩
theorem lX8_nodeIs_67 {E : EE} {G : GG} {v0 : Option Nat} {v1 : Int32} {v2 : Int32} {σ : Mem} {z : Int32 × Mem} (h : sX8_nodeIs_67 v0 v1 v2 σ = some z) : V E mX8_nodeIs G 67 [some (vr v0), some (vi v1), some (vi v2), none] [] σ (some (vi z.1), z.2) := by
  unfold sX8_nodeIs_67 at h
  refine v_il2 dX8_nodeIs_67 ?_
  by_cases c0 : v2 = iI 0
  · rw [if_pos c0] at h
    refine v_tabIn (tgt := 136) dX8_nodeIs_68 (by rw [c0]; decide) (by rw [c0]; decide) (by rw [c0]; rfl) (by decide) ?_
    refine v_al0 dX8_nodeIs_136 ?_
    refine v_il1 dX8_nodeIs_137 ?_
    refine v_iconst dX8_nodeIs_138 ?_
    obtain ⟨b139, er, ka, h⟩ := cV_some h
    obtain ⟨x1, s2, h1, h⟩ := cl_some h
    refine v_callV1 cok6 (As := [vi v1, vi (iI 0)]) er ka (tX8_the h1) (lw_V q1385 q1387 qs60 q167 q1388) rfl dsX8_the ⟨Nat.le_of_ble_eq_true rfl, Nat.le_of_ble_eq_true rfl⟩ (Nat.le_of_ble_eq_true rfl) dX8_nodeIs_139 rfl ?_
    exact v_retI h dX8_nodeIs_142 rfl
  · rw [if_neg c0] at h
    by_cases c1 : v2 = iI 1
    · rw [if_pos c1] at h
      refine v_tabIn (tgt := 143) dX8_nodeIs_68 (by rw [c1]; decide) (by rw [c1]; decide) (by rw [c1]; rfl) (by decide) ?_
      refine v_al0 dX8_nodeIs_143 ?_
      refine v_il1 dX8_nodeIs_144 ?_
      refine v_iconst dX8_nodeIs_145 ?_
      obtain ⟨b146, er, ka, h⟩ := cV_some h
      obtain ⟨x3, s4, h1, h⟩ := cl_some h
      refine v_callV1 cok6 (As := [vi v1, vi (iI 1)]) er ka (tX8_the h1) (lw_V q1385 q1387 qs60 q167 q1388) rfl dsX8_the ⟨Nat.le_of_ble_eq_true rfl, Nat.le_of_ble_eq_true rfl⟩ (Nat.le_of_ble_eq_true rfl) dX8_nodeIs_146 rfl ?_
      exact v_retI h dX8_nodeIs_149 rfl
    · rw [if_neg c1] at h
      by_cases c2 : v2 = iI 2
      · rw [if_pos c2] at h
        refine v_tabIn (tgt := 150) dX8_nodeIs_68 (by rw [c2]; decide) (by rw [c2]; decide) (by rw [c2]; rfl) (by decide) ?_
        refine v_al0 dX8_nodeIs_150 ?_
        refine v_il1 dX8_nodeIs_151 ?_
        refine v_iconst dX8_nodeIs_152 ?_
        obtain ⟨b153, er, ka, h⟩ := cV_some h
        obtain ⟨x5, s6, h1, h⟩ := cl_some h
        refine v_callV1 cok6 (As := [vi v1, vi (iI 2)]) er ka (tX8_the h1) (lw_V q1385 q1387 qs60 q167 q1388) rfl dsX8_the ⟨Nat.le_of_ble_eq_true rfl, Nat.le_of_ble_eq_true rfl⟩ (Nat.le_of_ble_eq_true rfl) dX8_nodeIs_153 rfl ?_
        obtain ⟨x7, s8, h1, h⟩ := cl_some h
        refine v_callS1 (As := [vi x5]) (tX8_orNone h1) (lw_S q1970 q1971 q167 q1972) dsX8_orNone ⟨Nat.le_of_ble_eq_true rfl, Nat.le_of_ble_eq_true rfl⟩ (Nat.le_of_ble_eq_true rfl) dX8_nodeIs_156 rfl ?_
        exact v_retI h dX8_nodeIs_159 rfl
      · rw [if_neg c2] at h
        by_cases c3 : v2 = iI 3
        · rw [if_pos c3] at h
          refine v_tabIn (tgt := 160) dX8_nodeIs_68 (by rw [c3]; decide) (by rw [c3]; decide) (by rw [c3]; rfl) (by decide) ?_
          refine v_al0 dX8_nodeIs_160 ?_
          refine v_il1 dX8_nodeIs_161 ?_
          refine v_iconst dX8_nodeIs_162 ?_
          obtain ⟨b163, er, ka, h⟩ := cV_some h
          obtain ⟨x9, s10, h1, h⟩ := cl_some h
          refine v_callV1 cok6 (As := [vi v1, vi (iI 3)]) er ka (tX8_the h1) (lw_V q1385 q1387 qs60 q167 q1388) rfl dsX8_the ⟨Nat.le_of_ble_eq_true rfl, Nat.le_of_ble_eq_true rfl⟩ (Nat.le_of_ble_eq_true rfl) dX8_nodeIs_163 rfl ?_
          exact v_retI h dX8_nodeIs_166 rfl
        · rw [if_neg c3] at h
          by_cases c4 : v2 = iI 4
          · rw [if_pos c4] at h
            refine v_tabIn (tgt := 167) dX8_nodeIs_68 (by rw [c4]; decide) (by rw [c4]; decide) (by rw [c4]; rfl) (by decide) ?_
            refine v_al0 dX8_nodeIs_167 ?_
            refine v_il1 dX8_nodeIs_168 ?_
            obtain ⟨b169, er, ka, h⟩ := cV_some h
            obtain ⟨x11, s12, h1, h⟩ := cl_some h
            refine v_callV1 cok6 (As := [vi v1]) er ka (tX8_lastOf h1) (lw_V q1696 q1698 qs95 q167 q1699) rfl dsX8_lastOf ⟨Nat.le_of_ble_eq_true rfl, Nat.le_of_ble_eq_true rfl⟩ (Nat.le_of_ble_eq_true rfl) dX8_nodeIs_169 rfl ?_
            exact v_retI h dX8_nodeIs_172 rfl
          · rw [if_neg c4] at h
            by_cases c5 : v2 = iI 5
            · rw [if_pos c5] at h
              refine v_tabIn (tgt := 173) dX8_nodeIs_68 (by rw [c5]; decide) (by rw [c5]; decide) (by rw [c5]; rfl) (by decide) ?_
              refine v_al0 dX8_nodeIs_173 ?_
              refine v_il1 dX8_nodeIs_174 ?_
              refine v_bipush dX8_nodeIs_175 rfl ?_
              obtain ⟨b177, er, ka, h⟩ := cV_some h
              obtain ⟨x13, s14, h1, h⟩ := cl_some h
              refine v_callV1 cok6 (As := [vi v1, vi (iI 9)]) er ka (tX8_the h1) (lw_V q1385 q1387 qs60 q167 q1388) rfl dsX8_the ⟨Nat.le_of_ble_eq_true rfl, Nat.le_of_ble_eq_true rfl⟩ (Nat.le_of_ble_eq_true rfl) dX8_nodeIs_177 rfl ?_
              exact v_retI h dX8_nodeIs_180 rfl
            · rw [if_neg c5] at h
              by_cases c6 : v2 = iI 6
              · rw [if_pos c6] at h
                refine v_tabIn (tgt := 181) dX8_nodeIs_68 (by rw [c6]; decide) (by rw [c6]; decide) (by rw [c6]; rfl) (by decide) ?_
                refine v_al0 dX8_nodeIs_181 ?_
                refine v_il1 dX8_nodeIs_182 ?_
                refine v_iconst dX8_nodeIs_183 ?_
                obtain ⟨b184, er, ka, h⟩ := cV_some h
                obtain ⟨x15, s16, h1, h⟩ := cl_some h
                refine v_callV1 cok6 (As := [vi v1, vi (iI 4)]) er ka (tX8_the h1) (lw_V q1385 q1387 qs60 q167 q1388) rfl dsX8_the ⟨Nat.le_of_ble_eq_true rfl, Nat.le_of_ble_eq_true rfl⟩ (Nat.le_of_ble_eq_true rfl) dX8_nodeIs_184 rfl ?_
                exact v_retI h dX8_nodeIs_187 rfl
              · rw [if_neg c6] at h
                by_cases c7 : v2 = iI 7
                · rw [if_pos c7] at h
                  refine v_tabIn (tgt := 188) dX8_nodeIs_68 (by rw [c7]; decide) (by rw [c7]; decide) (by rw [c7]; rfl) (by decide) ?_
                  refine v_al0 dX8_nodeIs_188 ?_
                  refine v_il1 dX8_nodeIs_189 ?_
                  refine v_bipush dX8_nodeIs_190 rfl ?_
                  obtain ⟨b192, er, ka, h⟩ := cV_some h
                  obtain ⟨x17, s18, h1, h⟩ := cl_some h
                  refine v_callV1 cok6 (As := [vi v1, vi (iI 10)]) er ka (tX8_the h1) (lw_V q1385 q1387 qs60 q167 q1388) rfl dsX8_the ⟨Nat.le_of_ble_eq_true rfl, Nat.le_of_ble_eq_true rfl⟩ (Nat.le_of_ble_eq_true rfl) dX8_nodeIs_192 rfl ?_
                  exact v_retI h dX8_nodeIs_195 rfl
                · rw [if_neg c7] at h
                  by_cases c8 : v2 = iI 8
                  · rw [if_pos c8] at h
                    refine v_tabIn (tgt := 196) dX8_nodeIs_68 (by rw [c8]; decide) (by rw [c8]; decide) (by rw [c8]; rfl) (by decide) ?_
                    refine v_al0 dX8_nodeIs_196 ?_
                    refine v_il1 dX8_nodeIs_197 ?_
                    obtain ⟨b198, er, ka, h⟩ := cV_some h
                    obtain ⟨x19, s20, h1, h⟩ := cl_some h
                    refine v_callV1 cok6 (As := [vi v1]) er ka (tX8_oldOf h1) (lw_V q1732 q1734 qs104 q167 q1735) rfl dsX8_oldOf ⟨Nat.le_of_ble_eq_true rfl, Nat.le_of_ble_eq_true rfl⟩ (Nat.le_of_ble_eq_true rfl) dX8_nodeIs_198 rfl ?_
                    exact v_retI h dX8_nodeIs_201 rfl
                  · rw [if_neg c8] at h
                    by_cases c9 : v2 = iI 9
                    · rw [if_pos c9] at h
                      refine v_tabIn (tgt := 202) dX8_nodeIs_68 (by rw [c9]; decide) (by rw [c9]; decide) (by rw [c9]; rfl) (by decide) ?_
                      refine v_al0 dX8_nodeIs_202 ?_
                      refine v_il1 dX8_nodeIs_203 ?_
                      obtain ⟨b204, er, ka, h⟩ := cV_some h
                      obtain ⟨x21, s22, h1, h⟩ := cl_some h
                      refine v_callV1 cok6 (As := [vi v1]) er ka (tX8_newOf h1) (lw_V q1740 q1742 qs106 q167 q1743) rfl dsX8_newOf ⟨Nat.le_of_ble_eq_true rfl, Nat.le_of_ble_eq_true rfl⟩ (Nat.le_of_ble_eq_true rfl) dX8_nodeIs_204 rfl ?_
                      exact v_retI h dX8_nodeIs_207 rfl
                    · rw [if_neg c9] at h
                      by_cases c10 : v2 = iI 10
                      · rw [if_pos c10] at h
                        refine v_tabIn (tgt := 208) dX8_nodeIs_68 (by rw [c10]; decide) (by rw [c10]; decide) (by rw [c10]; rfl) (by decide) ?_
                        refine v_al0 dX8_nodeIs_208 ?_
                        refine v_il1 dX8_nodeIs_209 ?_
                        refine v_bipush dX8_nodeIs_210 rfl ?_
                        obtain ⟨b212, er, ka, h⟩ := cV_some h
                        obtain ⟨x23, s24, h1, h⟩ := cl_some h
                        refine v_callV1 cok6 (As := [vi v1, vi (iI 11)]) er ka (tX8_the h1) (lw_V q1385 q1387 qs60 q167 q1388) rfl dsX8_the ⟨Nat.le_of_ble_eq_true rfl, Nat.le_of_ble_eq_true rfl⟩ (Nat.le_of_ble_eq_true rfl) dX8_nodeIs_212 rfl ?_
                        obtain ⟨x25, s26, h1, h⟩ := cl_some h
                        refine v_callS1 (As := [vi x23]) (tX8_orNone h1) (lw_S q1970 q1971 q167 q1972) dsX8_orNone ⟨Nat.le_of_ble_eq_true rfl, Nat.le_of_ble_eq_true rfl⟩ (Nat.le_of_ble_eq_true rfl) dX8_nodeIs_215 rfl ?_
                        exact v_retI h dX8_nodeIs_218 rfl
                      · rw [if_neg c10] at h
                        by_cases c11 : v2 = iI 11
                        · rw [if_pos c11] at h
                          refine v_tabIn (tgt := 219) dX8_nodeIs_68 (by rw [c11]; decide) (by rw [c11]; decide) (by rw [c11]; rfl) (by decide) ?_
                          refine v_al0 dX8_nodeIs_219 ?_
                          refine v_il1 dX8_nodeIs_220 ?_
                          refine v_bipush dX8_nodeIs_221 rfl ?_
                          obtain ⟨b223, er, ka, h⟩ := cV_some h
                          obtain ⟨x27, s28, h1, h⟩ := cl_some h
                          refine v_callV1 cok6 (As := [vi v1, vi (iI 12)]) er ka (tX8_the h1) (lw_V q1385 q1387 qs60 q167 q1388) rfl dsX8_the ⟨Nat.le_of_ble_eq_true rfl, Nat.le_of_ble_eq_true rfl⟩ (Nat.le_of_ble_eq_true rfl) dX8_nodeIs_223 rfl ?_
                          exact v_retI h dX8_nodeIs_226 rfl
                        · rw [if_neg c11] at h
                          by_cases c12 : v2 = iI 12
                          · rw [if_pos c12] at h
                            refine v_tabIn (tgt := 227) dX8_nodeIs_68 (by rw [c12]; decide) (by rw [c12]; decide) (by rw [c12]; rfl) (by decide) ?_
                            refine v_al0 dX8_nodeIs_227 ?_
                            refine v_il1 dX8_nodeIs_228 ?_
                            refine v_bipush dX8_nodeIs_229 rfl ?_
                            obtain ⟨b231, er, ka, h⟩ := cV_some h
                            obtain ⟨x29, s30, h1, h⟩ := cl_some h
                            refine v_callV1 cok6 (As := [vi v1, vi (iI 13)]) er ka (tX8_the h1) (lw_V q1385 q1387 qs60 q167 q1388) rfl dsX8_the ⟨Nat.le_of_ble_eq_true rfl, Nat.le_of_ble_eq_true rfl⟩ (Nat.le_of_ble_eq_true rfl) dX8_nodeIs_231 rfl ?_
                            exact v_retI h dX8_nodeIs_234 rfl
                          · rw [if_neg c12] at h
                            refine v_tabOut (tgt := 235) dX8_nodeIs_68 (tab_out (fun j h1 h2 => ?_) (by decide) (by decide)) (by decide) ?_
                            · rcases (show j = 0 ∨ j = 1 ∨ j = 2 ∨ j = 3 ∨ j = 4 ∨ j = 5 ∨ j = 6 ∨ j = 7 ∨ j = 8 ∨ j = 9 ∨ j = 10 ∨ j = 11 ∨ j = 12 by omega) with rfl | rfl | rfl | rfl | rfl | rfl | rfl | rfl | rfl | rfl | rfl | rfl | rfl
                              · exact c0
                              · exact c1
                              · exact c2
                              · exact c3
                              · exact c4
                              · exact c5
                              · exact c6
                              · exact c7
                              · exact c8
                              · exact c9
                              · exact c10
                              · exact c11
                              · exact c12
                            refine v_al0 dX8_nodeIs_235 ?_
                            refine v_il1 dX8_nodeIs_236 ?_
                            refine v_al0 dX8_nodeIs_237 ?_
                            refine v_il1 dX8_nodeIs_238 ?_
                            obtain ⟨b239, er, ka, h⟩ := cV_some h
                            obtain ⟨x31, s32, h1, h⟩ := cl_some h
                            refine v_callV1 cok6 (As := [vi v1]) er ka (tX8_lastOf h1) (lw_V q1696 q1698 qs95 q167 q1699) rfl dsX8_lastOf ⟨Nat.le_of_ble_eq_true rfl, Nat.le_of_ble_eq_true rfl⟩ (Nat.le_of_ble_eq_true rfl) dX8_nodeIs_239 rfl ?_
                            obtain ⟨b242, er, ka, h⟩ := cV_some h
                            obtain ⟨x33, s34, h1, h⟩ := cl_some h
                            refine v_callV1 cok6 (As := [vi v1, vi x31]) er ka (tX8_termAt h1) (lw_V q1700 q1702 qs96 q167 q1703) rfl dsX8_termAt ⟨Nat.le_of_ble_eq_true rfl, Nat.le_of_ble_eq_true rfl⟩ (Nat.le_of_ble_eq_true rfl) dX8_nodeIs_242 rfl ?_
                            exact v_retI h dX8_nodeIs_245 rfl
theorem lX8_nodeIs_51 {E : EE} {G : GG} {v0 : Option Nat} {v1 : Int32} {v2 : Int32} {t0 : Int32} {σ : Mem} {z : Int32 × Mem} (h : sX8_nodeIs_51 v0 v1 v2 t0 σ = some z) : V E mX8_nodeIs G 51 [some (vr v0), some (vi v1), some (vi v2), none] [vi t0] σ (some (vi z.1), z.2) := by
  unfold sX8_nodeIs_51 at h
  refine v_istore_n (L' := [some (vr v0), some (vi v1), some (vi v2), some (vi t0)]) dX8_nodeIs_51 (Nat.le_of_ble_eq_true rfl) (Nat.le_of_ble_eq_true rfl) rfl ?_
  refine v_il3 dX8_nodeIs_52 ?_
  refine v_if_eq (tgt := 67) dX8_nodeIs_53 (by decide) (fun c => ?_) (fun c => ?_)
  · rw [if_pos c] at h
    exact v_weak (wss (wss (wss (wsn wse)))) (lX8_nodeIs_67 h)
  · rw [if_neg c] at h
    refine v_al0 dX8_nodeIs_56 ?_
    refine v_il1 dX8_nodeIs_57 ?_
    obtain ⟨b58, er, ka, h⟩ := cV_some h
    obtain ⟨x1, s2, h1, h⟩ := cl_some h
    refine v_callV1 cok6 (As := [vi v1]) er ka (tX8_isUp h1) (lw_V q1658 q1660 qs88 q167 q1661) rfl dsX8_isUp ⟨Nat.le_of_ble_eq_true rfl, Nat.le_of_ble_eq_true rfl⟩ (Nat.le_of_ble_eq_true rfl) dX8_nodeIs_58 rfl ?_
    refine v_if_ne (tgt := 67) dX8_nodeIs_61 (by decide) (fun c => ?_) (fun c => ?_)
    · rw [if_neg c] at h
      exact v_weak (wss (wss (wss (wsn wse)))) (lX8_nodeIs_67 h)
    · rw [if_pos c] at h
      refine v_bipush dX8_nodeIs_64 rfl ?_
      exact v_retI h dX8_nodeIs_66 rfl
theorem lX8_nodeIs_46 {E : EE} {G : GG} {v0 : Option Nat} {v1 : Int32} {v2 : Int32} {σ : Mem} {z : Int32 × Mem} (h : sX8_nodeIs_46 v0 v1 v2 σ = some z) : V E mX8_nodeIs G 46 [some (vr v0), some (vi v1), some (vi v2), none] [] σ (some (vi z.1), z.2) := by
  unfold sX8_nodeIs_46 at h
  refine v_iconst dX8_nodeIs_46 ?_
  refine v_goto (tgt := 51) dX8_nodeIs_47 (by decide) ?_
  exact v_weak (wss (wss (wss (wsn wse)))) (lX8_nodeIs_51 h)
theorem lX8_nodeIs {E : EE} {G : GG} {v0 : Option Nat} {v1 : Int32} {v2 : Int32} {σ : Mem} {z : Int32 × Mem} (h : sX8_nodeIs v0 v1 v2 σ = some z) : V E mX8_nodeIs G 0 [some (vr v0), some (vi v1), some (vi v2), none] [] σ (some (vi z.1), z.2) := by
  unfold sX8_nodeIs at h
  refine v_il1 dX8_nodeIs_0 ?_
  obtain ⟨x1, s2, h1, h⟩ := cl_some h
  refine v_callS1 (As := [vi v1]) (tX8_isNode h1) (lw_S q1662 q1663 q167 q1664) dsX8_isNode ⟨Nat.le_of_ble_eq_true rfl, Nat.le_of_ble_eq_true rfl⟩ (Nat.le_of_ble_eq_true rfl) dX8_nodeIs_1 rfl ?_
  refine v_if_eq (tgt := 17) dX8_nodeIs_4 (by decide) (fun c => ?_) (fun c => ?_)
  · rw [if_pos c] at h
    refine v_iconst dX8_nodeIs_17 ?_
    exact v_retI h dX8_nodeIs_18 rfl
  · rw [if_neg c] at h
    refine v_il2 dX8_nodeIs_7 ?_
    refine v_iconst dX8_nodeIs_8 ?_
    refine v_bipush dX8_nodeIs_9 rfl ?_
    obtain ⟨x3, s4, h1, h⟩ := cl_some h
    refine v_callS1 (As := [vi v2, vi (iI 0), vi (iI 13)]) (tX8_in h1) (lw_S q1549 q1550 q167 q1551) dsX8_in ⟨Nat.le_of_ble_eq_true rfl, Nat.le_of_ble_eq_true rfl⟩ (Nat.le_of_ble_eq_true rfl) dX8_nodeIs_11 rfl ?_
    refine v_if_ne (tgt := 19) dX8_nodeIs_14 (by decide) (fun c => ?_) (fun c => ?_)
    · rw [if_neg c] at h
      refine v_il2 dX8_nodeIs_19 ?_
      refine v_iconst dX8_nodeIs_20 ?_
      refine v_icmp_eq (tgt := 46) dX8_nodeIs_21 (by decide) (fun c => ?_) (fun c => ?_)
      · rw [if_pos c] at h
        exact v_weak (wss (wss (wss (wsn wse)))) (lX8_nodeIs_46 h)
      · rw [if_neg c] at h
        refine v_il2 dX8_nodeIs_24 ?_
        refine v_iconst dX8_nodeIs_25 ?_
        refine v_icmp_eq (tgt := 46) dX8_nodeIs_26 (by decide) (fun c => ?_) (fun c => ?_)
        · rw [if_pos c] at h
          exact v_weak (wss (wss (wss (wsn wse)))) (lX8_nodeIs_46 h)
        · rw [if_neg c] at h
          refine v_il2 dX8_nodeIs_29 ?_
          refine v_bipush dX8_nodeIs_30 rfl ?_
          refine v_icmp_eq (tgt := 46) dX8_nodeIs_32 (by decide) (fun c => ?_) (fun c => ?_)
          · rw [if_pos c] at h
            exact v_weak (wss (wss (wss (wsn wse)))) (lX8_nodeIs_46 h)
          · rw [if_neg c] at h
            refine v_il2 dX8_nodeIs_35 ?_
            refine v_bipush dX8_nodeIs_36 rfl ?_
            refine v_bipush dX8_nodeIs_38 rfl ?_
            obtain ⟨x5, s6, h1, h⟩ := cl_some h
            refine v_callS1 (As := [vi v2, vi (iI 10), vi (iI 12)]) (tX8_in h1) (lw_S q1549 q1550 q167 q1551) dsX8_in ⟨Nat.le_of_ble_eq_true rfl, Nat.le_of_ble_eq_true rfl⟩ (Nat.le_of_ble_eq_true rfl) dX8_nodeIs_40 rfl ?_
            refine v_if_eq (tgt := 50) dX8_nodeIs_43 (by decide) (fun c => ?_) (fun c => ?_)
            · rw [if_pos c] at h
              refine v_iconst dX8_nodeIs_50 ?_
              exact v_weak (wss (wss (wss (wsn wse)))) (lX8_nodeIs_51 h)
            · rw [if_neg c] at h
              exact v_weak (wss (wss (wss (wsn wse)))) (lX8_nodeIs_46 h)
    · rw [if_pos c] at h
      refine v_iconst dX8_nodeIs_17 ?_
      exact v_retI h dX8_nodeIs_18 rfl
theorem tX8_nodeIs {E : EE} {l : Launch} {v0 : Option Nat} {v1 : Int32} {v2 : Int32} {σ : Mem} {z : Int32 × Mem} (h : sX8_nodeIs v0 v1 v2 σ = some z) : Mt E l mX8_nodeIs [vr v0, vi v1, vi v2] σ (some (vi z.1), z.2) :=
  Mt.ofVL (by decide) (Nat.le_of_ble_eq_true rfl) (fun G hG => lX8_nodeIs h)
abbrev mX8_entryAt : MM := (yX8_entryAt, cX8_entryAt, 4, (Option.some Jvm.ClassFile.FieldType.int), 3, 65)
theorem dsX8_entryAt : DsOk yX8_entryAt 3 := ⟨by decide, by decide, by decide +kernel⟩
theorem lX8_entryAt {E : EE} {G : GG} {v0 : Option Nat} {v1 : Int32} {v2 : Int32} {v3 : Int32} {σ : Mem} {z : Int32 × Mem} (h : sX8_entryAt v0 v1 v2 v3 σ = some z) : V E mX8_entryAt G 0 [some (vr v0), some (vi v1), some (vi v2), some (vi v3)] [] σ (some (vi z.1), z.2) := by
  unfold sX8_entryAt at h
  refine v_il1 dX8_entryAt_0 ?_
  obtain ⟨x1, s2, h1, h⟩ := cl_some h
  refine v_callS1 (As := [vi v1]) (tX8_isNode h1) (lw_S q1662 q1663 q167 q1664) dsX8_isNode ⟨Nat.le_of_ble_eq_true rfl, Nat.le_of_ble_eq_true rfl⟩ (Nat.le_of_ble_eq_true rfl) dX8_entryAt_1 rfl ?_
  refine v_if_eq (tgt := 27) dX8_entryAt_4 (by decide) (fun c => ?_) (fun c => ?_)
  · rw [if_pos c] at h
    refine v_iconst dX8_entryAt_27 ?_
    exact v_retI h dX8_entryAt_28 rfl
  · rw [if_neg c] at h
    refine v_il2 dX8_entryAt_7 ?_
    refine v_iconst dX8_entryAt_8 ?_
    refine v_sipush dX8_entryAt_9 rfl ?_
    obtain ⟨x3, s4, h1, h⟩ := cl_some h
    refine v_callS1 (As := [vi v2, vi (iI 1), vi (iI 999)]) (tX8_in h1) (lw_S q1549 q1550 q167 q1551) dsX8_in ⟨Nat.le_of_ble_eq_true rfl, Nat.le_of_ble_eq_true rfl⟩ (Nat.le_of_ble_eq_true rfl) dX8_entryAt_12 rfl ?_
    refine v_if_eq (tgt := 27) dX8_entryAt_15 (by decide) (fun c => ?_) (fun c => ?_)
    · rw [if_pos c] at h
      refine v_iconst dX8_entryAt_27 ?_
      exact v_retI h dX8_entryAt_28 rfl
    · rw [if_neg c] at h
      refine v_il3 dX8_entryAt_18 ?_
      refine v_iconst dX8_entryAt_19 ?_
      refine v_iconst dX8_entryAt_20 ?_
      obtain ⟨x5, s6, h1, h⟩ := cl_some h
      refine v_callS1 (As := [vi v3, vi (iI 0), vi (iI 3)]) (tX8_in h1) (lw_S q1549 q1550 q167 q1551) dsX8_in ⟨Nat.le_of_ble_eq_true rfl, Nat.le_of_ble_eq_true rfl⟩ (Nat.le_of_ble_eq_true rfl) dX8_entryAt_21 rfl ?_
      refine v_if_ne (tgt := 29) dX8_entryAt_24 (by decide) (fun c => ?_) (fun c => ?_)
      · rw [if_neg c] at h
        refine v_al0 dX8_entryAt_29 ?_
        refine v_il1 dX8_entryAt_30 ?_
        refine v_il2 dX8_entryAt_31 ?_
        obtain ⟨b32, er, ka, h⟩ := cV_some h
        obtain ⟨x7, s8, h1, h⟩ := cl_some h
        refine v_callV1 cok6 (As := [vi v1, vi v2]) er ka (tX8_hasEntry h1) (lw_V q1810 q1812 qs122 q167 q1813) rfl dsX8_hasEntry ⟨Nat.le_of_ble_eq_true rfl, Nat.le_of_ble_eq_true rfl⟩ (Nat.le_of_ble_eq_true rfl) dX8_entryAt_32 rfl ?_
        refine v_if_eq (tgt := 54) dX8_entryAt_35 (by decide) (fun c => ?_) (fun c => ?_)
        · rw [if_pos c] at h
          refine v_bipush dX8_entryAt_54 rfl ?_
          exact v_retI h dX8_entryAt_56 rfl
        · rw [if_neg c] at h
          refine v_al0 dX8_entryAt_38 ?_
          refine v_gR cok6 h dX8_entryAt_39 (by decide) q1401 rfl (fun x9 h => ?_)
          refine v_al0 dX8_entryAt_42 ?_
          refine v_il1 dX8_entryAt_43 ?_
          refine v_il2 dX8_entryAt_44 ?_
          obtain ⟨b45, er, ka, h⟩ := cV_some h
          obtain ⟨x10, s11, h1, h⟩ := cl_some h
          refine v_callV1 cok6 (As := [vi v1, vi v2]) er ka (tX8_logPlace h1) (lw_V q1704 q1706 qs97 q167 q1707) rfl dsX8_logPlace ⟨Nat.le_of_ble_eq_true rfl, Nat.le_of_ble_eq_true rfl⟩ (Nat.le_of_ble_eq_true rfl) dX8_entryAt_45 rfl ?_
          refine v_il3 dX8_entryAt_48 ?_
          refine v_iadd dX8_entryAt_49 ?_
          refine v_aI h dX8_entryAt_50 (fun x12 h => ?_)
          refine v_goto (tgt := 56) dX8_entryAt_51 (by decide) ?_
          exact v_retI h dX8_entryAt_56 rfl
      · rw [if_pos c] at h
        refine v_iconst dX8_entryAt_27 ?_
        exact v_retI h dX8_entryAt_28 rfl
theorem tX8_entryAt {E : EE} {l : Launch} {v0 : Option Nat} {v1 : Int32} {v2 : Int32} {v3 : Int32} {σ : Mem} {z : Int32 × Mem} (h : sX8_entryAt v0 v1 v2 v3 σ = some z) : Mt E l mX8_entryAt [vr v0, vi v1, vi v2, vi v3] σ (some (vi z.1), z.2) :=
  Mt.ofVL (by decide) (Nat.le_of_ble_eq_true rfl) (fun G hG => lX8_entryAt h)
abbrev mX8_keyOf : MM := (yX8_keyOf, cX8_keyOf, 3, (Option.some Jvm.ClassFile.FieldType.int), 3, 63)
theorem dsX8_keyOf : DsOk yX8_keyOf 2 := ⟨by decide, by decide, by decide +kernel⟩
theorem lX8_keyOf_30 {E : EE} {G : GG} {v0 : Option Nat} {v1 : Int32} {v2 : Int32} {σ : Mem} {z : Int32 × Mem} (h : sX8_keyOf_30 v0 v1 v2 σ = some z) : V E mX8_keyOf G 30 [some (vr v0), some (vi v1), some (vi v2)] [] σ (some (vi z.1), z.2) := by
  unfold sX8_keyOf_30 at h
  refine v_il2 dX8_keyOf_30 ?_
  refine v_bipush dX8_keyOf_31 rfl ?_
  refine v_icmp_lt (tgt := 49) dX8_keyOf_33 (by decide) (fun c => ?_) (fun c => ?_)
  · rw [if_pos c] at h
    refine v_al0 dX8_keyOf_49 ?_
    refine v_il1 dX8_keyOf_50 ?_
    obtain ⟨b51, er, ka, h⟩ := cV_some h
    obtain ⟨x1, s2, h1, h⟩ := cl_some h
    refine v_callV1 cok6 (As := [vi v1]) er ka (tX8_isUp h1) (lw_V q1658 q1660 qs88 q167 q1661) rfl dsX8_isUp ⟨Nat.le_of_ble_eq_true rfl, Nat.le_of_ble_eq_true rfl⟩ (Nat.le_of_ble_eq_true rfl) dX8_keyOf_51 rfl ?_
    refine v_if_eq (tgt := 69) dX8_keyOf_54 (by decide) (fun c => ?_) (fun c => ?_)
    · rw [if_pos c] at h
      refine v_bipush dX8_keyOf_69 rfl ?_
      exact v_retI h dX8_keyOf_71 rfl
    · rw [if_neg c] at h
      refine v_al0 dX8_keyOf_57 ?_
      refine v_il1 dX8_keyOf_58 ?_
      refine v_bipush dX8_keyOf_59 rfl ?_
      refine v_il2 dX8_keyOf_61 ?_
      refine v_iadd dX8_keyOf_62 ?_
      obtain ⟨b63, er, ka, h⟩ := cV_some h
      obtain ⟨x3, s4, h1, h⟩ := cl_some h
      refine v_callV1 cok6 (As := [vi v1, vi ((iI 15) + v2)]) er ka (tX8_the h1) (lw_V q1385 q1387 qs60 q167 q1388) rfl dsX8_the ⟨Nat.le_of_ble_eq_true rfl, Nat.le_of_ble_eq_true rfl⟩ (Nat.le_of_ble_eq_true rfl) dX8_keyOf_63 rfl ?_
      refine v_goto (tgt := 71) dX8_keyOf_66 (by decide) ?_
      exact v_retI h dX8_keyOf_71 rfl
  · rw [if_neg c] at h
    refine v_al0 dX8_keyOf_36 ?_
    refine v_il1 dX8_keyOf_37 ?_
    refine v_bipush dX8_keyOf_38 rfl ?_
    refine v_il2 dX8_keyOf_40 ?_
    refine v_iadd dX8_keyOf_41 ?_
    refine v_bipush dX8_keyOf_42 rfl ?_
    refine v_isub dX8_keyOf_44 ?_
    obtain ⟨b45, er, ka, h⟩ := cV_some h
    obtain ⟨x5, s6, h1, h⟩ := cl_some h
    refine v_callV1 cok6 (As := [vi v1, vi (((iI 23) + v2) - (iI 10))]) er ka (tX8_the h1) (lw_V q1385 q1387 qs60 q167 q1388) rfl dsX8_the ⟨Nat.le_of_ble_eq_true rfl, Nat.le_of_ble_eq_true rfl⟩ (Nat.le_of_ble_eq_true rfl) dX8_keyOf_45 rfl ?_
    exact v_retI h dX8_keyOf_48 rfl
theorem lX8_keyOf {E : EE} {G : GG} {v0 : Option Nat} {v1 : Int32} {v2 : Int32} {σ : Mem} {z : Int32 × Mem} (h : sX8_keyOf v0 v1 v2 σ = some z) : V E mX8_keyOf G 0 [some (vr v0), some (vi v1), some (vi v2)] [] σ (some (vi z.1), z.2) := by
  unfold sX8_keyOf at h
  refine v_il1 dX8_keyOf_0 ?_
  obtain ⟨x1, s2, h1, h⟩ := cl_some h
  refine v_callS1 (As := [vi v1]) (tX8_isNode h1) (lw_S q1662 q1663 q167 q1664) dsX8_isNode ⟨Nat.le_of_ble_eq_true rfl, Nat.le_of_ble_eq_true rfl⟩ (Nat.le_of_ble_eq_true rfl) dX8_keyOf_1 rfl ?_
  refine v_if_eq (tgt := 28) dX8_keyOf_4 (by decide) (fun c => ?_) (fun c => ?_)
  · rw [if_pos c] at h
    refine v_iconst dX8_keyOf_28 ?_
    exact v_retI h dX8_keyOf_29 rfl
  · rw [if_neg c] at h
    refine v_il2 dX8_keyOf_7 ?_
    refine v_iconst dX8_keyOf_8 ?_
    refine v_bipush dX8_keyOf_9 rfl ?_
    obtain ⟨x3, s4, h1, h⟩ := cl_some h
    refine v_callS1 (As := [vi v2, vi (iI 0), vi (iI 7)]) (tX8_in h1) (lw_S q1549 q1550 q167 q1551) dsX8_in ⟨Nat.le_of_ble_eq_true rfl, Nat.le_of_ble_eq_true rfl⟩ (Nat.le_of_ble_eq_true rfl) dX8_keyOf_11 rfl ?_
    refine v_if_ne (tgt := 30) dX8_keyOf_14 (by decide) (fun c => ?_) (fun c => ?_)
    · rw [if_neg c] at h
      exact v_weak (wss (wss (wss wse))) (lX8_keyOf_30 h)
    · rw [if_pos c] at h
      refine v_il2 dX8_keyOf_17 ?_
      refine v_bipush dX8_keyOf_18 rfl ?_
      refine v_bipush dX8_keyOf_20 rfl ?_
      obtain ⟨x5, s6, h1, h⟩ := cl_some h
      refine v_callS1 (As := [vi v2, vi (iI 10), vi (iI 17)]) (tX8_in h1) (lw_S q1549 q1550 q167 q1551) dsX8_in ⟨Nat.le_of_ble_eq_true rfl, Nat.le_of_ble_eq_true rfl⟩ (Nat.le_of_ble_eq_true rfl) dX8_keyOf_22 rfl ?_
      refine v_if_ne (tgt := 30) dX8_keyOf_25 (by decide) (fun c => ?_) (fun c => ?_)
      · rw [if_neg c] at h
        exact v_weak (wss (wss (wss wse))) (lX8_keyOf_30 h)
      · rw [if_pos c] at h
        refine v_iconst dX8_keyOf_28 ?_
        exact v_retI h dX8_keyOf_29 rfl
theorem tX8_keyOf {E : EE} {l : Launch} {v0 : Option Nat} {v1 : Int32} {v2 : Int32} {σ : Mem} {z : Int32 × Mem} (h : sX8_keyOf v0 v1 v2 σ = some z) : Mt E l mX8_keyOf [vr v0, vi v1, vi v2] σ (some (vi z.1), z.2) :=
  Mt.ofVL (by decide) (Nat.le_of_ble_eq_true rfl) (fun G hG => lX8_keyOf h)
abbrev mX8_about : MM := (yX8_about, cX8_about, 4, (Option.some Jvm.ClassFile.FieldType.int), 4, 84)
theorem dsX8_about : DsOk yX8_about 3 := ⟨by decide, by decide, by decide +kernel⟩
theorem lX8_about {E : EE} {G : GG} {v0 : Option Nat} {v1 : Int32} {v2 : Int32} {v3 : Int32} {σ : Mem} {z : Int32 × Mem} (h : sX8_about v0 v1 v2 v3 σ = some z) : V E mX8_about G 0 [some (vr v0), some (vi v1), some (vi v2), some (vi v3)] [] σ (some (vi z.1), z.2) := by
  unfold sX8_about at h
  refine v_il1 dX8_about_0 ?_
  obtain ⟨x1, s2, h1, h⟩ := cl_some h
  refine v_callS1 (As := [vi v1]) (tX8_isNode h1) (lw_S q1662 q1663 q167 q1664) dsX8_isNode ⟨Nat.le_of_ble_eq_true rfl, Nat.le_of_ble_eq_true rfl⟩ (Nat.le_of_ble_eq_true rfl) dX8_about_1 rfl ?_
  refine v_if_eq (tgt := 23) dX8_about_4 (by decide) (fun c => ?_) (fun c => ?_)
  · rw [if_pos c] at h
    refine v_iconst dX8_about_23 ?_
    exact v_retI h dX8_about_24 rfl
  · rw [if_neg c] at h
    refine v_il2 dX8_about_7 ?_
    obtain ⟨x3, s4, h1, h⟩ := cl_some h
    refine v_callS1 (As := [vi v2]) (tX8_isNode h1) (lw_S q1662 q1663 q167 q1664) dsX8_isNode ⟨Nat.le_of_ble_eq_true rfl, Nat.le_of_ble_eq_true rfl⟩ (Nat.le_of_ble_eq_true rfl) dX8_about_8 rfl ?_
    refine v_if_eq (tgt := 23) dX8_about_11 (by decide) (fun c => ?_) (fun c => ?_)
    · rw [if_pos c] at h
      refine v_iconst dX8_about_23 ?_
      exact v_retI h dX8_about_24 rfl
    · rw [if_neg c] at h
      refine v_il3 dX8_about_14 ?_
      refine v_iconst dX8_about_15 ?_
      refine v_iconst dX8_about_16 ?_
      obtain ⟨x5, s6, h1, h⟩ := cl_some h
      refine v_callS1 (As := [vi v3, vi (iI 0), vi (iI 2)]) (tX8_in h1) (lw_S q1549 q1550 q167 q1551) dsX8_in ⟨Nat.le_of_ble_eq_true rfl, Nat.le_of_ble_eq_true rfl⟩ (Nat.le_of_ble_eq_true rfl) dX8_about_17 rfl ?_
      refine v_if_ne (tgt := 25) dX8_about_20 (by decide) (fun c => ?_) (fun c => ?_)
      · rw [if_neg c] at h
        refine v_al0 dX8_about_25 ?_
        refine v_il1 dX8_about_26 ?_
        obtain ⟨b27, er, ka, h⟩ := cV_some h
        obtain ⟨x7, s8, h1, h⟩ := cl_some h
        refine v_callV1 cok6 (As := [vi v1]) er ka (tX8_isLeader h1) (lw_V q1898 q1900 qs138 q167 q1901) rfl dsX8_isLeader ⟨Nat.le_of_ble_eq_true rfl, Nat.le_of_ble_eq_true rfl⟩ (Nat.le_of_ble_eq_true rfl) dX8_about_27 rfl ?_
        refine v_if_ne (tgt := 36) dX8_about_30 (by decide) (fun c => ?_) (fun c => ?_)
        · rw [if_neg c] at h
          refine v_il3 dX8_about_36 ?_
          refine v_if_ne (tgt := 52) dX8_about_37 (by decide) (fun c => ?_) (fun c => ?_)
          · rw [if_neg c] at h
            refine v_il3 dX8_about_52 ?_
            refine v_iconst dX8_about_53 ?_
            refine v_icmp_ne (tgt := 69) dX8_about_54 (by decide) (fun c => ?_) (fun c => ?_)
            · rw [if_neg c] at h
              refine v_al0 dX8_about_69 ?_
              refine v_il1 dX8_about_70 ?_
              refine v_bipush dX8_about_71 rfl ?_
              refine v_il2 dX8_about_73 ?_
              refine v_iadd dX8_about_74 ?_
              obtain ⟨b75, er, ka, h⟩ := cV_some h
              obtain ⟨x9, s10, h1, h⟩ := cl_some h
              refine v_callV1 cok6 (As := [vi v1, vi ((iI 45) + v2)]) er ka (tX8_the h1) (lw_V q1385 q1387 qs60 q167 q1388) rfl dsX8_the ⟨Nat.le_of_ble_eq_true rfl, Nat.le_of_ble_eq_true rfl⟩ (Nat.le_of_ble_eq_true rfl) dX8_about_75 rfl ?_
              exact v_retI h dX8_about_78 rfl
            · rw [if_pos c] at h
              refine v_al0 dX8_about_57 ?_
              refine v_il1 dX8_about_58 ?_
              refine v_bipush dX8_about_59 rfl ?_
              refine v_il2 dX8_about_61 ?_
              refine v_iadd dX8_about_62 ?_
              obtain ⟨b63, er, ka, h⟩ := cV_some h
              obtain ⟨x11, s12, h1, h⟩ := cl_some h
              refine v_callV1 cok6 (As := [vi v1, vi ((iI 38) + v2)]) er ka (tX8_the h1) (lw_V q1385 q1387 qs60 q167 q1388) rfl dsX8_the ⟨Nat.le_of_ble_eq_true rfl, Nat.le_of_ble_eq_true rfl⟩ (Nat.le_of_ble_eq_true rfl) dX8_about_63 rfl ?_
              refine v_goto (tgt := 78) dX8_about_66 (by decide) ?_
              exact v_retI h dX8_about_78 rfl
          · rw [if_pos c] at h
            refine v_al0 dX8_about_40 ?_
            refine v_il1 dX8_about_41 ?_
            refine v_bipush dX8_about_42 rfl ?_
            refine v_il2 dX8_about_44 ?_
            refine v_iadd dX8_about_45 ?_
            obtain ⟨b46, er, ka, h⟩ := cV_some h
            obtain ⟨x13, s14, h1, h⟩ := cl_some h
            refine v_callV1 cok6 (As := [vi v1, vi ((iI 31) + v2)]) er ka (tX8_the h1) (lw_V q1385 q1387 qs60 q167 q1388) rfl dsX8_the ⟨Nat.le_of_ble_eq_true rfl, Nat.le_of_ble_eq_true rfl⟩ (Nat.le_of_ble_eq_true rfl) dX8_about_46 rfl ?_
            refine v_goto (tgt := 78) dX8_about_49 (by decide) ?_
            exact v_retI h dX8_about_78 rfl
        · rw [if_pos c] at h
          refine v_bipush dX8_about_33 rfl ?_
          exact v_retI h dX8_about_35 rfl
      · rw [if_pos c] at h
        refine v_iconst dX8_about_23 ?_
        exact v_retI h dX8_about_24 rfl
theorem tX8_about {E : EE} {l : Launch} {v0 : Option Nat} {v1 : Int32} {v2 : Int32} {v3 : Int32} {σ : Mem} {z : Int32 × Mem} (h : sX8_about v0 v1 v2 v3 σ = some z) : Mt E l mX8_about [vr v0, vi v1, vi v2, vi v3] σ (some (vi z.1), z.2) :=
  Mt.ofVL (by decide) (Nat.le_of_ble_eq_true rfl) (fun G hG => lX8_about h)
abbrev mX8_message : MM := (yX8_message, cX8_message, 3, (Option.some Jvm.ClassFile.FieldType.int), 1, 22)
theorem dsX8_message : DsOk yX8_message 2 := ⟨by decide, by decide, by decide +kernel⟩
theorem lX8_message {E : EE} {G : GG} {v0 : Option Nat} {v1 : Int32} {v2 : Int32} {σ : Mem} {z : Int32 × Mem} (h : sX8_message v0 v1 v2 σ = some z) : V E mX8_message G 0 [some (vr v0), some (vi v1), some (vi v2)] [] σ (some (vi z.1), z.2) := by
  unfold sX8_message at h
  refine v_il1 dX8_message_0 ?_
  refine v_if_lt (tgt := 13) dX8_message_1 (by decide) (fun c => ?_) (fun c => ?_)
  · rw [if_pos c] at h
    refine v_iconst dX8_message_13 ?_
    exact v_retI h dX8_message_14 rfl
  · rw [if_neg c] at h
    refine v_il2 dX8_message_4 ?_
    refine v_iconst dX8_message_5 ?_
    refine v_iconst dX8_message_6 ?_
    obtain ⟨x1, s2, h1, h⟩ := cl_some h
    refine v_callS1 (As := [vi v2, vi (iI 0), vi (iI 5)]) (tX8_in h1) (lw_S q1549 q1550 q167 q1551) dsX8_in ⟨Nat.le_of_ble_eq_true rfl, Nat.le_of_ble_eq_true rfl⟩ (Nat.le_of_ble_eq_true rfl) dX8_message_7 rfl ?_
    refine v_if_ne (tgt := 15) dX8_message_10 (by decide) (fun c => ?_) (fun c => ?_)
    · rw [if_neg c] at h
      refine v_il1 dX8_message_15 ?_
      refine v_al0 dX8_message_16 ?_
      refine v_gR cok6 h dX8_message_17 (by decide) q1401 rfl (fun x3 h => ?_)
      refine v_sipush dX8_message_20 rfl ?_
      refine v_aI h dX8_message_23 (fun x4 h => ?_)
      refine v_icmp_ge (tgt := 45) dX8_message_24 (by decide) (fun c => ?_) (fun c => ?_)
      · rw [if_pos c] at h
        refine v_bipush dX8_message_45 rfl ?_
        exact v_retI h dX8_message_47 rfl
      · rw [if_neg c] at h
        refine v_al0 dX8_message_27 ?_
        refine v_gR cok6 h dX8_message_28 (by decide) q1401 rfl (fun x5 h => ?_)
        refine v_sipush dX8_message_31 rfl ?_
        refine v_bipush dX8_message_34 rfl ?_
        refine v_il1 dX8_message_36 ?_
        refine v_imul dX8_message_37 ?_
        refine v_iadd dX8_message_38 ?_
        refine v_il2 dX8_message_39 ?_
        refine v_iadd dX8_message_40 ?_
        refine v_aI h dX8_message_41 (fun x6 h => ?_)
        refine v_goto (tgt := 47) dX8_message_42 (by decide) ?_
        exact v_retI h dX8_message_47 rfl
    · rw [if_pos c] at h
      refine v_iconst dX8_message_13 ?_
      exact v_retI h dX8_message_14 rfl
theorem tX8_message {E : EE} {l : Launch} {v0 : Option Nat} {v1 : Int32} {v2 : Int32} {σ : Mem} {z : Int32 × Mem} (h : sX8_message v0 v1 v2 σ = some z) : Mt E l mX8_message [vr v0, vi v1, vi v2] σ (some (vi z.1), z.2) :=
  Mt.ofVL (by decide) (Nat.le_of_ble_eq_true rfl) (fun G hG => lX8_message h)
abbrev mX8_heldAt : MM := (yX8_heldAt, cX8_heldAt, 3, (Option.some Jvm.ClassFile.FieldType.int), 1, 22)
theorem dsX8_heldAt : DsOk yX8_heldAt 2 := ⟨by decide, by decide, by decide +kernel⟩
theorem lX8_heldAt {E : EE} {G : GG} {v0 : Option Nat} {v1 : Int32} {v2 : Int32} {σ : Mem} {z : Int32 × Mem} (h : sX8_heldAt v0 v1 v2 σ = some z) : V E mX8_heldAt G 0 [some (vr v0), some (vi v1), some (vi v2)] [] σ (some (vi z.1), z.2) := by
  unfold sX8_heldAt at h
  refine v_il1 dX8_heldAt_0 ?_
  refine v_iconst dX8_heldAt_1 ?_
  refine v_sipush dX8_heldAt_2 rfl ?_
  obtain ⟨x1, s2, h1, h⟩ := cl_some h
  refine v_callS1 (As := [vi v1, vi (iI 1), vi (iI 9999)]) (tX8_in h1) (lw_S q1549 q1550 q167 q1551) dsX8_in ⟨Nat.le_of_ble_eq_true rfl, Nat.le_of_ble_eq_true rfl⟩ (Nat.le_of_ble_eq_true rfl) dX8_heldAt_5 rfl ?_
  refine v_if_eq (tgt := 20) dX8_heldAt_8 (by decide) (fun c => ?_) (fun c => ?_)
  · rw [if_pos c] at h
    refine v_iconst dX8_heldAt_20 ?_
    exact v_retI h dX8_heldAt_21 rfl
  · rw [if_neg c] at h
    refine v_il2 dX8_heldAt_11 ?_
    refine v_iconst dX8_heldAt_12 ?_
    refine v_iconst dX8_heldAt_13 ?_
    obtain ⟨x3, s4, h1, h⟩ := cl_some h
    refine v_callS1 (As := [vi v2, vi (iI 0), vi (iI 3)]) (tX8_in h1) (lw_S q1549 q1550 q167 q1551) dsX8_in ⟨Nat.le_of_ble_eq_true rfl, Nat.le_of_ble_eq_true rfl⟩ (Nat.le_of_ble_eq_true rfl) dX8_heldAt_14 rfl ?_
    refine v_if_ne (tgt := 22) dX8_heldAt_17 (by decide) (fun c => ?_) (fun c => ?_)
    · rw [if_neg c] at h
      refine v_il1 dX8_heldAt_22 ?_
      refine v_sipush dX8_heldAt_23 rfl ?_
      refine v_icmp_gt (tgt := 44) dX8_heldAt_26 (by decide) (fun c => ?_) (fun c => ?_)
      · rw [if_pos c] at h
        refine v_bipush dX8_heldAt_44 rfl ?_
        refine v_goto (tgt := 63) dX8_heldAt_46 (by decide) ?_
        exact v_retI h dX8_heldAt_63 rfl
      · rw [if_neg c] at h
        refine v_al0 dX8_heldAt_29 ?_
        refine v_gR cok6 h dX8_heldAt_30 (by decide) q1401 rfl (fun x5 h => ?_)
        refine v_sipush dX8_heldAt_33 rfl ?_
        refine v_iconst dX8_heldAt_36 ?_
        refine v_il1 dX8_heldAt_37 ?_
        refine v_imul dX8_heldAt_38 ?_
        refine v_iadd dX8_heldAt_39 ?_
        refine v_aI h dX8_heldAt_40 (fun x6 h => ?_)
        refine v_if_ne (tgt := 49) dX8_heldAt_41 (by decide) (fun c => ?_) (fun c => ?_)
        · rw [if_neg c] at h
          refine v_al0 dX8_heldAt_49 ?_
          refine v_gR cok6 h dX8_heldAt_50 (by decide) q1401 rfl (fun x7 h => ?_)
          refine v_sipush dX8_heldAt_53 rfl ?_
          refine v_iconst dX8_heldAt_56 ?_
          refine v_il1 dX8_heldAt_57 ?_
          refine v_imul dX8_heldAt_58 ?_
          refine v_iadd dX8_heldAt_59 ?_
          refine v_il2 dX8_heldAt_60 ?_
          refine v_iadd dX8_heldAt_61 ?_
          refine v_aI h dX8_heldAt_62 (fun x8 h => ?_)
          exact v_retI h dX8_heldAt_63 rfl
        · rw [if_pos c] at h
          refine v_bipush dX8_heldAt_44 rfl ?_
          refine v_goto (tgt := 63) dX8_heldAt_46 (by decide) ?_
          exact v_retI h dX8_heldAt_63 rfl
    · rw [if_pos c] at h
      refine v_iconst dX8_heldAt_20 ?_
      exact v_retI h dX8_heldAt_21 rfl
theorem tX8_heldAt {E : EE} {l : Launch} {v0 : Option Nat} {v1 : Int32} {v2 : Int32} {σ : Mem} {z : Int32 × Mem} (h : sX8_heldAt v0 v1 v2 σ = some z) : Mt E l mX8_heldAt [vr v0, vi v1, vi v2] σ (some (vi z.1), z.2) :=
  Mt.ofVL (by decide) (Nat.le_of_ble_eq_true rfl) (fun G hG => lX8_heldAt h)
abbrev mX8_readIs : MM := (yX8_readIs, cX8_readIs, 4, (Option.some Jvm.ClassFile.FieldType.int), 1, 22)
theorem dsX8_readIs : DsOk yX8_readIs 2 := ⟨by decide, by decide, by decide +kernel⟩
theorem lX8_readIs {E : EE} {G : GG} {v0 : Option Nat} {v1 : Int32} {v2 : Int32} {σ : Mem} {z : Int32 × Mem} (h : sX8_readIs v0 v1 v2 σ = some z) : V E mX8_readIs G 0 [some (vr v0), some (vi v1), some (vi v2), none] [] σ (some (vi z.1), z.2) := by
  unfold sX8_readIs at h
  refine v_il1 dX8_readIs_0 ?_
  refine v_iconst dX8_readIs_1 ?_
  refine v_al0 dX8_readIs_2 ?_
  refine v_gR cok6 h dX8_readIs_3 (by decide) q1401 rfl (fun x1 h => ?_)
  refine v_sipush dX8_readIs_6 rfl ?_
  refine v_aI h dX8_readIs_9 (fun x2 h => ?_)
  refine v_iconst dX8_readIs_10 ?_
  refine v_isub dX8_readIs_11 ?_
  obtain ⟨x3, s4, h1, h⟩ := cl_some h
  refine v_callS1 (As := [vi v1, vi (iI 0), vi (x2 - (iI 1))]) (tX8_in h1) (lw_S q1549 q1550 q167 q1551) dsX8_in ⟨Nat.le_of_ble_eq_true rfl, Nat.le_of_ble_eq_true rfl⟩ (Nat.le_of_ble_eq_true rfl) dX8_readIs_12 rfl ?_
  refine v_if_ne (tgt := 20) dX8_readIs_15 (by decide) (fun c => ?_) (fun c => ?_)
  · rw [if_neg c] at h
    refine v_sipush dX8_readIs_20 rfl ?_
    refine v_bipush dX8_readIs_23 rfl ?_
    refine v_il1 dX8_readIs_25 ?_
    refine v_imul dX8_readIs_26 ?_
    refine v_iadd dX8_readIs_27 ?_
    refine v_istore_n (L' := [some (vr v0), some (vi v1), some (vi v2), some (vi ((iI 11028) + ((iI 6) * v1)))]) dX8_readIs_28 (Nat.le_of_ble_eq_true rfl) (Nat.le_of_ble_eq_true rfl) rfl ?_
    refine v_il2 dX8_readIs_29 ?_
    by_cases c0 : v2 = iI 0
    · rw [if_pos c0] at h
      refine v_tabIn (tgt := 60) dX8_readIs_30 (by rw [c0]; decide) (by rw [c0]; decide) (by rw [c0]; rfl) (by decide) ?_
      refine v_al0 dX8_readIs_60 ?_
      refine v_gR cok6 h dX8_readIs_61 (by decide) q1401 rfl (fun x5 h => ?_)
      refine v_il3 dX8_readIs_64 ?_
      refine v_iconst dX8_readIs_65 ?_
      refine v_iadd dX8_readIs_66 ?_
      refine v_aI h dX8_readIs_67 (fun x6 h => ?_)
      exact v_retI h dX8_readIs_68 rfl
    · rw [if_neg c0] at h
      by_cases c1 : v2 = iI 1
      · rw [if_pos c1] at h
        refine v_tabIn (tgt := 69) dX8_readIs_30 (by rw [c1]; decide) (by rw [c1]; decide) (by rw [c1]; rfl) (by decide) ?_
        refine v_al0 dX8_readIs_69 ?_
        refine v_gR cok6 h dX8_readIs_70 (by decide) q1401 rfl (fun x7 h => ?_)
        refine v_il3 dX8_readIs_73 ?_
        refine v_iconst dX8_readIs_74 ?_
        refine v_iadd dX8_readIs_75 ?_
        refine v_aI h dX8_readIs_76 (fun x8 h => ?_)
        refine v_iconst dX8_readIs_77 ?_
        refine v_icmp_ne (tgt := 92) dX8_readIs_78 (by decide) (fun c => ?_) (fun c => ?_)
        · rw [if_neg c] at h
          refine v_bipush dX8_readIs_92 rfl ?_
          exact v_retI h dX8_readIs_94 rfl
        · rw [if_pos c] at h
          refine v_al0 dX8_readIs_81 ?_
          refine v_gR cok6 h dX8_readIs_82 (by decide) q1401 rfl (fun x9 h => ?_)
          refine v_il3 dX8_readIs_85 ?_
          refine v_iconst dX8_readIs_86 ?_
          refine v_iadd dX8_readIs_87 ?_
          refine v_aI h dX8_readIs_88 (fun x10 h => ?_)
          refine v_goto (tgt := 94) dX8_readIs_89 (by decide) ?_
          exact v_retI h dX8_readIs_94 rfl
      · rw [if_neg c1] at h
        by_cases c2 : v2 = iI 2
        · rw [if_pos c2] at h
          refine v_tabIn (tgt := 95) dX8_readIs_30 (by rw [c2]; decide) (by rw [c2]; decide) (by rw [c2]; rfl) (by decide) ?_
          refine v_al0 dX8_readIs_95 ?_
          refine v_gR cok6 h dX8_readIs_96 (by decide) q1401 rfl (fun x11 h => ?_)
          refine v_il3 dX8_readIs_99 ?_
          refine v_aI h dX8_readIs_100 (fun x12 h => ?_)
          exact v_retI h dX8_readIs_101 rfl
        · rw [if_neg c2] at h
          by_cases c3 : v2 = iI 3
          · rw [if_pos c3] at h
            refine v_tabIn (tgt := 102) dX8_readIs_30 (by rw [c3]; decide) (by rw [c3]; decide) (by rw [c3]; rfl) (by decide) ?_
            refine v_al0 dX8_readIs_102 ?_
            refine v_gR cok6 h dX8_readIs_103 (by decide) q1401 rfl (fun x13 h => ?_)
            refine v_il3 dX8_readIs_106 ?_
            refine v_iconst dX8_readIs_107 ?_
            refine v_iadd dX8_readIs_108 ?_
            refine v_aI h dX8_readIs_109 (fun x14 h => ?_)
            exact v_retI h dX8_readIs_110 rfl
          · rw [if_neg c3] at h
            refine v_tabOut (tgt := 111) dX8_readIs_30 (tab_out (fun j h1 h2 => ?_) (by decide) (by decide)) (by decide) ?_
            · rcases (show j = 0 ∨ j = 1 ∨ j = 2 ∨ j = 3 by omega) with rfl | rfl | rfl | rfl
              · exact c0
              · exact c1
              · exact c2
              · exact c3
            refine v_iconst dX8_readIs_111 ?_
            exact v_retI h dX8_readIs_112 rfl
  · rw [if_pos c] at h
    refine v_iconst dX8_readIs_18 ?_
    exact v_retI h dX8_readIs_19 rfl
theorem tX8_readIs {E : EE} {l : Launch} {v0 : Option Nat} {v1 : Int32} {v2 : Int32} {σ : Mem} {z : Int32 × Mem} (h : sX8_readIs v0 v1 v2 σ = some z) : Mt E l mX8_readIs [vr v0, vi v1, vi v2] σ (some (vi z.1), z.2) :=
  Mt.ofVL (by decide) (Nat.le_of_ble_eq_true rfl) (fun G hG => lX8_readIs h)
abbrev mX8_areSame : MM := (yX8_areSame, cX8_areSame, 5, (Option.some Jvm.ClassFile.FieldType.boolean), 2, 44)
theorem dsX8_areSame : DsOk yX8_areSame 3 := ⟨by decide, by decide, by decide +kernel⟩
theorem lX8_areSame_3b {E : EE} {G : GG} {k3 : Option Nat → Int32 → Int32 → Int32 → Int32 → Mem → Option (Int32 × Mem)} (hk3 : ∀ (v0 : Option Nat) (v1 : Int32) (v2 : Int32) (v3 : Int32) (v4 : Int32) (s : Mem) (z : Int32 × Mem), k3 v0 v1 v2 v3 v4 s = some z → V E mX8_areSame G 3 [some (vr v0), some (vi v1), some (vi v2), some (vi v3), some (vi v4)] [] s (some (vi z.1), z.2)) {v0 : Option Nat} {v1 : Int32} {v2 : Int32} {v3 : Int32} {v4 : Int32} {σ : Mem} {z : Int32 × Mem} (h : sX8_areSame_3b k3 v0 v1 v2 v3 v4 σ = some z) : V E mX8_areSame G 3 [some (vr v0), some (vi v1), some (vi v2), some (vi v3), some (vi v4)] [] σ (some (vi z.1), z.2) := by
  unfold sX8_areSame_3b at h
  refine v_iload dX8_areSame_3 rfl ?_
  refine v_iconst dX8_areSame_5 ?_
  refine v_icmp_ge (tgt := 48) dX8_areSame_6 (by decide) (fun c => ?_) (fun c => ?_)
  · rw [if_pos c] at h
    refine v_iconst dX8_areSame_48 ?_
    exact v_retZ h dX8_areSame_49 rfl
  · rw [if_neg c] at h
    refine v_al0 dX8_areSame_9 ?_
    refine v_gR cok6 h dX8_areSame_10 (by decide) q1401 rfl (fun x1 h => ?_)
    refine v_al0 dX8_areSame_13 ?_
    refine v_il1 dX8_areSame_14 ?_
    refine v_il3 dX8_areSame_15 ?_
    obtain ⟨b16, er, ka, h⟩ := cV_some h
    obtain ⟨x2, s3, h1, h⟩ := cl_some h
    refine v_callV1 cok6 (As := [vi v1, vi v3]) er ka (tX8_logPlace h1) (lw_V q1704 q1706 qs97 q167 q1707) rfl dsX8_logPlace ⟨Nat.le_of_ble_eq_true rfl, Nat.le_of_ble_eq_true rfl⟩ (Nat.le_of_ble_eq_true rfl) dX8_areSame_16 rfl ?_
    refine v_iload dX8_areSame_19 rfl ?_
    refine v_iadd dX8_areSame_21 ?_
    refine v_aI h dX8_areSame_22 (fun x4 h => ?_)
    refine v_al0 dX8_areSame_23 ?_
    refine v_gR cok6 h dX8_areSame_24 (by decide) q1401 rfl (fun x5 h => ?_)
    refine v_al0 dX8_areSame_27 ?_
    refine v_il2 dX8_areSame_28 ?_
    refine v_il3 dX8_areSame_29 ?_
    obtain ⟨b30, er, ka, h⟩ := cV_some h
    obtain ⟨x6, s7, h1, h⟩ := cl_some h
    refine v_callV1 cok6 (As := [vi v2, vi v3]) er ka (tX8_logPlace h1) (lw_V q1704 q1706 qs97 q167 q1707) rfl dsX8_logPlace ⟨Nat.le_of_ble_eq_true rfl, Nat.le_of_ble_eq_true rfl⟩ (Nat.le_of_ble_eq_true rfl) dX8_areSame_30 rfl ?_
    refine v_iload dX8_areSame_33 rfl ?_
    refine v_iadd dX8_areSame_35 ?_
    refine v_aI h dX8_areSame_36 (fun x8 h => ?_)
    refine v_icmp_eq (tgt := 42) dX8_areSame_37 (by decide) (fun c => ?_) (fun c => ?_)
    · rw [if_pos c] at h
      refine v_iinc (L' := [some (vr v0), some (vi v1), some (vi v2), some (vi v3), some (vi (v4 + iI 1))]) dX8_areSame_42 (Nat.le_of_ble_eq_true rfl) rfl rfl ?_
      refine v_goto (tgt := 3) dX8_areSame_45 (by decide) ?_
      exact v_weak (wss (wss (wss (wss (wss wse))))) (hk3 _ _ _ _ _ _ _ h)
    · rw [if_neg c] at h
      refine v_iconst dX8_areSame_40 ?_
      exact v_retZ h dX8_areSame_41 rfl
theorem lX8_areSame_3 {E : EE} {G : GG} : ∀ (f : Nat) {v0 : Option Nat} {v1 : Int32} {v2 : Int32} {v3 : Int32} {v4 : Int32} {σ : Mem} {z : Int32 × Mem}, sX8_areSame_3 f v0 v1 v2 v3 v4 σ = some z → V E mX8_areSame G 3 [some (vr v0), some (vi v1), some (vi v2), some (vi v3), some (vi v4)] [] σ (some (vi z.1), z.2)
  | 0, _, _, _, _, _, _, _, h => by cases h
  | f + 1, _, _, _, _, _, _, _, h => lX8_areSame_3b (fun _ _ _ _ _ _ _ h => lX8_areSame_3 f h) h
theorem lX8_areSame {E : EE} {G : GG} {v0 : Option Nat} {v1 : Int32} {v2 : Int32} {v3 : Int32} {σ : Mem} {z : Int32 × Mem} (h : sX8_areSame v0 v1 v2 v3 σ = some z) : V E mX8_areSame G 0 [some (vr v0), some (vi v1), some (vi v2), some (vi v3), none] [] σ (some (vi z.1), z.2) := by
  unfold sX8_areSame at h
  refine v_iconst dX8_areSame_0 ?_
  refine v_istore (L' := [some (vr v0), some (vi v1), some (vi v2), some (vi v3), some (vi (iI 0))]) dX8_areSame_1 (Nat.le_of_ble_eq_true rfl) (Nat.le_of_ble_eq_true rfl) rfl ?_
  exact v_weak (wss (wss (wss (wss (wss wse))))) (lX8_areSame_3 FU h)
theorem tX8_areSame {E : EE} {l : Launch} {v0 : Option Nat} {v1 : Int32} {v2 : Int32} {v3 : Int32} {σ : Mem} {z : Int32 × Mem} (h : sX8_areSame v0 v1 v2 v3 σ = some z) : Mt E l mX8_areSame [vr v0, vi v1, vi v2, vi v3] σ (some (vi z.1), z.2) :=
  Mt.ofVL (by decide) (Nat.le_of_ble_eq_true rfl) (fun G hG => lX8_areSame h)
abbrev mX8_areMatched : MM := (yX8_areMatched, cX8_areMatched, 5, (Option.some Jvm.ClassFile.FieldType.boolean), 3, 68)
theorem dsX8_areMatched : DsOk yX8_areMatched 2 := ⟨by decide, by decide, by decide +kernel⟩
theorem lX8_areMatched_81 {E : EE} {G : GG} {k17 : Option Nat → Int32 → Int32 → Int32 → Int32 → Mem → Option (Int32 × Mem)} (hk17 : ∀ (v0 : Option Nat) (v1 : Int32) (v2 : Int32) (v3 : Int32) (v4 : Int32) (s : Mem) (z : Int32 × Mem), k17 v0 v1 v2 v3 v4 s = some z → V E mX8_areMatched G 17 [some (vr v0), some (vi v1), some (vi v2), some (vi v3), some (vi v4)] [] s (some (vi z.1), z.2)) {v0 : Option Nat} {v1 : Int32} {v2 : Int32} {v3 : Int32} {v4 : Int32} {σ : Mem} {z : Int32 × Mem} (h : sX8_areMatched_81 k17 v0 v1 v2 v3 v4 σ = some z) : V E mX8_areMatched G 81 [some (vr v0), some (vi v1), some (vi v2), some (vi v3), some (vi v4)] [] σ (some (vi z.1), z.2) := by
  unfold sX8_areMatched_81 at h
  refine v_iinc (L' := [some (vr v0), some (vi v1), some (vi v2), some (vi v3), some (vi (v4 + iI (-1)))]) dX8_areMatched_81 (Nat.le_of_ble_eq_true rfl) rfl rfl ?_
  refine v_goto (tgt := 17) dX8_areMatched_84 (by decide) ?_
  exact v_weak (wss (wss (wss (wss (wss wse))))) (hk17 _ _ _ _ _ _ _ h)
theorem lX8_areMatched_63 {E : EE} {G : GG} {k17 : Option Nat → Int32 → Int32 → Int32 → Int32 → Mem → Option (Int32 × Mem)} (hk17 : ∀ (v0 : Option Nat) (v1 : Int32) (v2 : Int32) (v3 : Int32) (v4 : Int32) (s : Mem) (z : Int32 × Mem), k17 v0 v1 v2 v3 v4 s = some z → V E mX8_areMatched G 17 [some (vr v0), some (vi v1), some (vi v2), some (vi v3), some (vi v4)] [] s (some (vi z.1), z.2)) {v0 : Option Nat} {v1 : Int32} {v2 : Int32} {v4 : Int32} {t0 : Int32} {σ : Mem} {z : Int32 × Mem} (h : sX8_areMatched_63 k17 v0 v1 v2 v4 t0 σ = some z) : V E mX8_areMatched G 63 [some (vr v0), some (vi v1), some (vi v2), none, some (vi v4)] [vi t0] σ (some (vi z.1), z.2) := by
  unfold sX8_areMatched_63 at h
  refine v_istore_n (L' := [some (vr v0), some (vi v1), some (vi v2), some (vi t0), some (vi v4)]) dX8_areMatched_63 (Nat.le_of_ble_eq_true rfl) (Nat.le_of_ble_eq_true rfl) rfl ?_
  refine v_il3 dX8_areMatched_64 ?_
  refine v_if_eq (tgt := 81) dX8_areMatched_65 (by decide) (fun c => ?_) (fun c => ?_)
  · rw [if_pos c] at h
    exact v_weak (wss (wss (wss (wss (wss wse))))) (lX8_areMatched_81 hk17 h)
  · rw [if_neg c] at h
    refine v_al0 dX8_areMatched_68 ?_
    refine v_il1 dX8_areMatched_69 ?_
    refine v_il2 dX8_areMatched_70 ?_
    refine v_iload dX8_areMatched_71 rfl ?_
    obtain ⟨b73, er, ka, h⟩ := cV_some h
    obtain ⟨x1, s2, h1, h⟩ := cl_some h
    refine v_callV1 cok6 (As := [vi v1, vi v2, vi v4]) er ka (tX8_areSame h1) (lw_V q2005 q2007 qs148 q167 q2008) rfl dsX8_areSame ⟨Nat.le_of_ble_eq_true rfl, Nat.le_of_ble_eq_true rfl⟩ (Nat.le_of_ble_eq_true rfl) dX8_areMatched_73 rfl ?_
    refine v_if_ne (tgt := 81) dX8_areMatched_76 (by decide) (fun c => ?_) (fun c => ?_)
    · rw [if_neg c] at h
      exact v_weak (wss (wss (wss (wss (wss wse))))) (lX8_areMatched_81 hk17 h)
    · rw [if_pos c] at h
      refine v_iconst dX8_areMatched_79 ?_
      exact v_retZ h dX8_areMatched_80 rfl
theorem lX8_areMatched_58 {E : EE} {G : GG} {k17 : Option Nat → Int32 → Int32 → Int32 → Int32 → Mem → Option (Int32 × Mem)} (hk17 : ∀ (v0 : Option Nat) (v1 : Int32) (v2 : Int32) (v3 : Int32) (v4 : Int32) (s : Mem) (z : Int32 × Mem), k17 v0 v1 v2 v3 v4 s = some z → V E mX8_areMatched G 17 [some (vr v0), some (vi v1), some (vi v2), some (vi v3), some (vi v4)] [] s (some (vi z.1), z.2)) {v0 : Option Nat} {v1 : Int32} {v2 : Int32} {v4 : Int32} {σ : Mem} {z : Int32 × Mem} (h : sX8_areMatched_58 k17 v0 v1 v2 v4 σ = some z) : V E mX8_areMatched G 58 [some (vr v0), some (vi v1), some (vi v2), none, some (vi v4)] [] σ (some (vi z.1), z.2) := by
  unfold sX8_areMatched_58 at h
  refine v_iconst dX8_areMatched_58 ?_
  refine v_goto (tgt := 63) dX8_areMatched_59 (by decide) ?_
  exact v_weak (wss (wss (wss (wsn (wss wse))))) (lX8_areMatched_63 hk17 h)
theorem lX8_areMatched_17b {E : EE} {G : GG} {k17 : Option Nat → Int32 → Int32 → Int32 → Int32 → Mem → Option (Int32 × Mem)} (hk17 : ∀ (v0 : Option Nat) (v1 : Int32) (v2 : Int32) (v3 : Int32) (v4 : Int32) (s : Mem) (z : Int32 × Mem), k17 v0 v1 v2 v3 v4 s = some z → V E mX8_areMatched G 17 [some (vr v0), some (vi v1), some (vi v2), some (vi v3), some (vi v4)] [] s (some (vi z.1), z.2)) {v0 : Option Nat} {v1 : Int32} {v2 : Int32} {v3 : Int32} {v4 : Int32} {σ : Mem} {z : Int32 × Mem} (h : sX8_areMatched_17b k17 v0 v1 v2 v3 v4 σ = some z) : V E mX8_areMatched G 17 [some (vr v0), some (vi v1), some (vi v2), some (vi v3), some (vi v4)] [] σ (some (vi z.1), z.2) := by
  unfold sX8_areMatched_17b at h
  refine v_al0 dX8_areMatched_17 ?_
  refine v_il1 dX8_areMatched_18 ?_
  refine v_iload dX8_areMatched_19 rfl ?_
  obtain ⟨b21, er, ka, h⟩ := cV_some h
  obtain ⟨x1, s2, h1, h⟩ := cl_some h
  refine v_callV1 cok6 (As := [vi v1, vi v4]) er ka (tX8_hasEntry h1) (lw_V q1810 q1812 qs122 q167 q1813) rfl dsX8_hasEntry ⟨Nat.le_of_ble_eq_true rfl, Nat.le_of_ble_eq_true rfl⟩ (Nat.le_of_ble_eq_true rfl) dX8_areMatched_21 rfl ?_
  refine v_if_eq (tgt := 87) dX8_areMatched_24 (by decide) (fun c => ?_) (fun c => ?_)
  · rw [if_pos c] at h
    refine v_iconst dX8_areMatched_87 ?_
    exact v_retZ h dX8_areMatched_88 rfl
  · rw [if_neg c] at h
    refine v_al0 dX8_areMatched_27 ?_
    refine v_il2 dX8_areMatched_28 ?_
    refine v_iload dX8_areMatched_29 rfl ?_
    obtain ⟨b31, er, ka, h⟩ := cV_some h
    obtain ⟨x3, s4, h1, h⟩ := cl_some h
    refine v_callV1 cok6 (As := [vi v2, vi v4]) er ka (tX8_hasEntry h1) (lw_V q1810 q1812 qs122 q167 q1813) rfl dsX8_hasEntry ⟨Nat.le_of_ble_eq_true rfl, Nat.le_of_ble_eq_true rfl⟩ (Nat.le_of_ble_eq_true rfl) dX8_areMatched_31 rfl ?_
    refine v_if_eq (tgt := 87) dX8_areMatched_34 (by decide) (fun c => ?_) (fun c => ?_)
    · rw [if_pos c] at h
      refine v_iconst dX8_areMatched_87 ?_
      exact v_retZ h dX8_areMatched_88 rfl
    · rw [if_neg c] at h
      refine v_il3 dX8_areMatched_37 ?_
      refine v_if_ne (tgt := 58) dX8_areMatched_38 (by decide) (fun c => ?_) (fun c => ?_)
      · rw [if_neg c] at h
        exact v_weak (wss (wss (wss (wsn (wss wse))))) (lX8_areMatched_58 hk17 h)
      · rw [if_pos c] at h
        refine v_al0 dX8_areMatched_41 ?_
        refine v_il1 dX8_areMatched_42 ?_
        refine v_iload dX8_areMatched_43 rfl ?_
        obtain ⟨b45, er, ka, h⟩ := cV_some h
        obtain ⟨x5, s6, h1, h⟩ := cl_some h
        refine v_callV1 cok6 (As := [vi v1, vi v4]) er ka (tX8_termAt h1) (lw_V q1700 q1702 qs96 q167 q1703) rfl dsX8_termAt ⟨Nat.le_of_ble_eq_true rfl, Nat.le_of_ble_eq_true rfl⟩ (Nat.le_of_ble_eq_true rfl) dX8_areMatched_45 rfl ?_
        refine v_al0 dX8_areMatched_48 ?_
        refine v_il2 dX8_areMatched_49 ?_
        refine v_iload dX8_areMatched_50 rfl ?_
        obtain ⟨b52, er, ka, h⟩ := cV_some h
        obtain ⟨x7, s8, h1, h⟩ := cl_some h
        refine v_callV1 cok6 (As := [vi v2, vi v4]) er ka (tX8_termAt h1) (lw_V q1700 q1702 qs96 q167 q1703) rfl dsX8_termAt ⟨Nat.le_of_ble_eq_true rfl, Nat.le_of_ble_eq_true rfl⟩ (Nat.le_of_ble_eq_true rfl) dX8_areMatched_52 rfl ?_
        refine v_icmp_ne (tgt := 62) dX8_areMatched_55 (by decide) (fun c => ?_) (fun c => ?_)
        · rw [if_neg c] at h
          refine v_iconst dX8_areMatched_62 ?_
          exact v_weak (wss (wss (wss (wsn (wss wse))))) (lX8_areMatched_63 hk17 h)
        · rw [if_pos c] at h
          exact v_weak (wss (wss (wss (wsn (wss wse))))) (lX8_areMatched_58 hk17 h)
theorem lX8_areMatched_17 {E : EE} {G : GG} : ∀ (f : Nat) {v0 : Option Nat} {v1 : Int32} {v2 : Int32} {v3 : Int32} {v4 : Int32} {σ : Mem} {z : Int32 × Mem}, sX8_areMatched_17 f v0 v1 v2 v3 v4 σ = some z → V E mX8_areMatched G 17 [some (vr v0), some (vi v1), some (vi v2), some (vi v3), some (vi v4)] [] σ (some (vi z.1), z.2)
  | 0, _, _, _, _, _, _, _, h => by cases h
  | f + 1, _, _, _, _, _, _, _, h => lX8_areMatched_17b (fun _ _ _ _ _ _ _ h => lX8_areMatched_17 f h) h
theorem lX8_areMatched {E : EE} {G : GG} {v0 : Option Nat} {v1 : Int32} {v2 : Int32} {σ : Mem} {z : Int32 × Mem} (h : sX8_areMatched v0 v1 v2 σ = some z) : V E mX8_areMatched G 0 [some (vr v0), some (vi v1), some (vi v2), none, none] [] σ (some (vi z.1), z.2) := by
  unfold sX8_areMatched at h
  refine v_iconst dX8_areMatched_0 ?_
  refine v_istore_n (L' := [some (vr v0), some (vi v1), some (vi v2), some (vi (iI 0)), none]) dX8_areMatched_1 (Nat.le_of_ble_eq_true rfl) (Nat.le_of_ble_eq_true rfl) rfl ?_
  refine v_al0 dX8_areMatched_2 ?_
  refine v_il1 dX8_areMatched_3 ?_
  obtain ⟨b4, er, ka, h⟩ := cV_some h
  obtain ⟨x1, s2, h1, h⟩ := cl_some h
  refine v_callV1 cok6 (As := [vi v1]) er ka (tX8_lastOf h1) (lw_V q1696 q1698 qs95 q167 q1699) rfl dsX8_lastOf ⟨Nat.le_of_ble_eq_true rfl, Nat.le_of_ble_eq_true rfl⟩ (Nat.le_of_ble_eq_true rfl) dX8_areMatched_4 rfl ?_
  refine v_al0 dX8_areMatched_7 ?_
  refine v_il2 dX8_areMatched_8 ?_
  obtain ⟨b9, er, ka, h⟩ := cV_some h
  obtain ⟨x3, s4, h1, h⟩ := cl_some h
  refine v_callV1 cok6 (As := [vi v2]) er ka (tX8_lastOf h1) (lw_V q1696 q1698 qs95 q167 q1699) rfl dsX8_lastOf ⟨Nat.le_of_ble_eq_true rfl, Nat.le_of_ble_eq_true rfl⟩ (Nat.le_of_ble_eq_true rfl) dX8_areMatched_9 rfl ?_
  obtain ⟨x5, s6, h1, h⟩ := cl_some h
  refine v_callS1 (As := [vi x1, vi x3]) (tX8_min h1) (lw_S q1677 q1678 q167 q1679) dsX8_min ⟨Nat.le_of_ble_eq_true rfl, Nat.le_of_ble_eq_true rfl⟩ (Nat.le_of_ble_eq_true rfl) dX8_areMatched_12 rfl ?_
  refine v_istore (L' := [some (vr v0), some (vi v1), some (vi v2), some (vi (iI 0)), some (vi x5)]) dX8_areMatched_15 (Nat.le_of_ble_eq_true rfl) (Nat.le_of_ble_eq_true rfl) rfl ?_
  exact v_weak (wss (wss (wss (wss (wss wse))))) (lX8_areMatched_17 FU h)
theorem tX8_areMatched {E : EE} {l : Launch} {v0 : Option Nat} {v1 : Int32} {v2 : Int32} {σ : Mem} {z : Int32 × Mem} (h : sX8_areMatched v0 v1 v2 σ = some z) : Mt E l mX8_areMatched [vr v0, vi v1, vi v2] σ (some (vi z.1), z.2) :=
  Mt.ofVL (by decide) (Nat.le_of_ble_eq_true rfl) (fun G hG => lX8_areMatched h)
abbrev mX8_areAlike : MM := (yX8_areAlike, cX8_areAlike, 4, (Option.some Jvm.ClassFile.FieldType.boolean), 1, 22)
theorem dsX8_areAlike : DsOk yX8_areAlike 2 := ⟨by decide, by decide, by decide +kernel⟩
theorem lX8_areAlike_21b {E : EE} {G : GG} {k21 : Option Nat → Int32 → Int32 → Int32 → Mem → Option (Int32 × Mem)} (hk21 : ∀ (v0 : Option Nat) (v1 : Int32) (v2 : Int32) (v3 : Int32) (s : Mem) (z : Int32 × Mem), k21 v0 v1 v2 v3 s = some z → V E mX8_areAlike G 21 [some (vr v0), some (vi v1), some (vi v2), some (vi v3)] [] s (some (vi z.1), z.2)) {v0 : Option Nat} {v1 : Int32} {v2 : Int32} {v3 : Int32} {σ : Mem} {z : Int32 × Mem} (h : sX8_areAlike_21b k21 v0 v1 v2 v3 σ = some z) : V E mX8_areAlike G 21 [some (vr v0), some (vi v1), some (vi v2), some (vi v3)] [] σ (some (vi z.1), z.2) := by
  unfold sX8_areAlike_21b at h
  refine v_il3 dX8_areAlike_21 ?_
  refine v_bipush dX8_areAlike_22 rfl ?_
  refine v_icmp_ge (tgt := 56) dX8_areAlike_24 (by decide) (fun c => ?_) (fun c => ?_)
  · rw [if_pos c] at h
    refine v_iconst dX8_areAlike_56 ?_
    exact v_retZ h dX8_areAlike_57 rfl
  · rw [if_neg c] at h
    refine v_al0 dX8_areAlike_27 ?_
    refine v_il1 dX8_areAlike_28 ?_
    refine v_bipush dX8_areAlike_29 rfl ?_
    refine v_il3 dX8_areAlike_31 ?_
    refine v_iadd dX8_areAlike_32 ?_
    obtain ⟨b33, er, ka, h⟩ := cV_some h
    obtain ⟨x1, s2, h1, h⟩ := cl_some h
    refine v_callV1 cok6 (As := [vi v1, vi ((iI 15) + v3)]) er ka (tX8_the h1) (lw_V q1385 q1387 qs60 q167 q1388) rfl dsX8_the ⟨Nat.le_of_ble_eq_true rfl, Nat.le_of_ble_eq_true rfl⟩ (Nat.le_of_ble_eq_true rfl) dX8_areAlike_33 rfl ?_
    refine v_al0 dX8_areAlike_36 ?_
    refine v_il2 dX8_areAlike_37 ?_
    refine v_bipush dX8_areAlike_38 rfl ?_
    refine v_il3 dX8_areAlike_40 ?_
    refine v_iadd dX8_areAlike_41 ?_
    obtain ⟨b42, er, ka, h⟩ := cV_some h
    obtain ⟨x3, s4, h1, h⟩ := cl_some h
    refine v_callV1 cok6 (As := [vi v2, vi ((iI 15) + v3)]) er ka (tX8_the h1) (lw_V q1385 q1387 qs60 q167 q1388) rfl dsX8_the ⟨Nat.le_of_ble_eq_true rfl, Nat.le_of_ble_eq_true rfl⟩ (Nat.le_of_ble_eq_true rfl) dX8_areAlike_42 rfl ?_
    refine v_icmp_eq (tgt := 50) dX8_areAlike_45 (by decide) (fun c => ?_) (fun c => ?_)
    · rw [if_pos c] at h
      refine v_iinc (L' := [some (vr v0), some (vi v1), some (vi v2), some (vi (v3 + iI 1))]) dX8_areAlike_50 (Nat.le_of_ble_eq_true rfl) rfl rfl ?_
      refine v_goto (tgt := 21) dX8_areAlike_53 (by decide) ?_
      exact v_weak (wss (wss (wss (wss wse)))) (hk21 _ _ _ _ _ _ h)
    · rw [if_neg c] at h
      refine v_iconst dX8_areAlike_48 ?_
      exact v_retZ h dX8_areAlike_49 rfl
theorem lX8_areAlike_21 {E : EE} {G : GG} : ∀ (f : Nat) {v0 : Option Nat} {v1 : Int32} {v2 : Int32} {v3 : Int32} {σ : Mem} {z : Int32 × Mem}, sX8_areAlike_21 f v0 v1 v2 v3 σ = some z → V E mX8_areAlike G 21 [some (vr v0), some (vi v1), some (vi v2), some (vi v3)] [] σ (some (vi z.1), z.2)
  | 0, _, _, _, _, _, _, h => by cases h
  | f + 1, _, _, _, _, _, _, h => lX8_areAlike_21b (fun _ _ _ _ _ _ h => lX8_areAlike_21 f h) h
theorem lX8_areAlike {E : EE} {G : GG} {v0 : Option Nat} {v1 : Int32} {v2 : Int32} {σ : Mem} {z : Int32 × Mem} (h : sX8_areAlike v0 v1 v2 σ = some z) : V E mX8_areAlike G 0 [some (vr v0), some (vi v1), some (vi v2), none] [] σ (some (vi z.1), z.2) := by
  unfold sX8_areAlike at h
  refine v_al0 dX8_areAlike_0 ?_
  refine v_il1 dX8_areAlike_1 ?_
  refine v_bipush dX8_areAlike_2 rfl ?_
  obtain ⟨b4, er, ka, h⟩ := cV_some h
  obtain ⟨x1, s2, h1, h⟩ := cl_some h
  refine v_callV1 cok6 (As := [vi v1, vi (iI 9)]) er ka (tX8_the h1) (lw_V q1385 q1387 qs60 q167 q1388) rfl dsX8_the ⟨Nat.le_of_ble_eq_true rfl, Nat.le_of_ble_eq_true rfl⟩ (Nat.le_of_ble_eq_true rfl) dX8_areAlike_4 rfl ?_
  refine v_al0 dX8_areAlike_7 ?_
  refine v_il2 dX8_areAlike_8 ?_
  refine v_bipush dX8_areAlike_9 rfl ?_
  obtain ⟨b11, er, ka, h⟩ := cV_some h
  obtain ⟨x3, s4, h1, h⟩ := cl_some h
  refine v_callV1 cok6 (As := [vi v2, vi (iI 9)]) er ka (tX8_the h1) (lw_V q1385 q1387 qs60 q167 q1388) rfl dsX8_the ⟨Nat.le_of_ble_eq_true rfl, Nat.le_of_ble_eq_true rfl⟩ (Nat.le_of_ble_eq_true rfl) dX8_areAlike_11 rfl ?_
  refine v_icmp_eq (tgt := 19) dX8_areAlike_14 (by decide) (fun c => ?_) (fun c => ?_)
  · rw [if_pos c] at h
    refine v_iconst dX8_areAlike_19 ?_
    refine v_istore_n (L' := [some (vr v0), some (vi v1), some (vi v2), some (vi (iI 0))]) dX8_areAlike_20 (Nat.le_of_ble_eq_true rfl) (Nat.le_of_ble_eq_true rfl) rfl ?_
    exact v_weak (wss (wss (wss (wss wse)))) (lX8_areAlike_21 FU h)
  · rw [if_neg c] at h
    refine v_iconst dX8_areAlike_17 ?_
    exact v_retZ h dX8_areAlike_18 rfl
theorem tX8_areAlike {E : EE} {l : Launch} {v0 : Option Nat} {v1 : Int32} {v2 : Int32} {σ : Mem} {z : Int32 × Mem} (h : sX8_areAlike v0 v1 v2 σ = some z) : Mt E l mX8_areAlike [vr v0, vi v1, vi v2] σ (some (vi z.1), z.2) :=
  Mt.ofVL (by decide) (Nat.le_of_ble_eq_true rfl) (fun G hG => lX8_areAlike h)
abbrev mX8_broken : MM := (yX8_broken, cX8_broken, 5, (Option.some Jvm.ClassFile.FieldType.int), 4, 92)
theorem dsX8_broken : DsOk yX8_broken 1 := ⟨by decide, by decide, by decide +kernel⟩
theorem lX8_broken_92 {E : EE} {G : GG} {k28 : Option Nat → Int32 → Int32 → Int32 → Mem → Option (Int32 × Mem)} {k37 : Option Nat → Int32 → Int32 → Int32 → Int32 → Mem → Option (Int32 × Mem)} (hk28 : ∀ (v0 : Option Nat) (v1 : Int32) (v2 : Int32) (v3 : Int32) (s : Mem) (z : Int32 × Mem), k28 v0 v1 v2 v3 s = some z → V E mX8_broken G 28 [some (vr v0), some (vi v1), some (vi v2), some (vi v3), none] [] s (some (vi z.1), z.2)) (hk37 : ∀ (v0 : Option Nat) (v1 : Int32) (v2 : Int32) (v3 : Int32) (v4 : Int32) (s : Mem) (z : Int32 × Mem), k37 v0 v1 v2 v3 v4 s = some z → V E mX8_broken G 37 [some (vr v0), some (vi v1), some (vi v2), some (vi v3), some (vi v4)] [] s (some (vi z.1), z.2)) {v0 : Option Nat} {v1 : Int32} {v2 : Int32} {v3 : Int32} {v4 : Int32} {σ : Mem} {z : Int32 × Mem} (h : sX8_broken_92 k28 k37 v0 v1 v2 v3 v4 σ = some z) : V E mX8_broken G 92 [some (vr v0), some (vi v1), some (vi v2), some (vi v3), some (vi v4)] [] σ (some (vi z.1), z.2) := by
  unfold sX8_broken_92 at h
  refine v_iinc (L' := [some (vr v0), some (vi v1), some (vi v2), some (vi v3), some (vi (v4 + iI 1))]) dX8_broken_92 (Nat.le_of_ble_eq_true rfl) rfl rfl ?_
  refine v_goto (tgt := 37) dX8_broken_95 (by decide) ?_
  exact v_weak (wss (wss (wss (wss (wss wse))))) (hk37 _ _ _ _ _ _ _ h)
theorem lX8_broken_88 {E : EE} {G : GG} {k28 : Option Nat → Int32 → Int32 → Int32 → Mem → Option (Int32 × Mem)} {k37 : Option Nat → Int32 → Int32 → Int32 → Int32 → Mem → Option (Int32 × Mem)} (hk28 : ∀ (v0 : Option Nat) (v1 : Int32) (v2 : Int32) (v3 : Int32) (s : Mem) (z : Int32 × Mem), k28 v0 v1 v2 v3 s = some z → V E mX8_broken G 28 [some (vr v0), some (vi v1), some (vi v2), some (vi v3), none] [] s (some (vi z.1), z.2)) (hk37 : ∀ (v0 : Option Nat) (v1 : Int32) (v2 : Int32) (v3 : Int32) (v4 : Int32) (s : Mem) (z : Int32 × Mem), k37 v0 v1 v2 v3 v4 s = some z → V E mX8_broken G 37 [some (vr v0), some (vi v1), some (vi v2), some (vi v3), some (vi v4)] [] s (some (vi z.1), z.2)) {v0 : Option Nat} {v1 : Int32} {v2 : Int32} {v3 : Int32} {v4 : Int32} {σ : Mem} {z : Int32 × Mem} (h : sX8_broken_88 k28 k37 v0 v1 v2 v3 v4 σ = some z) : V E mX8_broken G 88 [some (vr v0), some (vi v1), some (vi v2), some (vi v3), some (vi v4)] [] σ (some (vi z.1), z.2) := by
  unfold sX8_broken_88 at h
  refine v_il2 dX8_broken_88 ?_
  refine v_iconst dX8_broken_89 ?_
  refine v_iadd dX8_broken_90 ?_
  refine v_istore_n (L' := [some (vr v0), some (vi v1), some (vi (v2 + (iI 1))), some (vi v3), some (vi v4)]) dX8_broken_91 (Nat.le_of_ble_eq_true rfl) (Nat.le_of_ble_eq_true rfl) rfl ?_
  exact v_weak (wss (wss (wss (wss (wss wse))))) (lX8_broken_92 hk28 hk37 h)
theorem lX8_broken_37b {E : EE} {G : GG} {k28 : Option Nat → Int32 → Int32 → Int32 → Mem → Option (Int32 × Mem)} {k37 : Option Nat → Int32 → Int32 → Int32 → Int32 → Mem → Option (Int32 × Mem)} (hk28 : ∀ (v0 : Option Nat) (v1 : Int32) (v2 : Int32) (v3 : Int32) (s : Mem) (z : Int32 × Mem), k28 v0 v1 v2 v3 s = some z → V E mX8_broken G 28 [some (vr v0), some (vi v1), some (vi v2), some (vi v3), none] [] s (some (vi z.1), z.2)) (hk37 : ∀ (v0 : Option Nat) (v1 : Int32) (v2 : Int32) (v3 : Int32) (v4 : Int32) (s : Mem) (z : Int32 × Mem), k37 v0 v1 v2 v3 v4 s = some z → V E mX8_broken G 37 [some (vr v0), some (vi v1), some (vi v2), some (vi v3), some (vi v4)] [] s (some (vi z.1), z.2)) {v0 : Option Nat} {v1 : Int32} {v2 : Int32} {v3 : Int32} {v4 : Int32} {σ : Mem} {z : Int32 × Mem} (h : sX8_broken_37b k28 k37 v0 v1 v2 v3 v4 σ = some z) : V E mX8_broken G 37 [some (vr v0), some (vi v1), some (vi v2), some (vi v3), some (vi v4)] [] σ (some (vi z.1), z.2) := by
  unfold sX8_broken_37b at h
  refine v_iload dX8_broken_37 rfl ?_
  refine v_il3 dX8_broken_39 ?_
  refine v_icmp_ge (tgt := 98) dX8_broken_40 (by decide) (fun c => ?_) (fun c => ?_)
  · rw [if_pos c] at h
    refine v_iinc (L' := [some (vr v0), some (vi v1), some (vi v2), some (vi (v3 + iI 1)), some (vi v4)]) dX8_broken_98 (Nat.le_of_ble_eq_true rfl) rfl rfl ?_
    refine v_goto (tgt := 28) dX8_broken_101 (by decide) ?_
    exact v_weak (wss (wss (wss (wss (wsn wse))))) (hk28 _ _ _ _ _ _ h)
  · rw [if_neg c] at h
    refine v_il1 dX8_broken_43 ?_
    refine v_iconst dX8_broken_44 ?_
    refine v_icmp_ne (tgt := 61) dX8_broken_45 (by decide) (fun c => ?_) (fun c => ?_)
    · rw [if_neg c] at h
      refine v_al0 dX8_broken_61 ?_
      refine v_il3 dX8_broken_62 ?_
      obtain ⟨b63, er, ka, h⟩ := cV_some h
      obtain ⟨x1, s2, h1, h⟩ := cl_some h
      refine v_callV1 cok6 (As := [vi v3]) er ka (tX8_isUp h1) (lw_V q1658 q1660 qs88 q167 q1661) rfl dsX8_isUp ⟨Nat.le_of_ble_eq_true rfl, Nat.le_of_ble_eq_true rfl⟩ (Nat.le_of_ble_eq_true rfl) dX8_broken_63 rfl ?_
      refine v_if_eq (tgt := 92) dX8_broken_66 (by decide) (fun c => ?_) (fun c => ?_)
      · rw [if_pos c] at h
        exact v_weak (wss (wss (wss (wss (wss wse))))) (lX8_broken_92 hk28 hk37 h)
      · rw [if_neg c] at h
        refine v_al0 dX8_broken_69 ?_
        refine v_iload dX8_broken_70 rfl ?_
        obtain ⟨b72, er, ka, h⟩ := cV_some h
        obtain ⟨x3, s4, h1, h⟩ := cl_some h
        refine v_callV1 cok6 (As := [vi v4]) er ka (tX8_isUp h1) (lw_V q1658 q1660 qs88 q167 q1661) rfl dsX8_isUp ⟨Nat.le_of_ble_eq_true rfl, Nat.le_of_ble_eq_true rfl⟩ (Nat.le_of_ble_eq_true rfl) dX8_broken_72 rfl ?_
        refine v_if_eq (tgt := 92) dX8_broken_75 (by decide) (fun c => ?_) (fun c => ?_)
        · rw [if_pos c] at h
          exact v_weak (wss (wss (wss (wss (wss wse))))) (lX8_broken_92 hk28 hk37 h)
        · rw [if_neg c] at h
          refine v_al0 dX8_broken_78 ?_
          refine v_il3 dX8_broken_79 ?_
          refine v_iload dX8_broken_80 rfl ?_
          obtain ⟨b82, er, ka, h⟩ := cV_some h
          obtain ⟨x5, s6, h1, h⟩ := cl_some h
          refine v_callV1 cok6 (As := [vi v3, vi v4]) er ka (tX8_areAlike h1) (lw_V q2009 q2011 qs149 q167 q2012) rfl dsX8_areAlike ⟨Nat.le_of_ble_eq_true rfl, Nat.le_of_ble_eq_true rfl⟩ (Nat.le_of_ble_eq_true rfl) dX8_broken_82 rfl ?_
          refine v_if_ne (tgt := 92) dX8_broken_85 (by decide) (fun c => ?_) (fun c => ?_)
          · rw [if_neg c] at h
            exact v_weak (wss (wss (wss (wss (wss wse))))) (lX8_broken_92 hk28 hk37 h)
          · rw [if_pos c] at h
            exact v_weak (wss (wss (wss (wss (wss wse))))) (lX8_broken_88 hk28 hk37 h)
    · rw [if_pos c] at h
      refine v_al0 dX8_broken_48 ?_
      refine v_il3 dX8_broken_49 ?_
      refine v_iload dX8_broken_50 rfl ?_
      obtain ⟨b52, er, ka, h⟩ := cV_some h
      obtain ⟨x7, s8, h1, h⟩ := cl_some h
      refine v_callV1 cok6 (As := [vi v3, vi v4]) er ka (tX8_areMatched h1) (lw_V q2001 q2003 qs147 q167 q2004) rfl dsX8_areMatched ⟨Nat.le_of_ble_eq_true rfl, Nat.le_of_ble_eq_true rfl⟩ (Nat.le_of_ble_eq_true rfl) dX8_broken_52 rfl ?_
      refine v_if_ne (tgt := 92) dX8_broken_55 (by decide) (fun c => ?_) (fun c => ?_)
      · rw [if_neg c] at h
        exact v_weak (wss (wss (wss (wss (wss wse))))) (lX8_broken_92 hk28 hk37 h)
      · rw [if_pos c] at h
        refine v_goto (tgt := 88) dX8_broken_58 (by decide) ?_
        exact v_weak (wss (wss (wss (wss (wss wse))))) (lX8_broken_88 hk28 hk37 h)
theorem lX8_broken_37 {E : EE} {G : GG} {k28 : Option Nat → Int32 → Int32 → Int32 → Mem → Option (Int32 × Mem)} (hk28 : ∀ (v0 : Option Nat) (v1 : Int32) (v2 : Int32) (v3 : Int32) (s : Mem) (z : Int32 × Mem), k28 v0 v1 v2 v3 s = some z → V E mX8_broken G 28 [some (vr v0), some (vi v1), some (vi v2), some (vi v3), none] [] s (some (vi z.1), z.2)) : ∀ (f : Nat) {v0 : Option Nat} {v1 : Int32} {v2 : Int32} {v3 : Int32} {v4 : Int32} {σ : Mem} {z : Int32 × Mem}, sX8_broken_37 k28 f v0 v1 v2 v3 v4 σ = some z → V E mX8_broken G 37 [some (vr v0), some (vi v1), some (vi v2), some (vi v3), some (vi v4)] [] σ (some (vi z.1), z.2)
  | 0, _, _, _, _, _, _, _, h => by cases h
  | f + 1, _, _, _, _, _, _, _, h => lX8_broken_37b hk28 (fun _ _ _ _ _ _ _ h => lX8_broken_37 hk28 f h) h
theorem lX8_broken_28b {E : EE} {G : GG} {k28 : Option Nat → Int32 → Int32 → Int32 → Mem → Option (Int32 × Mem)} (hk28 : ∀ (v0 : Option Nat) (v1 : Int32) (v2 : Int32) (v3 : Int32) (s : Mem) (z : Int32 × Mem), k28 v0 v1 v2 v3 s = some z → V E mX8_broken G 28 [some (vr v0), some (vi v1), some (vi v2), some (vi v3), none] [] s (some (vi z.1), z.2)) {v0 : Option Nat} {v1 : Int32} {v2 : Int32} {v3 : Int32} {σ : Mem} {z : Int32 × Mem} (h : sX8_broken_28b k28 v0 v1 v2 v3 σ = some z) : V E mX8_broken G 28 [some (vr v0), some (vi v1), some (vi v2), some (vi v3), none] [] σ (some (vi z.1), z.2) := by
  unfold sX8_broken_28b at h
  refine v_il3 dX8_broken_28 ?_
  refine v_bipush dX8_broken_29 rfl ?_
  refine v_icmp_ge (tgt := 104) dX8_broken_31 (by decide) (fun c => ?_) (fun c => ?_)
  · rw [if_pos c] at h
    refine v_il2 dX8_broken_104 ?_
    exact v_retI h dX8_broken_105 rfl
  · rw [if_neg c] at h
    refine v_iconst dX8_broken_34 ?_
    refine v_istore (L' := [some (vr v0), some (vi v1), some (vi v2), some (vi v3), some (vi (iI 0))]) dX8_broken_35 (Nat.le_of_ble_eq_true rfl) (Nat.le_of_ble_eq_true rfl) rfl ?_
    exact v_weak (wss (wss (wss (wss (wss wse))))) (lX8_broken_37 hk28 FU h)
theorem lX8_broken_28 {E : EE} {G : GG} : ∀ (f : Nat) {v0 : Option Nat} {v1 : Int32} {v2 : Int32} {v3 : Int32} {σ : Mem} {z : Int32 × Mem}, sX8_broken_28 f v0 v1 v2 v3 σ = some z → V E mX8_broken G 28 [some (vr v0), some (vi v1), some (vi v2), some (vi v3), none] [] σ (some (vi z.1), z.2)
  | 0, _, _, _, _, _, _, h => by cases h
  | f + 1, _, _, _, _, _, _, h => lX8_broken_28b (fun _ _ _ _ _ _ h => lX8_broken_28 f h) h
theorem lX8_broken {E : EE} {G : GG} {v0 : Option Nat} {v1 : Int32} {σ : Mem} {z : Int32 × Mem} (h : sX8_broken v0 v1 σ = some z) : V E mX8_broken G 0 [some (vr v0), some (vi v1), none, none, none] [] σ (some (vi z.1), z.2) := by
  unfold sX8_broken at h
  refine v_il1 dX8_broken_0 ?_
  refine v_iconst dX8_broken_1 ?_
  refine v_iconst dX8_broken_2 ?_
  obtain ⟨x1, s2, h1, h⟩ := cl_some h
  refine v_callS1 (As := [vi v1, vi (iI 0), vi (iI 2)]) (tX8_in h1) (lw_S q1549 q1550 q167 q1551) dsX8_in ⟨Nat.le_of_ble_eq_true rfl, Nat.le_of_ble_eq_true rfl⟩ (Nat.le_of_ble_eq_true rfl) dX8_broken_3 rfl ?_
  refine v_if_ne (tgt := 11) dX8_broken_6 (by decide) (fun c => ?_) (fun c => ?_)
  · rw [if_neg c] at h
    refine v_il1 dX8_broken_11 ?_
    refine v_if_ne (tgt := 24) dX8_broken_12 (by decide) (fun c => ?_) (fun c => ?_)
    · rw [if_neg c] at h
      refine v_iconst dX8_broken_24 ?_
      refine v_istore_n (L' := [some (vr v0), some (vi v1), some (vi (iI 0)), none, none]) dX8_broken_25 (Nat.le_of_ble_eq_true rfl) (Nat.le_of_ble_eq_true rfl) rfl ?_
      refine v_iconst dX8_broken_26 ?_
      refine v_istore_n (L' := [some (vr v0), some (vi v1), some (vi (iI 0)), some (vi (iI 0)), none]) dX8_broken_27 (Nat.le_of_ble_eq_true rfl) (Nat.le_of_ble_eq_true rfl) rfl ?_
      exact v_weak (wss (wss (wss (wss (wsn wse))))) (lX8_broken_28 FU h)
    · rw [if_pos c] at h
      refine v_al0 dX8_broken_15 ?_
      refine v_gR cok6 h dX8_broken_16 (by decide) q1401 rfl (fun x3 h => ?_)
      refine v_sipush dX8_broken_19 rfl ?_
      refine v_aI h dX8_broken_22 (fun x4 h => ?_)
      exact v_retI h dX8_broken_23 rfl
  · rw [if_pos c] at h
    refine v_iconst dX8_broken_9 ?_
    exact v_retI h dX8_broken_10 rfl
theorem tX8_broken {E : EE} {l : Launch} {v0 : Option Nat} {v1 : Int32} {σ : Mem} {z : Int32 × Mem} (h : sX8_broken v0 v1 σ = some z) : Mt E l mX8_broken [vr v0, vi v1] σ (some (vi z.1), z.2) :=
  Mt.ofVL (by decide) (Nat.le_of_ble_eq_true rfl) (fun G hG => lX8_broken h)
abbrev mX8_wouldGrant : MM := (yX8_wouldGrant, cX8_wouldGrant, 5, (Option.some Jvm.ClassFile.FieldType.boolean), 4, 90)
theorem dsX8_wouldGrant : DsOk yX8_wouldGrant 2 := ⟨by decide, by decide, by decide +kernel⟩
theorem lX8_wouldGrant_73 {E : EE} {G : GG} {v0 : Option Nat} {v1 : Int32} {v2 : Int32} {t0 : Int32} {σ : Mem} {z : Int32 × Mem} (h : sX8_wouldGrant_73 v0 v1 v2 t0 σ = some z) : V E mX8_wouldGrant G 73 [some (vr v0), some (vi v1), some (vi v2), none, none] [vi t0] σ (some (vi z.1), z.2) := by
  unfold sX8_wouldGrant_73 at h
  refine v_istore (L' := [some (vr v0), some (vi v1), some (vi v2), none, some (vi t0)]) dX8_wouldGrant_73 (Nat.le_of_ble_eq_true rfl) (Nat.le_of_ble_eq_true rfl) rfl ?_
  refine v_iload dX8_wouldGrant_75 rfl ?_
  refine v_if_eq (tgt := 107) dX8_wouldGrant_77 (by decide) (fun c => ?_) (fun c => ?_)
  · rw [if_pos c] at h
    refine v_iconst dX8_wouldGrant_107 ?_
    exact v_retZ h dX8_wouldGrant_108 rfl
  · rw [if_neg c] at h
    refine v_al0 dX8_wouldGrant_80 ?_
    refine v_il1 dX8_wouldGrant_81 ?_
    refine v_al0 dX8_wouldGrant_82 ?_
    refine v_il2 dX8_wouldGrant_83 ?_
    obtain ⟨b84, er, ka, h⟩ := cV_some h
    obtain ⟨x1, s2, h1, h⟩ := cl_some h
    refine v_callV1 cok6 (As := [vi v2]) er ka (tX8_lastOf h1) (lw_V q1696 q1698 qs95 q167 q1699) rfl dsX8_lastOf ⟨Nat.le_of_ble_eq_true rfl, Nat.le_of_ble_eq_true rfl⟩ (Nat.le_of_ble_eq_true rfl) dX8_wouldGrant_84 rfl ?_
    refine v_al0 dX8_wouldGrant_87 ?_
    refine v_il2 dX8_wouldGrant_88 ?_
    refine v_al0 dX8_wouldGrant_89 ?_
    refine v_il2 dX8_wouldGrant_90 ?_
    obtain ⟨b91, er, ka, h⟩ := cV_some h
    obtain ⟨x3, s4, h1, h⟩ := cl_some h
    refine v_callV1 cok6 (As := [vi v2]) er ka (tX8_lastOf h1) (lw_V q1696 q1698 qs95 q167 q1699) rfl dsX8_lastOf ⟨Nat.le_of_ble_eq_true rfl, Nat.le_of_ble_eq_true rfl⟩ (Nat.le_of_ble_eq_true rfl) dX8_wouldGrant_91 rfl ?_
    obtain ⟨b94, er, ka, h⟩ := cV_some h
    obtain ⟨x5, s6, h1, h⟩ := cl_some h
    refine v_callV1 cok6 (As := [vi v2, vi x3]) er ka (tX8_termAt h1) (lw_V q1700 q1702 qs96 q167 q1703) rfl dsX8_termAt ⟨Nat.le_of_ble_eq_true rfl, Nat.le_of_ble_eq_true rfl⟩ (Nat.le_of_ble_eq_true rfl) dX8_wouldGrant_94 rfl ?_
    obtain ⟨b97, er, ka, h⟩ := cV_some h
    obtain ⟨x7, s8, h1, h⟩ := cl_some h
    refine v_callV1 cok6 (As := [vi v1, vi x1, vi x5]) er ka (tX8_isNoLess h1) (lw_V q1692 q1694 qs94 q167 q1695) rfl dsX8_isNoLess ⟨Nat.le_of_ble_eq_true rfl, Nat.le_of_ble_eq_true rfl⟩ (Nat.le_of_ble_eq_true rfl) dX8_wouldGrant_97 rfl ?_
    refine v_if_eq (tgt := 107) dX8_wouldGrant_100 (by decide) (fun c => ?_) (fun c => ?_)
    · rw [if_pos c] at h
      refine v_iconst dX8_wouldGrant_107 ?_
      exact v_retZ h dX8_wouldGrant_108 rfl
    · rw [if_neg c] at h
      refine v_iconst dX8_wouldGrant_103 ?_
      refine v_goto (tgt := 108) dX8_wouldGrant_104 (by decide) ?_
      exact v_retZ h dX8_wouldGrant_108 rfl
theorem lX8_wouldGrant_68 {E : EE} {G : GG} {v0 : Option Nat} {v1 : Int32} {v2 : Int32} {σ : Mem} {z : Int32 × Mem} (h : sX8_wouldGrant_68 v0 v1 v2 σ = some z) : V E mX8_wouldGrant G 68 [some (vr v0), some (vi v1), some (vi v2), none, none] [] σ (some (vi z.1), z.2) := by
  unfold sX8_wouldGrant_68 at h
  refine v_iconst dX8_wouldGrant_68 ?_
  refine v_goto (tgt := 73) dX8_wouldGrant_69 (by decide) ?_
  exact v_weak (wss (wss (wss (wsn (wsn wse))))) (lX8_wouldGrant_73 h)
theorem lX8_wouldGrant {E : EE} {G : GG} {v0 : Option Nat} {v1 : Int32} {v2 : Int32} {σ : Mem} {z : Int32 × Mem} (h : sX8_wouldGrant v0 v1 v2 σ = some z) : V E mX8_wouldGrant G 0 [some (vr v0), some (vi v1), some (vi v2), none, none] [] σ (some (vi z.1), z.2) := by
  unfold sX8_wouldGrant at h
  refine v_al0 dX8_wouldGrant_0 ?_
  refine v_il2 dX8_wouldGrant_1 ?_
  refine v_iconst dX8_wouldGrant_2 ?_
  obtain ⟨b3, er, ka, h⟩ := cV_some h
  obtain ⟨x1, s2, h1, h⟩ := cl_some h
  refine v_callV1 cok6 (As := [vi v2, vi (iI 1)]) er ka (tX8_the h1) (lw_V q1385 q1387 qs60 q167 q1388) rfl dsX8_the ⟨Nat.le_of_ble_eq_true rfl, Nat.le_of_ble_eq_true rfl⟩ (Nat.le_of_ble_eq_true rfl) dX8_wouldGrant_3 rfl ?_
  refine v_iconst dX8_wouldGrant_6 ?_
  refine v_iadd dX8_wouldGrant_7 ?_
  refine v_istore_n (L' := [some (vr v0), some (vi v1), some (vi v2), some (vi (x1 + (iI 1))), none]) dX8_wouldGrant_8 (Nat.le_of_ble_eq_true rfl) (Nat.le_of_ble_eq_true rfl) rfl ?_
  refine v_al0 dX8_wouldGrant_9 ?_
  refine v_il1 dX8_wouldGrant_10 ?_
  obtain ⟨b11, er, ka, h⟩ := cV_some h
  obtain ⟨x3, s4, h1, h⟩ := cl_some h
  refine v_callV1 cok6 (As := [vi v1]) er ka (tX8_isUp h1) (lw_V q1658 q1660 qs88 q167 q1661) rfl dsX8_isUp ⟨Nat.le_of_ble_eq_true rfl, Nat.le_of_ble_eq_true rfl⟩ (Nat.le_of_ble_eq_true rfl) dX8_wouldGrant_11 rfl ?_
  refine v_if_eq (tgt := 36) dX8_wouldGrant_14 (by decide) (fun c => ?_) (fun c => ?_)
  · rw [if_pos c] at h
    refine v_iconst dX8_wouldGrant_36 ?_
    exact v_retZ h dX8_wouldGrant_37 rfl
  · rw [if_neg c] at h
    refine v_al0 dX8_wouldGrant_17 ?_
    refine v_il1 dX8_wouldGrant_18 ?_
    refine v_il2 dX8_wouldGrant_19 ?_
    obtain ⟨b20, er, ka, h⟩ := cV_some h
    obtain ⟨x5, s6, h1, h⟩ := cl_some h
    refine v_callV1 cok6 (As := [vi v1, vi v2]) er ka (tX8_areLinked h1) (lw_V q1665 q1667 qs89 q167 q1668) rfl dsX8_areLinked ⟨Nat.le_of_ble_eq_true rfl, Nat.le_of_ble_eq_true rfl⟩ (Nat.le_of_ble_eq_true rfl) dX8_wouldGrant_20 rfl ?_
    refine v_if_eq (tgt := 36) dX8_wouldGrant_23 (by decide) (fun c => ?_) (fun c => ?_)
    · rw [if_pos c] at h
      refine v_iconst dX8_wouldGrant_36 ?_
      exact v_retZ h dX8_wouldGrant_37 rfl
    · rw [if_neg c] at h
      refine v_al0 dX8_wouldGrant_26 ?_
      refine v_il1 dX8_wouldGrant_27 ?_
      refine v_iconst dX8_wouldGrant_28 ?_
      obtain ⟨b29, er, ka, h⟩ := cV_some h
      obtain ⟨x7, s8, h1, h⟩ := cl_some h
      refine v_callV1 cok6 (As := [vi v1, vi (iI 1)]) er ka (tX8_the h1) (lw_V q1385 q1387 qs60 q167 q1388) rfl dsX8_the ⟨Nat.le_of_ble_eq_true rfl, Nat.le_of_ble_eq_true rfl⟩ (Nat.le_of_ble_eq_true rfl) dX8_wouldGrant_29 rfl ?_
      refine v_il3 dX8_wouldGrant_32 ?_
      refine v_icmp_le (tgt := 38) dX8_wouldGrant_33 (by decide) (fun c => ?_) (fun c => ?_)
      · rw [if_pos c] at h
        refine v_al0 dX8_wouldGrant_38 ?_
        refine v_il1 dX8_wouldGrant_39 ?_
        refine v_iconst dX8_wouldGrant_40 ?_
        obtain ⟨b41, er, ka, h⟩ := cV_some h
        obtain ⟨x9, s10, h1, h⟩ := cl_some h
        refine v_callV1 cok6 (As := [vi v1, vi (iI 1)]) er ka (tX8_the h1) (lw_V q1385 q1387 qs60 q167 q1388) rfl dsX8_the ⟨Nat.le_of_ble_eq_true rfl, Nat.le_of_ble_eq_true rfl⟩ (Nat.le_of_ble_eq_true rfl) dX8_wouldGrant_41 rfl ?_
        refine v_il3 dX8_wouldGrant_44 ?_
        refine v_icmp_lt (tgt := 68) dX8_wouldGrant_45 (by decide) (fun c => ?_) (fun c => ?_)
        · rw [if_pos c] at h
          exact v_weak (wss (wss (wss (wsn (wsn wse))))) (lX8_wouldGrant_68 h)
        · rw [if_neg c] at h
          refine v_al0 dX8_wouldGrant_48 ?_
          refine v_il1 dX8_wouldGrant_49 ?_
          refine v_iconst dX8_wouldGrant_50 ?_
          obtain ⟨b51, er, ka, h⟩ := cV_some h
          obtain ⟨x11, s12, h1, h⟩ := cl_some h
          refine v_callV1 cok6 (As := [vi v1, vi (iI 2)]) er ka (tX8_the h1) (lw_V q1385 q1387 qs60 q167 q1388) rfl dsX8_the ⟨Nat.le_of_ble_eq_true rfl, Nat.le_of_ble_eq_true rfl⟩ (Nat.le_of_ble_eq_true rfl) dX8_wouldGrant_51 rfl ?_
          refine v_iconst dX8_wouldGrant_54 ?_
          refine v_icmp_eq (tgt := 68) dX8_wouldGrant_55 (by decide) (fun c => ?_) (fun c => ?_)
          · rw [if_pos c] at h
            exact v_weak (wss (wss (wss (wsn (wsn wse))))) (lX8_wouldGrant_68 h)
          · rw [if_neg c] at h
            refine v_al0 dX8_wouldGrant_58 ?_
            refine v_il1 dX8_wouldGrant_59 ?_
            refine v_iconst dX8_wouldGrant_60 ?_
            obtain ⟨b61, er, ka, h⟩ := cV_some h
            obtain ⟨x13, s14, h1, h⟩ := cl_some h
            refine v_callV1 cok6 (As := [vi v1, vi (iI 2)]) er ka (tX8_the h1) (lw_V q1385 q1387 qs60 q167 q1388) rfl dsX8_the ⟨Nat.le_of_ble_eq_true rfl, Nat.le_of_ble_eq_true rfl⟩ (Nat.le_of_ble_eq_true rfl) dX8_wouldGrant_61 rfl ?_
            refine v_il2 dX8_wouldGrant_64 ?_
            refine v_icmp_ne (tgt := 72) dX8_wouldGrant_65 (by decide) (fun c => ?_) (fun c => ?_)
            · rw [if_neg c] at h
              refine v_iconst dX8_wouldGrant_72 ?_
              exact v_weak (wss (wss (wss (wsn (wsn wse))))) (lX8_wouldGrant_73 h)
            · rw [if_pos c] at h
              exact v_weak (wss (wss (wss (wsn (wsn wse))))) (lX8_wouldGrant_68 h)
      · rw [if_neg c] at h
        refine v_iconst dX8_wouldGrant_36 ?_
        exact v_retZ h dX8_wouldGrant_37 rfl
theorem tX8_wouldGrant {E : EE} {l : Launch} {v0 : Option Nat} {v1 : Int32} {v2 : Int32} {σ : Mem} {z : Int32 × Mem} (h : sX8_wouldGrant v0 v1 v2 σ = some z) : Mt E l mX8_wouldGrant [vr v0, vi v1, vi v2] σ (some (vi z.1), z.2) :=
  Mt.ofVL (by decide) (Nat.le_of_ble_eq_true rfl) (fun G hG => lX8_wouldGrant h)
abbrev mX8_couldWin : MM := (yX8_couldWin, cX8_couldWin, 5, (Option.some Jvm.ClassFile.FieldType.int), 5, 114)
theorem dsX8_couldWin : DsOk yX8_couldWin 2 := ⟨by decide, by decide, by decide +kernel⟩
theorem lX8_couldWin_91 {E : EE} {G : GG} {k48 : Option Nat → Int32 → Int32 → Int32 → Int32 → Mem → Option (Int32 × Mem)} (hk48 : ∀ (v0 : Option Nat) (v1 : Int32) (v2 : Int32) (v3 : Int32) (v4 : Int32) (s : Mem) (z : Int32 × Mem), k48 v0 v1 v2 v3 v4 s = some z → V E mX8_couldWin G 48 [some (vr v0), some (vi v1), some (vi v2), some (vi v3), some (vi v4)] [] s (some (vi z.1), z.2)) {v0 : Option Nat} {v1 : Int32} {v2 : Int32} {v3 : Int32} {v4 : Int32} {σ : Mem} {z : Int32 × Mem} (h : sX8_couldWin_91 k48 v0 v1 v2 v3 v4 σ = some z) : V E mX8_couldWin G 91 [some (vr v0), some (vi v1), some (vi v2), some (vi v3), some (vi v4)] [] σ (some (vi z.1), z.2) := by
  unfold sX8_couldWin_91 at h
  refine v_iinc (L' := [some (vr v0), some (vi v1), some (vi v2), some (vi v3), some (vi (v4 + iI 1))]) dX8_couldWin_91 (Nat.le_of_ble_eq_true rfl) rfl rfl ?_
  refine v_goto (tgt := 48) dX8_couldWin_94 (by decide) ?_
  exact v_weak (wss (wss (wss (wss (wss wse))))) (hk48 _ _ _ _ _ _ _ h)
theorem lX8_couldWin_48b {E : EE} {G : GG} {k48 : Option Nat → Int32 → Int32 → Int32 → Int32 → Mem → Option (Int32 × Mem)} (hk48 : ∀ (v0 : Option Nat) (v1 : Int32) (v2 : Int32) (v3 : Int32) (v4 : Int32) (s : Mem) (z : Int32 × Mem), k48 v0 v1 v2 v3 v4 s = some z → V E mX8_couldWin G 48 [some (vr v0), some (vi v1), some (vi v2), some (vi v3), some (vi v4)] [] s (some (vi z.1), z.2)) {v0 : Option Nat} {v1 : Int32} {v2 : Int32} {v3 : Int32} {v4 : Int32} {σ : Mem} {z : Int32 × Mem} (h : sX8_couldWin_48b k48 v0 v1 v2 v3 v4 σ = some z) : V E mX8_couldWin G 48 [some (vr v0), some (vi v1), some (vi v2), some (vi v3), some (vi v4)] [] σ (some (vi z.1), z.2) := by
  unfold sX8_couldWin_48b at h
  refine v_iload dX8_couldWin_48 rfl ?_
  refine v_bipush dX8_couldWin_50 rfl ?_
  refine v_icmp_ge (tgt := 97) dX8_couldWin_52 (by decide) (fun c => ?_) (fun c => ?_)
  · rw [if_pos c] at h
    refine v_il2 dX8_couldWin_97 ?_
    refine v_iconst dX8_couldWin_98 ?_
    refine v_icmp_ne (tgt := 106) dX8_couldWin_99 (by decide) (fun c => ?_) (fun c => ?_)
    · rw [if_neg c] at h
      refine v_al0 dX8_couldWin_106 ?_
      refine v_il1 dX8_couldWin_107 ?_
      refine v_il3 dX8_couldWin_108 ?_
      obtain ⟨b109, er, ka, h⟩ := cV_some h
      obtain ⟨x1, s2, h1, h⟩ := cl_some h
      refine v_callV1 cok6 (As := [vi v1, vi v3]) er ka (tX8_isMost h1) (lw_V q1728 q1730 qs103 q167 q1731) rfl dsX8_isMost ⟨Nat.le_of_ble_eq_true rfl, Nat.le_of_ble_eq_true rfl⟩ (Nat.le_of_ble_eq_true rfl) dX8_couldWin_109 rfl ?_
      refine v_if_eq (tgt := 119) dX8_couldWin_112 (by decide) (fun c => ?_) (fun c => ?_)
      · rw [if_pos c] at h
        refine v_iconst dX8_couldWin_119 ?_
        exact v_retI h dX8_couldWin_120 rfl
      · rw [if_neg c] at h
        refine v_iconst dX8_couldWin_115 ?_
        refine v_goto (tgt := 120) dX8_couldWin_116 (by decide) ?_
        exact v_retI h dX8_couldWin_120 rfl
    · rw [if_pos c] at h
      refine v_il3 dX8_couldWin_102 ?_
      refine v_goto (tgt := 120) dX8_couldWin_103 (by decide) ?_
      exact v_retI h dX8_couldWin_120 rfl
  · rw [if_neg c] at h
    refine v_iload dX8_couldWin_55 rfl ?_
    refine v_il1 dX8_couldWin_57 ?_
    refine v_icmp_eq (tgt := 91) dX8_couldWin_58 (by decide) (fun c => ?_) (fun c => ?_)
    · rw [if_pos c] at h
      exact v_weak (wss (wss (wss (wss (wss wse))))) (lX8_couldWin_91 hk48 h)
    · rw [if_neg c] at h
      refine v_al0 dX8_couldWin_61 ?_
      refine v_il1 dX8_couldWin_62 ?_
      obtain ⟨b63, er, ka, h⟩ := cV_some h
      obtain ⟨x3, s4, h1, h⟩ := cl_some h
      refine v_callV1 cok6 (As := [vi v1]) er ka (tX8_membersOf h1) (lw_V q1778 q1780 qs114 q167 q1781) rfl dsX8_membersOf ⟨Nat.le_of_ble_eq_true rfl, Nat.le_of_ble_eq_true rfl⟩ (Nat.le_of_ble_eq_true rfl) dX8_couldWin_63 rfl ?_
      refine v_iload dX8_couldWin_66 rfl ?_
      obtain ⟨x5, s6, h1, h⟩ := cl_some h
      refine v_callS1 (As := [vi x3, vi v4]) (tX8_has h1) (lw_S q1669 q1670 q167 q1671) dsX8_has ⟨Nat.le_of_ble_eq_true rfl, Nat.le_of_ble_eq_true rfl⟩ (Nat.le_of_ble_eq_true rfl) dX8_couldWin_68 rfl ?_
      refine v_if_eq (tgt := 91) dX8_couldWin_71 (by decide) (fun c => ?_) (fun c => ?_)
      · rw [if_pos c] at h
        exact v_weak (wss (wss (wss (wss (wss wse))))) (lX8_couldWin_91 hk48 h)
      · rw [if_neg c] at h
        refine v_al0 dX8_couldWin_74 ?_
        refine v_iload dX8_couldWin_75 rfl ?_
        refine v_il1 dX8_couldWin_77 ?_
        obtain ⟨b78, er, ka, h⟩ := cV_some h
        obtain ⟨x7, s8, h1, h⟩ := cl_some h
        refine v_callV1 cok6 (As := [vi v4, vi v1]) er ka (tX8_wouldGrant h1) (lw_V q2017 q2019 qs150 q167 q2020) rfl dsX8_wouldGrant ⟨Nat.le_of_ble_eq_true rfl, Nat.le_of_ble_eq_true rfl⟩ (Nat.le_of_ble_eq_true rfl) dX8_couldWin_78 rfl ?_
        refine v_if_eq (tgt := 91) dX8_couldWin_81 (by decide) (fun c => ?_) (fun c => ?_)
        · rw [if_pos c] at h
          exact v_weak (wss (wss (wss (wss (wss wse))))) (lX8_couldWin_91 hk48 h)
        · rw [if_neg c] at h
          refine v_il3 dX8_couldWin_84 ?_
          refine v_iconst dX8_couldWin_85 ?_
          refine v_iload dX8_couldWin_86 rfl ?_
          refine v_ishl dX8_couldWin_88 ?_
          refine v_ior dX8_couldWin_89 ?_
          refine v_istore_n (L' := [some (vr v0), some (vi v1), some (vi v2), some (vi (v3 ||| ((iI 1) <<< (v4 &&& 31)))), some (vi v4)]) dX8_couldWin_90 (Nat.le_of_ble_eq_true rfl) (Nat.le_of_ble_eq_true rfl) rfl ?_
          exact v_weak (wss (wss (wss (wss (wss wse))))) (lX8_couldWin_91 hk48 h)
theorem lX8_couldWin_48 {E : EE} {G : GG} : ∀ (f : Nat) {v0 : Option Nat} {v1 : Int32} {v2 : Int32} {v3 : Int32} {v4 : Int32} {σ : Mem} {z : Int32 × Mem}, sX8_couldWin_48 f v0 v1 v2 v3 v4 σ = some z → V E mX8_couldWin G 48 [some (vr v0), some (vi v1), some (vi v2), some (vi v3), some (vi v4)] [] σ (some (vi z.1), z.2)
  | 0, _, _, _, _, _, _, _, h => by cases h
  | f + 1, _, _, _, _, _, _, _, h => lX8_couldWin_48b (fun _ _ _ _ _ _ _ h => lX8_couldWin_48 f h) h
theorem lX8_couldWin {E : EE} {G : GG} {v0 : Option Nat} {v1 : Int32} {v2 : Int32} {σ : Mem} {z : Int32 × Mem} (h : sX8_couldWin v0 v1 v2 σ = some z) : V E mX8_couldWin G 0 [some (vr v0), some (vi v1), some (vi v2), none, none] [] σ (some (vi z.1), z.2) := by
  unfold sX8_couldWin at h
  refine v_il1 dX8_couldWin_0 ?_
  obtain ⟨x1, s2, h1, h⟩ := cl_some h
  refine v_callS1 (As := [vi v1]) (tX8_isNode h1) (lw_S q1662 q1663 q167 q1664) dsX8_isNode ⟨Nat.le_of_ble_eq_true rfl, Nat.le_of_ble_eq_true rfl⟩ (Nat.le_of_ble_eq_true rfl) dX8_couldWin_1 rfl ?_
  refine v_if_eq (tgt := 16) dX8_couldWin_4 (by decide) (fun c => ?_) (fun c => ?_)
  · rw [if_pos c] at h
    refine v_iconst dX8_couldWin_16 ?_
    exact v_retI h dX8_couldWin_17 rfl
  · rw [if_neg c] at h
    refine v_il2 dX8_couldWin_7 ?_
    refine v_iconst dX8_couldWin_8 ?_
    refine v_iconst dX8_couldWin_9 ?_
    obtain ⟨x3, s4, h1, h⟩ := cl_some h
    refine v_callS1 (As := [vi v2, vi (iI 0), vi (iI 1)]) (tX8_in h1) (lw_S q1549 q1550 q167 q1551) dsX8_in ⟨Nat.le_of_ble_eq_true rfl, Nat.le_of_ble_eq_true rfl⟩ (Nat.le_of_ble_eq_true rfl) dX8_couldWin_10 rfl ?_
    refine v_if_ne (tgt := 18) dX8_couldWin_13 (by decide) (fun c => ?_) (fun c => ?_)
    · rw [if_neg c] at h
      refine v_al0 dX8_couldWin_18 ?_
      refine v_il1 dX8_couldWin_19 ?_
      obtain ⟨b20, er, ka, h⟩ := cV_some h
      obtain ⟨x5, s6, h1, h⟩ := cl_some h
      refine v_callV1 cok6 (As := [vi v1]) er ka (tX8_isUp h1) (lw_V q1658 q1660 qs88 q167 q1661) rfl dsX8_isUp ⟨Nat.le_of_ble_eq_true rfl, Nat.le_of_ble_eq_true rfl⟩ (Nat.le_of_ble_eq_true rfl) dX8_couldWin_20 rfl ?_
      refine v_if_eq (tgt := 38) dX8_couldWin_23 (by decide) (fun c => ?_) (fun c => ?_)
      · rw [if_pos c] at h
        refine v_bipush dX8_couldWin_38 rfl ?_
        exact v_retI h dX8_couldWin_40 rfl
      · rw [if_neg c] at h
        refine v_al0 dX8_couldWin_26 ?_
        refine v_il1 dX8_couldWin_27 ?_
        obtain ⟨b28, er, ka, h⟩ := cV_some h
        obtain ⟨x7, s8, h1, h⟩ := cl_some h
        refine v_callV1 cok6 (As := [vi v1]) er ka (tX8_membersOf h1) (lw_V q1778 q1780 qs114 q167 q1781) rfl dsX8_membersOf ⟨Nat.le_of_ble_eq_true rfl, Nat.le_of_ble_eq_true rfl⟩ (Nat.le_of_ble_eq_true rfl) dX8_couldWin_28 rfl ?_
        refine v_il1 dX8_couldWin_31 ?_
        obtain ⟨x9, s10, h1, h⟩ := cl_some h
        refine v_callS1 (As := [vi x7, vi v1]) (tX8_has h1) (lw_S q1669 q1670 q167 q1671) dsX8_has ⟨Nat.le_of_ble_eq_true rfl, Nat.le_of_ble_eq_true rfl⟩ (Nat.le_of_ble_eq_true rfl) dX8_couldWin_32 rfl ?_
        refine v_if_ne (tgt := 41) dX8_couldWin_35 (by decide) (fun c => ?_) (fun c => ?_)
        · rw [if_neg c] at h
          refine v_iconst dX8_couldWin_41 ?_
          refine v_il1 dX8_couldWin_42 ?_
          refine v_ishl dX8_couldWin_43 ?_
          refine v_istore_n (L' := [some (vr v0), some (vi v1), some (vi v2), some (vi ((iI 1) <<< (v1 &&& 31))), none]) dX8_couldWin_44 (Nat.le_of_ble_eq_true rfl) (Nat.le_of_ble_eq_true rfl) rfl ?_
          refine v_iconst dX8_couldWin_45 ?_
          refine v_istore (L' := [some (vr v0), some (vi v1), some (vi v2), some (vi ((iI 1) <<< (v1 &&& 31))), some (vi (iI 0))]) dX8_couldWin_46 (Nat.le_of_ble_eq_true rfl) (Nat.le_of_ble_eq_true rfl) rfl ?_
          exact v_weak (wss (wss (wss (wss (wss wse))))) (lX8_couldWin_48 FU h)
        · rw [if_pos c] at h
          refine v_bipush dX8_couldWin_38 rfl ?_
          exact v_retI h dX8_couldWin_40 rfl
    · rw [if_pos c] at h
      refine v_iconst dX8_couldWin_16 ?_
      exact v_retI h dX8_couldWin_17 rfl
theorem tX8_couldWin {E : EE} {l : Launch} {v0 : Option Nat} {v1 : Int32} {v2 : Int32} {σ : Mem} {z : Int32 × Mem} (h : sX8_couldWin v0 v1 v2 σ = some z) : Mt E l mX8_couldWin [vr v0, vi v1, vi v2] σ (some (vi z.1), z.2) :=
  Mt.ofVL (by decide) (Nat.le_of_ble_eq_true rfl) (fun G hG => lX8_couldWin h)
abbrev mX8_majority : MM := (yX8_majority, cX8_majority, 3, (Option.some Jvm.ClassFile.FieldType.int), 5, 113)
theorem dsX8_majority : DsOk yX8_majority 2 := ⟨by decide, by decide, by decide +kernel⟩
theorem lX8_majority {E : EE} {G : GG} {v0 : Option Nat} {v1 : Int32} {v2 : Int32} {σ : Mem} {z : Int32 × Mem} (h : sX8_majority v0 v1 v2 σ = some z) : V E mX8_majority G 0 [some (vr v0), some (vi v1), some (vi v2)] [] σ (some (vi z.1), z.2) := by
  unfold sX8_majority at h
  refine v_il1 dX8_majority_0 ?_
  obtain ⟨x1, s2, h1, h⟩ := cl_some h
  refine v_callS1 (As := [vi v1]) (tX8_isNode h1) (lw_S q1662 q1663 q167 q1664) dsX8_isNode ⟨Nat.le_of_ble_eq_true rfl, Nat.le_of_ble_eq_true rfl⟩ (Nat.le_of_ble_eq_true rfl) dX8_majority_1 rfl ?_
  refine v_if_eq (tgt := 17) dX8_majority_4 (by decide) (fun c => ?_) (fun c => ?_)
  · rw [if_pos c] at h
    refine v_iconst dX8_majority_17 ?_
    exact v_retI h dX8_majority_18 rfl
  · rw [if_neg c] at h
    refine v_il2 dX8_majority_7 ?_
    refine v_iconst dX8_majority_8 ?_
    refine v_bipush dX8_majority_9 rfl ?_
    obtain ⟨x3, s4, h1, h⟩ := cl_some h
    refine v_callS1 (As := [vi v2, vi (iI 0), vi (iI 127)]) (tX8_in h1) (lw_S q1549 q1550 q167 q1551) dsX8_in ⟨Nat.le_of_ble_eq_true rfl, Nat.le_of_ble_eq_true rfl⟩ (Nat.le_of_ble_eq_true rfl) dX8_majority_11 rfl ?_
    refine v_if_ne (tgt := 19) dX8_majority_14 (by decide) (fun c => ?_) (fun c => ?_)
    · rw [if_neg c] at h
      refine v_al0 dX8_majority_19 ?_
      refine v_il1 dX8_majority_20 ?_
      refine v_il2 dX8_majority_21 ?_
      obtain ⟨b22, er, ka, h⟩ := cV_some h
      obtain ⟨x5, s6, h1, h⟩ := cl_some h
      refine v_callV1 cok6 (As := [vi v1, vi v2]) er ka (tX8_isMost h1) (lw_V q1728 q1730 qs103 q167 q1731) rfl dsX8_isMost ⟨Nat.le_of_ble_eq_true rfl, Nat.le_of_ble_eq_true rfl⟩ (Nat.le_of_ble_eq_true rfl) dX8_majority_22 rfl ?_
      refine v_if_eq (tgt := 32) dX8_majority_25 (by decide) (fun c => ?_) (fun c => ?_)
      · rw [if_pos c] at h
        refine v_iconst dX8_majority_32 ?_
        exact v_retI h dX8_majority_33 rfl
      · rw [if_neg c] at h
        refine v_iconst dX8_majority_28 ?_
        refine v_goto (tgt := 33) dX8_majority_29 (by decide) ?_
        exact v_retI h dX8_majority_33 rfl
    · rw [if_pos c] at h
      refine v_iconst dX8_majority_17 ?_
      exact v_retI h dX8_majority_18 rfl
theorem tX8_majority {E : EE} {l : Launch} {v0 : Option Nat} {v1 : Int32} {v2 : Int32} {σ : Mem} {z : Int32 × Mem} (h : sX8_majority v0 v1 v2 σ = some z) : Mt E l mX8_majority [vr v0, vi v1, vi v2] σ (some (vi z.1), z.2) :=
  Mt.ofVL (by decide) (Nat.le_of_ble_eq_true rfl) (fun G hG => lX8_majority h)
abbrev mX8_allHave : MM := (yX8_allHave, cX8_allHave, 2, (Option.some Jvm.ClassFile.FieldType.boolean), 3, 63)
theorem dsX8_allHave : DsOk yX8_allHave 0 := ⟨by decide, by decide, by decide +kernel⟩
theorem lX8_allHave_36 {E : EE} {G : GG} {k2 : Option Nat → Int32 → Mem → Option (Int32 × Mem)} (hk2 : ∀ (v0 : Option Nat) (v1 : Int32) (s : Mem) (z : Int32 × Mem), k2 v0 v1 s = some z → V E mX8_allHave G 2 [some (vr v0), some (vi v1)] [] s (some (vi z.1), z.2)) {v0 : Option Nat} {v1 : Int32} {σ : Mem} {z : Int32 × Mem} (h : sX8_allHave_36 k2 v0 v1 σ = some z) : V E mX8_allHave G 36 [some (vr v0), some (vi v1)] [] σ (some (vi z.1), z.2) := by
  unfold sX8_allHave_36 at h
  refine v_iinc (L' := [some (vr v0), some (vi (v1 + iI 1))]) dX8_allHave_36 (Nat.le_of_ble_eq_true rfl) rfl rfl ?_
  refine v_goto (tgt := 2) dX8_allHave_39 (by decide) ?_
  exact v_weak (wss (wss wse)) (hk2 _ _ _ _ h)
theorem lX8_allHave_2b {E : EE} {G : GG} {k2 : Option Nat → Int32 → Mem → Option (Int32 × Mem)} (hk2 : ∀ (v0 : Option Nat) (v1 : Int32) (s : Mem) (z : Int32 × Mem), k2 v0 v1 s = some z → V E mX8_allHave G 2 [some (vr v0), some (vi v1)] [] s (some (vi z.1), z.2)) {v0 : Option Nat} {v1 : Int32} {σ : Mem} {z : Int32 × Mem} (h : sX8_allHave_2b k2 v0 v1 σ = some z) : V E mX8_allHave G 2 [some (vr v0), some (vi v1)] [] σ (some (vi z.1), z.2) := by
  unfold sX8_allHave_2b at h
  refine v_il1 dX8_allHave_2 ?_
  refine v_bipush dX8_allHave_3 rfl ?_
  refine v_icmp_ge (tgt := 42) dX8_allHave_5 (by decide) (fun c => ?_) (fun c => ?_)
  · rw [if_pos c] at h
    refine v_iconst dX8_allHave_42 ?_
    exact v_retZ h dX8_allHave_43 rfl
  · rw [if_neg c] at h
    refine v_al0 dX8_allHave_8 ?_
    refine v_il1 dX8_allHave_9 ?_
    obtain ⟨b10, er, ka, h⟩ := cV_some h
    obtain ⟨x1, s2, h1, h⟩ := cl_some h
    refine v_callV1 cok6 (As := [vi v1]) er ka (tX8_isUp h1) (lw_V q1658 q1660 qs88 q167 q1661) rfl dsX8_isUp ⟨Nat.le_of_ble_eq_true rfl, Nat.le_of_ble_eq_true rfl⟩ (Nat.le_of_ble_eq_true rfl) dX8_allHave_10 rfl ?_
    refine v_if_eq (tgt := 36) dX8_allHave_13 (by decide) (fun c => ?_) (fun c => ?_)
    · rw [if_pos c] at h
      exact v_weak (wss (wss wse)) (lX8_allHave_36 hk2 h)
    · rw [if_neg c] at h
      refine v_al0 dX8_allHave_16 ?_
      refine v_il1 dX8_allHave_17 ?_
      refine v_bipush dX8_allHave_18 rfl ?_
      obtain ⟨b20, er, ka, h⟩ := cV_some h
      obtain ⟨x3, s4, h1, h⟩ := cl_some h
      refine v_callV1 cok6 (As := [vi v1, vi (iI 9)]) er ka (tX8_the h1) (lw_V q1385 q1387 qs60 q167 q1388) rfl dsX8_the ⟨Nat.le_of_ble_eq_true rfl, Nat.le_of_ble_eq_true rfl⟩ (Nat.le_of_ble_eq_true rfl) dX8_allHave_20 rfl ?_
      refine v_al0 dX8_allHave_23 ?_
      refine v_gR cok6 h dX8_allHave_24 (by decide) q1401 rfl (fun x5 h => ?_)
      refine v_sipush dX8_allHave_27 rfl ?_
      refine v_aI h dX8_allHave_30 (fun x6 h => ?_)
      refine v_icmp_ge (tgt := 36) dX8_allHave_31 (by decide) (fun c => ?_) (fun c => ?_)
      · rw [if_pos c] at h
        exact v_weak (wss (wss wse)) (lX8_allHave_36 hk2 h)
      · rw [if_neg c] at h
        refine v_iconst dX8_allHave_34 ?_
        exact v_retZ h dX8_allHave_35 rfl
theorem lX8_allHave_2 {E : EE} {G : GG} : ∀ (f : Nat) {v0 : Option Nat} {v1 : Int32} {σ : Mem} {z : Int32 × Mem}, sX8_allHave_2 f v0 v1 σ = some z → V E mX8_allHave G 2 [some (vr v0), some (vi v1)] [] σ (some (vi z.1), z.2)
  | 0, _, _, _, _, h => by cases h
  | f + 1, _, _, _, _, h => lX8_allHave_2b (fun _ _ _ _ h => lX8_allHave_2 f h) h
theorem lX8_allHave {E : EE} {G : GG} {v0 : Option Nat} {σ : Mem} {z : Int32 × Mem} (h : sX8_allHave v0 σ = some z) : V E mX8_allHave G 0 [some (vr v0), none] [] σ (some (vi z.1), z.2) := by
  unfold sX8_allHave at h
  refine v_iconst dX8_allHave_0 ?_
  refine v_istore_n (L' := [some (vr v0), some (vi (iI 0))]) dX8_allHave_1 (Nat.le_of_ble_eq_true rfl) (Nat.le_of_ble_eq_true rfl) rfl ?_
  exact v_weak (wss (wss wse)) (lX8_allHave_2 FU h)
theorem tX8_allHave {E : EE} {l : Launch} {v0 : Option Nat} {σ : Mem} {z : Int32 × Mem} (h : sX8_allHave v0 σ = some z) : Mt E l mX8_allHave [vr v0] σ (some (vi z.1), z.2) :=
  Mt.ofVL (by decide) (Nat.le_of_ble_eq_true rfl) (fun G hG => lX8_allHave h)
abbrev mX8_isSo : MM := (yX8_isSo, cX8_isSo, 3, (Option.some Jvm.ClassFile.FieldType.boolean), 5, 106)
theorem dsX8_isSo : DsOk yX8_isSo 2 := ⟨by decide, by decide, by decide +kernel⟩
theorem lX8_isSo {E : EE} {G : GG} {v0 : Option Nat} {v1 : Int32} {v2 : Int32} {σ : Mem} {z : Int32 × Mem} (h : sX8_isSo v0 v1 v2 σ = some z) : V E mX8_isSo G 0 [some (vr v0), some (vi v1), some (vi v2)] [] σ (some (vi z.1), z.2) := by
  unfold sX8_isSo at h
  refine v_il1 dX8_isSo_0 ?_
  refine v_if_ne (tgt := 21) dX8_isSo_1 (by decide) (fun c => ?_) (fun c => ?_)
  · rw [if_neg c] at h
    refine v_il1 dX8_isSo_21 ?_
    refine v_iconst dX8_isSo_22 ?_
    refine v_icmp_ne (tgt := 42) dX8_isSo_23 (by decide) (fun c => ?_) (fun c => ?_)
    · rw [if_neg c] at h
      refine v_al0 dX8_isSo_42 ?_
      obtain ⟨b43, er, ka, h⟩ := cV_some h
      obtain ⟨x1, s2, h1, h⟩ := cl_some h
      refine v_callV1 cok6 (As := []) er ka (tX8_allHave h1) (lw_V q2033 q2035 qs152 q167 q2036) rfl dsX8_allHave ⟨Nat.le_of_ble_eq_true rfl, Nat.le_of_ble_eq_true rfl⟩ (Nat.le_of_ble_eq_true rfl) dX8_isSo_43 rfl ?_
      exact v_retZ h dX8_isSo_46 rfl
    · rw [if_pos c] at h
      refine v_al0 dX8_isSo_26 ?_
      refine v_gI cok6 h dX8_isSo_27 (by decide) q1430 rfl (fun x3 h => ?_)
      refine v_il2 dX8_isSo_30 ?_
      refine v_icmp_le (tgt := 38) dX8_isSo_31 (by decide) (fun c => ?_) (fun c => ?_)
      · rw [if_pos c] at h
        refine v_iconst dX8_isSo_38 ?_
        refine v_goto (tgt := 46) dX8_isSo_39 (by decide) ?_
        exact v_retZ h dX8_isSo_46 rfl
      · rw [if_neg c] at h
        refine v_iconst dX8_isSo_34 ?_
        refine v_goto (tgt := 46) dX8_isSo_35 (by decide) ?_
        exact v_retZ h dX8_isSo_46 rfl
  · rw [if_pos c] at h
    refine v_al0 dX8_isSo_4 ?_
    obtain ⟨b5, er, ka, h⟩ := cV_some h
    obtain ⟨x4, s5, h1, h⟩ := cl_some h
    refine v_callV1 cok6 (As := []) er ka (tX8_leading h1) (lw_V q1955 q1957 qs146 q167 q1958) rfl dsX8_leading ⟨Nat.le_of_ble_eq_true rfl, Nat.le_of_ble_eq_true rfl⟩ (Nat.le_of_ble_eq_true rfl) dX8_isSo_5 rfl ?_
    refine v_bipush dX8_isSo_8 rfl ?_
    refine v_icmp_eq (tgt := 17) dX8_isSo_10 (by decide) (fun c => ?_) (fun c => ?_)
    · rw [if_pos c] at h
      refine v_iconst dX8_isSo_17 ?_
      refine v_goto (tgt := 46) dX8_isSo_18 (by decide) ?_
      exact v_retZ h dX8_isSo_46 rfl
    · rw [if_neg c] at h
      refine v_iconst dX8_isSo_13 ?_
      refine v_goto (tgt := 46) dX8_isSo_14 (by decide) ?_
      exact v_retZ h dX8_isSo_46 rfl
theorem tX8_isSo {E : EE} {l : Launch} {v0 : Option Nat} {v1 : Int32} {v2 : Int32} {σ : Mem} {z : Int32 × Mem} (h : sX8_isSo v0 v1 v2 σ = some z) : Mt E l mX8_isSo [vr v0, vi v1, vi v2] σ (some (vi z.1), z.2) :=
  Mt.ofVL (by decide) (Nat.le_of_ble_eq_true rfl) (fun G hG => lX8_isSo h)
abbrev mX8_till : MM := (yX8_till, cX8_till, 5, (Option.some Jvm.ClassFile.FieldType.int), 13, 296)
theorem dsX8_till : DsOk yX8_till 2 := ⟨by decide, by decide, by decide +kernel⟩
theorem lX8_till_68 {E : EE} {G : GG} {v0 : Option Nat} {v2 : Int32} {v3 : Int32} {σ : Mem} {z : Int32 × Mem} (h : sX8_till_68 v0 v2 v3 σ = some z) : V E mX8_till G 68 [some (vr v0), none, some (vi v2), some (vi v3), none] [] σ (some (vi z.1), z.2) := by
  unfold sX8_till_68 at h
  refine v_al0 dX8_till_68 ?_
  refine v_il2 dX8_till_69 ?_
  refine v_iconst dX8_till_70 ?_
  obtain ⟨b71, er, ka, h⟩ := cV_some h
  obtain ⟨x1, s2, h1, h⟩ := cl_some h
  refine v_callV1 cok6 (As := [vi v2, vi (iI 0)]) er ka (tX8_isSo h1) (lw_V q2029 q2031 qs151 q167 q2032) rfl dsX8_isSo ⟨Nat.le_of_ble_eq_true rfl, Nat.le_of_ble_eq_true rfl⟩ (Nat.le_of_ble_eq_true rfl) dX8_till_71 rfl ?_
  refine v_istore (L' := [some (vr v0), none, some (vi v2), some (vi v3), some (vi x1)]) dX8_till_74 (Nat.le_of_ble_eq_true rfl) (Nat.le_of_ble_eq_true rfl) rfl ?_
  refine v_al0 dX8_till_76 ?_
  refine v_gR cok6 h dX8_till_77 (by decide) q1402 rfl (fun x3 h => ?_)
  refine v_al0 dX8_till_80 ?_
  refine v_gR cok6 h dX8_till_81 (by decide) q1401 rfl (fun x4 h => ?_)
  obtain ⟨_, s5, h1, h⟩ := cl_some h
  refine v_callS0 (As := [vr x3, vr x4]) (tX8_copies h1) (lw_S q1963 q1964 q167 q1965) dsX8_copies ⟨Nat.le_of_ble_eq_true rfl, Nat.le_of_ble_eq_true rfl⟩ (Nat.le_of_ble_eq_true rfl) dX8_till_84 rfl ?_
  refine v_iload dX8_till_87 rfl ?_
  refine v_if_eq (tgt := 96) dX8_till_89 (by decide) (fun c => ?_) (fun c => ?_)
  · rw [if_pos c] at h
    refine v_bipush dX8_till_96 rfl ?_
    exact v_retI h dX8_till_98 rfl
  · rw [if_neg c] at h
    refine v_il3 dX8_till_92 ?_
    refine v_goto (tgt := 98) dX8_till_93 (by decide) ?_
    exact v_retI h dX8_till_98 rfl
theorem lX8_till_40b {E : EE} {G : GG} {k40 : Option Nat → Int32 → Int32 → Int32 → Mem → Option (Int32 × Mem)} (hk40 : ∀ (v0 : Option Nat) (v1 : Int32) (v2 : Int32) (v3 : Int32) (s : Mem) (z : Int32 × Mem), k40 v0 v1 v2 v3 s = some z → V E mX8_till G 40 [some (vr v0), some (vi v1), some (vi v2), some (vi v3), none] [] s (some (vi z.1), z.2)) {v0 : Option Nat} {v1 : Int32} {v2 : Int32} {v3 : Int32} {σ : Mem} {z : Int32 × Mem} (h : sX8_till_40b k40 v0 v1 v2 v3 σ = some z) : V E mX8_till G 40 [some (vr v0), some (vi v1), some (vi v2), some (vi v3), none] [] σ (some (vi z.1), z.2) := by
  unfold sX8_till_40b at h
  refine v_al0 dX8_till_40 ?_
  refine v_il2 dX8_till_41 ?_
  refine v_iconst dX8_till_42 ?_
  obtain ⟨b43, er, ka, h⟩ := cV_some h
  obtain ⟨x1, s2, h1, h⟩ := cl_some h
  refine v_callV1 cok6 (As := [vi v2, vi (iI 0)]) er ka (tX8_isSo h1) (lw_V q2029 q2031 qs151 q167 q2032) rfl dsX8_isSo ⟨Nat.le_of_ble_eq_true rfl, Nat.le_of_ble_eq_true rfl⟩ (Nat.le_of_ble_eq_true rfl) dX8_till_43 rfl ?_
  refine v_if_ne (tgt := 68) dX8_till_46 (by decide) (fun c => ?_) (fun c => ?_)
  · rw [if_neg c] at h
    exact v_weak (wss (wsn (wss (wss (wsn wse))))) (lX8_till_68 h)
  · rw [if_pos c] at h
    refine v_il3 dX8_till_49 ?_
    refine v_il1 dX8_till_50 ?_
    refine v_icmp_ge (tgt := 68) dX8_till_51 (by decide) (fun c => ?_) (fun c => ?_)
    · rw [if_pos c] at h
      exact v_weak (wss (wsn (wss (wss (wsn wse))))) (lX8_till_68 h)
    · rw [if_neg c] at h
      refine v_al0 dX8_till_54 ?_
      obtain ⟨b55, er, ka, h⟩ := cV_some h
      obtain ⟨x3, s4, h1, h⟩ := cl_some h
      refine v_callV1 cok6 (As := []) er ka (tX8_oneTick h1) (lw_V q1642 q1644 qs84 q167 q1645) rfl dsX8_oneTick ⟨Nat.le_of_ble_eq_true rfl, Nat.le_of_ble_eq_true rfl⟩ (Nat.le_of_ble_eq_true rfl) dX8_till_55 rfl ?_
      refine v_if_eq (tgt := 68) dX8_till_58 (by decide) (fun c => ?_) (fun c => ?_)
      · rw [if_pos c] at h
        exact v_weak (wss (wsn (wss (wss (wsn wse))))) (lX8_till_68 h)
      · rw [if_neg c] at h
        refine v_il3 dX8_till_61 ?_
        refine v_iconst dX8_till_62 ?_
        refine v_iadd dX8_till_63 ?_
        refine v_istore_n (L' := [some (vr v0), some (vi v1), some (vi v2), some (vi (v3 + (iI 1))), none]) dX8_till_64 (Nat.le_of_ble_eq_true rfl) (Nat.le_of_ble_eq_true rfl) rfl ?_
        refine v_goto (tgt := 40) dX8_till_65 (by decide) ?_
        exact v_weak (wss (wss (wss (wss (wsn wse))))) (hk40 _ _ _ _ _ _ h)
theorem lX8_till_40 {E : EE} {G : GG} : ∀ (f : Nat) {v0 : Option Nat} {v1 : Int32} {v2 : Int32} {v3 : Int32} {σ : Mem} {z : Int32 × Mem}, sX8_till_40 f v0 v1 v2 v3 σ = some z → V E mX8_till G 40 [some (vr v0), some (vi v1), some (vi v2), some (vi v3), none] [] σ (some (vi z.1), z.2)
  | 0, _, _, _, _, _, _, h => by cases h
  | f + 1, _, _, _, _, _, _, h => lX8_till_40b (fun _ _ _ _ _ _ h => lX8_till_40 f h) h
theorem lX8_till {E : EE} {G : GG} {v0 : Option Nat} {v1 : Int32} {v2 : Int32} {σ : Mem} {z : Int32 × Mem} (h : sX8_till v0 v1 v2 σ = some z) : V E mX8_till G 0 [some (vr v0), some (vi v1), some (vi v2), none, none] [] σ (some (vi z.1), z.2) := by
  unfold sX8_till at h
  refine v_il1 dX8_till_0 ?_
  refine v_iconst dX8_till_1 ?_
  refine v_sipush dX8_till_2 rfl ?_
  obtain ⟨x1, s2, h1, h⟩ := cl_some h
  refine v_callS1 (As := [vi v1, vi (iI 1), vi (iI 200)]) (tX8_in h1) (lw_S q1549 q1550 q167 q1551) dsX8_in ⟨Nat.le_of_ble_eq_true rfl, Nat.le_of_ble_eq_true rfl⟩ (Nat.le_of_ble_eq_true rfl) dX8_till_5 rfl ?_
  refine v_if_eq (tgt := 20) dX8_till_8 (by decide) (fun c => ?_) (fun c => ?_)
  · rw [if_pos c] at h
    refine v_iconst dX8_till_20 ?_
    exact v_retI h dX8_till_21 rfl
  · rw [if_neg c] at h
    refine v_il2 dX8_till_11 ?_
    refine v_iconst dX8_till_12 ?_
    refine v_iconst dX8_till_13 ?_
    obtain ⟨x3, s4, h1, h⟩ := cl_some h
    refine v_callS1 (As := [vi v2, vi (iI 0), vi (iI 2)]) (tX8_in h1) (lw_S q1549 q1550 q167 q1551) dsX8_in ⟨Nat.le_of_ble_eq_true rfl, Nat.le_of_ble_eq_true rfl⟩ (Nat.le_of_ble_eq_true rfl) dX8_till_14 rfl ?_
    refine v_if_ne (tgt := 22) dX8_till_17 (by decide) (fun c => ?_) (fun c => ?_)
    · rw [if_neg c] at h
      refine v_al0 dX8_till_22 ?_
      refine v_gR cok6 h dX8_till_23 (by decide) q1401 rfl (fun x5 h => ?_)
      refine v_al0 dX8_till_26 ?_
      refine v_gR cok6 h dX8_till_27 (by decide) q1402 rfl (fun x6 h => ?_)
      obtain ⟨_, s7, h1, h⟩ := cl_some h
      refine v_callS0 (As := [vr x5, vr x6]) (tX8_copies h1) (lw_S q1963 q1964 q167 q1965) dsX8_copies ⟨Nat.le_of_ble_eq_true rfl, Nat.le_of_ble_eq_true rfl⟩ (Nat.le_of_ble_eq_true rfl) dX8_till_30 rfl ?_
      refine v_al0 dX8_till_33 ?_
      refine v_iconst dX8_till_34 ?_
      refine v_pI cok6 h dX8_till_35 (by decide) q1430 rfl rfl (fun s8 h => ?_)
      refine v_iconst dX8_till_38 ?_
      refine v_istore_n (L' := [some (vr v0), some (vi v1), some (vi v2), some (vi (iI 0)), none]) dX8_till_39 (Nat.le_of_ble_eq_true rfl) (Nat.le_of_ble_eq_true rfl) rfl ?_
      exact v_weak (wss (wss (wss (wss (wsn wse))))) (lX8_till_40 FU h)
    · rw [if_pos c] at h
      refine v_iconst dX8_till_20 ?_
      exact v_retI h dX8_till_21 rfl
theorem tX8_till {E : EE} {l : Launch} {v0 : Option Nat} {v1 : Int32} {v2 : Int32} {σ : Mem} {z : Int32 × Mem} (h : sX8_till v0 v1 v2 σ = some z) : Mt E l mX8_till [vr v0, vi v1, vi v2] σ (some (vi z.1), z.2) :=
  Mt.ofVL (by decide) (Nat.le_of_ble_eq_true rfl) (fun G hG => lX8_till h)
abbrev mX8_seed : MM := (yX8_seed, cX8_seed, 2, (Option.some Jvm.ClassFile.FieldType.boolean), 1, 22)
theorem dsX8_seed : DsOk yX8_seed 1 := ⟨by decide, by decide, by decide +kernel⟩
theorem lX8_seed {E : EE} {G : GG} {v0 : Option Nat} {v1 : Int32} {σ : Mem} {z : Int32 × Mem} (h : sX8_seed v0 v1 σ = some z) : V E mX8_seed G 0 [some (vr v0), some (vi v1)] [] σ (some (vi z.1), z.2) := by
  unfold sX8_seed at h
  refine v_il1 dX8_seed_0 ?_
  refine v_iconst dX8_seed_1 ?_
  refine v_ldcwI (n := 65535) dX8_seed_2 q2041 rfl ?_
  obtain ⟨x1, s2, h1, h⟩ := cl_some h
  refine v_callS1 (As := [vi v1, vi (iI 0), vi (iI 65535)]) (tX8_in h1) (lw_S q1549 q1550 q167 q1551) dsX8_in ⟨Nat.le_of_ble_eq_true rfl, Nat.le_of_ble_eq_true rfl⟩ (Nat.le_of_ble_eq_true rfl) dX8_seed_5 rfl ?_
  refine v_if_ne (tgt := 13) dX8_seed_8 (by decide) (fun c => ?_) (fun c => ?_)
  · rw [if_neg c] at h
    refine v_al0 dX8_seed_13 ?_
    refine v_gR cok6 h dX8_seed_14 (by decide) q1401 rfl (fun x3 h => ?_)
    refine v_sipush dX8_seed_17 rfl ?_
    refine v_il1 dX8_seed_20 ?_
    refine v_sI h dX8_seed_21 (fun s4 h => ?_)
    refine v_iconst dX8_seed_22 ?_
    exact v_retZ h dX8_seed_23 rfl
  · rw [if_pos c] at h
    refine v_iconst dX8_seed_11 ?_
    exact v_retZ h dX8_seed_12 rfl
theorem tX8_seed {E : EE} {l : Launch} {v0 : Option Nat} {v1 : Int32} {σ : Mem} {z : Int32 × Mem} (h : sX8_seed v0 v1 σ = some z) : Mt E l mX8_seed [vr v0, vi v1] σ (some (vi z.1), z.2) :=
  Mt.ofVL (by decide) (Nat.le_of_ble_eq_true rfl) (fun G hG => lX8_seed h)
abbrev mX8_keep : MM := (yX8_keep, cX8_keep, 1, (Option.some Jvm.ClassFile.FieldType.int), 1, 22)
theorem dsX8_keep : DsOk yX8_keep 0 := ⟨by decide, by decide, by decide +kernel⟩
theorem lX8_keep {E : EE} {G : GG} {v0 : Option Nat} {σ : Mem} {z : Int32 × Mem} (h : sX8_keep v0 σ = some z) : V E mX8_keep G 0 [some (vr v0)] [] σ (some (vi z.1), z.2) := by
  unfold sX8_keep at h
  refine v_al0 dX8_keep_0 ?_
  refine v_iconst dX8_keep_1 ?_
  refine v_pZ cok6 h dX8_keep_2 (by decide) q1445 rfl rfl (fun s1 h => ?_)
  refine v_al0 dX8_keep_5 ?_
  refine v_gR cok6 h dX8_keep_6 (by decide) q1401 rfl (fun x2 h => ?_)
  refine v_al0 dX8_keep_9 ?_
  refine v_gR cok6 h dX8_keep_10 (by decide) q1403 rfl (fun x3 h => ?_)
  obtain ⟨_, s4, h1, h⟩ := cl_some h
  refine v_callS0 (As := [vr x2, vr x3]) (tX8_copies h1) (lw_S q1963 q1964 q167 q1965) dsX8_copies ⟨Nat.le_of_ble_eq_true rfl, Nat.le_of_ble_eq_true rfl⟩ (Nat.le_of_ble_eq_true rfl) dX8_keep_13 rfl ?_
  refine v_al0 dX8_keep_16 ?_
  refine v_gR cok6 h dX8_keep_17 (by decide) q1401 rfl (fun x5 h => ?_)
  refine v_sipush dX8_keep_20 rfl ?_
  refine v_aI h dX8_keep_23 (fun x6 h => ?_)
  exact v_retI h dX8_keep_24 rfl
theorem tX8_keep {E : EE} {l : Launch} {v0 : Option Nat} {σ : Mem} {z : Int32 × Mem} (h : sX8_keep v0 σ = some z) : Mt E l mX8_keep [vr v0] σ (some (vi z.1), z.2) :=
  Mt.ofVL (by decide) (Nat.le_of_ble_eq_true rfl) (fun G hG => lX8_keep h)
abbrev mX8_undo : MM := (yX8_undo, cX8_undo, 1, (Option.some Jvm.ClassFile.FieldType.boolean), 1, 22)
theorem dsX8_undo : DsOk yX8_undo 0 := ⟨by decide, by decide, by decide +kernel⟩
theorem lX8_undo {E : EE} {G : GG} {v0 : Option Nat} {σ : Mem} {z : Int32 × Mem} (h : sX8_undo v0 σ = some z) : V E mX8_undo G 0 [some (vr v0)] [] σ (some (vi z.1), z.2) := by
  unfold sX8_undo at h
  refine v_al0 dX8_undo_0 ?_
  refine v_gI cok6 h dX8_undo_1 (by decide) q1445 rfl (fun x1 h => ?_)
  refine v_if_ne (tgt := 9) dX8_undo_4 (by decide) (fun c => ?_) (fun c => ?_)
  · rw [if_neg c] at h
    refine v_al0 dX8_undo_9 ?_
    refine v_gR cok6 h dX8_undo_10 (by decide) q1403 rfl (fun x2 h => ?_)
    refine v_al0 dX8_undo_13 ?_
    refine v_gR cok6 h dX8_undo_14 (by decide) q1401 rfl (fun x3 h => ?_)
    obtain ⟨_, s4, h1, h⟩ := cl_some h
    refine v_callS0 (As := [vr x2, vr x3]) (tX8_copies h1) (lw_S q1963 q1964 q167 q1965) dsX8_copies ⟨Nat.le_of_ble_eq_true rfl, Nat.le_of_ble_eq_true rfl⟩ (Nat.le_of_ble_eq_true rfl) dX8_undo_17 rfl ?_
    refine v_iconst dX8_undo_20 ?_
    exact v_retZ h dX8_undo_21 rfl
  · rw [if_pos c] at h
    refine v_iconst dX8_undo_7 ?_
    exact v_retZ h dX8_undo_8 rfl
theorem tX8_undo {E : EE} {l : Launch} {v0 : Option Nat} {σ : Mem} {z : Int32 × Mem} (h : sX8_undo v0 σ = some z) : Mt E l mX8_undo [vr v0] σ (some (vi z.1), z.2) :=
  Mt.ofVL (by decide) (Nat.le_of_ble_eq_true rfl) (fun G hG => lX8_undo h)
abbrev mX8_greatest : MM := (yX8_greatest, cX8_greatest, 3, (Option.some Jvm.ClassFile.FieldType.int), 3, 63)
theorem dsX8_greatest : DsOk yX8_greatest 0 := ⟨by decide, by decide, by decide +kernel⟩
theorem lX8_greatest_42 {E : EE} {G : GG} {k4 : Option Nat → Int32 → Int32 → Mem → Option (Int32 × Mem)} (hk4 : ∀ (v0 : Option Nat) (v1 : Int32) (v2 : Int32) (s : Mem) (z : Int32 × Mem), k4 v0 v1 v2 s = some z → V E mX8_greatest G 4 [some (vr v0), some (vi v1), some (vi v2)] [] s (some (vi z.1), z.2)) {v0 : Option Nat} {v1 : Int32} {v2 : Int32} {σ : Mem} {z : Int32 × Mem} (h : sX8_greatest_42 k4 v0 v1 v2 σ = some z) : V E mX8_greatest G 42 [some (vr v0), some (vi v1), some (vi v2)] [] σ (some (vi z.1), z.2) := by
  unfold sX8_greatest_42 at h
  refine v_iinc (L' := [some (vr v0), some (vi v1), some (vi (v2 + iI 1))]) dX8_greatest_42 (Nat.le_of_ble_eq_true rfl) rfl rfl ?_
  refine v_goto (tgt := 4) dX8_greatest_45 (by decide) ?_
  exact v_weak (wss (wss (wss wse))) (hk4 _ _ _ _ _ h)
theorem lX8_greatest_40 {E : EE} {G : GG} {k4 : Option Nat → Int32 → Int32 → Mem → Option (Int32 × Mem)} (hk4 : ∀ (v0 : Option Nat) (v1 : Int32) (v2 : Int32) (s : Mem) (z : Int32 × Mem), k4 v0 v1 v2 s = some z → V E mX8_greatest G 4 [some (vr v0), some (vi v1), some (vi v2)] [] s (some (vi z.1), z.2)) {v0 : Option Nat} {v2 : Int32} {σ : Mem} {z : Int32 × Mem} (h : sX8_greatest_40 k4 v0 v2 σ = some z) : V E mX8_greatest G 40 [some (vr v0), none, some (vi v2)] [] σ (some (vi z.1), z.2) := by
  unfold sX8_greatest_40 at h
  refine v_il2 dX8_greatest_40 ?_
  refine v_istore_n (L' := [some (vr v0), some (vi v2), some (vi v2)]) dX8_greatest_41 (Nat.le_of_ble_eq_true rfl) (Nat.le_of_ble_eq_true rfl) rfl ?_
  exact v_weak (wss (wss (wss wse))) (lX8_greatest_42 hk4 h)
theorem lX8_greatest_4b {E : EE} {G : GG} {k4 : Option Nat → Int32 → Int32 → Mem → Option (Int32 × Mem)} (hk4 : ∀ (v0 : Option Nat) (v1 : Int32) (v2 : Int32) (s : Mem) (z : Int32 × Mem), k4 v0 v1 v2 s = some z → V E mX8_greatest G 4 [some (vr v0), some (vi v1), some (vi v2)] [] s (some (vi z.1), z.2)) {v0 : Option Nat} {v1 : Int32} {v2 : Int32} {σ : Mem} {z : Int32 × Mem} (h : sX8_greatest_4b k4 v0 v1 v2 σ = some z) : V E mX8_greatest G 4 [some (vr v0), some (vi v1), some (vi v2)] [] σ (some (vi z.1), z.2) := by
  unfold sX8_greatest_4b at h
  refine v_il2 dX8_greatest_4 ?_
  refine v_bipush dX8_greatest_5 rfl ?_
  refine v_icmp_ge (tgt := 48) dX8_greatest_7 (by decide) (fun c => ?_) (fun c => ?_)
  · rw [if_pos c] at h
    refine v_il1 dX8_greatest_48 ?_
    exact v_retI h dX8_greatest_49 rfl
  · rw [if_neg c] at h
    refine v_al0 dX8_greatest_10 ?_
    refine v_il2 dX8_greatest_11 ?_
    obtain ⟨b12, er, ka, h⟩ := cV_some h
    obtain ⟨x1, s2, h1, h⟩ := cl_some h
    refine v_callV1 cok6 (As := [vi v2]) er ka (tX8_isUp h1) (lw_V q1658 q1660 qs88 q167 q1661) rfl dsX8_isUp ⟨Nat.le_of_ble_eq_true rfl, Nat.le_of_ble_eq_true rfl⟩ (Nat.le_of_ble_eq_true rfl) dX8_greatest_12 rfl ?_
    refine v_if_eq (tgt := 42) dX8_greatest_15 (by decide) (fun c => ?_) (fun c => ?_)
    · rw [if_pos c] at h
      exact v_weak (wss (wss (wss wse))) (lX8_greatest_42 hk4 h)
    · rw [if_neg c] at h
      refine v_il1 dX8_greatest_18 ?_
      refine v_iconst dX8_greatest_19 ?_
      refine v_icmp_eq (tgt := 40) dX8_greatest_20 (by decide) (fun c => ?_) (fun c => ?_)
      · rw [if_pos c] at h
        exact v_weak (wss (wsn (wss wse))) (lX8_greatest_40 hk4 h)
      · rw [if_neg c] at h
        refine v_al0 dX8_greatest_23 ?_
        refine v_il2 dX8_greatest_24 ?_
        refine v_bipush dX8_greatest_25 rfl ?_
        obtain ⟨b27, er, ka, h⟩ := cV_some h
        obtain ⟨x3, s4, h1, h⟩ := cl_some h
        refine v_callV1 cok6 (As := [vi v2, vi (iI 9)]) er ka (tX8_the h1) (lw_V q1385 q1387 qs60 q167 q1388) rfl dsX8_the ⟨Nat.le_of_ble_eq_true rfl, Nat.le_of_ble_eq_true rfl⟩ (Nat.le_of_ble_eq_true rfl) dX8_greatest_27 rfl ?_
        refine v_al0 dX8_greatest_30 ?_
        refine v_il1 dX8_greatest_31 ?_
        refine v_bipush dX8_greatest_32 rfl ?_
        obtain ⟨b34, er, ka, h⟩ := cV_some h
        obtain ⟨x5, s6, h1, h⟩ := cl_some h
        refine v_callV1 cok6 (As := [vi v1, vi (iI 9)]) er ka (tX8_the h1) (lw_V q1385 q1387 qs60 q167 q1388) rfl dsX8_the ⟨Nat.le_of_ble_eq_true rfl, Nat.le_of_ble_eq_true rfl⟩ (Nat.le_of_ble_eq_true rfl) dX8_greatest_34 rfl ?_
        refine v_icmp_le (tgt := 42) dX8_greatest_37 (by decide) (fun c => ?_) (fun c => ?_)
        · rw [if_pos c] at h
          exact v_weak (wss (wss (wss wse))) (lX8_greatest_42 hk4 h)
        · rw [if_neg c] at h
          exact v_weak (wss (wsn (wss wse))) (lX8_greatest_40 hk4 h)
theorem lX8_greatest_4 {E : EE} {G : GG} : ∀ (f : Nat) {v0 : Option Nat} {v1 : Int32} {v2 : Int32} {σ : Mem} {z : Int32 × Mem}, sX8_greatest_4 f v0 v1 v2 σ = some z → V E mX8_greatest G 4 [some (vr v0), some (vi v1), some (vi v2)] [] σ (some (vi z.1), z.2)
  | 0, _, _, _, _, _, h => by cases h
  | f + 1, _, _, _, _, _, h => lX8_greatest_4b (fun _ _ _ _ _ h => lX8_greatest_4 f h) h
theorem lX8_greatest {E : EE} {G : GG} {v0 : Option Nat} {σ : Mem} {z : Int32 × Mem} (h : sX8_greatest v0 σ = some z) : V E mX8_greatest G 0 [some (vr v0), none, none] [] σ (some (vi z.1), z.2) := by
  unfold sX8_greatest at h
  refine v_iconst dX8_greatest_0 ?_
  refine v_istore_n (L' := [some (vr v0), some (vi (iI (-1))), none]) dX8_greatest_1 (Nat.le_of_ble_eq_true rfl) (Nat.le_of_ble_eq_true rfl) rfl ?_
  refine v_iconst dX8_greatest_2 ?_
  refine v_istore_n (L' := [some (vr v0), some (vi (iI (-1))), some (vi (iI 0))]) dX8_greatest_3 (Nat.le_of_ble_eq_true rfl) (Nat.le_of_ble_eq_true rfl) rfl ?_
  exact v_weak (wss (wss (wss wse))) (lX8_greatest_4 FU h)
theorem tX8_greatest {E : EE} {l : Launch} {v0 : Option Nat} {σ : Mem} {z : Int32 × Mem} (h : sX8_greatest v0 σ = some z) : Mt E l mX8_greatest [vr v0] σ (some (vi z.1), z.2) :=
  Mt.ofVL (by decide) (Nat.le_of_ble_eq_true rfl) (fun G hG => lX8_greatest h)
abbrev mX8_octet : MM := (yX8_octet, cX8_octet, 2, (Option.some Jvm.ClassFile.FieldType.int), 0, 0)
theorem dsX8_octet : DsOk yX8_octet 1 := ⟨by decide, by decide, by decide +kernel⟩
theorem lX8_octet {E : EE} {G : GG} {v0 : Option Nat} {v1 : Int32} {σ : Mem} {z : Int32 × Mem} (h : sX8_octet v0 v1 σ = some z) : V E mX8_octet G 0 [some (vr v0), some (vi v1)] [] σ (some (vi z.1), z.2) := by
  unfold sX8_octet at h
  refine v_al0 dX8_octet_0 ?_
  refine v_gR cok6 h dX8_octet_1 (by decide) q1406 rfl (fun x1 h => ?_)
  refine v_il1 dX8_octet_4 ?_
  refine v_aB h dX8_octet_5 (fun x2 h => ?_)
  refine v_sipush dX8_octet_6 rfl ?_
  refine v_iand dX8_octet_9 ?_
  exact v_retI h dX8_octet_10 rfl
theorem tX8_octet {E : EE} {l : Launch} {v0 : Option Nat} {v1 : Int32} {σ : Mem} {z : Int32 × Mem} (h : sX8_octet v0 v1 σ = some z) : Mt E l mX8_octet [vr v0, vi v1] σ (some (vi z.1), z.2) :=
  Mt.ofVL (by decide) (Nat.le_of_ble_eq_true rfl) (fun G hG => lX8_octet h)
abbrev mX8_check : MM := (yX8_check, cX8_check, 4, (Option.some Jvm.ClassFile.FieldType.int), 4, 85)
theorem dsX8_check : DsOk yX8_check 1 := ⟨by decide, by decide, by decide +kernel⟩
theorem lX8_check_63 {E : EE} {G : GG} {k33 : Option Nat → Int32 → Int32 → Int32 → Mem → Option (Int32 × Mem)} (hk33 : ∀ (v0 : Option Nat) (v1 : Int32) (v2 : Int32) (v3 : Int32) (s : Mem) (z : Int32 × Mem), k33 v0 v1 v2 v3 s = some z → V E mX8_check G 33 [some (vr v0), some (vi v1), some (vi v2), some (vi v3)] [] s (some (vi z.1), z.2)) {v0 : Option Nat} {v1 : Int32} {v2 : Int32} {v3 : Int32} {t0 : Int32} {t1 : Int32} {σ : Mem} {z : Int32 × Mem} (h : sX8_check_63 k33 v0 v1 v2 v3 t0 t1 σ = some z) : V E mX8_check G 63 [some (vr v0), some (vi v1), some (vi v2), some (vi v3)] [vi t1, vi t0] σ (some (vi z.1), z.2) := by
  unfold sX8_check_63 at h
  refine v_icmp_eq (tgt := 68) dX8_check_63 (by decide) (fun c => ?_) (fun c => ?_)
  · rw [if_pos c] at h
    refine v_iinc (L' := [some (vr v0), some (vi v1), some (vi v2), some (vi (v3 + iI 1))]) dX8_check_68 (Nat.le_of_ble_eq_true rfl) rfl rfl ?_
    refine v_goto (tgt := 33) dX8_check_71 (by decide) ?_
    exact v_weak (wss (wss (wss (wss wse)))) (hk33 _ _ _ _ _ _ h)
  · rw [if_neg c] at h
    refine v_il3 dX8_check_66 ?_
    exact v_retI h dX8_check_67 rfl
theorem lX8_check_33b {E : EE} {G : GG} {k33 : Option Nat → Int32 → Int32 → Int32 → Mem → Option (Int32 × Mem)} (hk33 : ∀ (v0 : Option Nat) (v1 : Int32) (v2 : Int32) (v3 : Int32) (s : Mem) (z : Int32 × Mem), k33 v0 v1 v2 v3 s = some z → V E mX8_check G 33 [some (vr v0), some (vi v1), some (vi v2), some (vi v3)] [] s (some (vi z.1), z.2)) {v0 : Option Nat} {v1 : Int32} {v2 : Int32} {v3 : Int32} {σ : Mem} {z : Int32 × Mem} (h : sX8_check_33b k33 v0 v1 v2 v3 σ = some z) : V E mX8_check G 33 [some (vr v0), some (vi v1), some (vi v2), some (vi v3)] [] σ (some (vi z.1), z.2) := by
  unfold sX8_check_33b at h
  refine v_il3 dX8_check_33 ?_
  refine v_il1 dX8_check_34 ?_
  refine v_icmp_ge (tgt := 74) dX8_check_35 (by decide) (fun c => ?_) (fun c => ?_)
  · rw [if_pos c] at h
    refine v_iconst dX8_check_74 ?_
    exact v_retI h dX8_check_75 rfl
  · rw [if_neg c] at h
    refine v_al0 dX8_check_38 ?_
    refine v_il3 dX8_check_39 ?_
    obtain ⟨b40, er, ka, h⟩ := cV_some h
    obtain ⟨x1, s2, h1, h⟩ := cl_some h
    refine v_callV1 cok6 (As := [vi v3]) er ka (tX8_octet h1) (lw_V q2058 q2060 qs154 q167 q2061) rfl dsX8_octet ⟨Nat.le_of_ble_eq_true rfl, Nat.le_of_ble_eq_true rfl⟩ (Nat.le_of_ble_eq_true rfl) dX8_check_40 rfl ?_
    refine v_il2 dX8_check_43 ?_
    refine v_iconst dX8_check_44 ?_
    refine v_icmp_ne (tgt := 54) dX8_check_45 (by decide) (fun c => ?_) (fun c => ?_)
    · rw [if_neg c] at h
      refine v_al0 dX8_check_54 ?_
      refine v_il2 dX8_check_55 ?_
      refine v_bipush dX8_check_56 rfl ?_
      refine v_il3 dX8_check_58 ?_
      refine v_iadd dX8_check_59 ?_
      obtain ⟨b60, er, ka, h⟩ := cV_some h
      obtain ⟨x3, s4, h1, h⟩ := cl_some h
      refine v_callV1 cok6 (As := [vi v2, vi ((iI 15) + v3)]) er ka (tX8_the h1) (lw_V q1385 q1387 qs60 q167 q1388) rfl dsX8_the ⟨Nat.le_of_ble_eq_true rfl, Nat.le_of_ble_eq_true rfl⟩ (Nat.le_of_ble_eq_true rfl) dX8_check_60 rfl ?_
      exact v_weak (wss (wss (wss (wss wse)))) (lX8_check_63 hk33 h)
    · rw [if_pos c] at h
      refine v_sipush dX8_check_48 rfl ?_
      refine v_goto (tgt := 63) dX8_check_51 (by decide) ?_
      exact v_weak (wss (wss (wss (wss wse)))) (lX8_check_63 hk33 h)
theorem lX8_check_33 {E : EE} {G : GG} : ∀ (f : Nat) {v0 : Option Nat} {v1 : Int32} {v2 : Int32} {v3 : Int32} {σ : Mem} {z : Int32 × Mem}, sX8_check_33 f v0 v1 v2 v3 σ = some z → V E mX8_check G 33 [some (vr v0), some (vi v1), some (vi v2), some (vi v3)] [] σ (some (vi z.1), z.2)
  | 0, _, _, _, _, _, _, h => by cases h
  | f + 1, _, _, _, _, _, _, h => lX8_check_33b (fun _ _ _ _ _ _ h => lX8_check_33 f h) h
theorem lX8_check {E : EE} {G : GG} {v0 : Option Nat} {v1 : Int32} {σ : Mem} {z : Int32 × Mem} (h : sX8_check v0 v1 σ = some z) : V E mX8_check G 0 [some (vr v0), some (vi v1), none, none] [] σ (some (vi z.1), z.2) := by
  unfold sX8_check at h
  refine v_il1 dX8_check_0 ?_
  refine v_iconst dX8_check_1 ?_
  refine v_bipush dX8_check_2 rfl ?_
  obtain ⟨x1, s2, h1, h⟩ := cl_some h
  refine v_callS1 (As := [vi v1, vi (iI 0), vi (iI 8)]) (tX8_in h1) (lw_S q1549 q1550 q167 q1551) dsX8_in ⟨Nat.le_of_ble_eq_true rfl, Nat.le_of_ble_eq_true rfl⟩ (Nat.le_of_ble_eq_true rfl) dX8_check_4 rfl ?_
  refine v_if_eq (tgt := 18) dX8_check_7 (by decide) (fun c => ?_) (fun c => ?_)
  · rw [if_pos c] at h
    refine v_bipush dX8_check_18 rfl ?_
    exact v_retI h dX8_check_20 rfl
  · rw [if_neg c] at h
    refine v_il1 dX8_check_10 ?_
    refine v_al0 dX8_check_11 ?_
    refine v_gI cok6 h dX8_check_12 (by decide) q1407 rfl (fun x3 h => ?_)
    refine v_icmp_le (tgt := 21) dX8_check_15 (by decide) (fun c => ?_) (fun c => ?_)
    · rw [if_pos c] at h
      refine v_al0 dX8_check_21 ?_
      refine v_iconst dX8_check_22 ?_
      refine v_pI cok6 h dX8_check_23 (by decide) q1407 rfl rfl (fun s4 h => ?_)
      refine v_al0 dX8_check_26 ?_
      obtain ⟨b27, er, ka, h⟩ := cV_some h
      obtain ⟨x5, s6, h1, h⟩ := cl_some h
      refine v_callV1 cok6 (As := []) er ka (tX8_greatest h1) (lw_V q2054 q2056 qs153 q167 q2057) rfl dsX8_greatest ⟨Nat.le_of_ble_eq_true rfl, Nat.le_of_ble_eq_true rfl⟩ (Nat.le_of_ble_eq_true rfl) dX8_check_27 rfl ?_
      refine v_istore_n (L' := [some (vr v0), some (vi v1), some (vi x5), none]) dX8_check_30 (Nat.le_of_ble_eq_true rfl) (Nat.le_of_ble_eq_true rfl) rfl ?_
      refine v_iconst dX8_check_31 ?_
      refine v_istore_n (L' := [some (vr v0), some (vi v1), some (vi x5), some (vi (iI 0))]) dX8_check_32 (Nat.le_of_ble_eq_true rfl) (Nat.le_of_ble_eq_true rfl) rfl ?_
      exact v_weak (wss (wss (wss (wss wse)))) (lX8_check_33 FU h)
    · rw [if_neg c] at h
      refine v_bipush dX8_check_18 rfl ?_
      exact v_retI h dX8_check_20 rfl
theorem tX8_check {E : EE} {l : Launch} {v0 : Option Nat} {v1 : Int32} {σ : Mem} {z : Int32 × Mem} (h : sX8_check v0 v1 σ = some z) : Mt E l mX8_check [vr v0, vi v1] σ (some (vi z.1), z.2) :=
  Mt.ofVL (by decide) (Nat.le_of_ble_eq_true rfl) (fun G hG => lX8_check h)
abbrev mX8_upSet : MM := (yX8_upSet, cX8_upSet, 3, (Option.some Jvm.ClassFile.FieldType.int), 3, 63)
theorem dsX8_upSet : DsOk yX8_upSet 0 := ⟨by decide, by decide, by decide +kernel⟩
theorem lX8_upSet_24 {E : EE} {G : GG} {k4 : Option Nat → Int32 → Int32 → Mem → Option (Int32 × Mem)} (hk4 : ∀ (v0 : Option Nat) (v1 : Int32) (v2 : Int32) (s : Mem) (z : Int32 × Mem), k4 v0 v1 v2 s = some z → V E mX8_upSet G 4 [some (vr v0), some (vi v1), some (vi v2)] [] s (some (vi z.1), z.2)) {v0 : Option Nat} {v1 : Int32} {v2 : Int32} {σ : Mem} {z : Int32 × Mem} (h : sX8_upSet_24 k4 v0 v1 v2 σ = some z) : V E mX8_upSet G 24 [some (vr v0), some (vi v1), some (vi v2)] [] σ (some (vi z.1), z.2) := by
  unfold sX8_upSet_24 at h
  refine v_iinc (L' := [some (vr v0), some (vi v1), some (vi (v2 + iI 1))]) dX8_upSet_24 (Nat.le_of_ble_eq_true rfl) rfl rfl ?_
  refine v_goto (tgt := 4) dX8_upSet_27 (by decide) ?_
  exact v_weak (wss (wss (wss wse))) (hk4 _ _ _ _ _ h)
theorem lX8_upSet_4b {E : EE} {G : GG} {k4 : Option Nat → Int32 → Int32 → Mem → Option (Int32 × Mem)} (hk4 : ∀ (v0 : Option Nat) (v1 : Int32) (v2 : Int32) (s : Mem) (z : Int32 × Mem), k4 v0 v1 v2 s = some z → V E mX8_upSet G 4 [some (vr v0), some (vi v1), some (vi v2)] [] s (some (vi z.1), z.2)) {v0 : Option Nat} {v1 : Int32} {v2 : Int32} {σ : Mem} {z : Int32 × Mem} (h : sX8_upSet_4b k4 v0 v1 v2 σ = some z) : V E mX8_upSet G 4 [some (vr v0), some (vi v1), some (vi v2)] [] σ (some (vi z.1), z.2) := by
  unfold sX8_upSet_4b at h
  refine v_il2 dX8_upSet_4 ?_
  refine v_bipush dX8_upSet_5 rfl ?_
  refine v_icmp_ge (tgt := 30) dX8_upSet_7 (by decide) (fun c => ?_) (fun c => ?_)
  · rw [if_pos c] at h
    refine v_il1 dX8_upSet_30 ?_
    exact v_retI h dX8_upSet_31 rfl
  · rw [if_neg c] at h
    refine v_al0 dX8_upSet_10 ?_
    refine v_il2 dX8_upSet_11 ?_
    obtain ⟨b12, er, ka, h⟩ := cV_some h
    obtain ⟨x1, s2, h1, h⟩ := cl_some h
    refine v_callV1 cok6 (As := [vi v2]) er ka (tX8_isUp h1) (lw_V q1658 q1660 qs88 q167 q1661) rfl dsX8_isUp ⟨Nat.le_of_ble_eq_true rfl, Nat.le_of_ble_eq_true rfl⟩ (Nat.le_of_ble_eq_true rfl) dX8_upSet_12 rfl ?_
    refine v_if_eq (tgt := 24) dX8_upSet_15 (by decide) (fun c => ?_) (fun c => ?_)
    · rw [if_pos c] at h
      exact v_weak (wss (wss (wss wse))) (lX8_upSet_24 hk4 h)
    · rw [if_neg c] at h
      refine v_il1 dX8_upSet_18 ?_
      refine v_iconst dX8_upSet_19 ?_
      refine v_il2 dX8_upSet_20 ?_
      refine v_ishl dX8_upSet_21 ?_
      refine v_ior dX8_upSet_22 ?_
      refine v_istore_n (L' := [some (vr v0), some (vi (v1 ||| ((iI 1) <<< (v2 &&& 31)))), some (vi v2)]) dX8_upSet_23 (Nat.le_of_ble_eq_true rfl) (Nat.le_of_ble_eq_true rfl) rfl ?_
      exact v_weak (wss (wss (wss wse))) (lX8_upSet_24 hk4 h)
theorem lX8_upSet_4 {E : EE} {G : GG} : ∀ (f : Nat) {v0 : Option Nat} {v1 : Int32} {v2 : Int32} {σ : Mem} {z : Int32 × Mem}, sX8_upSet_4 f v0 v1 v2 σ = some z → V E mX8_upSet G 4 [some (vr v0), some (vi v1), some (vi v2)] [] σ (some (vi z.1), z.2)
  | 0, _, _, _, _, _, h => by cases h
  | f + 1, _, _, _, _, _, h => lX8_upSet_4b (fun _ _ _ _ _ h => lX8_upSet_4 f h) h
theorem lX8_upSet {E : EE} {G : GG} {v0 : Option Nat} {σ : Mem} {z : Int32 × Mem} (h : sX8_upSet v0 σ = some z) : V E mX8_upSet G 0 [some (vr v0), none, none] [] σ (some (vi z.1), z.2) := by
  unfold sX8_upSet at h
  refine v_iconst dX8_upSet_0 ?_
  refine v_istore_n (L' := [some (vr v0), some (vi (iI 0)), none]) dX8_upSet_1 (Nat.le_of_ble_eq_true rfl) (Nat.le_of_ble_eq_true rfl) rfl ?_
  refine v_iconst dX8_upSet_2 ?_
  refine v_istore_n (L' := [some (vr v0), some (vi (iI 0)), some (vi (iI 0))]) dX8_upSet_3 (Nat.le_of_ble_eq_true rfl) (Nat.le_of_ble_eq_true rfl) rfl ?_
  exact v_weak (wss (wss (wss wse))) (lX8_upSet_4 FU h)
theorem tX8_upSet {E : EE} {l : Launch} {v0 : Option Nat} {σ : Mem} {z : Int32 × Mem} (h : sX8_upSet v0 σ = some z) : Mt E l mX8_upSet [vr v0] σ (some (vi z.1), z.2) :=
  Mt.ofVL (by decide) (Nat.le_of_ble_eq_true rfl) (fun G hG => lX8_upSet h)
abbrev mX8_cutMany : MM := (yX8_cutMany, cX8_cutMany, 3, (Option.some Jvm.ClassFile.FieldType.int), 1, 22)
theorem dsX8_cutMany : DsOk yX8_cutMany 0 := ⟨by decide, by decide, by decide +kernel⟩
theorem lX8_cutMany_4b {E : EE} {G : GG} {k4 : Option Nat → Int32 → Int32 → Mem → Option (Int32 × Mem)} (hk4 : ∀ (v0 : Option Nat) (v1 : Int32) (v2 : Int32) (s : Mem) (z : Int32 × Mem), k4 v0 v1 v2 s = some z → V E mX8_cutMany G 4 [some (vr v0), some (vi v1), some (vi v2)] [] s (some (vi z.1), z.2)) {v0 : Option Nat} {v1 : Int32} {v2 : Int32} {σ : Mem} {z : Int32 × Mem} (h : sX8_cutMany_4b k4 v0 v1 v2 σ = some z) : V E mX8_cutMany G 4 [some (vr v0), some (vi v1), some (vi v2)] [] σ (some (vi z.1), z.2) := by
  unfold sX8_cutMany_4b at h
  refine v_il2 dX8_cutMany_4 ?_
  refine v_bipush dX8_cutMany_5 rfl ?_
  refine v_icmp_ge (tgt := 32) dX8_cutMany_7 (by decide) (fun c => ?_) (fun c => ?_)
  · rw [if_pos c] at h
    refine v_il1 dX8_cutMany_32 ?_
    refine v_iconst dX8_cutMany_33 ?_
    obtain ⟨hne, h⟩ := dv_some h
    refine v_idiv dX8_cutMany_34 hne ?_
    generalize v1 / (iI 2) = x1 at h ⊢
    exact v_retI h dX8_cutMany_35 rfl
  · rw [if_neg c] at h
    refine v_il1 dX8_cutMany_10 ?_
    refine v_al0 dX8_cutMany_11 ?_
    refine v_gR cok6 h dX8_cutMany_12 (by decide) q1401 rfl (fun x2 h => ?_)
    refine v_sipush dX8_cutMany_15 rfl ?_
    refine v_il2 dX8_cutMany_18 ?_
    refine v_iadd dX8_cutMany_19 ?_
    refine v_aI h dX8_cutMany_20 (fun x3 h => ?_)
    obtain ⟨x4, s5, h1, h⟩ := cl_some h
    refine v_callS1 (As := [vi x3]) (tX8_bits h1) (lw_S q1744 q1745 q167 q1746) dsX8_bits ⟨Nat.le_of_ble_eq_true rfl, Nat.le_of_ble_eq_true rfl⟩ (Nat.le_of_ble_eq_true rfl) dX8_cutMany_21 rfl ?_
    refine v_iadd dX8_cutMany_24 ?_
    refine v_istore_n (L' := [some (vr v0), some (vi (v1 + x4)), some (vi v2)]) dX8_cutMany_25 (Nat.le_of_ble_eq_true rfl) (Nat.le_of_ble_eq_true rfl) rfl ?_
    refine v_iinc (L' := [some (vr v0), some (vi (v1 + x4)), some (vi (v2 + iI 1))]) dX8_cutMany_26 (Nat.le_of_ble_eq_true rfl) rfl rfl ?_
    refine v_goto (tgt := 4) dX8_cutMany_29 (by decide) ?_
    exact v_weak (wss (wss (wss wse))) (hk4 _ _ _ _ _ h)
theorem lX8_cutMany_4 {E : EE} {G : GG} : ∀ (f : Nat) {v0 : Option Nat} {v1 : Int32} {v2 : Int32} {σ : Mem} {z : Int32 × Mem}, sX8_cutMany_4 f v0 v1 v2 σ = some z → V E mX8_cutMany G 4 [some (vr v0), some (vi v1), some (vi v2)] [] σ (some (vi z.1), z.2)
  | 0, _, _, _, _, _, h => by cases h
  | f + 1, _, _, _, _, _, h => lX8_cutMany_4b (fun _ _ _ _ _ h => lX8_cutMany_4 f h) h
theorem lX8_cutMany {E : EE} {G : GG} {v0 : Option Nat} {σ : Mem} {z : Int32 × Mem} (h : sX8_cutMany v0 σ = some z) : V E mX8_cutMany G 0 [some (vr v0), none, none] [] σ (some (vi z.1), z.2) := by
  unfold sX8_cutMany at h
  refine v_iconst dX8_cutMany_0 ?_
  refine v_istore_n (L' := [some (vr v0), some (vi (iI 0)), none]) dX8_cutMany_1 (Nat.le_of_ble_eq_true rfl) (Nat.le_of_ble_eq_true rfl) rfl ?_
  refine v_iconst dX8_cutMany_2 ?_
  refine v_istore_n (L' := [some (vr v0), some (vi (iI 0)), some (vi (iI 0))]) dX8_cutMany_3 (Nat.le_of_ble_eq_true rfl) (Nat.le_of_ble_eq_true rfl) rfl ?_
  exact v_weak (wss (wss (wss wse))) (lX8_cutMany_4 FU h)
theorem tX8_cutMany {E : EE} {l : Launch} {v0 : Option Nat} {σ : Mem} {z : Int32 × Mem} (h : sX8_cutMany v0 σ = some z) : Mt E l mX8_cutMany [vr v0] σ (some (vi z.1), z.2) :=
  Mt.ofVL (by decide) (Nat.le_of_ble_eq_true rfl) (fun G hG => lX8_cutMany h)
abbrev mX8_count : MM := (yX8_count, cX8_count, 2, (Option.some Jvm.ClassFile.FieldType.int), 4, 85)
theorem dsX8_count : DsOk yX8_count 1 := ⟨by decide, by decide, by decide +kernel⟩
theorem lX8_count {E : EE} {G : GG} {v0 : Option Nat} {v1 : Int32} {σ : Mem} {z : Int32 × Mem} (h : sX8_count v0 v1 σ = some z) : V E mX8_count G 0 [some (vr v0), some (vi v1)] [] σ (some (vi z.1), z.2) := by
  unfold sX8_count at h
  refine v_il1 dX8_count_0 ?_
  by_cases c0 : v1 = iI 0
  · rw [if_pos c0] at h
    refine v_tabIn (tgt := 56) dX8_count_1 (by rw [c0]; decide) (by rw [c0]; decide) (by rw [c0]; rfl) (by decide) ?_
    refine v_al0 dX8_count_56 ?_
    refine v_gR cok6 h dX8_count_57 (by decide) q1401 rfl (fun x1 h => ?_)
    refine v_sipush dX8_count_60 rfl ?_
    refine v_aI h dX8_count_63 (fun x2 h => ?_)
    exact v_retI h dX8_count_64 rfl
  · rw [if_neg c0] at h
    by_cases c1 : v1 = iI 1
    · rw [if_pos c1] at h
      refine v_tabIn (tgt := 65) dX8_count_1 (by rw [c1]; decide) (by rw [c1]; decide) (by rw [c1]; rfl) (by decide) ?_
      refine v_al0 dX8_count_65 ?_
      obtain ⟨b66, er, ka, h⟩ := cV_some h
      obtain ⟨x3, s4, h1, h⟩ := cl_some h
      refine v_callV1 cok6 (As := []) er ka (tX8_upSet h1) (lw_V q2066 q2068 qs155 q167 q2069) rfl dsX8_upSet ⟨Nat.le_of_ble_eq_true rfl, Nat.le_of_ble_eq_true rfl⟩ (Nat.le_of_ble_eq_true rfl) dX8_count_66 rfl ?_
      exact v_retI h dX8_count_69 rfl
    · rw [if_neg c1] at h
      by_cases c2 : v1 = iI 2
      · rw [if_pos c2] at h
        refine v_tabIn (tgt := 70) dX8_count_1 (by rw [c2]; decide) (by rw [c2]; decide) (by rw [c2]; rfl) (by decide) ?_
        refine v_al0 dX8_count_70 ?_
        refine v_gR cok6 h dX8_count_71 (by decide) q1401 rfl (fun x5 h => ?_)
        refine v_sipush dX8_count_74 rfl ?_
        refine v_aI h dX8_count_77 (fun x6 h => ?_)
        exact v_retI h dX8_count_78 rfl
      · rw [if_neg c2] at h
        by_cases c3 : v1 = iI 3
        · rw [if_pos c3] at h
          refine v_tabIn (tgt := 79) dX8_count_1 (by rw [c3]; decide) (by rw [c3]; decide) (by rw [c3]; rfl) (by decide) ?_
          refine v_al0 dX8_count_79 ?_
          refine v_gR cok6 h dX8_count_80 (by decide) q1401 rfl (fun x7 h => ?_)
          refine v_sipush dX8_count_83 rfl ?_
          refine v_aI h dX8_count_86 (fun x8 h => ?_)
          exact v_retI h dX8_count_87 rfl
        · rw [if_neg c3] at h
          by_cases c4 : v1 = iI 4
          · rw [if_pos c4] at h
            refine v_tabIn (tgt := 88) dX8_count_1 (by rw [c4]; decide) (by rw [c4]; decide) (by rw [c4]; rfl) (by decide) ?_
            refine v_al0 dX8_count_88 ?_
            refine v_gI cok6 h dX8_count_89 (by decide) q1416 rfl (fun x9 h => ?_)
            exact v_retI h dX8_count_92 rfl
          · rw [if_neg c4] at h
            by_cases c5 : v1 = iI 5
            · rw [if_pos c5] at h
              refine v_tabIn (tgt := 93) dX8_count_1 (by rw [c5]; decide) (by rw [c5]; decide) (by rw [c5]; rfl) (by decide) ?_
              refine v_al0 dX8_count_93 ?_
              refine v_gI cok6 h dX8_count_94 (by decide) q1407 rfl (fun x10 h => ?_)
              exact v_retI h dX8_count_97 rfl
            · rw [if_neg c5] at h
              by_cases c6 : v1 = iI 6
              · rw [if_pos c6] at h
                refine v_tabIn (tgt := 98) dX8_count_1 (by rw [c6]; decide) (by rw [c6]; decide) (by rw [c6]; rfl) (by decide) ?_
                refine v_al0 dX8_count_98 ?_
                refine v_gR cok6 h dX8_count_99 (by decide) q1401 rfl (fun x11 h => ?_)
                refine v_sipush dX8_count_102 rfl ?_
                refine v_aI h dX8_count_105 (fun x12 h => ?_)
                exact v_retI h dX8_count_106 rfl
              · rw [if_neg c6] at h
                by_cases c7 : v1 = iI 7
                · rw [if_pos c7] at h
                  refine v_tabIn (tgt := 107) dX8_count_1 (by rw [c7]; decide) (by rw [c7]; decide) (by rw [c7]; rfl) (by decide) ?_
                  refine v_al0 dX8_count_107 ?_
                  refine v_gR cok6 h dX8_count_108 (by decide) q1401 rfl (fun x13 h => ?_)
                  refine v_sipush dX8_count_111 rfl ?_
                  refine v_aI h dX8_count_114 (fun x14 h => ?_)
                  exact v_retI h dX8_count_115 rfl
                · rw [if_neg c7] at h
                  by_cases c8 : v1 = iI 8
                  · rw [if_pos c8] at h
                    refine v_tabIn (tgt := 116) dX8_count_1 (by rw [c8]; decide) (by rw [c8]; decide) (by rw [c8]; rfl) (by decide) ?_
                    refine v_al0 dX8_count_116 ?_
                    refine v_gR cok6 h dX8_count_117 (by decide) q1401 rfl (fun x15 h => ?_)
                    refine v_sipush dX8_count_120 rfl ?_
                    refine v_aI h dX8_count_123 (fun x16 h => ?_)
                    exact v_retI h dX8_count_124 rfl
                  · rw [if_neg c8] at h
                    by_cases c9 : v1 = iI 9
                    · rw [if_pos c9] at h
                      refine v_tabIn (tgt := 125) dX8_count_1 (by rw [c9]; decide) (by rw [c9]; decide) (by rw [c9]; rfl) (by decide) ?_
                      refine v_al0 dX8_count_125 ?_
                      obtain ⟨b126, er, ka, h⟩ := cV_some h
                      obtain ⟨x17, s18, h1, h⟩ := cl_some h
                      refine v_callV1 cok6 (As := []) er ka (tX8_cutMany h1) (lw_V q2070 q2072 qs156 q167 q2073) rfl dsX8_cutMany ⟨Nat.le_of_ble_eq_true rfl, Nat.le_of_ble_eq_true rfl⟩ (Nat.le_of_ble_eq_true rfl) dX8_count_126 rfl ?_
                      exact v_retI h dX8_count_129 rfl
                    · rw [if_neg c9] at h
                      refine v_tabOut (tgt := 130) dX8_count_1 (tab_out (fun j h1 h2 => ?_) (by decide) (by decide)) (by decide) ?_
                      · rcases (show j = 0 ∨ j = 1 ∨ j = 2 ∨ j = 3 ∨ j = 4 ∨ j = 5 ∨ j = 6 ∨ j = 7 ∨ j = 8 ∨ j = 9 by omega) with rfl | rfl | rfl | rfl | rfl | rfl | rfl | rfl | rfl | rfl
                        · exact c0
                        · exact c1
                        · exact c2
                        · exact c3
                        · exact c4
                        · exact c5
                        · exact c6
                        · exact c7
                        · exact c8
                        · exact c9
                      refine v_iconst dX8_count_130 ?_
                      exact v_retI h dX8_count_131 rfl
theorem tX8_count {E : EE} {l : Launch} {v0 : Option Nat} {v1 : Int32} {σ : Mem} {z : Int32 × Mem} (h : sX8_count v0 v1 σ = some z) : Mt E l mX8_count [vr v0, vi v1] σ (some (vi z.1), z.2) :=
  Mt.ofVL (by decide) (Nat.le_of_ble_eq_true rfl) (fun G hG => lX8_count h)
