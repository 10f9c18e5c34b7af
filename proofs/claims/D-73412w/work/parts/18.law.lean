/-! THE LAW's own rows: the script -/
section VL
variable {E : EE} {M : MM} {G : GG} {pc : Nat} {L : List (Option AV)} {st : List AV} {σ : Mem} {res : Option AV × Mem} {β : Type} {z : β}
theorem v_scL {b sn : Nat} {xs : Nat → Int32} (hX : va_X b sn xs (gS G) (eH E)) (hb : b < eB E) (hd : decode M.2.1 pc = .ok (.arraylength, 1)) (kk : V E M G (pc + 1) L (vi (Int32.ofNat sn) :: st) σ res) : V E M G pc L (vw b :: st) σ res := by
  obtain ⟨p, l, e, R, s, m, args, below, meth, c⟩ := G
  intro g H locs ls hH hq hl'
  obtain ⟨scr, h1, h2, h3, h4, h5⟩ := hX
  exact W.alen (n := Int32.ofNat sn) g.1 g.2.1 (by rw [hH.2.2.1 b hb]; exact h1) h2 (by rw [h4] <;> rfl) rfl rfl hd (kk g H locs ls hH hq hl')
theorem v_scI {b sn : Nat} {xs : Nat → Int32} (hX : va_X b sn xs (gS G) (eH E)) (hb : b < eB E) {i : Int32} {f : Int32 → Option β} (hg : scI sn xs i f = some z) (hd : decode M.2.1 pc = .ok (.iaload, 1)) (kk : ∀ x : Int32, f x = some z → V E M G (pc + 1) L (vi x :: st) σ res) : V E M G pc L (vi i :: vw b :: st) σ res := by
  obtain ⟨p, l, e, R, s, m, args, below, meth, c⟩ := G
  intro g H locs ls hH hq hl'
  unfold scI at hg
  split at hg
  case isFalse => cases hg
  rename_i hin
  obtain ⟨scr, h1, h2, h3, h4, h5⟩ := hX
  exact W.iald (v := .int (xs (ix i))) g.1 g.2.1 (by rw [hH.2.2.1 b hb]; exact h1) h2 h3 (by rw [h4]; exact inR_not hin) (h5 _ (inR_lt hin)) rfl rfl hd (kk _ hg g H locs ls hH hq hl')
end VL
set_option maxRecDepth 100000
abbrev mL_law : MM := (x, code, 4, ret, 8192, 100000)
theorem lL_law_1074 {E : EE} {G : GG} {b : Nat} {sn : Nat} {xs : Nat → Int32} (hX : va_X b sn xs (gS G) (eH E)) (hb : b < eB E) {k18 : Option Nat → Option Nat → Int32 → Mem → Option (Int32 × Mem)} (hk18 : ∀ (v1 : Option Nat) (v2 : Option Nat) (v3 : Int32) (s : Mem) (z : Int32 × Mem), k18 v1 v2 v3 s = some z → V E mL_law G 18 [some (vw b), some (vr v1), some (vr v2), some (vi v3)] [] s (some (vi z.1), z.2)) {v1 : Option Nat} {v2 : Option Nat} {v3 : Int32} {σ : Mem} {z : Int32 × Mem} (h : sL_law_1074 sn xs k18 v1 v2 v3 σ = some z) : V E mL_law G 1074 [some (vw b), some (vr v1), some (vr v2), some (vi v3)] [] σ (some (vi z.1), z.2) := by
  unfold sL_law_1074 at h
  refine v_iinc (L' := [some (vw b), some (vr v1), some (vr v2), some (vi (v3 + iI 6))]) dL_law_1074 (Nat.le_of_ble_eq_true rfl) rfl rfl ?_
  refine v_goto (tgt := 18) dL_law_1077 (by decide) ?_
  exact v_weak (wss (wss (wss (wss wse)))) (hk18 _ _ _ _ _ h)
theorem lL_law_288 {E : EE} {G : GG} {b : Nat} {sn : Nat} {xs : Nat → Int32} (hX : va_X b sn xs (gS G) (eH E)) (hb : b < eB E) {k18 : Option Nat → Option Nat → Int32 → Mem → Option (Int32 × Mem)} (hk18 : ∀ (v1 : Option Nat) (v2 : Option Nat) (v3 : Int32) (s : Mem) (z : Int32 × Mem), k18 v1 v2 v3 s = some z → V E mL_law G 18 [some (vw b), some (vr v1), some (vr v2), some (vi v3)] [] s (some (vi z.1), z.2)) {v1 : Option Nat} {v2 : Option Nat} {v3 : Int32} {t0 : Int32} {t1 : Option Nat} {t2 : Int32} {t3 : Int32} {t4 : Int32} {σ : Mem} {z : Int32 × Mem} (h : sL_law_288 sn xs k18 v1 v2 v3 t0 t1 t2 t3 t4 σ = some z) : V E mL_law G 288 [some (vw b), some (vr v1), some (vr v2), some (vi v3)] [vi t4, vi t3, vi t2, vr t1, vi t0] σ (some (vi z.1), z.2) := by
  unfold sL_law_288 at h
  obtain ⟨b288, er, ka, h⟩ := cV_some h
  obtain ⟨x1, s2, h1, h⟩ := cl_some h
  refine v_callV1 cok6 (As := [vi t2, vi t3, vi t4]) er ka (tX8_cut h1) (lw_V q1886 q1887 q1888 q167 q1889) rfl dsX8_cut ⟨Nat.le_of_ble_eq_true rfl, Nat.le_of_ble_eq_true rfl⟩ (Nat.le_of_ble_eq_true rfl) dL_law_288 rfl ?_
  refine v_icmp_eq (tgt := 1074) dL_law_291 (by decide) (fun c => ?_) (fun c => ?_)
  · rw [if_pos c] at h
    exact v_weak (wss (wss (wss (wss wse)))) (lL_law_1074 hX hb hk18 h)
  · rw [if_neg c] at h
    refine v_iconst dL_law_294 ?_
    exact v_retZ h dL_law_295 rfl
theorem lL_law_261 {E : EE} {G : GG} {b : Nat} {sn : Nat} {xs : Nat → Int32} (hX : va_X b sn xs (gS G) (eH E)) (hb : b < eB E) {k18 : Option Nat → Option Nat → Int32 → Mem → Option (Int32 × Mem)} (hk18 : ∀ (v1 : Option Nat) (v2 : Option Nat) (v3 : Int32) (s : Mem) (z : Int32 × Mem), k18 v1 v2 v3 s = some z → V E mL_law G 18 [some (vw b), some (vr v1), some (vr v2), some (vi v3)] [] s (some (vi z.1), z.2)) {v1 : Option Nat} {v2 : Option Nat} {v3 : Int32} {t0 : Option Nat} {t1 : Int32} {t2 : Int32} {t3 : Int32} {σ : Mem} {z : Int32 × Mem} (h : sL_law_261 sn xs k18 v1 v2 v3 t0 t1 t2 t3 σ = some z) : V E mL_law G 261 [some (vw b), some (vr v1), some (vr v2), some (vi v3)] [vi t3, vi t2, vi t1, vr t0] σ (some (vi z.1), z.2) := by
  unfold sL_law_261 at h
  obtain ⟨b261, er, ka, h⟩ := cV_some h
  obtain ⟨x1, s2, h1, h⟩ := cl_some h
  refine v_callV1 cok0 (As := [vi t1, vi t2, vi t3]) er ka (tX0_cut h1) (lw_V q595 q596 q597 q158 q598) rfl dsX0_cut ⟨Nat.le_of_ble_eq_true rfl, Nat.le_of_ble_eq_true rfl⟩ (Nat.le_of_ble_eq_true rfl) dL_law_261 rfl ?_
  refine v_al2 dL_law_264 ?_
  refine v_aload_w dL_law_265 rfl ?_
  refine v_il3 dL_law_266 ?_
  refine v_iconst dL_law_267 ?_
  refine v_iadd dL_law_268 ?_
  refine v_scI hX hb h dL_law_269 (fun x3 h => ?_)
  refine v_aload_w dL_law_270 rfl ?_
  refine v_il3 dL_law_271 ?_
  refine v_iconst dL_law_272 ?_
  refine v_iadd dL_law_273 ?_
  refine v_scI hX hb h dL_law_274 (fun x4 h => ?_)
  refine v_aload_w dL_law_275 rfl ?_
  refine v_il3 dL_law_276 ?_
  refine v_iconst dL_law_277 ?_
  refine v_iadd dL_law_278 ?_
  refine v_scI hX hb h dL_law_279 (fun x5 h => ?_)
  refine v_if_eq (tgt := 287) dL_law_280 (by decide) (fun c => ?_) (fun c => ?_)
  · rw [if_pos c] at h
    refine v_iconst dL_law_287 ?_
    exact v_weak (wss (wss (wss (wss wse)))) (lL_law_288 hX hb hk18 h)
  · rw [if_neg c] at h
    refine v_iconst dL_law_283 ?_
    refine v_goto (tgt := 288) dL_law_284 (by decide) ?_
    exact v_weak (wss (wss (wss (wss wse)))) (lL_law_288 hX hb hk18 h)
theorem lL_law_18b {E : EE} {G : GG} {b : Nat} {sn : Nat} {xs : Nat → Int32} (hX : va_X b sn xs (gS G) (eH E)) (hb : b < eB E) {k18 : Option Nat → Option Nat → Int32 → Mem → Option (Int32 × Mem)} (hk18 : ∀ (v1 : Option Nat) (v2 : Option Nat) (v3 : Int32) (s : Mem) (z : Int32 × Mem), k18 v1 v2 v3 s = some z → V E mL_law G 18 [some (vw b), some (vr v1), some (vr v2), some (vi v3)] [] s (some (vi z.1), z.2)) {v1 : Option Nat} {v2 : Option Nat} {v3 : Int32} {σ : Mem} {z : Int32 × Mem} (h : sL_law_18b sn xs k18 v1 v2 v3 σ = some z) : V E mL_law G 18 [some (vw b), some (vr v1), some (vr v2), some (vi v3)] [] σ (some (vi z.1), z.2) := by
  unfold sL_law_18b at h
  refine v_il3 dL_law_18 ?_
  refine v_aload_w dL_law_19 rfl ?_
  refine v_scL hX hb dL_law_20 ?_
  refine v_bipush dL_law_21 rfl ?_
  refine v_isub dL_law_23 ?_
  refine v_icmp_gt (tgt := 1080) dL_law_24 (by decide) (fun c => ?_) (fun c => ?_)
  · rw [if_pos c] at h
    refine v_iconst dL_law_1080 ?_
    exact v_retZ h dL_law_1081 rfl
  · rw [if_neg c] at h
    refine v_aload_w dL_law_27 rfl ?_
    refine v_il3 dL_law_28 ?_
    refine v_scI hX hb h dL_law_29 (fun x1 h => ?_)
    refine v_bipush dL_law_30 rfl ?_
    refine v_iand dL_law_32 ?_
    by_cases c0 : (x1 &&& (iI 31)) = iI 0
    · rw [if_pos c0] at h
      refine v_tabIn (tgt := 168) dL_law_33 (by rw [c0]; decide) (by rw [c0]; decide) (by rw [c0]; rfl) (by decide) ?_
      refine v_al1 dL_law_168 ?_
      refine v_aload_w dL_law_169 rfl ?_
      refine v_il3 dL_law_170 ?_
      refine v_iconst dL_law_171 ?_
      refine v_iadd dL_law_172 ?_
      refine v_scI hX hb h dL_law_173 (fun x2 h => ?_)
      obtain ⟨b174, er, ka, h⟩ := cV_some h
      obtain ⟨x3, s4, h1, h⟩ := cl_some h
      refine v_callV1 cok0 (As := [vi x2]) er ka (tX0_found h1) (lw_V q568 q569 q570 q158 q571) rfl dsX0_found ⟨Nat.le_of_ble_eq_true rfl, Nat.le_of_ble_eq_true rfl⟩ (Nat.le_of_ble_eq_true rfl) dL_law_174 rfl ?_
      refine v_al2 dL_law_177 ?_
      refine v_aload_w dL_law_178 rfl ?_
      refine v_il3 dL_law_179 ?_
      refine v_iconst dL_law_180 ?_
      refine v_iadd dL_law_181 ?_
      refine v_scI hX hb h dL_law_182 (fun x5 h => ?_)
      obtain ⟨b183, er, ka, h⟩ := cV_some h
      obtain ⟨x6, s7, h1, h⟩ := cl_some h
      refine v_callV1 cok6 (As := [vi x5]) er ka (tX8_found h1) (lw_V q1874 q1875 q1876 q167 q1877) rfl dsX8_found ⟨Nat.le_of_ble_eq_true rfl, Nat.le_of_ble_eq_true rfl⟩ (Nat.le_of_ble_eq_true rfl) dL_law_183 rfl ?_
      refine v_icmp_eq (tgt := 1074) dL_law_186 (by decide) (fun c => ?_) (fun c => ?_)
      · rw [if_pos c] at h
        exact v_weak (wss (wss (wss (wss wse)))) (lL_law_1074 hX hb hk18 h)
      · rw [if_neg c] at h
        refine v_iconst dL_law_189 ?_
        exact v_retZ h dL_law_190 rfl
    · rw [if_neg c0] at h
      by_cases c1 : (x1 &&& (iI 31)) = iI 1
      · rw [if_pos c1] at h
        refine v_tabIn (tgt := 191) dL_law_33 (by rw [c1]; decide) (by rw [c1]; decide) (by rw [c1]; rfl) (by decide) ?_
        refine v_al1 dL_law_191 ?_
        refine v_aload_w dL_law_192 rfl ?_
        refine v_il3 dL_law_193 ?_
        refine v_iconst dL_law_194 ?_
        refine v_iadd dL_law_195 ?_
        refine v_scI hX hb h dL_law_196 (fun x8 h => ?_)
        obtain ⟨b197, er, ka, h⟩ := cV_some h
        obtain ⟨x9, s10, h1, h⟩ := cl_some h
        refine v_callV1 cok0 (As := [vi x8]) er ka (tX0_crash h1) (lw_V q575 q576 q577 q158 q578) rfl dsX0_crash ⟨Nat.le_of_ble_eq_true rfl, Nat.le_of_ble_eq_true rfl⟩ (Nat.le_of_ble_eq_true rfl) dL_law_197 rfl ?_
        refine v_al2 dL_law_200 ?_
        refine v_aload_w dL_law_201 rfl ?_
        refine v_il3 dL_law_202 ?_
        refine v_iconst dL_law_203 ?_
        refine v_iadd dL_law_204 ?_
        refine v_scI hX hb h dL_law_205 (fun x11 h => ?_)
        obtain ⟨b206, er, ka, h⟩ := cV_some h
        obtain ⟨x12, s13, h1, h⟩ := cl_some h
        refine v_callV1 cok6 (As := [vi x11]) er ka (tX8_crash h1) (lw_V q1878 q1879 q1880 q167 q1881) rfl dsX8_crash ⟨Nat.le_of_ble_eq_true rfl, Nat.le_of_ble_eq_true rfl⟩ (Nat.le_of_ble_eq_true rfl) dL_law_206 rfl ?_
        refine v_icmp_eq (tgt := 1074) dL_law_209 (by decide) (fun c => ?_) (fun c => ?_)
        · rw [if_pos c] at h
          exact v_weak (wss (wss (wss (wss wse)))) (lL_law_1074 hX hb hk18 h)
        · rw [if_neg c] at h
          refine v_iconst dL_law_212 ?_
          exact v_retZ h dL_law_213 rfl
      · rw [if_neg c1] at h
        by_cases c2 : (x1 &&& (iI 31)) = iI 2
        · rw [if_pos c2] at h
          refine v_tabIn (tgt := 214) dL_law_33 (by rw [c2]; decide) (by rw [c2]; decide) (by rw [c2]; rfl) (by decide) ?_
          refine v_al1 dL_law_214 ?_
          refine v_aload_w dL_law_215 rfl ?_
          refine v_il3 dL_law_216 ?_
          refine v_iconst dL_law_217 ?_
          refine v_iadd dL_law_218 ?_
          refine v_scI hX hb h dL_law_219 (fun x14 h => ?_)
          obtain ⟨b220, er, ka, h⟩ := cV_some h
          obtain ⟨x15, s16, h1, h⟩ := cl_some h
          refine v_callV1 cok0 (As := [vi x14]) er ka (tX0_comeUp h1) (lw_V q589 q590 q591 q158 q592) rfl dsX0_comeUp ⟨Nat.le_of_ble_eq_true rfl, Nat.le_of_ble_eq_true rfl⟩ (Nat.le_of_ble_eq_true rfl) dL_law_220 rfl ?_
          refine v_al2 dL_law_223 ?_
          refine v_aload_w dL_law_224 rfl ?_
          refine v_il3 dL_law_225 ?_
          refine v_iconst dL_law_226 ?_
          refine v_iadd dL_law_227 ?_
          refine v_scI hX hb h dL_law_228 (fun x17 h => ?_)
          obtain ⟨b229, er, ka, h⟩ := cV_some h
          obtain ⟨x18, s19, h1, h⟩ := cl_some h
          refine v_callV1 cok6 (As := [vi x17]) er ka (tX8_comeUp h1) (lw_V q1882 q1883 q1884 q167 q1885) rfl dsX8_comeUp ⟨Nat.le_of_ble_eq_true rfl, Nat.le_of_ble_eq_true rfl⟩ (Nat.le_of_ble_eq_true rfl) dL_law_229 rfl ?_
          refine v_icmp_eq (tgt := 1074) dL_law_232 (by decide) (fun c => ?_) (fun c => ?_)
          · rw [if_pos c] at h
            exact v_weak (wss (wss (wss (wss wse)))) (lL_law_1074 hX hb hk18 h)
          · rw [if_neg c] at h
            refine v_iconst dL_law_235 ?_
            exact v_retZ h dL_law_236 rfl
        · rw [if_neg c2] at h
          by_cases c3 : (x1 &&& (iI 31)) = iI 3
          · rw [if_pos c3] at h
            refine v_tabIn (tgt := 237) dL_law_33 (by rw [c3]; decide) (by rw [c3]; decide) (by rw [c3]; rfl) (by decide) ?_
            refine v_al1 dL_law_237 ?_
            refine v_aload_w dL_law_238 rfl ?_
            refine v_il3 dL_law_239 ?_
            refine v_iconst dL_law_240 ?_
            refine v_iadd dL_law_241 ?_
            refine v_scI hX hb h dL_law_242 (fun x20 h => ?_)
            refine v_aload_w dL_law_243 rfl ?_
            refine v_il3 dL_law_244 ?_
            refine v_iconst dL_law_245 ?_
            refine v_iadd dL_law_246 ?_
            refine v_scI hX hb h dL_law_247 (fun x21 h => ?_)
            refine v_aload_w dL_law_248 rfl ?_
            refine v_il3 dL_law_249 ?_
            refine v_iconst dL_law_250 ?_
            refine v_iadd dL_law_251 ?_
            refine v_scI hX hb h dL_law_252 (fun x22 h => ?_)
            refine v_if_eq (tgt := 260) dL_law_253 (by decide) (fun c => ?_) (fun c => ?_)
            · rw [if_pos c] at h
              refine v_iconst dL_law_260 ?_
              exact v_weak (wss (wss (wss (wss wse)))) (lL_law_261 hX hb hk18 h)
            · rw [if_neg c] at h
              refine v_iconst dL_law_256 ?_
              refine v_goto (tgt := 261) dL_law_257 (by decide) ?_
              exact v_weak (wss (wss (wss (wss wse)))) (lL_law_261 hX hb hk18 h)
          · rw [if_neg c3] at h
            by_cases c4 : (x1 &&& (iI 31)) = iI 4
            · rw [if_pos c4] at h
              refine v_tabIn (tgt := 296) dL_law_33 (by rw [c4]; decide) (by rw [c4]; decide) (by rw [c4]; rfl) (by decide) ?_
              refine v_al1 dL_law_296 ?_
              refine v_aload_w dL_law_297 rfl ?_
              refine v_il3 dL_law_298 ?_
              refine v_iconst dL_law_299 ?_
              refine v_iadd dL_law_300 ?_
              refine v_scI hX hb h dL_law_301 (fun x23 h => ?_)
              obtain ⟨b302, er, ka, h⟩ := cV_some h
              obtain ⟨x24, s25, h1, h⟩ := cl_some h
              refine v_callV1 cok0 (As := [vi x23]) er ka (tX0_compact h1) (lw_V q599 q600 q601 q158 q602) rfl dsX0_compact ⟨Nat.le_of_ble_eq_true rfl, Nat.le_of_ble_eq_true rfl⟩ (Nat.le_of_ble_eq_true rfl) dL_law_302 rfl ?_
              refine v_al2 dL_law_305 ?_
              refine v_aload_w dL_law_306 rfl ?_
              refine v_il3 dL_law_307 ?_
              refine v_iconst dL_law_308 ?_
              refine v_iadd dL_law_309 ?_
              refine v_scI hX hb h dL_law_310 (fun x26 h => ?_)
              obtain ⟨b311, er, ka, h⟩ := cV_some h
              obtain ⟨x27, s28, h1, h⟩ := cl_some h
              refine v_callV1 cok6 (As := [vi x26]) er ka (tX8_compact h1) (lw_V q1890 q1891 q1892 q167 q1893) rfl dsX8_compact ⟨Nat.le_of_ble_eq_true rfl, Nat.le_of_ble_eq_true rfl⟩ (Nat.le_of_ble_eq_true rfl) dL_law_311 rfl ?_
              refine v_icmp_eq (tgt := 1074) dL_law_314 (by decide) (fun c => ?_) (fun c => ?_)
              · rw [if_pos c] at h
                exact v_weak (wss (wss (wss (wss wse)))) (lL_law_1074 hX hb hk18 h)
              · rw [if_neg c] at h
                refine v_iconst dL_law_317 ?_
                exact v_retZ h dL_law_318 rfl
            · rw [if_neg c4] at h
              by_cases c5 : (x1 &&& (iI 31)) = iI 5
              · rw [if_pos c5] at h
                refine v_tabIn (tgt := 319) dL_law_33 (by rw [c5]; decide) (by rw [c5]; decide) (by rw [c5]; rfl) (by decide) ?_
                refine v_al1 dL_law_319 ?_
                refine v_aload_w dL_law_320 rfl ?_
                refine v_il3 dL_law_321 ?_
                refine v_iconst dL_law_322 ?_
                refine v_iadd dL_law_323 ?_
                refine v_scI hX hb h dL_law_324 (fun x29 h => ?_)
                refine v_aload_w dL_law_325 rfl ?_
                refine v_il3 dL_law_326 ?_
                refine v_iconst dL_law_327 ?_
                refine v_iadd dL_law_328 ?_
                refine v_scI hX hb h dL_law_329 (fun x30 h => ?_)
                refine v_aload_w dL_law_330 rfl ?_
                refine v_il3 dL_law_331 ?_
                refine v_iconst dL_law_332 ?_
                refine v_iadd dL_law_333 ?_
                refine v_scI hX hb h dL_law_334 (fun x31 h => ?_)
                obtain ⟨b335, er, ka, h⟩ := cV_some h
                obtain ⟨x32, s33, h1, h⟩ := cl_some h
                refine v_callV1 cok0 (As := [vi x29, vi x30, vi x31]) er ka (tX0_write h1) (lw_V q631 q632 q633 q158 q634) rfl dsX0_write ⟨Nat.le_of_ble_eq_true rfl, Nat.le_of_ble_eq_true rfl⟩ (Nat.le_of_ble_eq_true rfl) dL_law_335 rfl ?_
                refine v_al2 dL_law_338 ?_
                refine v_aload_w dL_law_339 rfl ?_
                refine v_il3 dL_law_340 ?_
                refine v_iconst dL_law_341 ?_
                refine v_iadd dL_law_342 ?_
                refine v_scI hX hb h dL_law_343 (fun x34 h => ?_)
                refine v_aload_w dL_law_344 rfl ?_
                refine v_il3 dL_law_345 ?_
                refine v_iconst dL_law_346 ?_
                refine v_iadd dL_law_347 ?_
                refine v_scI hX hb h dL_law_348 (fun x35 h => ?_)
                refine v_aload_w dL_law_349 rfl ?_
                refine v_il3 dL_law_350 ?_
                refine v_iconst dL_law_351 ?_
                refine v_iadd dL_law_352 ?_
                refine v_scI hX hb h dL_law_353 (fun x36 h => ?_)
                obtain ⟨b354, er, ka, h⟩ := cV_some h
                obtain ⟨x37, s38, h1, h⟩ := cl_some h
                refine v_callV1 cok6 (As := [vi x34, vi x35, vi x36]) er ka (tX8_write h1) (lw_V q1894 q1895 q1896 q167 q1897) rfl dsX8_write ⟨Nat.le_of_ble_eq_true rfl, Nat.le_of_ble_eq_true rfl⟩ (Nat.le_of_ble_eq_true rfl) dL_law_354 rfl ?_
                refine v_icmp_eq (tgt := 1074) dL_law_357 (by decide) (fun c => ?_) (fun c => ?_)
                · rw [if_pos c] at h
                  exact v_weak (wss (wss (wss (wss wse)))) (lL_law_1074 hX hb hk18 h)
                · rw [if_neg c] at h
                  refine v_iconst dL_law_360 ?_
                  exact v_retZ h dL_law_361 rfl
              · rw [if_neg c5] at h
                by_cases c6 : (x1 &&& (iI 31)) = iI 6
                · rw [if_pos c6] at h
                  refine v_tabIn (tgt := 362) dL_law_33 (by rw [c6]; decide) (by rw [c6]; decide) (by rw [c6]; rfl) (by decide) ?_
                  refine v_al1 dL_law_362 ?_
                  refine v_aload_w dL_law_363 rfl ?_
                  refine v_il3 dL_law_364 ?_
                  refine v_iconst dL_law_365 ?_
                  refine v_iadd dL_law_366 ?_
                  refine v_scI hX hb h dL_law_367 (fun x39 h => ?_)
                  refine v_aload_w dL_law_368 rfl ?_
                  refine v_il3 dL_law_369 ?_
                  refine v_iconst dL_law_370 ?_
                  refine v_iadd dL_law_371 ?_
                  refine v_scI hX hb h dL_law_372 (fun x40 h => ?_)
                  obtain ⟨b373, er, ka, h⟩ := cV_some h
                  obtain ⟨x41, s42, h1, h⟩ := cl_some h
                  refine v_callV1 cok0 (As := [vi x39, vi x40]) er ka (tX0_change h1) (lw_V q746 q747 q748 q158 q749) rfl dsX0_change ⟨Nat.le_of_ble_eq_true rfl, Nat.le_of_ble_eq_true rfl⟩ (Nat.le_of_ble_eq_true rfl) dL_law_373 rfl ?_
                  refine v_al2 dL_law_376 ?_
                  refine v_aload_w dL_law_377 rfl ?_
                  refine v_il3 dL_law_378 ?_
                  refine v_iconst dL_law_379 ?_
                  refine v_iadd dL_law_380 ?_
                  refine v_scI hX hb h dL_law_381 (fun x43 h => ?_)
                  refine v_aload_w dL_law_382 rfl ?_
                  refine v_il3 dL_law_383 ?_
                  refine v_iconst dL_law_384 ?_
                  refine v_iadd dL_law_385 ?_
                  refine v_scI hX hb h dL_law_386 (fun x44 h => ?_)
                  obtain ⟨b387, er, ka, h⟩ := cV_some h
                  obtain ⟨x45, s46, h1, h⟩ := cl_some h
                  refine v_callV1 cok6 (As := [vi x43, vi x44]) er ka (tX8_change h1) (lw_V q1906 q1907 q1908 q167 q1909) rfl dsX8_change ⟨Nat.le_of_ble_eq_true rfl, Nat.le_of_ble_eq_true rfl⟩ (Nat.le_of_ble_eq_true rfl) dL_law_387 rfl ?_
                  refine v_icmp_eq (tgt := 1074) dL_law_390 (by decide) (fun c => ?_) (fun c => ?_)
                  · rw [if_pos c] at h
                    exact v_weak (wss (wss (wss (wss wse)))) (lL_law_1074 hX hb hk18 h)
                  · rw [if_neg c] at h
                    refine v_iconst dL_law_393 ?_
                    exact v_retZ h dL_law_394 rfl
                · rw [if_neg c6] at h
                  by_cases c7 : (x1 &&& (iI 31)) = iI 7
                  · rw [if_pos c7] at h
                    refine v_tabIn (tgt := 395) dL_law_33 (by rw [c7]; decide) (by rw [c7]; decide) (by rw [c7]; rfl) (by decide) ?_
                    refine v_al1 dL_law_395 ?_
                    refine v_aload_w dL_law_396 rfl ?_
                    refine v_il3 dL_law_397 ?_
                    refine v_iconst dL_law_398 ?_
                    refine v_iadd dL_law_399 ?_
                    refine v_scI hX hb h dL_law_400 (fun x47 h => ?_)
                    refine v_aload_w dL_law_401 rfl ?_
                    refine v_il3 dL_law_402 ?_
                    refine v_iconst dL_law_403 ?_
                    refine v_iadd dL_law_404 ?_
                    refine v_scI hX hb h dL_law_405 (fun x48 h => ?_)
                    obtain ⟨b406, er, ka, h⟩ := cV_some h
                    obtain ⟨x49, s50, h1, h⟩ := cl_some h
                    refine v_callV1 cok0 (As := [vi x47, vi x48]) er ka (tX0_ask h1) (lw_V q753 q754 q755 q158 q756) rfl dsX0_ask ⟨Nat.le_of_ble_eq_true rfl, Nat.le_of_ble_eq_true rfl⟩ (Nat.le_of_ble_eq_true rfl) dL_law_406 rfl ?_
                    refine v_al2 dL_law_409 ?_
                    refine v_aload_w dL_law_410 rfl ?_
                    refine v_il3 dL_law_411 ?_
                    refine v_iconst dL_law_412 ?_
                    refine v_iadd dL_law_413 ?_
                    refine v_scI hX hb h dL_law_414 (fun x51 h => ?_)
                    refine v_aload_w dL_law_415 rfl ?_
                    refine v_il3 dL_law_416 ?_
                    refine v_iconst dL_law_417 ?_
                    refine v_iadd dL_law_418 ?_
                    refine v_scI hX hb h dL_law_419 (fun x52 h => ?_)
                    obtain ⟨b420, er, ka, h⟩ := cV_some h
                    obtain ⟨x53, s54, h1, h⟩ := cl_some h
                    refine v_callV1 cok6 (As := [vi x51, vi x52]) er ka (tX8_ask h1) (lw_V q1910 q1911 q1912 q167 q1913) rfl dsX8_ask ⟨Nat.le_of_ble_eq_true rfl, Nat.le_of_ble_eq_true rfl⟩ (Nat.le_of_ble_eq_true rfl) dL_law_420 rfl ?_
                    refine v_icmp_eq (tgt := 1074) dL_law_423 (by decide) (fun c => ?_) (fun c => ?_)
                    · rw [if_pos c] at h
                      exact v_weak (wss (wss (wss (wss wse)))) (lL_law_1074 hX hb hk18 h)
                    · rw [if_neg c] at h
                      refine v_iconst dL_law_426 ?_
                      exact v_retZ h dL_law_427 rfl
                  · rw [if_neg c7] at h
                    by_cases c8 : (x1 &&& (iI 31)) = iI 8
                    · rw [if_pos c8] at h
                      refine v_tabIn (tgt := 428) dL_law_33 (by rw [c8]; decide) (by rw [c8]; decide) (by rw [c8]; rfl) (by decide) ?_
                      refine v_al1 dL_law_428 ?_
                      refine v_aload_w dL_law_429 rfl ?_
                      refine v_il3 dL_law_430 ?_
                      refine v_iconst dL_law_431 ?_
                      refine v_iadd dL_law_432 ?_
                      refine v_scI hX hb h dL_law_433 (fun x55 h => ?_)
                      refine v_aload_w dL_law_434 rfl ?_
                      refine v_il3 dL_law_435 ?_
                      refine v_iconst dL_law_436 ?_
                      refine v_iadd dL_law_437 ?_
                      refine v_scI hX hb h dL_law_438 (fun x56 h => ?_)
                      refine v_aload_w dL_law_439 rfl ?_
                      refine v_il3 dL_law_440 ?_
                      refine v_iconst dL_law_441 ?_
                      refine v_iadd dL_law_442 ?_
                      refine v_scI hX hb h dL_law_443 (fun x57 h => ?_)
                      refine v_aload_w dL_law_444 rfl ?_
                      refine v_il3 dL_law_445 ?_
                      refine v_iconst dL_law_446 ?_
                      refine v_iadd dL_law_447 ?_
                      refine v_scI hX hb h dL_law_448 (fun x58 h => ?_)
                      refine v_aload_w dL_law_449 rfl ?_
                      refine v_il3 dL_law_450 ?_
                      refine v_iconst dL_law_451 ?_
                      refine v_iadd dL_law_452 ?_
                      refine v_scI hX hb h dL_law_453 (fun x59 h => ?_)
                      obtain ⟨b454, er, ka, h⟩ := cV_some h
                      obtain ⟨x60, s61, h1, h⟩ := cl_some h
                      refine v_callV1 cok0 (As := [vi x55, vi x56, vi x57, vi x58, vi x59]) er ka (tX0_feed h1) (lw_V q767 q768 q769 q158 q770) rfl dsX0_feed ⟨Nat.le_of_ble_eq_true rfl, Nat.le_of_ble_eq_true rfl⟩ (Nat.le_of_ble_eq_true rfl) dL_law_454 rfl ?_
                      refine v_al2 dL_law_457 ?_
                      refine v_aload_w dL_law_458 rfl ?_
                      refine v_il3 dL_law_459 ?_
                      refine v_iconst dL_law_460 ?_
                      refine v_iadd dL_law_461 ?_
                      refine v_scI hX hb h dL_law_462 (fun x62 h => ?_)
                      refine v_aload_w dL_law_463 rfl ?_
                      refine v_il3 dL_law_464 ?_
                      refine v_iconst dL_law_465 ?_
                      refine v_iadd dL_law_466 ?_
                      refine v_scI hX hb h dL_law_467 (fun x63 h => ?_)
                      refine v_aload_w dL_law_468 rfl ?_
                      refine v_il3 dL_law_469 ?_
                      refine v_iconst dL_law_470 ?_
                      refine v_iadd dL_law_471 ?_
                      refine v_scI hX hb h dL_law_472 (fun x64 h => ?_)
                      refine v_aload_w dL_law_473 rfl ?_
                      refine v_il3 dL_law_474 ?_
                      refine v_iconst dL_law_475 ?_
                      refine v_iadd dL_law_476 ?_
                      refine v_scI hX hb h dL_law_477 (fun x65 h => ?_)
                      refine v_aload_w dL_law_478 rfl ?_
                      refine v_il3 dL_law_479 ?_
                      refine v_iconst dL_law_480 ?_
                      refine v_iadd dL_law_481 ?_
                      refine v_scI hX hb h dL_law_482 (fun x66 h => ?_)
                      obtain ⟨b483, er, ka, h⟩ := cV_some h
                      obtain ⟨x67, s68, h1, h⟩ := cl_some h
                      refine v_callV1 cok6 (As := [vi x62, vi x63, vi x64, vi x65, vi x66]) er ka (tX8_feed h1) (lw_V q1537 q1538 q1539 q167 q1540) rfl dsX8_feed ⟨Nat.le_of_ble_eq_true rfl, Nat.le_of_ble_eq_true rfl⟩ (Nat.le_of_ble_eq_true rfl) dL_law_483 rfl ?_
                      refine v_icmp_eq (tgt := 1074) dL_law_486 (by decide) (fun c => ?_) (fun c => ?_)
                      · rw [if_pos c] at h
                        exact v_weak (wss (wss (wss (wss wse)))) (lL_law_1074 hX hb hk18 h)
                      · rw [if_neg c] at h
                        refine v_iconst dL_law_489 ?_
                        exact v_retZ h dL_law_490 rfl
                    · rw [if_neg c8] at h
                      by_cases c9 : (x1 &&& (iI 31)) = iI 9
                      · rw [if_pos c9] at h
                        refine v_tabIn (tgt := 491) dL_law_33 (by rw [c9]; decide) (by rw [c9]; decide) (by rw [c9]; rfl) (by decide) ?_
                        refine v_al1 dL_law_491 ?_
                        refine v_aload_w dL_law_492 rfl ?_
                        refine v_il3 dL_law_493 ?_
                        refine v_iconst dL_law_494 ?_
                        refine v_iadd dL_law_495 ?_
                        refine v_scI hX hb h dL_law_496 (fun x69 h => ?_)
                        obtain ⟨b497, er, ka, h⟩ := cV_some h
                        obtain ⟨x70, s71, h1, h⟩ := cl_some h
                        refine v_callV1 cok0 (As := [vi x69]) er ka (tX0_law h1) (lw_V q775 q776 q777 q158 q778) rfl dsX0_law ⟨Nat.le_of_ble_eq_true rfl, Nat.le_of_ble_eq_true rfl⟩ (Nat.le_of_ble_eq_true rfl) dL_law_497 rfl ?_
                        refine v_al2 dL_law_500 ?_
                        refine v_aload_w dL_law_501 rfl ?_
                        refine v_il3 dL_law_502 ?_
                        refine v_iconst dL_law_503 ?_
                        refine v_iadd dL_law_504 ?_
                        refine v_scI hX hb h dL_law_505 (fun x72 h => ?_)
                        obtain ⟨b506, er, ka, h⟩ := cV_some h
                        obtain ⟨x73, s74, h1, h⟩ := cl_some h
                        refine v_callV1 cok6 (As := [vi x72]) er ka (tX8_law h1) (lw_V q1545 q1546 q1547 q167 q1548) rfl dsX8_law ⟨Nat.le_of_ble_eq_true rfl, Nat.le_of_ble_eq_true rfl⟩ (Nat.le_of_ble_eq_true rfl) dL_law_506 rfl ?_
                        refine v_icmp_eq (tgt := 1074) dL_law_509 (by decide) (fun c => ?_) (fun c => ?_)
                        · rw [if_pos c] at h
                          exact v_weak (wss (wss (wss (wss wse)))) (lL_law_1074 hX hb hk18 h)
                        · rw [if_neg c] at h
                          refine v_iconst dL_law_512 ?_
                          exact v_retZ h dL_law_513 rfl
                      · rw [if_neg c9] at h
                        by_cases c10 : (x1 &&& (iI 31)) = iI 10
                        · rw [if_pos c10] at h
                          refine v_tabIn (tgt := 514) dL_law_33 (by rw [c10]; decide) (by rw [c10]; decide) (by rw [c10]; rfl) (by decide) ?_
                          refine v_al1 dL_law_514 ?_
                          refine v_aload_w dL_law_515 rfl ?_
                          refine v_il3 dL_law_516 ?_
                          refine v_iconst dL_law_517 ?_
                          refine v_iadd dL_law_518 ?_
                          refine v_scI hX hb h dL_law_519 (fun x75 h => ?_)
                          obtain ⟨b520, er, ka, h⟩ := cV_some h
                          obtain ⟨x76, s77, h1, h⟩ := cl_some h
                          refine v_callV1 cok0 (As := [vi x75]) er ka (tX0_plan h1) (lw_V q1040 q1041 q1042 q158 q1043) rfl dsX0_plan ⟨Nat.le_of_ble_eq_true rfl, Nat.le_of_ble_eq_true rfl⟩ (Nat.le_of_ble_eq_true rfl) dL_law_520 rfl ?_
                          refine v_al2 dL_law_523 ?_
                          refine v_aload_w dL_law_524 rfl ?_
                          refine v_il3 dL_law_525 ?_
                          refine v_iconst dL_law_526 ?_
                          refine v_iadd dL_law_527 ?_
                          refine v_scI hX hb h dL_law_528 (fun x78 h => ?_)
                          obtain ⟨b529, er, ka, h⟩ := cV_some h
                          obtain ⟨x79, s80, h1, h⟩ := cl_some h
                          refine v_callV1 cok6 (As := [vi x78]) er ka (tX8_plan h1) (lw_V q1914 q1915 q1916 q167 q1917) rfl dsX8_plan ⟨Nat.le_of_ble_eq_true rfl, Nat.le_of_ble_eq_true rfl⟩ (Nat.le_of_ble_eq_true rfl) dL_law_529 rfl ?_
                          refine v_icmp_eq (tgt := 1074) dL_law_532 (by decide) (fun c => ?_) (fun c => ?_)
                          · rw [if_pos c] at h
                            exact v_weak (wss (wss (wss (wss wse)))) (lL_law_1074 hX hb hk18 h)
                          · rw [if_neg c] at h
                            refine v_iconst dL_law_535 ?_
                            exact v_retZ h dL_law_536 rfl
                        · rw [if_neg c10] at h
                          by_cases c11 : (x1 &&& (iI 31)) = iI 11
                          · rw [if_pos c11] at h
                            refine v_tabIn (tgt := 537) dL_law_33 (by rw [c11]; decide) (by rw [c11]; decide) (by rw [c11]; rfl) (by decide) ?_
                            refine v_al1 dL_law_537 ?_
                            refine v_aload_w dL_law_538 rfl ?_
                            refine v_il3 dL_law_539 ?_
                            refine v_iconst dL_law_540 ?_
                            refine v_iadd dL_law_541 ?_
                            refine v_scI hX hb h dL_law_542 (fun x81 h => ?_)
                            obtain ⟨b543, er, ka, h⟩ := cV_some h
                            obtain ⟨x82, s83, h1, h⟩ := cl_some h
                            refine v_callV1 cok0 (As := [vi x81]) er ka (tX0_ticks h1) (lw_V q1224 q1128 q1129 q158 q1130) rfl dsX0_ticks ⟨Nat.le_of_ble_eq_true rfl, Nat.le_of_ble_eq_true rfl⟩ (Nat.le_of_ble_eq_true rfl) dL_law_543 rfl ?_
                            refine v_al2 dL_law_546 ?_
                            refine v_aload_w dL_law_547 rfl ?_
                            refine v_il3 dL_law_548 ?_
                            refine v_iconst dL_law_549 ?_
                            refine v_iadd dL_law_550 ?_
                            refine v_scI hX hb h dL_law_551 (fun x84 h => ?_)
                            obtain ⟨b552, er, ka, h⟩ := cV_some h
                            obtain ⟨x85, s86, h1, h⟩ := cl_some h
                            refine v_callV1 cok6 (As := [vi x84]) er ka (tX8_ticks h1) (lw_V q1634 q1635 q1636 q167 q1637) rfl dsX8_ticks ⟨Nat.le_of_ble_eq_true rfl, Nat.le_of_ble_eq_true rfl⟩ (Nat.le_of_ble_eq_true rfl) dL_law_552 rfl ?_
                            refine v_icmp_eq (tgt := 1074) dL_law_555 (by decide) (fun c => ?_) (fun c => ?_)
                            · rw [if_pos c] at h
                              exact v_weak (wss (wss (wss (wss wse)))) (lL_law_1074 hX hb hk18 h)
                            · rw [if_neg c] at h
                              refine v_iconst dL_law_558 ?_
                              exact v_retZ h dL_law_559 rfl
                          · rw [if_neg c11] at h
                            by_cases c12 : (x1 &&& (iI 31)) = iI 12
                            · rw [if_pos c12] at h
                              refine v_tabIn (tgt := 560) dL_law_33 (by rw [c12]; decide) (by rw [c12]; decide) (by rw [c12]; rfl) (by decide) ?_
                              refine v_al1 dL_law_560 ?_
                              refine v_aload_w dL_law_561 rfl ?_
                              refine v_il3 dL_law_562 ?_
                              refine v_iconst dL_law_563 ?_
                              refine v_iadd dL_law_564 ?_
                              refine v_scI hX hb h dL_law_565 (fun x87 h => ?_)
                              refine v_aload_w dL_law_566 rfl ?_
                              refine v_il3 dL_law_567 ?_
                              refine v_iconst dL_law_568 ?_
                              refine v_iadd dL_law_569 ?_
                              refine v_scI hX hb h dL_law_570 (fun x88 h => ?_)
                              obtain ⟨b571, er, ka, h⟩ := cV_some h
                              obtain ⟨x89, s90, h1, h⟩ := cl_some h
                              refine v_callV1 cok0 (As := [vi x87, vi x88]) er ka (tX0_tried h1) (lw_V q1225 q1226 q1227 q158 q1228) rfl dsX0_tried ⟨Nat.le_of_ble_eq_true rfl, Nat.le_of_ble_eq_true rfl⟩ (Nat.le_of_ble_eq_true rfl) dL_law_571 rfl ?_
                              refine v_al2 dL_law_574 ?_
                              refine v_aload_w dL_law_575 rfl ?_
                              refine v_il3 dL_law_576 ?_
                              refine v_iconst dL_law_577 ?_
                              refine v_iadd dL_law_578 ?_
                              refine v_scI hX hb h dL_law_579 (fun x91 h => ?_)
                              refine v_aload_w dL_law_580 rfl ?_
                              refine v_il3 dL_law_581 ?_
                              refine v_iconst dL_law_582 ?_
                              refine v_iadd dL_law_583 ?_
                              refine v_scI hX hb h dL_law_584 (fun x92 h => ?_)
                              obtain ⟨b585, er, ka, h⟩ := cV_some h
                              obtain ⟨x93, s94, h1, h⟩ := cl_some h
                              refine v_callV1 cok6 (As := [vi x91, vi x92]) er ka (tX8_tried h1) (lw_V q1959 q1960 q1961 q167 q1962) rfl dsX8_tried ⟨Nat.le_of_ble_eq_true rfl, Nat.le_of_ble_eq_true rfl⟩ (Nat.le_of_ble_eq_true rfl) dL_law_585 rfl ?_
                              refine v_icmp_eq (tgt := 1074) dL_law_588 (by decide) (fun c => ?_) (fun c => ?_)
                              · rw [if_pos c] at h
                                exact v_weak (wss (wss (wss (wss wse)))) (lL_law_1074 hX hb hk18 h)
                              · rw [if_neg c] at h
                                refine v_iconst dL_law_591 ?_
                                exact v_retZ h dL_law_592 rfl
                            · rw [if_neg c12] at h
                              by_cases c13 : (x1 &&& (iI 31)) = iI 13
                              · rw [if_pos c13] at h
                                refine v_tabIn (tgt := 593) dL_law_33 (by rw [c13]; decide) (by rw [c13]; decide) (by rw [c13]; rfl) (by decide) ?_
                                refine v_al1 dL_law_593 ?_
                                refine v_aload_w dL_law_594 rfl ?_
                                refine v_il3 dL_law_595 ?_
                                refine v_iconst dL_law_596 ?_
                                refine v_iadd dL_law_597 ?_
                                refine v_scI hX hb h dL_law_598 (fun x95 h => ?_)
                                refine v_aload_w dL_law_599 rfl ?_
                                refine v_il3 dL_law_600 ?_
                                refine v_iconst dL_law_601 ?_
                                refine v_iadd dL_law_602 ?_
                                refine v_scI hX hb h dL_law_603 (fun x96 h => ?_)
                                obtain ⟨b604, er, ka, h⟩ := cV_some h
                                obtain ⟨x97, s98, h1, h⟩ := cl_some h
                                refine v_callV1 cok0 (As := [vi x95, vi x96]) er ka (tX0_nodeIs h1) (lw_V q1241 q1242 q1243 q158 q1244) rfl dsX0_nodeIs ⟨Nat.le_of_ble_eq_true rfl, Nat.le_of_ble_eq_true rfl⟩ (Nat.le_of_ble_eq_true rfl) dL_law_604 rfl ?_
                                refine v_al2 dL_law_607 ?_
                                refine v_aload_w dL_law_608 rfl ?_
                                refine v_il3 dL_law_609 ?_
                                refine v_iconst dL_law_610 ?_
                                refine v_iadd dL_law_611 ?_
                                refine v_scI hX hb h dL_law_612 (fun x99 h => ?_)
                                refine v_aload_w dL_law_613 rfl ?_
                                refine v_il3 dL_law_614 ?_
                                refine v_iconst dL_law_615 ?_
                                refine v_iadd dL_law_616 ?_
                                refine v_scI hX hb h dL_law_617 (fun x100 h => ?_)
                                obtain ⟨b618, er, ka, h⟩ := cV_some h
                                obtain ⟨x101, s102, h1, h⟩ := cl_some h
                                refine v_callV1 cok6 (As := [vi x99, vi x100]) er ka (tX8_nodeIs h1) (lw_V q1966 q1967 q1968 q167 q1969) rfl dsX8_nodeIs ⟨Nat.le_of_ble_eq_true rfl, Nat.le_of_ble_eq_true rfl⟩ (Nat.le_of_ble_eq_true rfl) dL_law_618 rfl ?_
                                refine v_icmp_eq (tgt := 1074) dL_law_621 (by decide) (fun c => ?_) (fun c => ?_)
                                · rw [if_pos c] at h
                                  exact v_weak (wss (wss (wss (wss wse)))) (lL_law_1074 hX hb hk18 h)
                                · rw [if_neg c] at h
                                  refine v_iconst dL_law_624 ?_
                                  exact v_retZ h dL_law_625 rfl
                              · rw [if_neg c13] at h
                                by_cases c14 : (x1 &&& (iI 31)) = iI 14
                                · rw [if_pos c14] at h
                                  refine v_tabIn (tgt := 626) dL_law_33 (by rw [c14]; decide) (by rw [c14]; decide) (by rw [c14]; rfl) (by decide) ?_
                                  refine v_al1 dL_law_626 ?_
                                  refine v_aload_w dL_law_627 rfl ?_
                                  refine v_il3 dL_law_628 ?_
                                  refine v_iconst dL_law_629 ?_
                                  refine v_iadd dL_law_630 ?_
                                  refine v_scI hX hb h dL_law_631 (fun x103 h => ?_)
                                  refine v_aload_w dL_law_632 rfl ?_
                                  refine v_il3 dL_law_633 ?_
                                  refine v_iconst dL_law_634 ?_
                                  refine v_iadd dL_law_635 ?_
                                  refine v_scI hX hb h dL_law_636 (fun x104 h => ?_)
                                  refine v_aload_w dL_law_637 rfl ?_
                                  refine v_il3 dL_law_638 ?_
                                  refine v_iconst dL_law_639 ?_
                                  refine v_iadd dL_law_640 ?_
                                  refine v_scI hX hb h dL_law_641 (fun x105 h => ?_)
                                  obtain ⟨b642, er, ka, h⟩ := cV_some h
                                  obtain ⟨x106, s107, h1, h⟩ := cl_some h
                                  refine v_callV1 cok0 (As := [vi x103, vi x104, vi x105]) er ka (tX0_entryAt h1) (lw_V q1252 q1253 q1254 q158 q1255) rfl dsX0_entryAt ⟨Nat.le_of_ble_eq_true rfl, Nat.le_of_ble_eq_true rfl⟩ (Nat.le_of_ble_eq_true rfl) dL_law_642 rfl ?_
                                  refine v_al2 dL_law_645 ?_
                                  refine v_aload_w dL_law_646 rfl ?_
                                  refine v_il3 dL_law_647 ?_
                                  refine v_iconst dL_law_648 ?_
                                  refine v_iadd dL_law_649 ?_
                                  refine v_scI hX hb h dL_law_650 (fun x108 h => ?_)
                                  refine v_aload_w dL_law_651 rfl ?_
                                  refine v_il3 dL_law_652 ?_
                                  refine v_iconst dL_law_653 ?_
                                  refine v_iadd dL_law_654 ?_
                                  refine v_scI hX hb h dL_law_655 (fun x109 h => ?_)
                                  refine v_aload_w dL_law_656 rfl ?_
                                  refine v_il3 dL_law_657 ?_
                                  refine v_iconst dL_law_658 ?_
                                  refine v_iadd dL_law_659 ?_
                                  refine v_scI hX hb h dL_law_660 (fun x110 h => ?_)
                                  obtain ⟨b661, er, ka, h⟩ := cV_some h
                                  obtain ⟨x111, s112, h1, h⟩ := cl_some h
                                  refine v_callV1 cok6 (As := [vi x108, vi x109, vi x110]) er ka (tX8_entryAt h1) (lw_V q1973 q1974 q1975 q167 q1976) rfl dsX8_entryAt ⟨Nat.le_of_ble_eq_true rfl, Nat.le_of_ble_eq_true rfl⟩ (Nat.le_of_ble_eq_true rfl) dL_law_661 rfl ?_
                                  refine v_icmp_eq (tgt := 1074) dL_law_664 (by decide) (fun c => ?_) (fun c => ?_)
                                  · rw [if_pos c] at h
                                    exact v_weak (wss (wss (wss (wss wse)))) (lL_law_1074 hX hb hk18 h)
                                  · rw [if_neg c] at h
                                    refine v_iconst dL_law_667 ?_
                                    exact v_retZ h dL_law_668 rfl
                                · rw [if_neg c14] at h
                                  by_cases c15 : (x1 &&& (iI 31)) = iI 15
                                  · rw [if_pos c15] at h
                                    refine v_tabIn (tgt := 669) dL_law_33 (by rw [c15]; decide) (by rw [c15]; decide) (by rw [c15]; rfl) (by decide) ?_
                                    refine v_al1 dL_law_669 ?_
                                    refine v_aload_w dL_law_670 rfl ?_
                                    refine v_il3 dL_law_671 ?_
                                    refine v_iconst dL_law_672 ?_
                                    refine v_iadd dL_law_673 ?_
                                    refine v_scI hX hb h dL_law_674 (fun x113 h => ?_)
                                    refine v_aload_w dL_law_675 rfl ?_
                                    refine v_il3 dL_law_676 ?_
                                    refine v_iconst dL_law_677 ?_
                                    refine v_iadd dL_law_678 ?_
                                    refine v_scI hX hb h dL_law_679 (fun x114 h => ?_)
                                    obtain ⟨b680, er, ka, h⟩ := cV_some h
                                    obtain ⟨x115, s116, h1, h⟩ := cl_some h
                                    refine v_callV1 cok0 (As := [vi x113, vi x114]) er ka (tX0_keyOf h1) (lw_V q1260 q1261 q1262 q158 q1263) rfl dsX0_keyOf ⟨Nat.le_of_ble_eq_true rfl, Nat.le_of_ble_eq_true rfl⟩ (Nat.le_of_ble_eq_true rfl) dL_law_680 rfl ?_
                                    refine v_al2 dL_law_683 ?_
                                    refine v_aload_w dL_law_684 rfl ?_
                                    refine v_il3 dL_law_685 ?_
                                    refine v_iconst dL_law_686 ?_
                                    refine v_iadd dL_law_687 ?_
                                    refine v_scI hX hb h dL_law_688 (fun x117 h => ?_)
                                    refine v_aload_w dL_law_689 rfl ?_
                                    refine v_il3 dL_law_690 ?_
                                    refine v_iconst dL_law_691 ?_
                                    refine v_iadd dL_law_692 ?_
                                    refine v_scI hX hb h dL_law_693 (fun x118 h => ?_)
                                    obtain ⟨b694, er, ka, h⟩ := cV_some h
                                    obtain ⟨x119, s120, h1, h⟩ := cl_some h
                                    refine v_callV1 cok6 (As := [vi x117, vi x118]) er ka (tX8_keyOf h1) (lw_V q1977 q1978 q1979 q167 q1980) rfl dsX8_keyOf ⟨Nat.le_of_ble_eq_true rfl, Nat.le_of_ble_eq_true rfl⟩ (Nat.le_of_ble_eq_true rfl) dL_law_694 rfl ?_
                                    refine v_icmp_eq (tgt := 1074) dL_law_697 (by decide) (fun c => ?_) (fun c => ?_)
                                    · rw [if_pos c] at h
                                      exact v_weak (wss (wss (wss (wss wse)))) (lL_law_1074 hX hb hk18 h)
                                    · rw [if_neg c] at h
                                      refine v_iconst dL_law_700 ?_
                                      exact v_retZ h dL_law_701 rfl
                                  · rw [if_neg c15] at h
                                    by_cases c16 : (x1 &&& (iI 31)) = iI 16
                                    · rw [if_pos c16] at h
                                      refine v_tabIn (tgt := 702) dL_law_33 (by rw [c16]; decide) (by rw [c16]; decide) (by rw [c16]; rfl) (by decide) ?_
                                      refine v_al1 dL_law_702 ?_
                                      refine v_aload_w dL_law_703 rfl ?_
                                      refine v_il3 dL_law_704 ?_
                                      refine v_iconst dL_law_705 ?_
                                      refine v_iadd dL_law_706 ?_
                                      refine v_scI hX hb h dL_law_707 (fun x121 h => ?_)
                                      refine v_aload_w dL_law_708 rfl ?_
                                      refine v_il3 dL_law_709 ?_
                                      refine v_iconst dL_law_710 ?_
                                      refine v_iadd dL_law_711 ?_
                                      refine v_scI hX hb h dL_law_712 (fun x122 h => ?_)
                                      refine v_aload_w dL_law_713 rfl ?_
                                      refine v_il3 dL_law_714 ?_
                                      refine v_iconst dL_law_715 ?_
                                      refine v_iadd dL_law_716 ?_
                                      refine v_scI hX hb h dL_law_717 (fun x123 h => ?_)
                                      obtain ⟨b718, er, ka, h⟩ := cV_some h
                                      obtain ⟨x124, s125, h1, h⟩ := cl_some h
                                      refine v_callV1 cok0 (As := [vi x121, vi x122, vi x123]) er ka (tX0_about h1) (lw_V q1264 q1265 q1266 q158 q1267) rfl dsX0_about ⟨Nat.le_of_ble_eq_true rfl, Nat.le_of_ble_eq_true rfl⟩ (Nat.le_of_ble_eq_true rfl) dL_law_718 rfl ?_
                                      refine v_al2 dL_law_721 ?_
                                      refine v_aload_w dL_law_722 rfl ?_
                                      refine v_il3 dL_law_723 ?_
                                      refine v_iconst dL_law_724 ?_
                                      refine v_iadd dL_law_725 ?_
                                      refine v_scI hX hb h dL_law_726 (fun x126 h => ?_)
                                      refine v_aload_w dL_law_727 rfl ?_
                                      refine v_il3 dL_law_728 ?_
                                      refine v_iconst dL_law_729 ?_
                                      refine v_iadd dL_law_730 ?_
                                      refine v_scI hX hb h dL_law_731 (fun x127 h => ?_)
                                      refine v_aload_w dL_law_732 rfl ?_
                                      refine v_il3 dL_law_733 ?_
                                      refine v_iconst dL_law_734 ?_
                                      refine v_iadd dL_law_735 ?_
                                      refine v_scI hX hb h dL_law_736 (fun x128 h => ?_)
                                      obtain ⟨b737, er, ka, h⟩ := cV_some h
                                      obtain ⟨x129, s130, h1, h⟩ := cl_some h
                                      refine v_callV1 cok6 (As := [vi x126, vi x127, vi x128]) er ka (tX8_about h1) (lw_V q1981 q1982 q1983 q167 q1984) rfl dsX8_about ⟨Nat.le_of_ble_eq_true rfl, Nat.le_of_ble_eq_true rfl⟩ (Nat.le_of_ble_eq_true rfl) dL_law_737 rfl ?_
                                      refine v_icmp_eq (tgt := 1074) dL_law_740 (by decide) (fun c => ?_) (fun c => ?_)
                                      · rw [if_pos c] at h
                                        exact v_weak (wss (wss (wss (wss wse)))) (lL_law_1074 hX hb hk18 h)
                                      · rw [if_neg c] at h
                                        refine v_iconst dL_law_743 ?_
                                        exact v_retZ h dL_law_744 rfl
                                    · rw [if_neg c16] at h
                                      by_cases c17 : (x1 &&& (iI 31)) = iI 17
                                      · rw [if_pos c17] at h
                                        refine v_tabIn (tgt := 745) dL_law_33 (by rw [c17]; decide) (by rw [c17]; decide) (by rw [c17]; rfl) (by decide) ?_
                                        refine v_al1 dL_law_745 ?_
                                        refine v_aload_w dL_law_746 rfl ?_
                                        refine v_il3 dL_law_747 ?_
                                        refine v_iconst dL_law_748 ?_
                                        refine v_iadd dL_law_749 ?_
                                        refine v_scI hX hb h dL_law_750 (fun x131 h => ?_)
                                        refine v_aload_w dL_law_751 rfl ?_
                                        refine v_il3 dL_law_752 ?_
                                        refine v_iconst dL_law_753 ?_
                                        refine v_iadd dL_law_754 ?_
                                        refine v_scI hX hb h dL_law_755 (fun x132 h => ?_)
                                        obtain ⟨b756, er, ka, h⟩ := cV_some h
                                        obtain ⟨x133, s134, h1, h⟩ := cl_some h
                                        refine v_callV1 cok0 (As := [vi x131, vi x132]) er ka (tX0_message h1) (lw_V q1268 q1269 q1270 q158 q1271) rfl dsX0_message ⟨Nat.le_of_ble_eq_true rfl, Nat.le_of_ble_eq_true rfl⟩ (Nat.le_of_ble_eq_true rfl) dL_law_756 rfl ?_
                                        refine v_al2 dL_law_759 ?_
                                        refine v_aload_w dL_law_760 rfl ?_
                                        refine v_il3 dL_law_761 ?_
                                        refine v_iconst dL_law_762 ?_
                                        refine v_iadd dL_law_763 ?_
                                        refine v_scI hX hb h dL_law_764 (fun x135 h => ?_)
                                        refine v_aload_w dL_law_765 rfl ?_
                                        refine v_il3 dL_law_766 ?_
                                        refine v_iconst dL_law_767 ?_
                                        refine v_iadd dL_law_768 ?_
                                        refine v_scI hX hb h dL_law_769 (fun x136 h => ?_)
                                        obtain ⟨b770, er, ka, h⟩ := cV_some h
                                        obtain ⟨x137, s138, h1, h⟩ := cl_some h
                                        refine v_callV1 cok6 (As := [vi x135, vi x136]) er ka (tX8_message h1) (lw_V q1985 q1986 q1987 q167 q1988) rfl dsX8_message ⟨Nat.le_of_ble_eq_true rfl, Nat.le_of_ble_eq_true rfl⟩ (Nat.le_of_ble_eq_true rfl) dL_law_770 rfl ?_
                                        refine v_icmp_eq (tgt := 1074) dL_law_773 (by decide) (fun c => ?_) (fun c => ?_)
                                        · rw [if_pos c] at h
                                          exact v_weak (wss (wss (wss (wss wse)))) (lL_law_1074 hX hb hk18 h)
                                        · rw [if_neg c] at h
                                          refine v_iconst dL_law_776 ?_
                                          exact v_retZ h dL_law_777 rfl
                                      · rw [if_neg c17] at h
                                        by_cases c18 : (x1 &&& (iI 31)) = iI 18
                                        · rw [if_pos c18] at h
                                          refine v_tabIn (tgt := 778) dL_law_33 (by rw [c18]; decide) (by rw [c18]; decide) (by rw [c18]; rfl) (by decide) ?_
                                          refine v_al1 dL_law_778 ?_
                                          obtain ⟨b779, er, ka, h⟩ := cV_some h
                                          obtain ⟨x139, s140, h1, h⟩ := cl_some h
                                          refine v_callV1 cok0 (As := []) er ka (tX0_leaderNow h1) (lw_V q1272 q1273 q1274 q158 q1275) rfl dsX0_leaderNow ⟨Nat.le_of_ble_eq_true rfl, Nat.le_of_ble_eq_true rfl⟩ (Nat.le_of_ble_eq_true rfl) dL_law_779 rfl ?_
                                          refine v_al2 dL_law_782 ?_
                                          obtain ⟨b783, er, ka, h⟩ := cV_some h
                                          obtain ⟨x141, s142, h1, h⟩ := cl_some h
                                          refine v_callV1 cok6 (As := []) er ka (tX8_leaderNow h1) (lw_V q1951 q1952 q1953 q167 q1954) rfl dsX8_leaderNow ⟨Nat.le_of_ble_eq_true rfl, Nat.le_of_ble_eq_true rfl⟩ (Nat.le_of_ble_eq_true rfl) dL_law_783 rfl ?_
                                          refine v_icmp_eq (tgt := 1074) dL_law_786 (by decide) (fun c => ?_) (fun c => ?_)
                                          · rw [if_pos c] at h
                                            exact v_weak (wss (wss (wss (wss wse)))) (lL_law_1074 hX hb hk18 h)
                                          · rw [if_neg c] at h
                                            refine v_iconst dL_law_789 ?_
                                            exact v_retZ h dL_law_790 rfl
                                        · rw [if_neg c18] at h
                                          by_cases c19 : (x1 &&& (iI 31)) = iI 19
                                          · rw [if_pos c19] at h
                                            refine v_tabIn (tgt := 791) dL_law_33 (by rw [c19]; decide) (by rw [c19]; decide) (by rw [c19]; rfl) (by decide) ?_
                                            refine v_al1 dL_law_791 ?_
                                            refine v_aload_w dL_law_792 rfl ?_
                                            refine v_il3 dL_law_793 ?_
                                            refine v_iconst dL_law_794 ?_
                                            refine v_iadd dL_law_795 ?_
                                            refine v_scI hX hb h dL_law_796 (fun x143 h => ?_)
                                            refine v_aload_w dL_law_797 rfl ?_
                                            refine v_il3 dL_law_798 ?_
                                            refine v_iconst dL_law_799 ?_
                                            refine v_iadd dL_law_800 ?_
                                            refine v_scI hX hb h dL_law_801 (fun x144 h => ?_)
                                            obtain ⟨b802, er, ka, h⟩ := cV_some h
                                            obtain ⟨x145, s146, h1, h⟩ := cl_some h
                                            refine v_callV1 cok0 (As := [vi x143, vi x144]) er ka (tX0_heldAt h1) (lw_V q1276 q1277 q1278 q158 q1279) rfl dsX0_heldAt ⟨Nat.le_of_ble_eq_true rfl, Nat.le_of_ble_eq_true rfl⟩ (Nat.le_of_ble_eq_true rfl) dL_law_802 rfl ?_
                                            refine v_al2 dL_law_805 ?_
                                            refine v_aload_w dL_law_806 rfl ?_
                                            refine v_il3 dL_law_807 ?_
                                            refine v_iconst dL_law_808 ?_
                                            refine v_iadd dL_law_809 ?_
                                            refine v_scI hX hb h dL_law_810 (fun x147 h => ?_)
                                            refine v_aload_w dL_law_811 rfl ?_
                                            refine v_il3 dL_law_812 ?_
                                            refine v_iconst dL_law_813 ?_
                                            refine v_iadd dL_law_814 ?_
                                            refine v_scI hX hb h dL_law_815 (fun x148 h => ?_)
                                            obtain ⟨b816, er, ka, h⟩ := cV_some h
                                            obtain ⟨x149, s150, h1, h⟩ := cl_some h
                                            refine v_callV1 cok6 (As := [vi x147, vi x148]) er ka (tX8_heldAt h1) (lw_V q1989 q1990 q1991 q167 q1992) rfl dsX8_heldAt ⟨Nat.le_of_ble_eq_true rfl, Nat.le_of_ble_eq_true rfl⟩ (Nat.le_of_ble_eq_true rfl) dL_law_816 rfl ?_
                                            refine v_icmp_eq (tgt := 1074) dL_law_819 (by decide) (fun c => ?_) (fun c => ?_)
                                            · rw [if_pos c] at h
                                              exact v_weak (wss (wss (wss (wss wse)))) (lL_law_1074 hX hb hk18 h)
                                            · rw [if_neg c] at h
                                              refine v_iconst dL_law_822 ?_
                                              exact v_retZ h dL_law_823 rfl
                                          · rw [if_neg c19] at h
                                            by_cases c20 : (x1 &&& (iI 31)) = iI 20
                                            · rw [if_pos c20] at h
                                              refine v_tabIn (tgt := 824) dL_law_33 (by rw [c20]; decide) (by rw [c20]; decide) (by rw [c20]; rfl) (by decide) ?_
                                              refine v_al1 dL_law_824 ?_
                                              refine v_aload_w dL_law_825 rfl ?_
                                              refine v_il3 dL_law_826 ?_
                                              refine v_iconst dL_law_827 ?_
                                              refine v_iadd dL_law_828 ?_
                                              refine v_scI hX hb h dL_law_829 (fun x151 h => ?_)
                                              refine v_aload_w dL_law_830 rfl ?_
                                              refine v_il3 dL_law_831 ?_
                                              refine v_iconst dL_law_832 ?_
                                              refine v_iadd dL_law_833 ?_
                                              refine v_scI hX hb h dL_law_834 (fun x152 h => ?_)
                                              obtain ⟨b835, er, ka, h⟩ := cV_some h
                                              obtain ⟨x153, s154, h1, h⟩ := cl_some h
                                              refine v_callV1 cok0 (As := [vi x151, vi x152]) er ka (tX0_readIs h1) (lw_V q1280 q1281 q1282 q158 q1283) rfl dsX0_readIs ⟨Nat.le_of_ble_eq_true rfl, Nat.le_of_ble_eq_true rfl⟩ (Nat.le_of_ble_eq_true rfl) dL_law_835 rfl ?_
                                              refine v_al2 dL_law_838 ?_
                                              refine v_aload_w dL_law_839 rfl ?_
                                              refine v_il3 dL_law_840 ?_
                                              refine v_iconst dL_law_841 ?_
                                              refine v_iadd dL_law_842 ?_
                                              refine v_scI hX hb h dL_law_843 (fun x155 h => ?_)
                                              refine v_aload_w dL_law_844 rfl ?_
                                              refine v_il3 dL_law_845 ?_
                                              refine v_iconst dL_law_846 ?_
                                              refine v_iadd dL_law_847 ?_
                                              refine v_scI hX hb h dL_law_848 (fun x156 h => ?_)
                                              obtain ⟨b849, er, ka, h⟩ := cV_some h
                                              obtain ⟨x157, s158, h1, h⟩ := cl_some h
                                              refine v_callV1 cok6 (As := [vi x155, vi x156]) er ka (tX8_readIs h1) (lw_V q1993 q1994 q1995 q167 q1996) rfl dsX8_readIs ⟨Nat.le_of_ble_eq_true rfl, Nat.le_of_ble_eq_true rfl⟩ (Nat.le_of_ble_eq_true rfl) dL_law_849 rfl ?_
                                              refine v_icmp_eq (tgt := 1074) dL_law_852 (by decide) (fun c => ?_) (fun c => ?_)
                                              · rw [if_pos c] at h
                                                exact v_weak (wss (wss (wss (wss wse)))) (lL_law_1074 hX hb hk18 h)
                                              · rw [if_neg c] at h
                                                refine v_iconst dL_law_855 ?_
                                                exact v_retZ h dL_law_856 rfl
                                            · rw [if_neg c20] at h
                                              by_cases c21 : (x1 &&& (iI 31)) = iI 21
                                              · rw [if_pos c21] at h
                                                refine v_tabIn (tgt := 857) dL_law_33 (by rw [c21]; decide) (by rw [c21]; decide) (by rw [c21]; rfl) (by decide) ?_
                                                refine v_al1 dL_law_857 ?_
                                                refine v_aload_w dL_law_858 rfl ?_
                                                refine v_il3 dL_law_859 ?_
                                                refine v_iconst dL_law_860 ?_
                                                refine v_iadd dL_law_861 ?_
                                                refine v_scI hX hb h dL_law_862 (fun x159 h => ?_)
                                                obtain ⟨b863, er, ka, h⟩ := cV_some h
                                                obtain ⟨x160, s161, h1, h⟩ := cl_some h
                                                refine v_callV1 cok0 (As := [vi x159]) er ka (tX0_broken h1) (lw_V q1284 q1285 q1286 q158 q1287) rfl dsX0_broken ⟨Nat.le_of_ble_eq_true rfl, Nat.le_of_ble_eq_true rfl⟩ (Nat.le_of_ble_eq_true rfl) dL_law_863 rfl ?_
                                                refine v_al2 dL_law_866 ?_
                                                refine v_aload_w dL_law_867 rfl ?_
                                                refine v_il3 dL_law_868 ?_
                                                refine v_iconst dL_law_869 ?_
                                                refine v_iadd dL_law_870 ?_
                                                refine v_scI hX hb h dL_law_871 (fun x162 h => ?_)
                                                obtain ⟨b872, er, ka, h⟩ := cV_some h
                                                obtain ⟨x163, s164, h1, h⟩ := cl_some h
                                                refine v_callV1 cok6 (As := [vi x162]) er ka (tX8_broken h1) (lw_V q1997 q1998 q1999 q167 q2000) rfl dsX8_broken ⟨Nat.le_of_ble_eq_true rfl, Nat.le_of_ble_eq_true rfl⟩ (Nat.le_of_ble_eq_true rfl) dL_law_872 rfl ?_
                                                refine v_icmp_eq (tgt := 1074) dL_law_875 (by decide) (fun c => ?_) (fun c => ?_)
                                                · rw [if_pos c] at h
                                                  exact v_weak (wss (wss (wss (wss wse)))) (lL_law_1074 hX hb hk18 h)
                                                · rw [if_neg c] at h
                                                  refine v_iconst dL_law_878 ?_
                                                  exact v_retZ h dL_law_879 rfl
                                              · rw [if_neg c21] at h
                                                by_cases c22 : (x1 &&& (iI 31)) = iI 22
                                                · rw [if_pos c22] at h
                                                  refine v_tabIn (tgt := 880) dL_law_33 (by rw [c22]; decide) (by rw [c22]; decide) (by rw [c22]; rfl) (by decide) ?_
                                                  refine v_al1 dL_law_880 ?_
                                                  refine v_aload_w dL_law_881 rfl ?_
                                                  refine v_il3 dL_law_882 ?_
                                                  refine v_iconst dL_law_883 ?_
                                                  refine v_iadd dL_law_884 ?_
                                                  refine v_scI hX hb h dL_law_885 (fun x165 h => ?_)
                                                  refine v_aload_w dL_law_886 rfl ?_
                                                  refine v_il3 dL_law_887 ?_
                                                  refine v_iconst dL_law_888 ?_
                                                  refine v_iadd dL_law_889 ?_
                                                  refine v_scI hX hb h dL_law_890 (fun x166 h => ?_)
                                                  obtain ⟨b891, er, ka, h⟩ := cV_some h
                                                  obtain ⟨x167, s168, h1, h⟩ := cl_some h
                                                  refine v_callV1 cok0 (As := [vi x165, vi x166]) er ka (tX0_couldWin h1) (lw_V q1298 q1299 q1300 q158 q1301) rfl dsX0_couldWin ⟨Nat.le_of_ble_eq_true rfl, Nat.le_of_ble_eq_true rfl⟩ (Nat.le_of_ble_eq_true rfl) dL_law_891 rfl ?_
                                                  refine v_al2 dL_law_894 ?_
                                                  refine v_aload_w dL_law_895 rfl ?_
                                                  refine v_il3 dL_law_896 ?_
                                                  refine v_iconst dL_law_897 ?_
                                                  refine v_iadd dL_law_898 ?_
                                                  refine v_scI hX hb h dL_law_899 (fun x169 h => ?_)
                                                  refine v_aload_w dL_law_900 rfl ?_
                                                  refine v_il3 dL_law_901 ?_
                                                  refine v_iconst dL_law_902 ?_
                                                  refine v_iadd dL_law_903 ?_
                                                  refine v_scI hX hb h dL_law_904 (fun x170 h => ?_)
                                                  obtain ⟨b905, er, ka, h⟩ := cV_some h
                                                  obtain ⟨x171, s172, h1, h⟩ := cl_some h
                                                  refine v_callV1 cok6 (As := [vi x169, vi x170]) er ka (tX8_couldWin h1) (lw_V q2013 q2014 q2015 q167 q2016) rfl dsX8_couldWin ⟨Nat.le_of_ble_eq_true rfl, Nat.le_of_ble_eq_true rfl⟩ (Nat.le_of_ble_eq_true rfl) dL_law_905 rfl ?_
                                                  refine v_icmp_eq (tgt := 1074) dL_law_908 (by decide) (fun c => ?_) (fun c => ?_)
                                                  · rw [if_pos c] at h
                                                    exact v_weak (wss (wss (wss (wss wse)))) (lL_law_1074 hX hb hk18 h)
                                                  · rw [if_neg c] at h
                                                    refine v_iconst dL_law_911 ?_
                                                    exact v_retZ h dL_law_912 rfl
                                                · rw [if_neg c22] at h
                                                  by_cases c23 : (x1 &&& (iI 31)) = iI 23
                                                  · rw [if_pos c23] at h
                                                    refine v_tabIn (tgt := 913) dL_law_33 (by rw [c23]; decide) (by rw [c23]; decide) (by rw [c23]; rfl) (by decide) ?_
                                                    refine v_al1 dL_law_913 ?_
                                                    refine v_aload_w dL_law_914 rfl ?_
                                                    refine v_il3 dL_law_915 ?_
                                                    refine v_iconst dL_law_916 ?_
                                                    refine v_iadd dL_law_917 ?_
                                                    refine v_scI hX hb h dL_law_918 (fun x173 h => ?_)
                                                    refine v_aload_w dL_law_919 rfl ?_
                                                    refine v_il3 dL_law_920 ?_
                                                    refine v_iconst dL_law_921 ?_
                                                    refine v_iadd dL_law_922 ?_
                                                    refine v_scI hX hb h dL_law_923 (fun x174 h => ?_)
                                                    obtain ⟨b924, er, ka, h⟩ := cV_some h
                                                    obtain ⟨x175, s176, h1, h⟩ := cl_some h
                                                    refine v_callV1 cok0 (As := [vi x173, vi x174]) er ka (tX0_majority h1) (lw_V q1311 q1312 q1313 q158 q1314) rfl dsX0_majority ⟨Nat.le_of_ble_eq_true rfl, Nat.le_of_ble_eq_true rfl⟩ (Nat.le_of_ble_eq_true rfl) dL_law_924 rfl ?_
                                                    refine v_al2 dL_law_927 ?_
                                                    refine v_aload_w dL_law_928 rfl ?_
                                                    refine v_il3 dL_law_929 ?_
                                                    refine v_iconst dL_law_930 ?_
                                                    refine v_iadd dL_law_931 ?_
                                                    refine v_scI hX hb h dL_law_932 (fun x177 h => ?_)
                                                    refine v_aload_w dL_law_933 rfl ?_
                                                    refine v_il3 dL_law_934 ?_
                                                    refine v_iconst dL_law_935 ?_
                                                    refine v_iadd dL_law_936 ?_
                                                    refine v_scI hX hb h dL_law_937 (fun x178 h => ?_)
                                                    obtain ⟨b938, er, ka, h⟩ := cV_some h
                                                    obtain ⟨x179, s180, h1, h⟩ := cl_some h
                                                    refine v_callV1 cok6 (As := [vi x177, vi x178]) er ka (tX8_majority h1) (lw_V q2021 q2022 q2023 q167 q2024) rfl dsX8_majority ⟨Nat.le_of_ble_eq_true rfl, Nat.le_of_ble_eq_true rfl⟩ (Nat.le_of_ble_eq_true rfl) dL_law_938 rfl ?_
                                                    refine v_icmp_eq (tgt := 1074) dL_law_941 (by decide) (fun c => ?_) (fun c => ?_)
                                                    · rw [if_pos c] at h
                                                      exact v_weak (wss (wss (wss (wss wse)))) (lL_law_1074 hX hb hk18 h)
                                                    · rw [if_neg c] at h
                                                      refine v_iconst dL_law_944 ?_
                                                      exact v_retZ h dL_law_945 rfl
                                                  · rw [if_neg c23] at h
                                                    by_cases c24 : (x1 &&& (iI 31)) = iI 24
                                                    · rw [if_pos c24] at h
                                                      refine v_tabIn (tgt := 946) dL_law_33 (by rw [c24]; decide) (by rw [c24]; decide) (by rw [c24]; rfl) (by decide) ?_
                                                      refine v_al1 dL_law_946 ?_
                                                      refine v_aload_w dL_law_947 rfl ?_
                                                      refine v_il3 dL_law_948 ?_
                                                      refine v_iconst dL_law_949 ?_
                                                      refine v_iadd dL_law_950 ?_
                                                      refine v_scI hX hb h dL_law_951 (fun x181 h => ?_)
                                                      refine v_aload_w dL_law_952 rfl ?_
                                                      refine v_il3 dL_law_953 ?_
                                                      refine v_iconst dL_law_954 ?_
                                                      refine v_iadd dL_law_955 ?_
                                                      refine v_scI hX hb h dL_law_956 (fun x182 h => ?_)
                                                      obtain ⟨b957, er, ka, h⟩ := cV_some h
                                                      obtain ⟨x183, s184, h1, h⟩ := cl_some h
                                                      refine v_callV1 cok0 (As := [vi x181, vi x182]) er ka (tX0_till h1) (lw_V q1315 q1316 q1317 q158 q1318) rfl dsX0_till ⟨Nat.le_of_ble_eq_true rfl, Nat.le_of_ble_eq_true rfl⟩ (Nat.le_of_ble_eq_true rfl) dL_law_957 rfl ?_
                                                      refine v_al2 dL_law_960 ?_
                                                      refine v_aload_w dL_law_961 rfl ?_
                                                      refine v_il3 dL_law_962 ?_
                                                      refine v_iconst dL_law_963 ?_
                                                      refine v_iadd dL_law_964 ?_
                                                      refine v_scI hX hb h dL_law_965 (fun x185 h => ?_)
                                                      refine v_aload_w dL_law_966 rfl ?_
                                                      refine v_il3 dL_law_967 ?_
                                                      refine v_iconst dL_law_968 ?_
                                                      refine v_iadd dL_law_969 ?_
                                                      refine v_scI hX hb h dL_law_970 (fun x186 h => ?_)
                                                      obtain ⟨b971, er, ka, h⟩ := cV_some h
                                                      obtain ⟨x187, s188, h1, h⟩ := cl_some h
                                                      refine v_callV1 cok6 (As := [vi x185, vi x186]) er ka (tX8_till h1) (lw_V q2025 q2026 q2027 q167 q2028) rfl dsX8_till ⟨Nat.le_of_ble_eq_true rfl, Nat.le_of_ble_eq_true rfl⟩ (Nat.le_of_ble_eq_true rfl) dL_law_971 rfl ?_
                                                      refine v_icmp_eq (tgt := 1074) dL_law_974 (by decide) (fun c => ?_) (fun c => ?_)
                                                      · rw [if_pos c] at h
                                                        exact v_weak (wss (wss (wss (wss wse)))) (lL_law_1074 hX hb hk18 h)
                                                      · rw [if_neg c] at h
                                                        refine v_iconst dL_law_977 ?_
                                                        exact v_retZ h dL_law_978 rfl
                                                    · rw [if_neg c24] at h
                                                      by_cases c25 : (x1 &&& (iI 31)) = iI 25
                                                      · rw [if_pos c25] at h
                                                        refine v_tabIn (tgt := 979) dL_law_33 (by rw [c25]; decide) (by rw [c25]; decide) (by rw [c25]; rfl) (by decide) ?_
                                                        refine v_al1 dL_law_979 ?_
                                                        refine v_aload_w dL_law_980 rfl ?_
                                                        refine v_il3 dL_law_981 ?_
                                                        refine v_iconst dL_law_982 ?_
                                                        refine v_iadd dL_law_983 ?_
                                                        refine v_scI hX hb h dL_law_984 (fun x189 h => ?_)
                                                        obtain ⟨b985, er, ka, h⟩ := cV_some h
                                                        obtain ⟨x190, s191, h1, h⟩ := cl_some h
                                                        refine v_callV1 cok0 (As := [vi x189]) er ka (tX0_seed h1) (lw_V q1324 q1325 q1326 q158 q1327) rfl dsX0_seed ⟨Nat.le_of_ble_eq_true rfl, Nat.le_of_ble_eq_true rfl⟩ (Nat.le_of_ble_eq_true rfl) dL_law_985 rfl ?_
                                                        refine v_al2 dL_law_988 ?_
                                                        refine v_aload_w dL_law_989 rfl ?_
                                                        refine v_il3 dL_law_990 ?_
                                                        refine v_iconst dL_law_991 ?_
                                                        refine v_iadd dL_law_992 ?_
                                                        refine v_scI hX hb h dL_law_993 (fun x192 h => ?_)
                                                        obtain ⟨b994, er, ka, h⟩ := cV_some h
                                                        obtain ⟨x193, s194, h1, h⟩ := cl_some h
                                                        refine v_callV1 cok6 (As := [vi x192]) er ka (tX8_seed h1) (lw_V q2037 q2038 q2039 q167 q2040) rfl dsX8_seed ⟨Nat.le_of_ble_eq_true rfl, Nat.le_of_ble_eq_true rfl⟩ (Nat.le_of_ble_eq_true rfl) dL_law_994 rfl ?_
                                                        refine v_icmp_eq (tgt := 1074) dL_law_997 (by decide) (fun c => ?_) (fun c => ?_)
                                                        · rw [if_pos c] at h
                                                          exact v_weak (wss (wss (wss (wss wse)))) (lL_law_1074 hX hb hk18 h)
                                                        · rw [if_neg c] at h
                                                          refine v_iconst dL_law_1000 ?_
                                                          exact v_retZ h dL_law_1001 rfl
                                                      · rw [if_neg c25] at h
                                                        by_cases c26 : (x1 &&& (iI 31)) = iI 26
                                                        · rw [if_pos c26] at h
                                                          refine v_tabIn (tgt := 1002) dL_law_33 (by rw [c26]; decide) (by rw [c26]; decide) (by rw [c26]; rfl) (by decide) ?_
                                                          refine v_al1 dL_law_1002 ?_
                                                          obtain ⟨b1003, er, ka, h⟩ := cV_some h
                                                          obtain ⟨x195, s196, h1, h⟩ := cl_some h
                                                          refine v_callV1 cok0 (As := []) er ka (tX0_keep h1) (lw_V q1329 q1330 q1331 q158 q1332) rfl dsX0_keep ⟨Nat.le_of_ble_eq_true rfl, Nat.le_of_ble_eq_true rfl⟩ (Nat.le_of_ble_eq_true rfl) dL_law_1003 rfl ?_
                                                          refine v_al2 dL_law_1006 ?_
                                                          obtain ⟨b1007, er, ka, h⟩ := cV_some h
                                                          obtain ⟨x197, s198, h1, h⟩ := cl_some h
                                                          refine v_callV1 cok6 (As := []) er ka (tX8_keep h1) (lw_V q2042 q2043 q2044 q167 q2045) rfl dsX8_keep ⟨Nat.le_of_ble_eq_true rfl, Nat.le_of_ble_eq_true rfl⟩ (Nat.le_of_ble_eq_true rfl) dL_law_1007 rfl ?_
                                                          refine v_icmp_eq (tgt := 1074) dL_law_1010 (by decide) (fun c => ?_) (fun c => ?_)
                                                          · rw [if_pos c] at h
                                                            exact v_weak (wss (wss (wss (wss wse)))) (lL_law_1074 hX hb hk18 h)
                                                          · rw [if_neg c] at h
                                                            refine v_iconst dL_law_1013 ?_
                                                            exact v_retZ h dL_law_1014 rfl
                                                        · rw [if_neg c26] at h
                                                          by_cases c27 : (x1 &&& (iI 31)) = iI 27
                                                          · rw [if_pos c27] at h
                                                            refine v_tabIn (tgt := 1015) dL_law_33 (by rw [c27]; decide) (by rw [c27]; decide) (by rw [c27]; rfl) (by decide) ?_
                                                            refine v_al1 dL_law_1015 ?_
                                                            obtain ⟨b1016, er, ka, h⟩ := cV_some h
                                                            obtain ⟨x199, s200, h1, h⟩ := cl_some h
                                                            refine v_callV1 cok0 (As := []) er ka (tX0_undo h1) (lw_V q1333 q1334 q1335 q158 q1336) rfl dsX0_undo ⟨Nat.le_of_ble_eq_true rfl, Nat.le_of_ble_eq_true rfl⟩ (Nat.le_of_ble_eq_true rfl) dL_law_1016 rfl ?_
                                                            refine v_al2 dL_law_1019 ?_
                                                            obtain ⟨b1020, er, ka, h⟩ := cV_some h
                                                            obtain ⟨x201, s202, h1, h⟩ := cl_some h
                                                            refine v_callV1 cok6 (As := []) er ka (tX8_undo h1) (lw_V q2046 q2047 q2048 q167 q2049) rfl dsX8_undo ⟨Nat.le_of_ble_eq_true rfl, Nat.le_of_ble_eq_true rfl⟩ (Nat.le_of_ble_eq_true rfl) dL_law_1020 rfl ?_
                                                            refine v_icmp_eq (tgt := 1074) dL_law_1023 (by decide) (fun c => ?_) (fun c => ?_)
                                                            · rw [if_pos c] at h
                                                              exact v_weak (wss (wss (wss (wss wse)))) (lL_law_1074 hX hb hk18 h)
                                                            · rw [if_neg c] at h
                                                              refine v_iconst dL_law_1026 ?_
                                                              exact v_retZ h dL_law_1027 rfl
                                                          · rw [if_neg c27] at h
                                                            by_cases c28 : (x1 &&& (iI 31)) = iI 28
                                                            · rw [if_pos c28] at h
                                                              refine v_tabIn (tgt := 1028) dL_law_33 (by rw [c28]; decide) (by rw [c28]; decide) (by rw [c28]; rfl) (by decide) ?_
                                                              refine v_al1 dL_law_1028 ?_
                                                              refine v_aload_w dL_law_1029 rfl ?_
                                                              refine v_il3 dL_law_1030 ?_
                                                              refine v_iconst dL_law_1031 ?_
                                                              refine v_iadd dL_law_1032 ?_
                                                              refine v_scI hX hb h dL_law_1033 (fun x203 h => ?_)
                                                              obtain ⟨b1034, er, ka, h⟩ := cV_some h
                                                              obtain ⟨x204, s205, h1, h⟩ := cl_some h
                                                              refine v_callV1 cok0 (As := [vi x203]) er ka (tX0_check h1) (lw_V q1337 q1338 q1339 q158 q1340) rfl dsX0_check ⟨Nat.le_of_ble_eq_true rfl, Nat.le_of_ble_eq_true rfl⟩ (Nat.le_of_ble_eq_true rfl) dL_law_1034 rfl ?_
                                                              refine v_al2 dL_law_1037 ?_
                                                              refine v_aload_w dL_law_1038 rfl ?_
                                                              refine v_il3 dL_law_1039 ?_
                                                              refine v_iconst dL_law_1040 ?_
                                                              refine v_iadd dL_law_1041 ?_
                                                              refine v_scI hX hb h dL_law_1042 (fun x206 h => ?_)
                                                              obtain ⟨b1043, er, ka, h⟩ := cV_some h
                                                              obtain ⟨x207, s208, h1, h⟩ := cl_some h
                                                              refine v_callV1 cok6 (As := [vi x206]) er ka (tX8_check h1) (lw_V q2050 q2051 q2052 q167 q2053) rfl dsX8_check ⟨Nat.le_of_ble_eq_true rfl, Nat.le_of_ble_eq_true rfl⟩ (Nat.le_of_ble_eq_true rfl) dL_law_1043 rfl ?_
                                                              refine v_icmp_eq (tgt := 1074) dL_law_1046 (by decide) (fun c => ?_) (fun c => ?_)
                                                              · rw [if_pos c] at h
                                                                exact v_weak (wss (wss (wss (wss wse)))) (lL_law_1074 hX hb hk18 h)
                                                              · rw [if_neg c] at h
                                                                refine v_iconst dL_law_1049 ?_
                                                                exact v_retZ h dL_law_1050 rfl
                                                            · rw [if_neg c28] at h
                                                              by_cases c29 : (x1 &&& (iI 31)) = iI 29
                                                              · rw [if_pos c29] at h
                                                                refine v_tabIn (tgt := 1051) dL_law_33 (by rw [c29]; decide) (by rw [c29]; decide) (by rw [c29]; rfl) (by decide) ?_
                                                                refine v_al1 dL_law_1051 ?_
                                                                refine v_aload_w dL_law_1052 rfl ?_
                                                                refine v_il3 dL_law_1053 ?_
                                                                refine v_iconst dL_law_1054 ?_
                                                                refine v_iadd dL_law_1055 ?_
                                                                refine v_scI hX hb h dL_law_1056 (fun x209 h => ?_)
                                                                obtain ⟨b1057, er, ka, h⟩ := cV_some h
                                                                obtain ⟨x210, s211, h1, h⟩ := cl_some h
                                                                refine v_callV1 cok0 (As := [vi x209]) er ka (tX0_count h1) (lw_V q1349 q1350 q1351 q158 q1352) rfl dsX0_count ⟨Nat.le_of_ble_eq_true rfl, Nat.le_of_ble_eq_true rfl⟩ (Nat.le_of_ble_eq_true rfl) dL_law_1057 rfl ?_
                                                                refine v_al2 dL_law_1060 ?_
                                                                refine v_aload_w dL_law_1061 rfl ?_
                                                                refine v_il3 dL_law_1062 ?_
                                                                refine v_iconst dL_law_1063 ?_
                                                                refine v_iadd dL_law_1064 ?_
                                                                refine v_scI hX hb h dL_law_1065 (fun x212 h => ?_)
                                                                obtain ⟨b1066, er, ka, h⟩ := cV_some h
                                                                obtain ⟨x213, s214, h1, h⟩ := cl_some h
                                                                refine v_callV1 cok6 (As := [vi x212]) er ka (tX8_count h1) (lw_V q2062 q2063 q2064 q167 q2065) rfl dsX8_count ⟨Nat.le_of_ble_eq_true rfl, Nat.le_of_ble_eq_true rfl⟩ (Nat.le_of_ble_eq_true rfl) dL_law_1066 rfl ?_
                                                                refine v_icmp_eq (tgt := 1074) dL_law_1069 (by decide) (fun c => ?_) (fun c => ?_)
                                                                · rw [if_pos c] at h
                                                                  exact v_weak (wss (wss (wss (wss wse)))) (lL_law_1074 hX hb hk18 h)
                                                                · rw [if_neg c] at h
                                                                  refine v_iconst dL_law_1072 ?_
                                                                  exact v_retZ h dL_law_1073 rfl
                                                              · rw [if_neg c29] at h
                                                                refine v_tabOut (tgt := 1074) dL_law_33 (tab_out (fun j h1 h2 => ?_) (by decide) (by decide)) (by decide) ?_
                                                                · rcases (show j = 0 ∨ j = 1 ∨ j = 2 ∨ j = 3 ∨ j = 4 ∨ j = 5 ∨ j = 6 ∨ j = 7 ∨ j = 8 ∨ j = 9 ∨ j = 10 ∨ j = 11 ∨ j = 12 ∨ j = 13 ∨ j = 14 ∨ j = 15 ∨ j = 16 ∨ j = 17 ∨ j = 18 ∨ j = 19 ∨ j = 20 ∨ j = 21 ∨ j = 22 ∨ j = 23 ∨ j = 24 ∨ j = 25 ∨ j = 26 ∨ j = 27 ∨ j = 28 ∨ j = 29 by omega) with rfl | rfl | rfl | rfl | rfl | rfl | rfl | rfl | rfl | rfl | rfl | rfl | rfl | rfl | rfl | rfl | rfl | rfl | rfl | rfl | rfl | rfl | rfl | rfl | rfl | rfl | rfl | rfl | rfl | rfl
                                                                  · exact c0
                                                                  · exact c1
                                                                  · exact c2
                                                                  · exact c3
                                                                  · exact c4
                                                                  · exact c5
                                                                  · exact c6
                                                                  · exact c7
                                                                  · exact c8
                                                                  · exact c9
                                                                  · exact c10
                                                                  · exact c11
                                                                  · exact c12
                                                                  · exact c13
                                                                  · exact c14
                                                                  · exact c15
                                                                  · exact c16
                                                                  · exact c17
                                                                  · exact c18
                                                                  · exact c19
                                                                  · exact c20
                                                                  · exact c21
                                                                  · exact c22
                                                                  · exact c23
                                                                  · exact c24
                                                                  · exact c25
                                                                  · exact c26
                                                                  · exact c27
                                                                  · exact c28
                                                                  · exact c29
                                                                exact v_weak (wss (wss (wss (wss wse)))) (lL_law_1074 hX hb hk18 h)
theorem lL_law_18 {E : EE} {G : GG} {b : Nat} {sn : Nat} {xs : Nat → Int32} (hX : va_X b sn xs (gS G) (eH E)) (hb : b < eB E) : ∀ (f : Nat) {v1 : Option Nat} {v2 : Option Nat} {v3 : Int32} {σ : Mem} {z : Int32 × Mem}, sL_law_18 sn xs f v1 v2 v3 σ = some z → V E mL_law G 18 [some (vw b), some (vr v1), some (vr v2), some (vi v3)] [] σ (some (vi z.1), z.2)
  | 0, _, _, _, _, _, h => by cases h
  | f + 1, _, _, _, _, _, h => lL_law_18b hX hb (fun _ _ _ _ _ h => lL_law_18 hX hb f h) h
theorem lL_law {E : EE} {G : GG} {b : Nat} {sn : Nat} {xs : Nat → Int32} (hX : va_X b sn xs (gS G) (eH E)) (hb : b < eB E) {σ : Mem} {z : Int32 × Mem} (h : sL_law sn xs σ = some z) : V E mL_law G 0 [some (vw b), none, none, none] [] σ (some (vi z.1), z.2) := by
  unfold sL_law at h
  refine v_new cok0 h dL_law_0 q182 (fun x1 s2 h => ?_)
  refine v_dup dL_law_3 ?_
  obtain ⟨b4, er, h⟩ := cI_some h
  obtain ⟨_, s3, h1, h⟩ := cl_some h
  refine v_cI er (As := []) (tX0_init h1) rfl q184 q186 q185 q158 rfl dsX0_init ⟨Nat.le_of_ble_eq_true rfl, Nat.le_of_ble_eq_true rfl⟩ (Nat.le_of_ble_eq_true rfl) dL_law_4 rfl ?_
  refine v_astore_n (L' := [some (vw b), some (vr x1), none, none]) dL_law_7 (Nat.le_of_ble_eq_true rfl) (Nat.le_of_ble_eq_true rfl) rfl ?_
  refine v_new cok6 h dL_law_8 q1362 (fun x4 s5 h => ?_)
  refine v_dup dL_law_11 ?_
  obtain ⟨b12, er, h⟩ := cI_some h
  obtain ⟨_, s6, h1, h⟩ := cl_some h
  refine v_cI er (As := []) (tX8_init h1) rfl q1364 q1366 q1365 q167 rfl dsX8_init ⟨Nat.le_of_ble_eq_true rfl, Nat.le_of_ble_eq_true rfl⟩ (Nat.le_of_ble_eq_true rfl) dL_law_12 rfl ?_
  refine v_astore_n (L' := [some (vw b), some (vr x1), some (vr x4), none]) dL_law_15 (Nat.le_of_ble_eq_true rfl) (Nat.le_of_ble_eq_true rfl) rfl ?_
  refine v_iconst dL_law_16 ?_
  refine v_istore_n (L' := [some (vw b), some (vr x1), some (vr x4), some (vi (iI 0))]) dL_law_17 (Nat.le_of_ble_eq_true rfl) (Nat.le_of_ble_eq_true rfl) rfl ?_
  exact v_weak (wss (wss (wss (wss wse)))) (lL_law_18 hX hb FU h)
