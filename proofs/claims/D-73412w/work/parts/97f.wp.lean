/-! DEPS: wo -/
/-! WP: what is made at the start: a node, a cluster, a text, the twin's arrays (printed by hand) -/
section
variable {σ s : Mem} {N B : Nat}
theorem f_node (h : (mK σ N).1 = 3) (hz : mZ σ = N + 1) (hN : N ≤ 100000) (hy : mY σ ≤ 900000) : ∃ s, sX4_init (some N) σ = some ((), s) ∧ ChI (fun w => w) (fun w => (20, (fmA (w + 1)).1)) 3 48 σ N 9 s := by
  have C0 : ChI (fun w => w) (fun w => (20, (fmA (w + 1)).1)) 3 48 σ N 0 σ := ChI.start h hz
  obtain ⟨s1, x1, C1⟩ := C0.step (a := 20) (b := 48) (k := 0) (v := 48) rfl rfl rfl (fun w hw => hw) (by omega) (by omega) (by omega) (by omega) (by omega) (by omega)
  obtain ⟨s2, x2, C2⟩ := C1.step (a := 20) (b := 48) (k := 1) (v := 48) rfl rfl rfl (fun w hw => hw) (by omega) (by omega) (by omega) (by omega) (by omega) (by omega)
  obtain ⟨s3, x3, C3⟩ := C2.step (a := 20) (b := 48) (k := 2) (v := 48) rfl rfl rfl (fun w hw => hw) (by omega) (by omega) (by omega) (by omega) (by omega) (by omega)
  obtain ⟨s4, x4, C4⟩ := C3.step (a := 20) (b := 48) (k := 3) (v := 48) rfl rfl rfl (fun w hw => hw) (by omega) (by omega) (by omega) (by omega) (by omega) (by omega)
  obtain ⟨s5, x5, C5⟩ := C4.step (a := 20) (b := 8) (k := 4) (v := 8) rfl rfl rfl (fun w hw => hw) (by omega) (by omega) (by omega) (by omega) (by omega) (by omega)
  obtain ⟨s6, x6, C6⟩ := C5.step (a := 20) (b := 8) (k := 5) (v := 8) rfl rfl rfl (fun w hw => hw) (by omega) (by omega) (by omega) (by omega) (by omega) (by omega)
  obtain ⟨s7, x7, C7⟩ := C6.step (a := 20) (b := 7) (k := 6) (v := 7) rfl rfl rfl (fun w hw => hw) (by omega) (by omega) (by omega) (by omega) (by omega) (by omega)
  obtain ⟨s8, x8, C8⟩ := C7.step (a := 20) (b := 7) (k := 7) (v := 7) rfl rfl rfl (fun w hw => hw) (by omega) (by omega) (by omega) (by omega) (by omega) (by omega)
  obtain ⟨s9, x9, C9⟩ := C8.step (a := 20) (b := 7) (k := 8) (v := 7) rfl rfl rfl (fun w hw => hw) (by omega) (by omega) (by omega) (by omega) (by omega) (by omega)
  refine ⟨s9, ?_, C9⟩
  unfold sX4_init
  rw [cI_y, x1, x2, x3, x4, x5, x6, x7, x8, x9]
/-- a text -/
theorem f_text (h : (mK σ N).1 = 4) (hz : mZ σ = N + 1) (hN : N ≤ 100000) (hy : mY σ ≤ 900000) : ∃ s, sX5_init (some N) σ = some ((), s) ∧ ChI (fun w => w) (fun w => if w = 0 then (20, 16) else if w = 1 then (24, 16) else (25, 16)) 4 16 σ N 3 s := by
  have C0 : ChI (fun w => w) (fun w => if w = 0 then (20, 16) else if w = 1 then (24, 16) else (25, 16)) 4 16 σ N 0 σ := ChI.start h hz
  obtain ⟨s1, x1, C1⟩ := C0.step (a := 20) (b := 16) (k := 0) (v := 16) rfl rfl rfl (fun w hw => hw) (by omega) (by omega) (by omega) (by omega) (by omega) (by omega)
  obtain ⟨s2, x2, C2⟩ := C1.step (a := 24) (b := 16) (k := 1) (v := 16) rfl rfl rfl (fun w hw => hw) (by omega) (by omega) (by omega) (by omega) (by omega) (by omega)
  obtain ⟨s3, x3, C3⟩ := C2.step (a := 25) (b := 16) (k := 2) (v := 16) rfl rfl rfl (fun w hw => hw) (by omega) (by omega) (by omega) (by omega) (by omega) (by omega)
  refine ⟨s3, ?_, C3⟩
  unfold sX5_init
  rw [cI_y, x1, x2, x3]
/-- the twin's arrays -/
def ksW (w : Nat) : Nat := if w < 6 then w else if w < 19 then w + 10 else w + 11
def kdW (w : Nat) : Nat × Nat := if w < 3 then (20, 11138) else if w < 5 then (20, 27) else if w = 5 then (21, 260) else if w < 8 then (20, 260) else if w < 12 then (20, 16) else if w = 12 then (20, 260) else if w < 17 then (20, 16) else if w = 17 then (20, 260) else if w = 18 then (20, 7) else if w < 23 then (20, 200) else (20, 2)
theorem ksW_mono (i w : Nat) (h : w < i) : ksW w < ksW i := by
  unfold ksW
  split
  · split
    · omega
    · split <;> omega
  · split
    · split
      · omega
      · split <;> omega
    · split
      · omega
      · split <;> omega
theorem f_twin {K : Mem → Option (Unit × Mem)} (h : (mK σ N).1 = 6) (hz : mZ σ = N + 1) (hN : N ≤ 100000) (hy : mY σ ≤ 900000) (hK : ∀ s, K s = gR s (some N) 6 0 fun x79 => sI s x79 (iI 11132) (iI 1) fun s80 => cV s80 (some N) 6 (cl (sX8_founds (some N) (iI 7) s80) fun _ s81 => some ((), s81))) :
    ∃ s, sX8_init (some N) σ = K s ∧ ChI ksW kdW 6 11138 σ N 26 s := by
  have C0 : ChI ksW kdW 6 11138 σ N 0 σ := ChI.start h hz
  obtain ⟨s1, x1, C1⟩ := C0.step (a := 20) (b := 11138) (k := 0) (v := 11138) rfl rfl rfl (ksW_mono 0) (by omega) (by omega) (by omega) (by omega) (by omega) (by omega)
  obtain ⟨s2, x2, C2⟩ := C1.step (a := 20) (b := 11138) (k := 1) (v := 11138) rfl rfl rfl (ksW_mono 1) (by omega) (by omega) (by omega) (by omega) (by omega) (by omega)
  obtain ⟨s3, x3, C3⟩ := C2.step (a := 20) (b := 11138) (k := 2) (v := 11138) rfl rfl rfl (ksW_mono 2) (by omega) (by omega) (by omega) (by omega) (by omega) (by omega)
  obtain ⟨s4, x4, C4⟩ := C3.step (a := 20) (b := 27) (k := 3) (v := 27) rfl rfl rfl (ksW_mono 3) (by omega) (by omega) (by omega) (by omega) (by omega) (by omega)
  obtain ⟨s5, x5, C5⟩ := C4.step (a := 20) (b := 27) (k := 4) (v := 27) rfl rfl rfl (ksW_mono 4) (by omega) (by omega) (by omega) (by omega) (by omega) (by omega)
  obtain ⟨s6, x6, C6⟩ := C5.step (a := 21) (b := 260) (k := 5) (v := 260) rfl rfl rfl (ksW_mono 5) (by omega) (by omega) (by omega) (by omega) (by omega) (by omega)
  obtain ⟨s7, x7, C7⟩ := C6.step (a := 20) (b := 260) (k := 16) (v := 260) rfl rfl rfl (ksW_mono 6) (by omega) (by omega) (by omega) (by omega) (by omega) (by omega)
  obtain ⟨s8, x8, C8⟩ := C7.step (a := 20) (b := 260) (k := 17) (v := 260) rfl rfl rfl (ksW_mono 7) (by omega) (by omega) (by omega) (by omega) (by omega) (by omega)
  obtain ⟨s9, x9, C9⟩ := C8.step (a := 20) (b := 16) (k := 18) (v := 16) rfl rfl rfl (ksW_mono 8) (by omega) (by omega) (by omega) (by omega) (by omega) (by omega)
  obtain ⟨s10, x10, C10⟩ := C9.step (a := 20) (b := 16) (k := 19) (v := 16) rfl rfl rfl (ksW_mono 9) (by omega) (by omega) (by omega) (by omega) (by omega) (by omega)
  obtain ⟨s11, x11, C11⟩ := C10.step (a := 20) (b := 16) (k := 20) (v := 16) rfl rfl rfl (ksW_mono 10) (by omega) (by omega) (by omega) (by omega) (by omega) (by omega)
  obtain ⟨s12, x12, C12⟩ := C11.step (a := 20) (b := 16) (k := 21) (v := 16) rfl rfl rfl (ksW_mono 11) (by omega) (by omega) (by omega) (by omega) (by omega) (by omega)
  obtain ⟨s13, x13, C13⟩ := C12.step (a := 20) (b := 260) (k := 22) (v := 260) rfl rfl rfl (ksW_mono 12) (by omega) (by omega) (by omega) (by omega) (by omega) (by omega)
  obtain ⟨s14, x14, C14⟩ := C13.step (a := 20) (b := 16) (k := 23) (v := 16) rfl rfl rfl (ksW_mono 13) (by omega) (by omega) (by omega) (by omega) (by omega) (by omega)
  obtain ⟨s15, x15, C15⟩ := C14.step (a := 20) (b := 16) (k := 24) (v := 16) rfl rfl rfl (ksW_mono 14) (by omega) (by omega) (by omega) (by omega) (by omega) (by omega)
  obtain ⟨s16, x16, C16⟩ := C15.step (a := 20) (b := 16) (k := 25) (v := 16) rfl rfl rfl (ksW_mono 15) (by omega) (by omega) (by omega) (by omega) (by omega) (by omega)
  obtain ⟨s17, x17, C17⟩ := C16.step (a := 20) (b := 16) (k := 26) (v := 16) rfl rfl rfl (ksW_mono 16) (by omega) (by omega) (by omega) (by omega) (by omega) (by omega)
  obtain ⟨s18, x18, C18⟩ := C17.step (a := 20) (b := 260) (k := 27) (v := 260) rfl rfl rfl (ksW_mono 17) (by omega) (by omega) (by omega) (by omega) (by omega) (by omega)
  obtain ⟨s19, x19, C19⟩ := C18.step (a := 20) (b := 7) (k := 28) (v := 7) rfl rfl rfl (ksW_mono 18) (by omega) (by omega) (by omega) (by omega) (by omega) (by omega)
  obtain ⟨s20, x20, C20⟩ := C19.step (a := 20) (b := 200) (k := 30) (v := 200) rfl rfl rfl (ksW_mono 19) (by omega) (by omega) (by omega) (by omega) (by omega) (by omega)
  obtain ⟨s21, x21, C21⟩ := C20.step (a := 20) (b := 200) (k := 31) (v := 200) rfl rfl rfl (ksW_mono 20) (by omega) (by omega) (by omega) (by omega) (by omega) (by omega)
  obtain ⟨s22, x22, C22⟩ := C21.step (a := 20) (b := 200) (k := 32) (v := 200) rfl rfl rfl (ksW_mono 21) (by omega) (by omega) (by omega) (by omega) (by omega) (by omega)
  obtain ⟨s23, x23, C23⟩ := C22.step (a := 20) (b := 200) (k := 33) (v := 200) rfl rfl rfl (ksW_mono 22) (by omega) (by omega) (by omega) (by omega) (by omega) (by omega)
  obtain ⟨s24, x24, C24⟩ := C23.step (a := 20) (b := 2) (k := 34) (v := 2) rfl rfl rfl (ksW_mono 23) (by omega) (by omega) (by omega) (by omega) (by omega) (by omega)
  obtain ⟨s25, x25, C25⟩ := C24.step (a := 20) (b := 2) (k := 35) (v := 2) rfl rfl rfl (ksW_mono 24) (by omega) (by omega) (by omega) (by omega) (by omega) (by omega)
  obtain ⟨s26, x26, C26⟩ := C25.step (a := 20) (b := 2) (k := 36) (v := 2) rfl rfl rfl (ksW_mono 25) (by omega) (by omega) (by omega) (by omega) (by omega) (by omega)
  refine ⟨s26, ?_, C26⟩
  unfold sX8_init
  rw [cI_y, x1, x2, x3, x4, x5, x6, x7, x8, x9, x10, x11, x12, x13, x14, x15, x16, x17, x18, x19, x20, x21, x22, x23, x24, x25, x26, hK]
end
