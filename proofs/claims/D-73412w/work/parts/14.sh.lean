set_option maxRecDepth 100000
/-! SHALLOW FUNCTIONS, printed by gen.py out of the bytecode -/
noncomputable def sJ1_bitCount (v0 : Int32) (σ : Mem) : Option (Int32 × Mem) :=
  lt (v0 - (((v0.toUInt32 >>> ((iI 1).toUInt32 &&& Int32.toUInt32 31)).toInt32) &&& (iI 1431655765))) fun x1 =>
  lt ((x1 &&& (iI 858993459)) + (((x1.toUInt32 >>> ((iI 2).toUInt32 &&& Int32.toUInt32 31)).toInt32) &&& (iI 858993459))) fun x2 =>
  lt ((x2 + ((x2.toUInt32 >>> ((iI 4).toUInt32 &&& Int32.toUInt32 31)).toInt32)) &&& (iI 252645135)) fun x3 =>
  lt (x3 + ((x3.toUInt32 >>> ((iI 8).toUInt32 &&& Int32.toUInt32 31)).toInt32)) fun x4 =>
  lt (x4 + ((x4.toUInt32 >>> ((iI 16).toUInt32 &&& Int32.toUInt32 31)).toInt32)) fun x5 =>
  some (x5 &&& (iI 63), σ)
/-! SHALLOW FUNCTIONS, printed by gen.py out of the bytecode -/
noncomputable def sX8_sets (v0 : Option Nat) (v1 : Int32) (v2 : Int32) (v3 : Int32) (σ : Mem) : Option (Unit × Mem) :=
  gR σ v0 6 0 fun x1 =>
  sI σ x1 (((iI 244) * v1) + v2) v3 fun s2 =>
  some ((), s2)
noncomputable def sX8_the (v0 : Option Nat) (v1 : Int32) (v2 : Int32) (σ : Mem) : Option (Int32 × Mem) :=
  gR σ v0 6 0 fun x1 =>
  aI σ x1 (((iI 244) * v1) + v2) fun x2 =>
  some (x2, σ)
noncomputable def sX8_feels (v0 : Option Nat) (v1 : Int32) (v2 : Int32) (v3 : Int32) (σ : Mem) : Option (Int32 × Mem) :=
  gR σ v0 6 0 fun x1 =>
  gR σ v0 6 0 fun x2 =>
  aI σ x2 (iI 11132) fun x3 =>
  rm (((iI 25173) * x3) + (iI 13849)) (iI 65536) fun x4 =>
  sI σ x1 (iI 11132) x4 fun s5 =>
  gR s5 v0 6 28 fun x6 =>
  sI s5 x6 (iI 0) v1 fun s7 =>
  gR s7 v0 6 28 fun x8 =>
  sI s7 x8 (iI 1) v2 fun s9 =>
  gR s9 v0 6 28 fun x10 =>
  sI s9 x10 (iI 2) v3 fun s11 =>
  gR s11 v0 6 28 fun x12 =>
  cV s11 v0 6 <|
  cl (sX8_the v0 v1 (iI 1) s11) fun x13 s14 =>
  rm x13 (iI 100) fun x15 =>
  sI s14 x12 (iI 3) x15 fun s16 =>
  gR s16 v0 6 28 fun x17 =>
  gR s16 v0 6 0 fun x18 =>
  aI s16 x18 (iI 11133) fun x19 =>
  sI s16 x17 (iI 4) x19 fun s20 =>
  gR s20 v0 6 28 fun x21 =>
  gR s20 v0 6 0 fun x22 =>
  aI s20 x22 (iI 11131) fun x23 =>
  rm x23 (iI 100) fun x24 =>
  sI s20 x21 (iI 5) x24 fun s25 =>
  gR s25 v0 6 28 fun x26 =>
  gR s25 v0 6 0 fun x27 =>
  aI s25 x27 (iI 11132) fun x28 =>
  rm x28 (iI 10) fun x29 =>
  sI s25 x26 (iI 6) x29 fun s30 =>
  gR s30 v0 6 28 fun x31 =>
  aI s30 x31 (iI 6) fun x32 =>
  some (x32, s30)
noncomputable def sX8_reckon (v0 : Int32) (v1 : Int32) (v2 : Int32) (σ : Mem) : Option (Int32 × Mem) :=
  if v0 = iI 2 then
    some (v1 + v2, σ)
  else
    if v0 = iI 3 then
      some (v1 - v2, σ)
    else
      if v0 = iI 4 then
        some (v1 * v2, σ)
      else
        if v0 = iI 5 then
          dv v1 v2 fun x1 =>
          some (x1, σ)
        else
          if v0 = iI 6 then
            rm v1 v2 fun x2 =>
            some (x2, σ)
          else
            if v0 = iI 7 then
              if v2 ≤ v1 then
                some (iI 0, σ)
              else
                some (iI 1, σ)
            else
              if v0 = iI 8 then
                if v1 ≤ v2 then
                  some (iI 0, σ)
                else
                  some (iI 1, σ)
              else
                if v1 = v2 then
                  some (iI 1, σ)
                else
                  some (iI 0, σ)
noncomputable def sX8_reckonsTo_230 (k16 : Option Nat → Int32 → Int32 → Int32 → Int32 → Mem → Option (Int32 × Mem)) (v0 : Option Nat) (v2 : Int32) (v3 : Int32) (v4 : Int32) (v5 : Int32) (σ : Mem) : Option (Int32 × Mem) :=
  k16 v0 v2 v3 v4 v5 σ
noncomputable def sX8_reckonsTo_85 (k16 : Option Nat → Int32 → Int32 → Int32 → Int32 → Mem → Option (Int32 × Mem)) (v0 : Option Nat) (v2 : Int32) (v3 : Int32) (v4 : Int32) (v5 : Int32) (t0 : Option Nat) (t1 : Int32) (t2 : Int32) (σ : Mem) : Option (Int32 × Mem) :=
  sI σ t0 t1 t2 fun s1 =>
  sX8_reckonsTo_230 k16 v0 v2 (v3 + (iI 1)) v4 v5 s1
noncomputable def sX8_reckonsTo_63 (k16 : Option Nat → Int32 → Int32 → Int32 → Int32 → Mem → Option (Int32 × Mem)) (v0 : Option Nat) (v2 : Int32) (v3 : Int32) (v4 : Int32) (v5 : Int32) (v6 : Int32) (v7 : Int32) (σ : Mem) : Option (Int32 × Mem) :=
  gR σ v0 6 27 fun x1 =>
  if v6 = (iI 0) then
    sX8_reckonsTo_85 k16 v0 v2 v3 v4 v5 x1 v3 v7 σ
  else
    gR σ v0 6 28 fun x2 =>
    aI σ x2 v7 fun x3 =>
    sX8_reckonsTo_85 k16 v0 v2 v3 v4 v5 x1 v3 x3 σ
noncomputable def sX8_reckonsTo_155 (k16 : Option Nat → Int32 → Int32 → Int32 → Int32 → Mem → Option (Int32 × Mem)) (v0 : Option Nat) (v2 : Int32) (v3 : Int32) (v4 : Int32) (v5 : Int32) (v7 : Int32) (t0 : Int32) (t1 : Int32) (σ : Mem) : Option (Int32 × Mem) :=
  if t0 = t1 then
    sX8_reckonsTo_230 k16 v0 v2 v3 v4 (v4 + v7) σ
  else
    sX8_reckonsTo_230 k16 v0 v2 (v3 - (iI 1)) v4 v5 σ
noncomputable def sX8_reckonsTo_135 (k16 : Option Nat → Int32 → Int32 → Int32 → Int32 → Mem → Option (Int32 × Mem)) (v0 : Option Nat) (v2 : Int32) (v3 : Int32) (v4 : Int32) (v5 : Int32) (v6 : Int32) (v7 : Int32) (σ : Mem) : Option (Int32 × Mem) :=
  gR σ v0 6 27 fun x1 =>
  aI σ x1 (v3 - (iI 1)) fun x2 =>
  if v6 = (iI 12) then
    sX8_reckonsTo_155 k16 v0 v2 v3 v4 v5 v7 x2 (iI 1) σ
  else
    sX8_reckonsTo_155 k16 v0 v2 v3 v4 v5 v7 x2 (iI 0) σ
noncomputable def sX8_reckonsTo_203 (k16 : Option Nat → Int32 → Int32 → Int32 → Int32 → Mem → Option (Int32 × Mem)) (v0 : Option Nat) (v2 : Int32) (v3 : Int32) (v4 : Int32) (v5 : Int32) (v6 : Int32) (σ : Mem) : Option (Int32 × Mem) :=
  gR σ v0 6 27 fun x1 =>
  gR σ v0 6 27 fun x2 =>
  aI σ x2 (v3 - (iI 1)) fun x3 =>
  gR σ v0 6 27 fun x4 =>
  aI σ x4 v3 fun x5 =>
  cl (sX8_reckon v6 x3 x5 σ) fun x6 s7 =>
  sI s7 x1 (v3 - (iI 1)) x6 fun s8 =>
  sX8_reckonsTo_230 k16 v0 v2 v3 v4 v5 s8
noncomputable def sX8_reckonsTo_192 (k16 : Option Nat → Int32 → Int32 → Int32 → Int32 → Mem → Option (Int32 × Mem)) (v0 : Option Nat) (v2 : Int32) (v3 : Int32) (v4 : Int32) (v5 : Int32) (v6 : Int32) (σ : Mem) : Option (Int32 × Mem) :=
  gR σ v0 6 27 fun x1 =>
  aI σ x1 v3 fun x2 =>
  if x2 = (iI 0) then
    some (iI 0, σ)
  else
    sX8_reckonsTo_203 k16 v0 v2 v3 v4 v5 v6 σ
noncomputable def sX8_reckonsTo_16b (k16 : Option Nat → Int32 → Int32 → Int32 → Int32 → Mem → Option (Int32 × Mem)) (v0 : Option Nat) (v2 : Int32) (v3 : Int32) (v4 : Int32) (v5 : Int32) (σ : Mem) : Option (Int32 × Mem) :=
  if v2 ≤ v5 then
    gR σ v0 6 27 fun x1 =>
    aI σ x1 (iI 0) fun x2 =>
    some (x2, σ)
  else
    gR σ v0 6 22 fun x3 =>
    aI σ x3 v5 fun x4 =>
    dv x4 (iI 1048576) fun x5 =>
    gR σ v0 6 22 fun x6 =>
    aI σ x6 v5 fun x7 =>
    rm x7 (iI 1048576) fun x8 =>
    if x5 = (iI 0) then
      sX8_reckonsTo_63 k16 v0 v2 v3 v4 (v5 + (iI 1)) x5 x8 σ
    else
      if x5 = (iI 1) then
        sX8_reckonsTo_63 k16 v0 v2 v3 v4 (v5 + (iI 1)) x5 x8 σ
      else
        if x5 = (iI 10) then
          gR σ v0 6 27 fun x9 =>
          gR σ v0 6 27 fun x10 =>
          aI σ x10 (v3 - (iI 1)) fun x11 =>
          sI σ x9 (v3 - (iI 1)) ((iI 1) - x11) fun s12 =>
          sX8_reckonsTo_230 k16 v0 v2 v3 v4 (v5 + (iI 1)) s12
        else
          if x5 = (iI 11) then
            sX8_reckonsTo_135 k16 v0 v2 v3 v4 (v5 + (iI 1)) x5 x8 σ
          else
            if x5 = (iI 12) then
              sX8_reckonsTo_135 k16 v0 v2 v3 v4 (v5 + (iI 1)) x5 x8 σ
            else
              if x5 = (iI 5) then
                sX8_reckonsTo_192 k16 v0 v2 (v3 - (iI 1)) v4 (v5 + (iI 1)) x5 σ
              else
                if x5 = (iI 6) then
                  sX8_reckonsTo_192 k16 v0 v2 (v3 - (iI 1)) v4 (v5 + (iI 1)) x5 σ
                else
                  sX8_reckonsTo_203 k16 v0 v2 (v3 - (iI 1)) v4 (v5 + (iI 1)) x5 σ
noncomputable def sX8_reckonsTo_16 : Nat → Option Nat → Int32 → Int32 → Int32 → Int32 → Mem → Option (Int32 × Mem)
  | 0 => fun _ _ _ _ _ _ => none
  | f + 1 => sX8_reckonsTo_16b (sX8_reckonsTo_16 f)
noncomputable def sX8_reckonsTo (v0 : Option Nat) (v1 : Int32) (v2 : Int32) (σ : Mem) : Option (Int32 × Mem) :=
  dv v1 (iI 260) fun x1 =>
  sX8_reckonsTo_16 FU v0 v2 (iI 0) ((iI 260) * x1) v1 σ
noncomputable def sX8_byLaw_91 (k3 : Option Nat → Int32 → Int32 → Int32 → Int32 → Int32 → Mem → Option (Int32 × Mem)) (v0 : Option Nat) (v1 : Int32) (v2 : Int32) (v3 : Int32) (v4 : Int32) (v5 : Int32) (σ : Mem) : Option (Int32 × Mem) :=
  k3 v0 v1 v2 v3 v4 (v5 + iI 1) σ
noncomputable def sX8_byLaw_3b (k3 : Option Nat → Int32 → Int32 → Int32 → Int32 → Int32 → Mem → Option (Int32 × Mem)) (v0 : Option Nat) (v1 : Int32) (v2 : Int32) (v3 : Int32) (v4 : Int32) (v5 : Int32) (σ : Mem) : Option (Int32 × Mem) :=
  gI σ v0 6 15 fun x1 =>
  if x1 ≤ v5 then
    some (v4, σ)
  else
    gR σ v0 6 23 fun x2 =>
    aI σ x2 v5 fun x3 =>
    if x3 = v1 then
      gR σ v0 6 25 fun x4 =>
      aI σ x4 v5 fun x5 =>
      gR σ v0 6 26 fun x6 =>
      aI σ x6 v5 fun x7 =>
      cV σ v0 6 <|
      cl (sX8_reckonsTo v0 x5 x7 σ) fun x8 s9 =>
      if x8 = (iI 1) then
        gR s9 v0 6 24 fun x10 =>
        aI s9 x10 v5 fun x11 =>
        gR s9 v0 6 25 fun x12 =>
        aI s9 x12 v5 fun x13 =>
        cV s9 v0 6 <|
        cl (sX8_reckonsTo v0 x11 x13 s9) fun x14 s15 =>
        if v2 ≤ x14 then
          if x14 ≤ v3 then
            some (x14, s15)
          else
            some (v3, s15)
        else
          some (v2, s15)
      else
        sX8_byLaw_91 k3 v0 v1 v2 v3 v4 v5 s9
    else
      sX8_byLaw_91 k3 v0 v1 v2 v3 v4 v5 σ
noncomputable def sX8_byLaw_3 : Nat → Option Nat → Int32 → Int32 → Int32 → Int32 → Int32 → Mem → Option (Int32 × Mem)
  | 0 => fun _ _ _ _ _ _ _ => none
  | f + 1 => sX8_byLaw_3b (sX8_byLaw_3 f)
noncomputable def sX8_byLaw (v0 : Option Nat) (v1 : Int32) (v2 : Int32) (v3 : Int32) (v4 : Int32) (σ : Mem) : Option (Int32 × Mem) :=
  sX8_byLaw_3 FU v0 v1 v2 v3 v4 (iI 0) σ
noncomputable def sX8_setsTimer (v0 : Option Nat) (v1 : Int32) (σ : Mem) : Option (Unit × Mem) :=
  cV σ v0 6 <|
  cl (sX8_feels v0 v1 v1 (iI 6) σ) fun x1 s2 =>
  cV s2 v0 6 <|
  cl (sX8_byLaw v0 (iI 101) (iI 4) (iI 40) (iI 8) s2) fun x3 s4 =>
  cV s4 v0 6 <|
  cl (sX8_sets v0 v1 (iI 10) (x3 + x1) s4) fun _ s5 =>
  some ((), s5)
noncomputable def sX8_founds_86b (k86 : Option Nat → Int32 → Mem → Option (Unit × Mem)) (v0 : Option Nat) (v3 : Int32) (σ : Mem) : Option (Unit × Mem) :=
  if (iI 7) ≤ v3 then
    some ((), σ)
  else
    cV σ v0 6 <|
    cl (sX8_setsTimer v0 v3 σ) fun _ s1 =>
    k86 v0 (v3 + iI 1) s1
noncomputable def sX8_founds_86 : Nat → Option Nat → Int32 → Mem → Option (Unit × Mem)
  | 0 => fun _ _ _ => none
  | f + 1 => sX8_founds_86b (sX8_founds_86 f)
noncomputable def sX8_founds_42b (k42 : Option Nat → Int32 → Int32 → Mem → Option (Unit × Mem)) (v0 : Option Nat) (v1 : Int32) (v3 : Int32) (σ : Mem) : Option (Unit × Mem) :=
  if (iI 7) ≤ v3 then
    sX8_founds_86 FU v0 (iI 0) σ
  else
    cV σ v0 6 <|
    cl (sX8_sets v0 v3 (iI 0) (iI 1) σ) fun _ s1 =>
    cV s1 v0 6 <|
    cl (sX8_sets v0 v3 (iI 2) (iI (-1)) s1) fun _ s2 =>
    cV s2 v0 6 <|
    cl (sX8_sets v0 v3 (iI 11) (iI (-1)) s2) fun _ s3 =>
    cV s3 v0 6 <|
    cl (sX8_sets v0 v3 (iI 6) v1 s3) fun _ s4 =>
    k42 v0 v1 (v3 + iI 1) s4
noncomputable def sX8_founds_42 : Nat → Option Nat → Int32 → Int32 → Mem → Option (Unit × Mem)
  | 0 => fun _ _ _ _ => none
  | f + 1 => sX8_founds_42b (sX8_founds_42 f)
noncomputable def sX8_founds_11b (k11 : Option Nat → Int32 → Int32 → Int32 → Mem → Option (Unit × Mem)) (v0 : Option Nat) (v1 : Int32) (v2 : Int32) (v3 : Int32) (σ : Mem) : Option (Unit × Mem) :=
  if (iI 11138) ≤ v3 then
    gR σ v0 6 0 fun x1 =>
    sI σ x1 (iI 11132) v2 fun s2 =>
    sX8_founds_42 FU v0 v1 (iI 0) s2
  else
    gR σ v0 6 0 fun x3 =>
    sI σ x3 v3 (iI 0) fun s4 =>
    k11 v0 v1 v2 (v3 + iI 1) s4
noncomputable def sX8_founds_11 : Nat → Option Nat → Int32 → Int32 → Int32 → Mem → Option (Unit × Mem)
  | 0 => fun _ _ _ _ _ => none
  | f + 1 => sX8_founds_11b (sX8_founds_11 f)
noncomputable def sX8_founds (v0 : Option Nat) (v1 : Int32) (σ : Mem) : Option (Unit × Mem) :=
  gR σ v0 6 0 fun x1 =>
  aI σ x1 (iI 11132) fun x2 =>
  sX8_founds_11 FU v0 v1 x2 (iI 0) σ
noncomputable def sX8_init (v0 : Option Nat) (σ : Mem) : Option (Unit × Mem) :=
  cI σ v0 <|
  nA σ 20 (iI 11138) fun x1 s2 =>
  pR s2 v0 6 0 x1 fun s3 =>
  nA s3 20 (iI 11138) fun x4 s5 =>
  pR s5 v0 6 1 x4 fun s6 =>
  nA s6 20 (iI 11138) fun x7 s8 =>
  pR s8 v0 6 2 x7 fun s9 =>
  nA s9 20 (iI 27) fun x10 s11 =>
  pR s11 v0 6 3 x10 fun s12 =>
  nA s12 20 (iI 27) fun x13 s14 =>
  pR s14 v0 6 4 x13 fun s15 =>
  nA s15 21 (iI 260) fun x16 s17 =>
  pR s17 v0 6 5 x16 fun s18 =>
  nA s18 20 (iI 260) fun x19 s20 =>
  pR s20 v0 6 16 x19 fun s21 =>
  nA s21 20 (iI 260) fun x22 s23 =>
  pR s23 v0 6 17 x22 fun s24 =>
  nA s24 20 (iI 16) fun x25 s26 =>
  pR s26 v0 6 18 x25 fun s27 =>
  nA s27 20 (iI 16) fun x28 s29 =>
  pR s29 v0 6 19 x28 fun s30 =>
  nA s30 20 (iI 16) fun x31 s32 =>
  pR s32 v0 6 20 x31 fun s33 =>
  nA s33 20 (iI 16) fun x34 s35 =>
  pR s35 v0 6 21 x34 fun s36 =>
  nA s36 20 (iI 260) fun x37 s38 =>
  pR s38 v0 6 22 x37 fun s39 =>
  nA s39 20 (iI 16) fun x40 s41 =>
  pR s41 v0 6 23 x40 fun s42 =>
  nA s42 20 (iI 16) fun x43 s44 =>
  pR s44 v0 6 24 x43 fun s45 =>
  nA s45 20 (iI 16) fun x46 s47 =>
  pR s47 v0 6 25 x46 fun s48 =>
  nA s48 20 (iI 16) fun x49 s50 =>
  pR s50 v0 6 26 x49 fun s51 =>
  nA s51 20 (iI 260) fun x52 s53 =>
  pR s53 v0 6 27 x52 fun s54 =>
  nA s54 20 (iI 7) fun x55 s56 =>
  pR s56 v0 6 28 x55 fun s57 =>
  nA s57 20 (iI 200) fun x58 s59 =>
  pR s59 v0 6 30 x58 fun s60 =>
  nA s60 20 (iI 200) fun x61 s62 =>
  pR s62 v0 6 31 x61 fun s63 =>
  nA s63 20 (iI 200) fun x64 s65 =>
  pR s65 v0 6 32 x64 fun s66 =>
  nA s66 20 (iI 200) fun x67 s68 =>
  pR s68 v0 6 33 x67 fun s69 =>
  nA s69 20 (iI 2) fun x70 s71 =>
  pR s71 v0 6 34 x70 fun s72 =>
  nA s72 20 (iI 2) fun x73 s74 =>
  pR s74 v0 6 35 x73 fun s75 =>
  nA s75 20 (iI 2) fun x76 s77 =>
  pR s77 v0 6 36 x76 fun s78 =>
  gR s78 v0 6 0 fun x79 =>
  sI s78 x79 (iI 11132) (iI 1) fun s80 =>
  cV s80 v0 6 <|
  cl (sX8_founds v0 (iI 7) s80) fun _ s81 =>
  some ((), s81)
noncomputable def sX8_types_2b (k2 : Option Nat → Int32 → Int32 → Mem → Option (Unit × Mem)) (v0 : Option Nat) (v1 : Int32) (v2 : Int32) (σ : Mem) : Option (Unit × Mem) :=
  if v2 < (iI 0) then
    some ((), σ)
  else
    gR σ v0 6 5 fun x1 =>
    gI σ v0 6 6 fun x2 =>
    sB σ x1 x2 ((v1 >>> (((iI 8) * v2) &&& 31)).toInt8.toInt32) fun s3 =>
    gI s3 v0 6 6 fun x4 =>
    pI s3 v0 6 6 (x4 + (iI 1)) fun s5 =>
    k2 v0 v1 (v2 + iI (-1)) s5
noncomputable def sX8_types_2 : Nat → Option Nat → Int32 → Int32 → Mem → Option (Unit × Mem)
  | 0 => fun _ _ _ _ => none
  | f + 1 => sX8_types_2b (sX8_types_2 f)
noncomputable def sX8_types (v0 : Option Nat) (v1 : Int32) (σ : Mem) : Option (Unit × Mem) :=
  sX8_types_2 FU v0 v1 (iI 3) σ
noncomputable def sX8_feed (v0 : Option Nat) (v1 : Int32) (v2 : Int32) (v3 : Int32) (v4 : Int32) (v5 : Int32) (σ : Mem) : Option (Int32 × Mem) :=
  gI σ v0 6 6 fun x1 =>
  if (x1 + (iI 20)) ≤ (iI 260) then
    cV σ v0 6 <|
    cl (sX8_types v0 v1 σ) fun _ s2 =>
    cV s2 v0 6 <|
    cl (sX8_types v0 v2 s2) fun _ s3 =>
    cV s3 v0 6 <|
    cl (sX8_types v0 v3 s3) fun _ s4 =>
    cV s4 v0 6 <|
    cl (sX8_types v0 v4 s4) fun _ s5 =>
    cV s5 v0 6 <|
    cl (sX8_types v0 v5 s5) fun _ s6 =>
    gI s6 v0 6 6 fun x7 =>
    some (x7, s6)
  else
    some (iI (-1), σ)
noncomputable def sX8_in (v0 : Int32) (v1 : Int32) (v2 : Int32) (σ : Mem) : Option (Int32 × Mem) :=
  if v0 < v1 then
    rZ (iI 0) σ
  else
    if v2 < v0 then
      rZ (iI 0) σ
    else
      rZ (iI 1) σ
noncomputable def sX8_beginsText (v0 : Option Nat) (v1 : Int32) (σ : Mem) : Option (Unit × Mem) :=
  pI σ v0 6 7 (iI 0) fun s1 =>
  pI s1 v0 6 8 v1 fun s2 =>
  pI s2 v0 6 12 (iI 0) fun s3 =>
  pI s3 v0 6 14 (iI 0) fun s4 =>
  some ((), s4)
noncomputable def sX8_here (v0 : Option Nat) (σ : Mem) : Option (Int32 × Mem) :=
  gI σ v0 6 7 fun x1 =>
  gI σ v0 6 8 fun x2 =>
  if x2 ≤ x1 then
    some (iI (-1), σ)
  else
    gR σ v0 6 5 fun x3 =>
    gI σ v0 6 7 fun x4 =>
    aB σ x3 x4 fun x5 =>
    some (x5 &&& (iI 255), σ)
noncomputable def sX8_wrongAt (v0 : Option Nat) (v1 : Int32) (v2 : Int32) (σ : Mem) : Option (Int32 × Mem) :=
  pI σ v0 6 9 (((iI (-1000)) * v1) - v2) fun s1 =>
  rZ (iI 0) s1
noncomputable def sX8_opens (v0 : Option Nat) (v1 : Int32) (σ : Mem) : Option (Int32 × Mem) :=
  gI σ v0 6 11 fun x1 =>
  if x1 = (iI 6) then
    gI σ v0 6 7 fun x11 =>
    cV σ v0 6 <|
    cl (sX8_wrongAt v0 (iI 5) x11 σ) fun x12 s13 =>
    rZ x12 s13
  else
    gI σ v0 6 11 fun x2 =>
    pI σ v0 6 11 (x2 + (iI 1)) fun s3 =>
    gR s3 v0 6 17 fun x4 =>
    gI s3 v0 6 13 fun x5 =>
    sI s3 x4 x5 ((iI 1048576) * v1) fun s6 =>
    gI s6 v0 6 13 fun x7 =>
    pI s6 v0 6 13 (x7 + (iI 1)) fun s8 =>
    gI s8 v0 6 7 fun x9 =>
    pI s8 v0 6 7 (x9 + (iI 1)) fun s10 =>
    rZ (iI 1) s10
noncomputable def sX8_isDigit (v0 : Option Nat) (σ : Mem) : Option (Int32 × Mem) :=
  cV σ v0 6 <|
  cl (sX8_here v0 σ) fun x1 s2 =>
  if x1 < (iI 48) then
    rZ (iI 0) s2
  else
    cV s2 v0 6 <|
    cl (sX8_here v0 s2) fun x3 s4 =>
    if (iI 57) < x3 then
      rZ (iI 0) s4
    else
      rZ (iI 1) s4
noncomputable def sX8_readsNumber_10b (k10 : Option Nat → Int32 → Mem → Option (Int32 × Mem)) (v0 : Option Nat) (v1 : Int32) (σ : Mem) : Option (Int32 × Mem) :=
  cV σ v0 6 <|
  cl (sX8_isDigit v0 σ) fun x1 s2 =>
  if x1 = (iI 0) then
    rZ (iI 1) s2
  else
    gI s2 v0 6 7 fun x3 =>
    if x3 = (v1 + (iI 5)) then
      gI s2 v0 6 7 fun x10 =>
      cV s2 v0 6 <|
      cl (sX8_wrongAt v0 (iI 2) x10 s2) fun x11 s12 =>
      rZ x11 s12
    else
      gI s2 v0 6 10 fun x4 =>
      cV s2 v0 6 <|
      cl (sX8_here v0 s2) fun x5 s6 =>
      pI s6 v0 6 10 ((((iI 10) * x4) + x5) - (iI 48)) fun s7 =>
      gI s7 v0 6 7 fun x8 =>
      pI s7 v0 6 7 (x8 + (iI 1)) fun s9 =>
      k10 v0 v1 s9
noncomputable def sX8_readsNumber_10 : Nat → Option Nat → Int32 → Mem → Option (Int32 × Mem)
  | 0 => fun _ _ _ => none
  | f + 1 => sX8_readsNumber_10b (sX8_readsNumber_10 f)
noncomputable def sX8_readsNumber (v0 : Option Nat) (σ : Mem) : Option (Int32 × Mem) :=
  gI σ v0 6 7 fun x1 =>
  pI σ v0 6 10 (iI 0) fun s2 =>
  sX8_readsNumber_10 FU v0 x1 s2
noncomputable def sX8_notes (v0 : Option Nat) (v1 : Int32) (v2 : Int32) (σ : Mem) : Option (Unit × Mem) :=
  gR σ v0 6 16 fun x1 =>
  gI σ v0 6 12 fun x2 =>
  sI σ x1 x2 (((iI 1048576) * v1) + v2) fun s3 =>
  gI s3 v0 6 12 fun x4 =>
  pI s3 v0 6 12 (x4 + (iI 1)) fun s5 =>
  some ((), s5)
noncomputable def sX8_factOf (v0 : Int32) (σ : Mem) : Option (Int32 × Mem) :=
  if v0 = iI 102 then
    some (iI 0, σ)
  else
    if v0 = iI 103 then
      some (iI (-1), σ)
    else
      if v0 = iI 104 then
        some (iI (-1), σ)
      else
        if v0 = iI 105 then
          some (iI (-1), σ)
        else
          if v0 = iI 106 then
            some (iI (-1), σ)
          else
            if v0 = iI 107 then
              some (iI 2, σ)
            else
              if v0 = iI 108 then
                some (iI (-1), σ)
              else
                if v0 = iI 109 then
                  some (iI (-1), σ)
                else
                  if v0 = iI 110 then
                    some (iI 3, σ)
                  else
                    if v0 = iI 111 then
                      some (iI (-1), σ)
                    else
                      if v0 = iI 112 then
                        some (iI (-1), σ)
                      else
                        if v0 = iI 113 then
                          some (iI 4, σ)
                        else
                          if v0 = iI 114 then
                            some (iI (-1), σ)
                          else
                            if v0 = iI 115 then
                              some (iI 5, σ)
                            else
                              if v0 = iI 116 then
                                some (iI 1, σ)
                              else
                                if v0 = iI 117 then
                                  some (iI (-1), σ)
                                else
                                  if v0 = iI 118 then
                                    some (iI (-1), σ)
                                  else
                                    if v0 = iI 119 then
                                      some (iI 6, σ)
                                    else
                                      some (iI (-1), σ)
noncomputable def sX8_readsFactor_0b (k0 : Option Nat → Mem → Option (Int32 × Mem)) (v0 : Option Nat) (σ : Mem) : Option (Int32 × Mem) :=
  cV σ v0 6 <|
  cl (sX8_here v0 σ) fun x1 s2 =>
  if x1 = (iI 91) then
    cV s2 v0 6 <|
    cl (sX8_opens v0 (iI 14) s2) fun x19 s20 =>
    if x19 = (iI 0) then
      rZ (iI 0) s20
    else
      k0 v0 s20
  else
    cV s2 v0 6 <|
    cl (sX8_isDigit v0 s2) fun x3 s4 =>
    if x3 = (iI 0) then
      cV s4 v0 6 <|
      cl (sX8_here v0 s4) fun x5 s6 =>
      cl (sX8_factOf x5 s6) fun x7 s8 =>
      if x7 = (iI (-1)) then
        gI s8 v0 6 7 fun x12 =>
        cV s8 v0 6 <|
        cl (sX8_wrongAt v0 (iI 1) x12 s8) fun x13 s14 =>
        rZ x13 s14
      else
        cV s8 v0 6 <|
        cl (sX8_notes v0 (iI 1) x7 s8) fun _ s9 =>
        gI s9 v0 6 7 fun x10 =>
        pI s9 v0 6 7 (x10 + (iI 1)) fun s11 =>
        rZ (iI 1) s11
    else
      cV s4 v0 6 <|
      cl (sX8_readsNumber v0 s4) fun x15 s16 =>
      if x15 = (iI 0) then
        rZ (iI 0) s16
      else
        gI s16 v0 6 10 fun x17 =>
        cV s16 v0 6 <|
        cl (sX8_notes v0 (iI 0) x17 s16) fun _ s18 =>
        rZ (iI 1) s18
noncomputable def sX8_readsFactor_0 : Nat → Option Nat → Mem → Option (Int32 × Mem)
  | 0 => fun _ _ => none
  | f + 1 => sX8_readsFactor_0b (sX8_readsFactor_0 f)
noncomputable def sX8_readsFactor (v0 : Option Nat) (σ : Mem) : Option (Int32 × Mem) := sX8_readsFactor_0 FU v0 σ
noncomputable def sX8_sumSign (v0 : Int32) (σ : Mem) : Option (Int32 × Mem) :=
  if v0 = (iI 43) then
    some (iI 2, σ)
  else
    if v0 = (iI 45) then
      some (iI 3, σ)
    else
      if v0 = (iI 42) then
        some (iI 4, σ)
      else
        if v0 = (iI 47) then
          some (iI 5, σ)
        else
          if v0 = (iI 37) then
            some (iI 6, σ)
          else
            some (iI (-1), σ)
noncomputable def sX8_waitTop (v0 : Option Nat) (σ : Mem) : Option (Int32 × Mem) :=
  gI σ v0 6 13 fun x1 =>
  if x1 = (iI 0) then
    some (iI (-1), σ)
  else
    gR σ v0 6 17 fun x2 =>
    gI σ v0 6 13 fun x3 =>
    aI σ x2 (x3 - (iI 1)) fun x4 =>
    dv x4 (iI 1048576) fun x5 =>
    some (x5, σ)
noncomputable def sX8_closesSums_37 (k0 : Option Nat → Int32 → Mem → Option (Unit × Mem)) (v0 : Option Nat) (v1 : Int32) (σ : Mem) : Option (Unit × Mem) :=
  cV σ v0 6 <|
  cl (sX8_waitTop v0 σ) fun x1 s2 =>
  cV s2 v0 6 <|
  cl (sX8_notes v0 x1 (iI 0) s2) fun _ s3 =>
  gI s3 v0 6 13 fun x4 =>
  pI s3 v0 6 13 (x4 - (iI 1)) fun s5 =>
  k0 v0 v1 s5
noncomputable def sX8_closesSums_17 (k0 : Option Nat → Int32 → Mem → Option (Unit × Mem)) (v0 : Option Nat) (v1 : Int32) (σ : Mem) : Option (Unit × Mem) :=
  if v1 = (iI 0) then
    some ((), σ)
  else
    cV σ v0 6 <|
    cl (sX8_waitTop v0 σ) fun x1 s2 =>
    if x1 = (iI 2) then
      sX8_closesSums_37 k0 v0 v1 s2
    else
      cV s2 v0 6 <|
      cl (sX8_waitTop v0 s2) fun x3 s4 =>
      if x3 = (iI 3) then
        sX8_closesSums_37 k0 v0 v1 s4
      else
        some ((), s4)
noncomputable def sX8_closesSums_0b (k0 : Option Nat → Int32 → Mem → Option (Unit × Mem)) (v0 : Option Nat) (v1 : Int32) (σ : Mem) : Option (Unit × Mem) :=
  cV σ v0 6 <|
  cl (sX8_waitTop v0 σ) fun x1 s2 =>
  if x1 < (iI 4) then
    sX8_closesSums_17 k0 v0 v1 s2
  else
    cV s2 v0 6 <|
    cl (sX8_waitTop v0 s2) fun x3 s4 =>
    if x3 ≤ (iI 6) then
      sX8_closesSums_37 k0 v0 v1 s4
    else
      sX8_closesSums_17 k0 v0 v1 s4
noncomputable def sX8_closesSums_0 : Nat → Option Nat → Int32 → Mem → Option (Unit × Mem)
  | 0 => fun _ _ _ => none
  | f + 1 => sX8_closesSums_0b (sX8_closesSums_0 f)
noncomputable def sX8_closesSums (v0 : Option Nat) (v1 : Int32) (σ : Mem) : Option (Unit × Mem) := sX8_closesSums_0 FU v0 v1 σ
noncomputable def sX8_hasOpenSum_2b (k2 : Option Nat → Int32 → Mem → Option (Int32 × Mem)) (v0 : Option Nat) (v2 : Int32) (σ : Mem) : Option (Int32 × Mem) :=
  gI σ v0 6 13 fun x1 =>
  if x1 ≤ v2 then
    rZ (iI 0) σ
  else
    gR σ v0 6 17 fun x2 =>
    aI σ x2 v2 fun x3 =>
    dv x3 (iI 1048576) fun x4 =>
    if x4 = (iI 14) then
      rZ (iI 1) σ
    else
      k2 v0 (v2 + iI 1) σ
noncomputable def sX8_hasOpenSum_2 : Nat → Option Nat → Int32 → Mem → Option (Int32 × Mem)
  | 0 => fun _ _ _ => none
  | f + 1 => sX8_hasOpenSum_2b (sX8_hasOpenSum_2 f)
noncomputable def sX8_hasOpenSum (v0 : Option Nat) (v1 : Int32) (σ : Mem) : Option (Int32 × Mem) :=
  sX8_hasOpenSum_2 FU v0 v1 σ
noncomputable def sX8_readsSum_138 (v0 : Option Nat) (v1 : Int32) (σ : Mem) : Option (Int32 × Mem) :=
  cV σ v0 6 <|
  cl (sX8_hasOpenSum v0 v1 σ) fun x1 s2 =>
  if x1 = (iI 0) then
    cV s2 v0 6 <|
    cl (sX8_closesSums v0 (iI 1) s2) fun _ s3 =>
    rZ (iI 1) s3
  else
    gI s2 v0 6 7 fun x4 =>
    cV s2 v0 6 <|
    cl (sX8_wrongAt v0 (iI 1) x4 s2) fun x5 s6 =>
    rZ x5 s6
noncomputable def sX8_readsSum_163 (k14 : Option Nat → Int32 → Mem → Option (Int32 × Mem)) (v0 : Option Nat) (v1 : Int32) (σ : Mem) : Option (Int32 × Mem) :=
  k14 v0 v1 σ
noncomputable def sX8_readsSum_38 (k14 : Option Nat → Int32 → Mem → Option (Int32 × Mem)) (v0 : Option Nat) (v1 : Int32) (v2 : Int32) (t0 : Option Nat) (t1 : Int32) (σ : Mem) : Option (Int32 × Mem) :=
  cV σ t0 6 <|
  cl (sX8_closesSums t0 t1 σ) fun _ s1 =>
  gR s1 v0 6 17 fun x2 =>
  gI s1 v0 6 13 fun x3 =>
  sI s1 x2 x3 ((iI 1048576) * v2) fun s4 =>
  gI s4 v0 6 13 fun x5 =>
  pI s4 v0 6 13 (x5 + (iI 1)) fun s6 =>
  gI s6 v0 6 7 fun x7 =>
  pI s6 v0 6 7 (x7 + (iI 1)) fun s8 =>
  cV s8 v0 6 <|
  cl (sX8_readsFactor v0 s8) fun x9 s10 =>
  if x9 = (iI 0) then
    rZ (iI 0) s10
  else
    sX8_readsSum_163 k14 v0 v1 s10
noncomputable def sX8_readsSum_14b (k14 : Option Nat → Int32 → Mem → Option (Int32 × Mem)) (v0 : Option Nat) (v1 : Int32) (σ : Mem) : Option (Int32 × Mem) :=
  cV σ v0 6 <|
  cl (sX8_here v0 σ) fun x1 s2 =>
  cl (sX8_sumSign x1 s2) fun x3 s4 =>
  if x3 = (iI (-1)) then
    cV s4 v0 6 <|
    cl (sX8_here v0 s4) fun x5 s6 =>
    if x5 = (iI 93) then
      cV s6 v0 6 <|
      cl (sX8_hasOpenSum v0 v1 s6) fun x7 s8 =>
      if x7 = (iI 0) then
        sX8_readsSum_138 v0 v1 s8
      else
        cV s8 v0 6 <|
        cl (sX8_closesSums v0 (iI 1) s8) fun _ s9 =>
        gI s9 v0 6 13 fun x10 =>
        pI s9 v0 6 13 (x10 - (iI 1)) fun s11 =>
        gI s11 v0 6 11 fun x12 =>
        pI s11 v0 6 11 (x12 - (iI 1)) fun s13 =>
        gI s13 v0 6 7 fun x14 =>
        pI s13 v0 6 7 (x14 + (iI 1)) fun s15 =>
        sX8_readsSum_163 k14 v0 v1 s15
    else
      sX8_readsSum_138 v0 v1 s6
  else
    if (iI 4) ≤ x3 then
      sX8_readsSum_38 k14 v0 v1 x3 v0 (iI 0) s4
    else
      sX8_readsSum_38 k14 v0 v1 x3 v0 (iI 1) s4
noncomputable def sX8_readsSum_14 : Nat → Option Nat → Int32 → Mem → Option (Int32 × Mem)
  | 0 => fun _ _ _ => none
  | f + 1 => sX8_readsSum_14b (sX8_readsSum_14 f)
noncomputable def sX8_readsSum (v0 : Option Nat) (σ : Mem) : Option (Int32 × Mem) :=
  gI σ v0 6 13 fun x1 =>
  cV σ v0 6 <|
  cl (sX8_readsFactor v0 σ) fun x2 s3 =>
  if x2 = (iI 0) then
    rZ (iI 0) s3
  else
    sX8_readsSum_14 FU v0 x1 s3
noncomputable def sX8_endsPiece_0b (k0 : Option Nat → Mem → Option (Unit × Mem)) (v0 : Option Nat) (σ : Mem) : Option (Unit × Mem) :=
  cV σ v0 6 <|
  cl (sX8_waitTop v0 σ) fun x1 s2 =>
  if x1 = (iI 10) then
    cV s2 v0 6 <|
    cl (sX8_notes v0 (iI 10) (iI 0) s2) fun _ s3 =>
    gI s3 v0 6 13 fun x4 =>
    pI s3 v0 6 13 (x4 - (iI 1)) fun s5 =>
    gI s5 v0 6 11 fun x6 =>
    pI s5 v0 6 11 (x6 - (iI 1)) fun s7 =>
    k0 v0 s7
  else
    some ((), s2)
noncomputable def sX8_endsPiece_0 : Nat → Option Nat → Mem → Option (Unit × Mem)
  | 0 => fun _ _ => none
  | f + 1 => sX8_endsPiece_0b (sX8_endsPiece_0 f)
noncomputable def sX8_endsPiece (v0 : Option Nat) (σ : Mem) : Option (Unit × Mem) := sX8_endsPiece_0 FU v0 σ
noncomputable def sX8_readsCompared_52 (v0 : Option Nat) (t0 : Int32) (σ : Mem) : Option (Int32 × Mem) :=
  if t0 = (iI (-1)) then
    gI σ v0 6 7 fun x7 =>
    cV σ v0 6 <|
    cl (sX8_wrongAt v0 (iI 1) x7 σ) fun x8 s9 =>
    rZ x8 s9
  else
    gI σ v0 6 7 fun x1 =>
    pI σ v0 6 7 (x1 + (iI 1)) fun s2 =>
    cV s2 v0 6 <|
    cl (sX8_readsSum v0 s2) fun x3 s4 =>
    if x3 = (iI 0) then
      rZ (iI 0) s4
    else
      cV s4 v0 6 <|
      cl (sX8_notes v0 t0 (iI 0) s4) fun _ s5 =>
      cV s5 v0 6 <|
      cl (sX8_endsPiece v0 s5) fun _ s6 =>
      rZ (iI 1) s6
noncomputable def sX8_readsCompared (v0 : Option Nat) (σ : Mem) : Option (Int32 × Mem) :=
  cV σ v0 6 <|
  cl (sX8_readsSum v0 σ) fun x1 s2 =>
  if x1 = (iI 0) then
    rZ (iI 0) s2
  else
    cV s2 v0 6 <|
    cl (sX8_here v0 s2) fun x3 s4 =>
    if x3 = (iI 60) then
      sX8_readsCompared_52 v0 (iI 7) s4
    else
      cV s4 v0 6 <|
      cl (sX8_here v0 s4) fun x5 s6 =>
      if x5 = (iI 62) then
        sX8_readsCompared_52 v0 (iI 8) s6
      else
        cV s6 v0 6 <|
        cl (sX8_here v0 s6) fun x7 s8 =>
        if x7 = (iI 61) then
          sX8_readsCompared_52 v0 (iI 9) s8
        else
          sX8_readsCompared_52 v0 (iI (-1)) s8
noncomputable def sX8_lands_22 (k0 : Option Nat → Int32 → Mem → Option (Unit × Mem)) (v0 : Option Nat) (v1 : Int32) (σ : Mem) : Option (Unit × Mem) :=
  gR σ v0 6 17 fun x1 =>
  gI σ v0 6 13 fun x2 =>
  aI σ x1 (x2 - (iI 1)) fun x3 =>
  rm x3 (iI 1048576) fun x4 =>
  gR σ v0 6 16 fun x5 =>
  gR σ v0 6 16 fun x6 =>
  aI σ x6 x4 fun x7 =>
  dv x7 (iI 1048576) fun x8 =>
  gI σ v0 6 12 fun x9 =>
  sI σ x5 x4 (((iI 1048576) * x8) + x9) fun s10 =>
  gI s10 v0 6 13 fun x11 =>
  pI s10 v0 6 13 (x11 - (iI 1)) fun s12 =>
  k0 v0 v1 s12
noncomputable def sX8_lands_0b (k0 : Option Nat → Int32 → Mem → Option (Unit × Mem)) (v0 : Option Nat) (v1 : Int32) (σ : Mem) : Option (Unit × Mem) :=
  cV σ v0 6 <|
  cl (sX8_waitTop v0 σ) fun x1 s2 =>
  if x1 = (iI 11) then
    sX8_lands_22 k0 v0 v1 s2
  else
    if v1 = (iI 0) then
      some ((), s2)
    else
      cV s2 v0 6 <|
      cl (sX8_waitTop v0 s2) fun x3 s4 =>
      if x3 = (iI 12) then
        sX8_lands_22 k0 v0 v1 s4
      else
        some ((), s4)
noncomputable def sX8_lands_0 : Nat → Option Nat → Int32 → Mem → Option (Unit × Mem)
  | 0 => fun _ _ _ => none
  | f + 1 => sX8_lands_0b (sX8_lands_0 f)
noncomputable def sX8_lands (v0 : Option Nat) (v1 : Int32) (σ : Mem) : Option (Unit × Mem) := sX8_lands_0 FU v0 v1 σ
noncomputable def sX8_jumps (v0 : Option Nat) (v1 : Int32) (σ : Mem) : Option (Unit × Mem) :=
  gR σ v0 6 17 fun x1 =>
  gI σ v0 6 13 fun x2 =>
  gI σ v0 6 12 fun x3 =>
  sI σ x1 x2 (((iI 1048576) * v1) + x3) fun s4 =>
  gI s4 v0 6 13 fun x5 =>
  pI s4 v0 6 13 (x5 + (iI 1)) fun s6 =>
  cV s6 v0 6 <|
  cl (sX8_notes v0 v1 (iI 0) s6) fun _ s7 =>
  gI s7 v0 6 7 fun x8 =>
  pI s7 v0 6 7 (x8 + (iI 1)) fun s9 =>
  some ((), s9)
noncomputable def sX8_readsCondition_75 (k40 : Option Nat → Mem → Option (Int32 × Mem)) (v0 : Option Nat) (t0 : Option Nat) (t1 : Int32) (σ : Mem) : Option (Int32 × Mem) :=
  cV σ t0 6 <|
  cl (sX8_opens t0 t1 σ) fun x1 s2 =>
  if x1 = (iI 0) then
    rZ (iI 0) s2
  else
    k40 v0 s2
noncomputable def sX8_readsCondition_58 (k40 : Option Nat → Mem → Option (Int32 × Mem)) (v0 : Option Nat) (σ : Mem) : Option (Int32 × Mem) :=
  cV σ v0 6 <|
  cl (sX8_here v0 σ) fun x1 s2 =>
  if x1 = (iI 33) then
    sX8_readsCondition_75 k40 v0 v0 (iI 10) s2
  else
    sX8_readsCondition_75 k40 v0 v0 (iI 13) s2
noncomputable def sX8_readsCondition_215 (k40 : Option Nat → Mem → Option (Int32 × Mem)) (v0 : Option Nat) (t0 : Option Nat) (t1 : Int32) (σ : Mem) : Option (Int32 × Mem) :=
  cV σ t0 6 <|
  cl (sX8_jumps t0 t1 σ) fun _ s1 =>
  k40 v0 s1
noncomputable def sX8_readsCondition_195 (k40 : Option Nat → Mem → Option (Int32 × Mem)) (v0 : Option Nat) (t0 : Option Nat) (t1 : Int32) (σ : Mem) : Option (Int32 × Mem) :=
  cV σ t0 6 <|
  cl (sX8_lands t0 t1 σ) fun _ s1 =>
  cV s1 v0 6 <|
  cl (sX8_here v0 s1) fun x2 s3 =>
  if x2 = (iI 38) then
    sX8_readsCondition_215 k40 v0 v0 (iI 11) s3
  else
    sX8_readsCondition_215 k40 v0 v0 (iI 12) s3
noncomputable def sX8_readsCondition_180 (k40 : Option Nat → Mem → Option (Int32 × Mem)) (v0 : Option Nat) (σ : Mem) : Option (Int32 × Mem) :=
  cV σ v0 6 <|
  cl (sX8_here v0 σ) fun x1 s2 =>
  if x1 = (iI 124) then
    sX8_readsCondition_195 k40 v0 v0 (iI 1) s2
  else
    sX8_readsCondition_195 k40 v0 v0 (iI 0) s2
noncomputable def sX8_readsCondition_92b (k40 : Option Nat → Mem → Option (Int32 × Mem)) (k92 : Option Nat → Mem → Option (Int32 × Mem)) (v0 : Option Nat) (σ : Mem) : Option (Int32 × Mem) :=
  cV σ v0 6 <|
  cl (sX8_here v0 σ) fun x1 s2 =>
  if x1 = (iI 41) then
    cV s2 v0 6 <|
    cl (sX8_lands v0 (iI 1) s2) fun _ s10 =>
    gI s10 v0 6 13 fun x11 =>
    pI s10 v0 6 13 (x11 - (iI 1)) fun s12 =>
    gI s12 v0 6 11 fun x13 =>
    pI s12 v0 6 11 (x13 - (iI 1)) fun s14 =>
    gI s14 v0 6 7 fun x15 =>
    pI s14 v0 6 7 (x15 + (iI 1)) fun s16 =>
    gI s16 v0 6 13 fun x17 =>
    if x17 = (iI 0) then
      rZ (iI 1) s16
    else
      cV s16 v0 6 <|
      cl (sX8_endsPiece v0 s16) fun _ s18 =>
      k92 v0 s18
  else
    cV s2 v0 6 <|
    cl (sX8_here v0 s2) fun x3 s4 =>
    if x3 = (iI 38) then
      sX8_readsCondition_180 k40 v0 s4
    else
      cV s4 v0 6 <|
      cl (sX8_here v0 s4) fun x5 s6 =>
      if x5 = (iI 124) then
        sX8_readsCondition_180 k40 v0 s6
      else
        gI s6 v0 6 7 fun x7 =>
        cV s6 v0 6 <|
        cl (sX8_wrongAt v0 (iI 1) x7 s6) fun x8 s9 =>
        rZ x8 s9
noncomputable def sX8_readsCondition_92 (k40 : Option Nat → Mem → Option (Int32 × Mem)) : Nat → Option Nat → Mem → Option (Int32 × Mem)
  | 0 => fun _ _ => none
  | f + 1 => sX8_readsCondition_92b k40 (sX8_readsCondition_92 k40 f)
noncomputable def sX8_readsCondition_40b (k40 : Option Nat → Mem → Option (Int32 × Mem)) (v0 : Option Nat) (σ : Mem) : Option (Int32 × Mem) :=
  cV σ v0 6 <|
  cl (sX8_here v0 σ) fun x1 s2 =>
  if x1 = (iI 33) then
    sX8_readsCondition_58 k40 v0 s2
  else
    cV s2 v0 6 <|
    cl (sX8_here v0 s2) fun x3 s4 =>
    if x3 = (iI 40) then
      sX8_readsCondition_58 k40 v0 s4
    else
      cV s4 v0 6 <|
      cl (sX8_readsCompared v0 s4) fun x5 s6 =>
      if x5 = (iI 0) then
        rZ (iI 0) s6
      else
        sX8_readsCondition_92 k40 FU v0 s6
noncomputable def sX8_readsCondition_40 : Nat → Option Nat → Mem → Option (Int32 × Mem)
  | 0 => fun _ _ => none
  | f + 1 => sX8_readsCondition_40b (sX8_readsCondition_40 f)
noncomputable def sX8_readsCondition (v0 : Option Nat) (σ : Mem) : Option (Int32 × Mem) :=
  cV σ v0 6 <|
  cl (sX8_here v0 σ) fun x1 s2 =>
  if x1 = (iI 40) then
    pI s2 v0 6 11 (iI 0) fun s3 =>
    pI s3 v0 6 13 (iI 0) fun s4 =>
    cV s4 v0 6 <|
    cl (sX8_opens v0 (iI 13) s4) fun x5 s6 =>
    if x5 = (iI 0) then
      rZ (iI 0) s6
    else
      sX8_readsCondition_40 FU v0 s6
  else
    gI s2 v0 6 7 fun x7 =>
    cV s2 v0 6 <|
    cl (sX8_wrongAt v0 (iI 1) x7 s2) fun x8 s9 =>
    rZ x8 s9
noncomputable def sX8_readsRule_116 (v0 : Option Nat) (σ : Mem) : Option (Int32 × Mem) :=
  gR σ v0 6 20 fun x1 =>
  gI σ v0 6 14 fun x2 =>
  gI σ v0 6 12 fun x3 =>
  sI σ x1 x2 x3 fun s4 =>
  cV s4 v0 6 <|
  cl (sX8_readsCondition v0 s4) fun x5 s6 =>
  if x5 = (iI 0) then
    rZ (iI 0) s6
  else
    gR s6 v0 6 21 fun x7 =>
    gI s6 v0 6 14 fun x8 =>
    gI s6 v0 6 12 fun x9 =>
    sI s6 x7 x8 x9 fun s10 =>
    gI s10 v0 6 14 fun x11 =>
    pI s10 v0 6 14 (x11 + (iI 1)) fun s12 =>
    rZ (iI 1) s12
noncomputable def sX8_readsRule_39 (v0 : Option Nat) (v1 : Int32) (σ : Mem) : Option (Int32 × Mem) :=
  gI σ v0 6 14 fun x1 =>
  if x1 = (iI 16) then
    gI σ v0 6 7 fun x15 =>
    cV σ v0 6 <|
    cl (sX8_wrongAt v0 (iI 4) x15 σ) fun x16 s17 =>
    rZ x16 s17
  else
    gR σ v0 6 18 fun x2 =>
    gI σ v0 6 14 fun x3 =>
    sI σ x2 x3 v1 fun s4 =>
    gI s4 v0 6 7 fun x5 =>
    pI s4 v0 6 7 (x5 + (iI 1)) fun s6 =>
    gR s6 v0 6 19 fun x7 =>
    gI s6 v0 6 14 fun x8 =>
    gI s6 v0 6 12 fun x9 =>
    sI s6 x7 x8 x9 fun s10 =>
    pI s10 v0 6 11 (iI 0) fun s11 =>
    pI s11 v0 6 13 (iI 0) fun s12 =>
    if v1 = (iI 120) then
      sX8_readsRule_116 v0 s12
    else
      cV s12 v0 6 <|
      cl (sX8_readsSum v0 s12) fun x13 s14 =>
      if x13 = (iI 0) then
        rZ (iI 0) s14
      else
        sX8_readsRule_116 v0 s14
noncomputable def sX8_readsRule (v0 : Option Nat) (σ : Mem) : Option (Int32 × Mem) :=
  cV σ v0 6 <|
  cl (sX8_here v0 σ) fun x1 s2 =>
  if x1 = (iI 100) then
    sX8_readsRule_39 v0 x1 s2
  else
    if x1 = (iI 108) then
      sX8_readsRule_39 v0 x1 s2
    else
      if x1 = (iI 101) then
        sX8_readsRule_39 v0 x1 s2
      else
        if x1 = (iI 120) then
          sX8_readsRule_39 v0 x1 s2
        else
          gI s2 v0 6 7 fun x3 =>
          cV s2 v0 6 <|
          cl (sX8_wrongAt v0 (iI 1) x3 s2) fun x4 s5 =>
          rZ x4 s5
noncomputable def sX8_takes (v0 : Option Nat) (v1 : Int32) (σ : Mem) : Option (Int32 × Mem) :=
  cV σ v0 6 <|
  cl (sX8_here v0 σ) fun x1 s2 =>
  if x1 = v1 then
    gI s2 v0 6 7 fun x3 =>
    pI s2 v0 6 7 (x3 + (iI 1)) fun s4 =>
    rZ (iI 1) s4
  else
    gI s2 v0 6 7 fun x5 =>
    cV s2 v0 6 <|
    cl (sX8_wrongAt v0 (iI 1) x5 s2) fun x6 s7 =>
    rZ x6 s7
noncomputable def sX8_law_123b (k123 : Option Nat → Int32 → Mem → Option (Int32 × Mem)) (v0 : Option Nat) (v3 : Int32) (σ : Mem) : Option (Int32 × Mem) :=
  gI σ v0 6 14 fun x1 =>
  if x1 ≤ v3 then
    gI σ v0 6 14 fun x2 =>
    some (x2, σ)
  else
    gR σ v0 6 23 fun x3 =>
    gR σ v0 6 18 fun x4 =>
    aI σ x4 v3 fun x5 =>
    sI σ x3 v3 x5 fun s6 =>
    gR s6 v0 6 24 fun x7 =>
    gR s6 v0 6 19 fun x8 =>
    aI s6 x8 v3 fun x9 =>
    sI s6 x7 v3 x9 fun s10 =>
    gR s10 v0 6 25 fun x11 =>
    gR s10 v0 6 20 fun x12 =>
    aI s10 x12 v3 fun x13 =>
    sI s10 x11 v3 x13 fun s14 =>
    gR s14 v0 6 26 fun x15 =>
    gR s14 v0 6 21 fun x16 =>
    aI s14 x16 v3 fun x17 =>
    sI s14 x15 v3 x17 fun s18 =>
    k123 v0 (v3 + iI 1) s18
noncomputable def sX8_law_123 : Nat → Option Nat → Int32 → Mem → Option (Int32 × Mem)
  | 0 => fun _ _ _ => none
  | f + 1 => sX8_law_123b (sX8_law_123 f)
noncomputable def sX8_law_95b (k95 : Option Nat → Int32 → Mem → Option (Int32 × Mem)) (v0 : Option Nat) (v3 : Int32) (σ : Mem) : Option (Int32 × Mem) :=
  gI σ v0 6 12 fun x1 =>
  if x1 ≤ v3 then
    sX8_law_123 FU v0 (iI 0) σ
  else
    gR σ v0 6 22 fun x2 =>
    gR σ v0 6 16 fun x3 =>
    aI σ x3 v3 fun x4 =>
    sI σ x2 v3 x4 fun s5 =>
    k95 v0 (v3 + iI 1) s5
noncomputable def sX8_law_95 : Nat → Option Nat → Int32 → Mem → Option (Int32 × Mem)
  | 0 => fun _ _ _ => none
  | f + 1 => sX8_law_95b (sX8_law_95 f)
noncomputable def sX8_law_71 (v0 : Option Nat) (v2 : Int32) (σ : Mem) : Option (Int32 × Mem) :=
  pI σ v0 6 6 (iI 0) fun s1 =>
  if v2 = (iI 0) then
    gI s1 v0 6 9 fun x4 =>
    some (x4, s1)
  else
    gI s1 v0 6 14 fun x2 =>
    pI s1 v0 6 15 x2 fun s3 =>
    sX8_law_95 FU v0 (iI 0) s3
noncomputable def sX8_law_67 (k31 : Option Nat → Int32 → Mem → Option (Int32 × Mem)) (v0 : Option Nat) (t0 : Int32) (σ : Mem) : Option (Int32 × Mem) :=
  k31 v0 t0 σ
noncomputable def sX8_law_66 (k31 : Option Nat → Int32 → Mem → Option (Int32 × Mem)) (v0 : Option Nat) (σ : Mem) : Option (Int32 × Mem) :=
  sX8_law_67 k31 v0 (iI 0) σ
noncomputable def sX8_law_31b (k31 : Option Nat → Int32 → Mem → Option (Int32 × Mem)) (v0 : Option Nat) (v2 : Int32) (σ : Mem) : Option (Int32 × Mem) :=
  if v2 = (iI 0) then
    sX8_law_71 v0 v2 σ
  else
    gI σ v0 6 7 fun x1 =>
    gI σ v0 6 8 fun x2 =>
    if x2 ≤ x1 then
      sX8_law_71 v0 v2 σ
    else
      cV σ v0 6 <|
      cl (sX8_takes v0 (iI 59) σ) fun x3 s4 =>
      if x3 = (iI 0) then
        sX8_law_66 k31 v0 s4
      else
        cV s4 v0 6 <|
        cl (sX8_readsRule v0 s4) fun x5 s6 =>
        if x5 = (iI 0) then
          sX8_law_66 k31 v0 s6
        else
          sX8_law_67 k31 v0 (iI 1) s6
noncomputable def sX8_law_31 : Nat → Option Nat → Int32 → Mem → Option (Int32 × Mem)
  | 0 => fun _ _ _ => none
  | f + 1 => sX8_law_31b (sX8_law_31 f)
noncomputable def sX8_law (v0 : Option Nat) (v1 : Int32) (σ : Mem) : Option (Int32 × Mem) :=
  cl (sX8_in v1 (iI 1) (iI 240) σ) fun x1 s2 =>
  if x1 = (iI 0) then
    some (iI (-1), s2)
  else
    gI s2 v0 6 6 fun x3 =>
    if v1 ≤ x3 then
      cV s2 v0 6 <|
      cl (sX8_beginsText v0 v1 s2) fun _ s4 =>
      cV s4 v0 6 <|
      cl (sX8_readsRule v0 s4) fun x5 s6 =>
      sX8_law_31 FU v0 x5 s6
    else
      some (iI (-1), s2)
noncomputable def sX8_takesDue_95b (k95 : Option Nat → Int32 → Int32 → Mem → Option (Int32 × Mem)) (v0 : Option Nat) (v3 : Int32) (v4 : Int32) (σ : Mem) : Option (Int32 × Mem) :=
  if v3 ≤ v4 then
    gR σ v0 6 0 fun x1 =>
    gR σ v0 6 0 fun x2 =>
    aI σ x2 (iI 11133) fun x3 =>
    sI σ x1 (iI 11133) (x3 - (iI 1)) fun s4 =>
    rZ (iI 1) s4
  else
    gR σ v0 6 0 fun x5 =>
    gR σ v0 6 0 fun x6 =>
    aI σ x6 v4 fun x7 =>
    sI σ x5 (v4 - (iI 27)) x7 fun s8 =>
    k95 v0 v3 (v4 + iI 1) s8
noncomputable def sX8_takesDue_95 : Nat → Option Nat → Int32 → Int32 → Mem → Option (Int32 × Mem)
  | 0 => fun _ _ _ _ => none
  | f + 1 => sX8_takesDue_95b (sX8_takesDue_95 f)
noncomputable def sX8_takesDue_47b (k47 : Option Nat → Int32 → Int32 → Mem → Option (Int32 × Mem)) (v0 : Option Nat) (v2 : Int32) (v3 : Int32) (σ : Mem) : Option (Int32 × Mem) :=
  if (iI 27) ≤ v3 then
    gR σ v0 6 0 fun x1 =>
    aI σ x1 (iI 11133) fun x2 =>
    sX8_takesDue_95 FU v0 ((iI 1708) + ((iI 27) * x2)) (v2 + (iI 27)) σ
  else
    gR σ v0 6 4 fun x3 =>
    gR σ v0 6 0 fun x4 =>
    aI σ x4 (v2 + v3) fun x5 =>
    sI σ x3 v3 x5 fun s6 =>
    k47 v0 v2 (v3 + iI 1) s6
noncomputable def sX8_takesDue_47 : Nat → Option Nat → Int32 → Int32 → Mem → Option (Int32 × Mem)
  | 0 => fun _ _ _ _ => none
  | f + 1 => sX8_takesDue_47b (sX8_takesDue_47 f)
noncomputable def sX8_takesDue_2b (k2 : Option Nat → Int32 → Mem → Option (Int32 × Mem)) (v0 : Option Nat) (v1 : Int32) (σ : Mem) : Option (Int32 × Mem) :=
  gR σ v0 6 0 fun x1 =>
  aI σ x1 (iI 11133) fun x2 =>
  if x2 ≤ v1 then
    rZ (iI 0) σ
  else
    gR σ v0 6 0 fun x3 =>
    aI σ x3 (((iI 1708) + ((iI 27) * v1)) + (iI 4)) fun x4 =>
    gR σ v0 6 0 fun x5 =>
    aI σ x5 (iI 11131) fun x6 =>
    if x4 ≤ x6 then
      sX8_takesDue_47 FU v0 ((iI 1708) + ((iI 27) * v1)) (iI 0) σ
    else
      k2 v0 (v1 + iI 1) σ
noncomputable def sX8_takesDue_2 : Nat → Option Nat → Int32 → Mem → Option (Int32 × Mem)
  | 0 => fun _ _ _ => none
  | f + 1 => sX8_takesDue_2b (sX8_takesDue_2 f)
noncomputable def sX8_takesDue (v0 : Option Nat) (σ : Mem) : Option (Int32 × Mem) :=
  sX8_takesDue_2 FU v0 (iI 0) σ
noncomputable def sX8_isNode (v0 : Int32) (σ : Mem) : Option (Int32 × Mem) :=
  cl (sX8_in v0 (iI 0) (iI 6) σ) fun x1 s2 =>
  rZ x1 s2
noncomputable def sX8_isUp (v0 : Option Nat) (v1 : Int32) (σ : Mem) : Option (Int32 × Mem) :=
  cl (sX8_isNode v1 σ) fun x1 s2 =>
  if x1 = (iI 0) then
    rZ (iI 0) s2
  else
    cV s2 v0 6 <|
    cl (sX8_the v0 v1 (iI 0) s2) fun x3 s4 =>
    if x3 = (iI 1) then
      rZ (iI 1) s4
    else
      rZ (iI 0) s4
noncomputable def sX8_has (v0 : Int32) (v1 : Int32) (σ : Mem) : Option (Int32 × Mem) :=
  if ((v0 >>> (v1 &&& 31)) &&& (iI 1)) = (iI 1) then
    rZ (iI 1) σ
  else
    rZ (iI 0) σ
noncomputable def sX8_areLinked (v0 : Option Nat) (v1 : Int32) (v2 : Int32) (σ : Mem) : Option (Int32 × Mem) :=
  gR σ v0 6 0 fun x1 =>
  aI σ x1 ((iI 11124) + v1) fun x2 =>
  cl (sX8_has x2 v2 σ) fun x3 s4 =>
  if x3 = (iI 0) then
    rZ (iI 1) s4
  else
    rZ (iI 0) s4
noncomputable def sX8_min (v0 : Int32) (v1 : Int32) (σ : Mem) : Option (Int32 × Mem) :=
  if v1 ≤ v0 then
    some (v1, σ)
  else
    some (v0, σ)
noncomputable def sX8_loses (v0 : Option Nat) (σ : Mem) : Option (Unit × Mem) :=
  gR σ v0 6 0 fun x1 =>
  gR σ v0 6 0 fun x2 =>
  aI σ x2 (iI 11137) fun x3 =>
  cl (sX8_min (iI 99999) (x3 + (iI 1)) σ) fun x4 s5 =>
  sI s5 x1 (iI 11137) x4 fun s6 =>
  some ((), s6)
noncomputable def sX8_losesReads_65 (k2 : Option Nat → Int32 → Int32 → Mem → Option (Unit × Mem)) (v0 : Option Nat) (v1 : Int32) (v2 : Int32) (σ : Mem) : Option (Unit × Mem) :=
  k2 v0 v1 (v2 + iI 1) σ
noncomputable def sX8_losesReads_2b (k2 : Option Nat → Int32 → Int32 → Mem → Option (Unit × Mem)) (v0 : Option Nat) (v1 : Int32) (v2 : Int32) (σ : Mem) : Option (Unit × Mem) :=
  gR σ v0 6 0 fun x1 =>
  aI σ x1 (iI 11135) fun x2 =>
  if x2 ≤ v2 then
    some ((), σ)
  else
    gR σ v0 6 0 fun x3 =>
    aI σ x3 ((iI 11028) + ((iI 6) * v2)) fun x4 =>
    if x4 = v1 then
      gR σ v0 6 0 fun x5 =>
      aI σ x5 (((iI 11028) + ((iI 6) * v2)) + (iI 4)) fun x6 =>
      if x6 = (iI 0) then
        gR σ v0 6 0 fun x7 =>
        sI σ x7 (((iI 11028) + ((iI 6) * v2)) + (iI 4)) (iI 2) fun s8 =>
        sX8_losesReads_65 k2 v0 v1 v2 s8
      else
        sX8_losesReads_65 k2 v0 v1 v2 σ
    else
      sX8_losesReads_65 k2 v0 v1 v2 σ
noncomputable def sX8_losesReads_2 : Nat → Option Nat → Int32 → Int32 → Mem → Option (Unit × Mem)
  | 0 => fun _ _ _ _ => none
  | f + 1 => sX8_losesReads_2b (sX8_losesReads_2 f)
noncomputable def sX8_losesReads (v0 : Option Nat) (v1 : Int32) (σ : Mem) : Option (Unit × Mem) :=
  sX8_losesReads_2 FU v0 v1 (iI 0) σ
noncomputable def sX8_follows_15 (v0 : Option Nat) (v1 : Int32) (v2 : Int32) (σ : Mem) : Option (Unit × Mem) :=
  cV σ v0 6 <|
  cl (sX8_sets v0 v1 (iI 3) (iI 0) σ) fun _ s1 =>
  cV s1 v0 6 <|
  cl (sX8_sets v0 v1 (iI 11) v2 s1) fun _ s2 =>
  some ((), s2)
noncomputable def sX8_follows (v0 : Option Nat) (v1 : Int32) (v2 : Int32) (σ : Mem) : Option (Unit × Mem) :=
  cV σ v0 6 <|
  cl (sX8_the v0 v1 (iI 3) σ) fun x1 s2 =>
  if x1 = (iI 2) then
    cV s2 v0 6 <|
    cl (sX8_losesReads v0 v1 s2) fun _ s3 =>
    sX8_follows_15 v0 v1 v2 s3
  else
    sX8_follows_15 v0 v1 v2 s2
noncomputable def sX8_lastOf (v0 : Option Nat) (v1 : Int32) (σ : Mem) : Option (Int32 × Mem) :=
  cV σ v0 6 <|
  cl (sX8_the v0 v1 (iI 4) σ) fun x1 s2 =>
  cV s2 v0 6 <|
  cl (sX8_the v0 v1 (iI 8) s2) fun x3 s4 =>
  some (x1 + x3, s4)
noncomputable def sX8_logPlace (v0 : Option Nat) (v1 : Int32) (v2 : Int32) (σ : Mem) : Option (Int32 × Mem) :=
  cV σ v0 6 <|
  cl (sX8_the v0 v1 (iI 4) σ) fun x1 s2 =>
  some ((((iI 244) * v1) + (iI 52)) + ((iI 4) * ((v2 - x1) - (iI 1))), s2)
noncomputable def sX8_termAt (v0 : Option Nat) (v1 : Int32) (v2 : Int32) (σ : Mem) : Option (Int32 × Mem) :=
  cV σ v0 6 <|
  cl (sX8_the v0 v1 (iI 4) σ) fun x1 s2 =>
  if v2 = x1 then
    cV s2 v0 6 <|
    cl (sX8_the v0 v1 (iI 5) s2) fun x7 s8 =>
    some (x7, s8)
  else
    gR s2 v0 6 0 fun x3 =>
    cV s2 v0 6 <|
    cl (sX8_logPlace v0 v1 v2 s2) fun x4 s5 =>
    aI s5 x3 x4 fun x6 =>
    some (x6, s5)
noncomputable def sX8_isNoLess (v0 : Option Nat) (v1 : Int32) (v2 : Int32) (v3 : Int32) (σ : Mem) : Option (Int32 × Mem) :=
  cV σ v0 6 <|
  cl (sX8_lastOf v0 v1 σ) fun x1 s2 =>
  cV s2 v0 6 <|
  cl (sX8_termAt v0 v1 x1 s2) fun x3 s4 =>
  if x3 < v3 then
    rZ (iI 1) s4
  else
    if v3 = x3 then
      cV s4 v0 6 <|
      cl (sX8_lastOf v0 v1 s4) fun x5 s6 =>
      if v2 < x5 then
        rZ (iI 0) s6
      else
        rZ (iI 1) s6
    else
      rZ (iI 0) s4
noncomputable def sX8_beginsMail_3b (k3 : Option Nat → Int32 → Int32 → Int32 → Int32 → Mem → Option (Unit × Mem)) (v0 : Option Nat) (v1 : Int32) (v2 : Int32) (v3 : Int32) (v4 : Int32) (σ : Mem) : Option (Unit × Mem) :=
  if (iI 27) ≤ v4 then
    gR σ v0 6 3 fun x1 =>
    sI σ x1 (iI 0) v1 fun s2 =>
    gR s2 v0 6 3 fun x3 =>
    sI s2 x3 (iI 1) v2 fun s4 =>
    gR s4 v0 6 3 fun x5 =>
    sI s4 x5 (iI 2) v3 fun s6 =>
    gR s6 v0 6 3 fun x7 =>
    cV s6 v0 6 <|
    cl (sX8_the v0 v1 (iI 1) s6) fun x8 s9 =>
    sI s9 x7 (iI 3) x8 fun s10 =>
    some ((), s10)
  else
    gR σ v0 6 3 fun x11 =>
    sI σ x11 v4 (iI 0) fun s12 =>
    k3 v0 v1 v2 v3 (v4 + iI 1) s12
noncomputable def sX8_beginsMail_3 : Nat → Option Nat → Int32 → Int32 → Int32 → Int32 → Mem → Option (Unit × Mem)
  | 0 => fun _ _ _ _ _ _ => none
  | f + 1 => sX8_beginsMail_3b (sX8_beginsMail_3 f)
noncomputable def sX8_beginsMail (v0 : Option Nat) (v1 : Int32) (v2 : Int32) (v3 : Int32) (σ : Mem) : Option (Unit × Mem) :=
  sX8_beginsMail_3 FU v0 v1 v2 v3 (iI 0) σ
noncomputable def sX8_holdsAny_42 (k2 : Option Nat → Int32 → Int32 → Mem → Option (Int32 × Mem)) (v0 : Option Nat) (v1 : Int32) (v2 : Int32) (σ : Mem) : Option (Int32 × Mem) :=
  k2 v0 v1 (v2 + iI 1) σ
noncomputable def sX8_holdsAny_2b (k2 : Option Nat → Int32 → Int32 → Mem → Option (Int32 × Mem)) (v0 : Option Nat) (v1 : Int32) (v2 : Int32) (σ : Mem) : Option (Int32 × Mem) :=
  gI σ v0 6 15 fun x1 =>
  if x1 ≤ v2 then
    rZ (iI 0) σ
  else
    gR σ v0 6 23 fun x2 =>
    aI σ x2 v2 fun x3 =>
    if x3 = v1 then
      gR σ v0 6 25 fun x4 =>
      aI σ x4 v2 fun x5 =>
      gR σ v0 6 26 fun x6 =>
      aI σ x6 v2 fun x7 =>
      cV σ v0 6 <|
      cl (sX8_reckonsTo v0 x5 x7 σ) fun x8 s9 =>
      if x8 = (iI 1) then
        rZ (iI 1) s9
      else
        sX8_holdsAny_42 k2 v0 v1 v2 s9
    else
      sX8_holdsAny_42 k2 v0 v1 v2 σ
noncomputable def sX8_holdsAny_2 : Nat → Option Nat → Int32 → Int32 → Mem → Option (Int32 × Mem)
  | 0 => fun _ _ _ _ => none
  | f + 1 => sX8_holdsAny_2b (sX8_holdsAny_2 f)
noncomputable def sX8_holdsAny (v0 : Option Nat) (v1 : Int32) (σ : Mem) : Option (Int32 × Mem) :=
  sX8_holdsAny_2 FU v0 v1 (iI 0) σ
noncomputable def sX8_posts_71 (v0 : Option Nat) (σ : Mem) : Option (Unit × Mem) :=
  cV σ v0 6 <|
  cl (sX8_loses v0 σ) fun _ s1 =>
  some ((), s1)
noncomputable def sX8_posts_113b (k113 : Option Nat → Int32 → Int32 → Mem → Option (Unit × Mem)) (v0 : Option Nat) (v3 : Int32) (v4 : Int32) (σ : Mem) : Option (Unit × Mem) :=
  if (iI 27) ≤ v4 then
    gR σ v0 6 0 fun x1 =>
    gR σ v0 6 0 fun x2 =>
    aI σ x2 (iI 11133) fun x3 =>
    sI σ x1 (iI 11133) (x3 + (iI 1)) fun s4 =>
    some ((), s4)
  else
    gR σ v0 6 0 fun x5 =>
    gR σ v0 6 3 fun x6 =>
    aI σ x6 v4 fun x7 =>
    sI σ x5 (v3 + v4) x7 fun s8 =>
    k113 v0 v3 (v4 + iI 1) s8
noncomputable def sX8_posts_113 : Nat → Option Nat → Int32 → Int32 → Mem → Option (Unit × Mem)
  | 0 => fun _ _ _ _ => none
  | f + 1 => sX8_posts_113b (sX8_posts_113 f)
noncomputable def sX8_posts (v0 : Option Nat) (σ : Mem) : Option (Unit × Mem) :=
  gR σ v0 6 3 fun x1 =>
  aI σ x1 (iI 0) fun x2 =>
  gR σ v0 6 3 fun x3 =>
  aI σ x3 (iI 1) fun x4 =>
  gR σ v0 6 3 fun x5 =>
  aI σ x5 (iI 2) fun x6 =>
  cV σ v0 6 <|
  cl (sX8_feels v0 x2 x4 x6 σ) fun x7 s8 =>
  cV s8 v0 6 <|
  cl (sX8_byLaw v0 (iI 100) (iI 0) (iI 9) (iI 0) s8) fun x9 s10 =>
  cV s10 v0 6 <|
  cl (sX8_holdsAny v0 (iI 120) s10) fun x11 s12 =>
  if x11 = (iI 0) then
    cV s12 v0 6 <|
    cl (sX8_byLaw v0 (iI 108) (iI 0) (iI 10) (iI 0) s12) fun x13 s14 =>
    if x7 < x13 then
      sX8_posts_71 v0 s14
    else
      gR s14 v0 6 0 fun x15 =>
      aI s14 x15 (iI 11133) fun x16 =>
      if x16 = (iI 160) then
        sX8_posts_71 v0 s14
      else
        gR s14 v0 6 3 fun x17 =>
        gR s14 v0 6 0 fun x18 =>
        aI s14 x18 (iI 11131) fun x19 =>
        sI s14 x17 (iI 4) ((x19 + (iI 1)) + x9) fun s20 =>
        gR s20 v0 6 0 fun x21 =>
        aI s20 x21 (iI 11133) fun x22 =>
        sX8_posts_113 FU v0 ((iI 1708) + ((iI 27) * x22)) (iI 0) s20
  else
    sX8_posts_71 v0 s12
noncomputable def sX8_answersBy (v0 : Option Nat) (v1 : Int32) (v2 : Int32) (v3 : Int32) (v4 : Int32) (σ : Mem) : Option (Unit × Mem) :=
  gR σ v0 6 4 fun x1 =>
  aI σ x1 (iI 1) fun x2 =>
  gR σ v0 6 4 fun x3 =>
  aI σ x3 (iI 0) fun x4 =>
  cV σ v0 6 <|
  cl (sX8_beginsMail v0 x2 x4 v1 σ) fun _ s5 =>
  gR s5 v0 6 3 fun x6 =>
  sI s5 x6 (iI 6) v2 fun s7 =>
  gR s7 v0 6 3 fun x8 =>
  sI s7 x8 (iI 7) v3 fun s9 =>
  gR s9 v0 6 3 fun x10 =>
  sI s9 x10 (iI 10) v4 fun s11 =>
  cV s11 v0 6 <|
  cl (sX8_posts v0 s11) fun _ s12 =>
  some ((), s12)
noncomputable def sX8_isAskedToVote_110 (t0 : Option Nat) (t1 : Int32) (t2 : Int32) (σ : Mem) : Option (Unit × Mem) :=
  cV σ t0 6 <|
  cl (sX8_answersBy t0 t1 t2 (iI 0) (iI 0) σ) fun _ s1 =>
  some ((), s1)
noncomputable def sX8_isAskedToVote_98 (v0 : Option Nat) (v4 : Int32) (σ : Mem) : Option (Unit × Mem) :=
  if v4 = (iI 0) then
    sX8_isAskedToVote_110 v0 (iI 1) (iI 0) σ
  else
    sX8_isAskedToVote_110 v0 (iI 1) (iI 1) σ
noncomputable def sX8_isAskedToVote_79 (v0 : Option Nat) (v1 : Int32) (v2 : Int32) (t0 : Int32) (σ : Mem) : Option (Unit × Mem) :=
  if t0 = (iI 0) then
    sX8_isAskedToVote_98 v0 t0 σ
  else
    cV σ v0 6 <|
    cl (sX8_sets v0 v1 (iI 2) v2 σ) fun _ s1 =>
    cV s1 v0 6 <|
    cl (sX8_setsTimer v0 v1 s1) fun _ s2 =>
    sX8_isAskedToVote_98 v0 t0 s2
noncomputable def sX8_isAskedToVote_78 (v0 : Option Nat) (v1 : Int32) (v2 : Int32) (σ : Mem) : Option (Unit × Mem) :=
  sX8_isAskedToVote_79 v0 v1 v2 (iI 0) σ
noncomputable def sX8_isAskedToVote_32 (v0 : Option Nat) (v1 : Int32) (v2 : Int32) (t0 : Int32) (σ : Mem) : Option (Unit × Mem) :=
  gR σ v0 6 4 fun x1 =>
  aI σ x1 (iI 3) fun x2 =>
  cV σ v0 6 <|
  cl (sX8_the v0 v1 (iI 1) σ) fun x3 s4 =>
  if x2 = x3 then
    if t0 = (iI 0) then
      sX8_isAskedToVote_78 v0 v1 v2 s4
    else
      gR s4 v0 6 4 fun x5 =>
      aI s4 x5 (iI 6) fun x6 =>
      gR s4 v0 6 4 fun x7 =>
      aI s4 x7 (iI 7) fun x8 =>
      cV s4 v0 6 <|
      cl (sX8_isNoLess v0 v1 x6 x8 s4) fun x9 s10 =>
      if x9 = (iI 0) then
        sX8_isAskedToVote_78 v0 v1 v2 s10
      else
        sX8_isAskedToVote_79 v0 v1 v2 (iI 1) s10
  else
    sX8_isAskedToVote_78 v0 v1 v2 s4
noncomputable def sX8_isAskedToVote_27 (v0 : Option Nat) (v1 : Int32) (v2 : Int32) (σ : Mem) : Option (Unit × Mem) :=
  sX8_isAskedToVote_32 v0 v1 v2 (iI 1) σ
noncomputable def sX8_isAskedToVote (v0 : Option Nat) (v1 : Int32) (σ : Mem) : Option (Unit × Mem) :=
  gR σ v0 6 4 fun x1 =>
  aI σ x1 (iI 0) fun x2 =>
  cV σ v0 6 <|
  cl (sX8_the v0 v1 (iI 2) σ) fun x3 s4 =>
  if x3 = (iI (-1)) then
    sX8_isAskedToVote_27 v0 v1 x2 s4
  else
    cV s4 v0 6 <|
    cl (sX8_the v0 v1 (iI 2) s4) fun x5 s6 =>
    if x5 = x2 then
      sX8_isAskedToVote_27 v0 v1 x2 s6
    else
      sX8_isAskedToVote_32 v0 v1 x2 (iI 0) s6
noncomputable def sX8_configAt_10b (k10 : Option Nat → Int32 → Int32 → Mem → Option (Int32 × Mem)) (v0 : Option Nat) (v1 : Int32) (v3 : Int32) (σ : Mem) : Option (Int32 × Mem) :=
  cV σ v0 6 <|
  cl (sX8_the v0 v1 (iI 4) σ) fun x1 s2 =>
  if v3 ≤ x1 then
    some (iI (-1), s2)
  else
    gR s2 v0 6 0 fun x3 =>
    cV s2 v0 6 <|
    cl (sX8_logPlace v0 v1 v3 s2) fun x4 s5 =>
    aI s5 x3 (x4 + (iI 1)) fun x6 =>
    if x6 = (iI 1) then
      some (v3, s5)
    else
      k10 v0 v1 (v3 + iI (-1)) s5
noncomputable def sX8_configAt_10 : Nat → Option Nat → Int32 → Int32 → Mem → Option (Int32 × Mem)
  | 0 => fun _ _ _ _ => none
  | f + 1 => sX8_configAt_10b (sX8_configAt_10 f)
noncomputable def sX8_configAt (v0 : Option Nat) (v1 : Int32) (v2 : Int32) (σ : Mem) : Option (Int32 × Mem) :=
  cV σ v0 6 <|
  cl (sX8_lastOf v0 v1 σ) fun x1 s2 =>
  cl (sX8_min v2 x1 s2) fun x3 s4 =>
  sX8_configAt_10 FU v0 v1 x3 s4
noncomputable def sX8_oldOf (v0 : Option Nat) (v1 : Int32) (σ : Mem) : Option (Int32 × Mem) :=
  cV σ v0 6 <|
  cl (sX8_configAt v0 v1 (iI 999) σ) fun x1 s2 =>
  if x1 = (iI (-1)) then
    cV s2 v0 6 <|
    cl (sX8_the v0 v1 (iI 6) s2) fun x7 s8 =>
    some (x7, s8)
  else
    gR s2 v0 6 0 fun x3 =>
    cV s2 v0 6 <|
    cl (sX8_logPlace v0 v1 x1 s2) fun x4 s5 =>
    aI s5 x3 (x4 + (iI 2)) fun x6 =>
    some (x6, s5)
noncomputable def sX8_newOf (v0 : Option Nat) (v1 : Int32) (σ : Mem) : Option (Int32 × Mem) :=
  cV σ v0 6 <|
  cl (sX8_configAt v0 v1 (iI 999) σ) fun x1 s2 =>
  if x1 = (iI (-1)) then
    cV s2 v0 6 <|
    cl (sX8_the v0 v1 (iI 7) s2) fun x7 s8 =>
    some (x7, s8)
  else
    gR s2 v0 6 0 fun x3 =>
    cV s2 v0 6 <|
    cl (sX8_logPlace v0 v1 x1 s2) fun x4 s5 =>
    aI s5 x3 (x4 + (iI 3)) fun x6 =>
    some (x6, s5)
noncomputable def sX8_bits_4b (k4 : Int32 → Int32 → Int32 → Mem → Option (Int32 × Mem)) (v0 : Int32) (v1 : Int32) (v2 : Int32) (σ : Mem) : Option (Int32 × Mem) :=
  if (iI 7) ≤ v2 then
    some (v1, σ)
  else
    k4 v0 (v1 + ((v0 >>> (v2 &&& 31)) &&& (iI 1))) (v2 + iI 1) σ
noncomputable def sX8_bits_4 : Nat → Int32 → Int32 → Int32 → Mem → Option (Int32 × Mem)
  | 0 => fun _ _ _ _ => none
  | f + 1 => sX8_bits_4b (sX8_bits_4 f)
noncomputable def sX8_bits (v0 : Int32) (σ : Mem) : Option (Int32 × Mem) :=
  sX8_bits_4 FU v0 (iI 0) (iI 0) σ
noncomputable def sX8_isMost (v0 : Option Nat) (v1 : Int32) (v2 : Int32) (σ : Mem) : Option (Int32 × Mem) :=
  cV σ v0 6 <|
  cl (sX8_oldOf v0 v1 σ) fun x1 s2 =>
  cV s2 v0 6 <|
  cl (sX8_newOf v0 v1 s2) fun x3 s4 =>
  cl (sX8_bits (v2 &&& x1) s4) fun x5 s6 =>
  cl (sX8_bits x1 s6) fun x7 s8 =>
  if ((iI 2) * x5) ≤ x7 then
    rZ (iI 0) s8
  else
    if x3 = (iI 0) then
      rZ (iI 1) s8
    else
      cl (sX8_bits (v2 &&& x3) s8) fun x9 s10 =>
      cl (sX8_bits x3 s10) fun x11 s12 =>
      if ((iI 2) * x9) ≤ x11 then
        rZ (iI 0) s12
      else
        rZ (iI 1) s12
noncomputable def sX8_breaks (v0 : Option Nat) (σ : Mem) : Option (Unit × Mem) :=
  gR σ v0 6 0 fun x1 =>
  gR σ v0 6 0 fun x2 =>
  aI σ x2 (iI 11136) fun x3 =>
  sI σ x1 (iI 11136) (x3 + (iI 1)) fun s4 =>
  some ((), s4)
noncomputable def sX8_max (v0 : Int32) (v1 : Int32) (σ : Mem) : Option (Int32 × Mem) :=
  if v0 ≤ v1 then
    some (v1, σ)
  else
    some (v0, σ)
noncomputable def sX8_goesUpTo_27b (k27 : Option Nat → Int32 → Int32 → Int32 → Int32 → Int32 → Mem → Option (Unit × Mem)) (v0 : Option Nat) (v1 : Int32) (v2 : Int32) (v3 : Int32) (v4 : Int32) (v5 : Int32) (σ : Mem) : Option (Unit × Mem) :=
  if ((iI 4) * v4) ≤ v5 then
    cV σ v0 6 <|
    cl (sX8_sets v0 v1 (iI 8) v4 σ) fun _ s1 =>
    cV s1 v0 6 <|
    cl (sX8_sets v0 v1 (iI 4) v2 s1) fun _ s2 =>
    some ((), s2)
  else
    cV σ v0 6 <|
    cl (sX8_the v0 v1 (((iI 52) + v5) + ((iI 4) * v3)) σ) fun x3 s4 =>
    cV s4 v0 6 <|
    cl (sX8_sets v0 v1 ((iI 52) + v5) x3 s4) fun _ s5 =>
    k27 v0 v1 v2 v3 v4 (v5 + iI 1) s5
noncomputable def sX8_goesUpTo_27 : Nat → Option Nat → Int32 → Int32 → Int32 → Int32 → Int32 → Mem → Option (Unit × Mem)
  | 0 => fun _ _ _ _ _ _ _ => none
  | f + 1 => sX8_goesUpTo_27b (sX8_goesUpTo_27 f)
noncomputable def sX8_goesUpTo (v0 : Option Nat) (v1 : Int32) (v2 : Int32) (σ : Mem) : Option (Unit × Mem) :=
  cV σ v0 6 <|
  cl (sX8_the v0 v1 (iI 4) σ) fun x1 s2 =>
  cV s2 v0 6 <|
  cl (sX8_the v0 v1 (iI 8) s2) fun x3 s4 =>
  cl (sX8_max (iI 0) (x3 - (v2 - x1)) s4) fun x5 s6 =>
  sX8_goesUpTo_27 FU v0 v1 v2 (v2 - x1) x5 (iI 0) s6
noncomputable def sX8_compacts_85b (k85 : Option Nat → Int32 → Int32 → Mem → Option (Unit × Mem)) (v0 : Option Nat) (v1 : Int32) (v5 : Int32) (σ : Mem) : Option (Unit × Mem) :=
  if (iI 8) ≤ v5 then
    some ((), σ)
  else
    cV σ v0 6 <|
    cl (sX8_the v0 v1 ((iI 15) + v5) σ) fun x1 s2 =>
    cV s2 v0 6 <|
    cl (sX8_sets v0 v1 ((iI 23) + v5) x1 s2) fun _ s3 =>
    k85 v0 v1 (v5 + iI 1) s3
noncomputable def sX8_compacts_85 : Nat → Option Nat → Int32 → Int32 → Mem → Option (Unit × Mem)
  | 0 => fun _ _ _ _ => none
  | f + 1 => sX8_compacts_85b (sX8_compacts_85 f)
noncomputable def sX8_compacts_68 (v0 : Option Nat) (v1 : Int32) (v2 : Int32) (v4 : Int32) (σ : Mem) : Option (Unit × Mem) :=
  cV σ v0 6 <|
  cl (sX8_goesUpTo v0 v1 v2 σ) fun _ s1 =>
  cV s1 v0 6 <|
  cl (sX8_sets v0 v1 (iI 5) v4 s1) fun _ s2 =>
  sX8_compacts_85 FU v0 v1 (iI 0) s2
noncomputable def sX8_compacts (v0 : Option Nat) (v1 : Int32) (σ : Mem) : Option (Unit × Mem) :=
  cV σ v0 6 <|
  cl (sX8_the v0 v1 (iI 9) σ) fun x1 s2 =>
  cV s2 v0 6 <|
  cl (sX8_configAt v0 v1 x1 s2) fun x3 s4 =>
  cV s4 v0 6 <|
  cl (sX8_termAt v0 v1 x1 s4) fun x5 s6 =>
  if x3 = (iI (-1)) then
    sX8_compacts_68 v0 v1 x1 x5 s6
  else
    gR s6 v0 6 0 fun x7 =>
    cV s6 v0 6 <|
    cl (sX8_logPlace v0 v1 x3 s6) fun x8 s9 =>
    aI s9 x7 (x8 + (iI 2)) fun x10 =>
    cV s9 v0 6 <|
    cl (sX8_sets v0 v1 (iI 6) x10 s9) fun _ s11 =>
    gR s11 v0 6 0 fun x12 =>
    cV s11 v0 6 <|
    cl (sX8_logPlace v0 v1 x3 s11) fun x13 s14 =>
    aI s14 x12 (x13 + (iI 3)) fun x15 =>
    cV s14 v0 6 <|
    cl (sX8_sets v0 v1 (iI 7) x15 s14) fun _ s16 =>
    sX8_compacts_68 v0 v1 x1 x5 s16
noncomputable def sX8_lays_17 (v0 : Option Nat) (v1 : Int32) (v2 : Int32) (v3 : Int32) (v4 : Int32) (v5 : Int32) (σ : Mem) : Option (Int32 × Mem) :=
  cV σ v0 6 <|
  cl (sX8_the v0 v1 (iI 8) σ) fun x1 s2 =>
  if x1 = (iI 48) then
    rZ (iI 0) s2
  else
    cV s2 v0 6 <|
    cl (sX8_lastOf v0 v1 s2) fun x3 s4 =>
    if x3 = (iI 999) then
      rZ (iI 0) s4
    else
      cV s4 v0 6 <|
      cl (sX8_the v0 v1 (iI 8) s4) fun x5 s6 =>
      cV s6 v0 6 <|
      cl (sX8_sets v0 v1 (iI 8) (x5 + (iI 1)) s6) fun _ s7 =>
      cV s7 v0 6 <|
      cl (sX8_lastOf v0 v1 s7) fun x8 s9 =>
      cV s9 v0 6 <|
      cl (sX8_logPlace v0 v1 x8 s9) fun x10 s11 =>
      gR s11 v0 6 0 fun x12 =>
      sI s11 x12 x10 v2 fun s13 =>
      gR s13 v0 6 0 fun x14 =>
      sI s13 x14 (x10 + (iI 1)) v3 fun s15 =>
      gR s15 v0 6 0 fun x16 =>
      sI s15 x16 (x10 + (iI 2)) v4 fun s17 =>
      gR s17 v0 6 0 fun x18 =>
      sI s17 x18 (x10 + (iI 3)) v5 fun s19 =>
      rZ (iI 1) s19
noncomputable def sX8_lays (v0 : Option Nat) (v1 : Int32) (v2 : Int32) (v3 : Int32) (v4 : Int32) (v5 : Int32) (σ : Mem) : Option (Int32 × Mem) :=
  cV σ v0 6 <|
  cl (sX8_the v0 v1 (iI 8) σ) fun x1 s2 =>
  if x1 = (iI 48) then
    cV s2 v0 6 <|
    cl (sX8_compacts v0 v1 s2) fun _ s3 =>
    sX8_lays_17 v0 v1 v2 v3 v4 v5 s3
  else
    sX8_lays_17 v0 v1 v2 v3 v4 v5 s2
noncomputable def sX8_membersOf (v0 : Option Nat) (v1 : Int32) (σ : Mem) : Option (Int32 × Mem) :=
  cV σ v0 6 <|
  cl (sX8_oldOf v0 v1 σ) fun x1 s2 =>
  cV s2 v0 6 <|
  cl (sX8_newOf v0 v1 s2) fun x3 s4 =>
  some (x1 ||| x3, s4)
noncomputable def sX8_tellsSnapshot_56b (k56 : Option Nat → Int32 → Int32 → Mem → Option (Unit × Mem)) (v0 : Option Nat) (v1 : Int32) (v2 : Int32) (σ : Mem) : Option (Unit × Mem) :=
  if (iI 8) ≤ v2 then
    some ((), σ)
  else
    gR σ v0 6 3 fun x1 =>
    cV σ v0 6 <|
    cl (sX8_the v0 v1 ((iI 23) + v2) σ) fun x2 s3 =>
    sI s3 x1 ((iI 11) + v2) x2 fun s4 =>
    k56 v0 v1 (v2 + iI 1) s4
noncomputable def sX8_tellsSnapshot_56 : Nat → Option Nat → Int32 → Int32 → Mem → Option (Unit × Mem)
  | 0 => fun _ _ _ _ => none
  | f + 1 => sX8_tellsSnapshot_56b (sX8_tellsSnapshot_56 f)
noncomputable def sX8_tellsSnapshot (v0 : Option Nat) (v1 : Int32) (σ : Mem) : Option (Unit × Mem) :=
  gR σ v0 6 3 fun x1 =>
  cV σ v0 6 <|
  cl (sX8_the v0 v1 (iI 4) σ) fun x2 s3 =>
  sI s3 x1 (iI 6) x2 fun s4 =>
  gR s4 v0 6 3 fun x5 =>
  cV s4 v0 6 <|
  cl (sX8_the v0 v1 (iI 5) s4) fun x6 s7 =>
  sI s7 x5 (iI 7) x6 fun s8 =>
  gR s8 v0 6 3 fun x9 =>
  cV s8 v0 6 <|
  cl (sX8_the v0 v1 (iI 6) s8) fun x10 s11 =>
  sI s11 x9 (iI 8) x10 fun s12 =>
  gR s12 v0 6 3 fun x13 =>
  cV s12 v0 6 <|
  cl (sX8_the v0 v1 (iI 7) s12) fun x14 s15 =>
  sI s15 x13 (iI 9) x14 fun s16 =>
  sX8_tellsSnapshot_56 FU v0 v1 (iI 0) s16
noncomputable def sX8_tellsEntries_67b (k67 : Option Nat → Int32 → Int32 → Int32 → Int32 → Mem → Option (Unit × Mem)) (v0 : Option Nat) (v1 : Int32) (v2 : Int32) (v3 : Int32) (v4 : Int32) (σ : Mem) : Option (Unit × Mem) :=
  if ((iI 4) * v3) ≤ v4 then
    some ((), σ)
  else
    gR σ v0 6 3 fun x1 =>
    gR σ v0 6 0 fun x2 =>
    cV σ v0 6 <|
    cl (sX8_logPlace v0 v1 v2 σ) fun x3 s4 =>
    aI s4 x2 (x3 + v4) fun x5 =>
    sI s4 x1 ((iI 11) + v4) x5 fun s6 =>
    k67 v0 v1 v2 v3 (v4 + iI 1) s6
noncomputable def sX8_tellsEntries_67 : Nat → Option Nat → Int32 → Int32 → Int32 → Int32 → Mem → Option (Unit × Mem)
  | 0 => fun _ _ _ _ _ _ => none
  | f + 1 => sX8_tellsEntries_67b (sX8_tellsEntries_67 f)
noncomputable def sX8_tellsEntries (v0 : Option Nat) (v1 : Int32) (v2 : Int32) (σ : Mem) : Option (Unit × Mem) :=
  gR σ v0 6 3 fun x1 =>
  sI σ x1 (iI 6) (v2 - (iI 1)) fun s2 =>
  gR s2 v0 6 3 fun x3 =>
  cV s2 v0 6 <|
  cl (sX8_termAt v0 v1 (v2 - (iI 1)) s2) fun x4 s5 =>
  sI s5 x3 (iI 7) x4 fun s6 =>
  gR s6 v0 6 3 fun x7 =>
  cV s6 v0 6 <|
  cl (sX8_the v0 v1 (iI 9) s6) fun x8 s9 =>
  sI s9 x7 (iI 8) x8 fun s10 =>
  cV s10 v0 6 <|
  cl (sX8_lastOf v0 v1 s10) fun x11 s12 =>
  cl (sX8_min (iI 4) ((x11 - v2) + (iI 1)) s12) fun x13 s14 =>
  cl (sX8_max (iI 0) x13 s14) fun x15 s16 =>
  gR s16 v0 6 3 fun x17 =>
  sI s16 x17 (iI 5) x15 fun s18 =>
  sX8_tellsEntries_67 FU v0 v1 v2 x15 (iI 0) s18
noncomputable def sX8_sendsOn_76 (v0 : Option Nat) (σ : Mem) : Option (Unit × Mem) :=
  cV σ v0 6 <|
  cl (sX8_posts v0 σ) fun _ s1 =>
  some ((), s1)
noncomputable def sX8_sendsOn_40 (v0 : Option Nat) (v1 : Int32) (v3 : Int32) (v4 : Int32) (t0 : Option Nat) (t1 : Int32) (t2 : Int32) (t3 : Int32) (σ : Mem) : Option (Unit × Mem) :=
  cV σ t0 6 <|
  cl (sX8_beginsMail t0 t1 t2 t3 σ) fun _ s1 =>
  gR s1 v0 6 3 fun x2 =>
  cV s1 v0 6 <|
  cl (sX8_the v0 v1 (iI 13) s1) fun x3 s4 =>
  sI s4 x2 (iI 10) x3 fun s5 =>
  if v4 = (iI 0) then
    cV s5 v0 6 <|
    cl (sX8_tellsEntries v0 v1 v3 s5) fun _ s6 =>
    sX8_sendsOn_76 v0 s6
  else
    cV s5 v0 6 <|
    cl (sX8_tellsSnapshot v0 v1 s5) fun _ s7 =>
    sX8_sendsOn_76 v0 s7
noncomputable def sX8_sendsOn_25 (v0 : Option Nat) (v1 : Int32) (v2 : Int32) (v3 : Int32) (t0 : Int32) (σ : Mem) : Option (Unit × Mem) :=
  if t0 = (iI 0) then
    sX8_sendsOn_40 v0 v1 v3 t0 v0 v1 v2 (iI 2) σ
  else
    sX8_sendsOn_40 v0 v1 v3 t0 v0 v1 v2 (iI 4) σ
noncomputable def sX8_sendsOn (v0 : Option Nat) (v1 : Int32) (v2 : Int32) (σ : Mem) : Option (Unit × Mem) :=
  cV σ v0 6 <|
  cl (sX8_the v0 v1 ((iI 31) + v2) σ) fun x1 s2 =>
  cV s2 v0 6 <|
  cl (sX8_the v0 v1 (iI 4) s2) fun x3 s4 =>
  if x3 < x1 then
    sX8_sendsOn_25 v0 v1 v2 x1 (iI 0) s4
  else
    sX8_sendsOn_25 v0 v1 v2 x1 (iI 1) s4
noncomputable def sX8_sendsToAll_31 (k2 : Option Nat → Int32 → Int32 → Mem → Option (Unit × Mem)) (v0 : Option Nat) (v1 : Int32) (v2 : Int32) (σ : Mem) : Option (Unit × Mem) :=
  k2 v0 v1 (v2 + iI 1) σ
noncomputable def sX8_sendsToAll_2b (k2 : Option Nat → Int32 → Int32 → Mem → Option (Unit × Mem)) (v0 : Option Nat) (v1 : Int32) (v2 : Int32) (σ : Mem) : Option (Unit × Mem) :=
  if (iI 7) ≤ v2 then
    some ((), σ)
  else
    if v2 = v1 then
      sX8_sendsToAll_31 k2 v0 v1 v2 σ
    else
      cV σ v0 6 <|
      cl (sX8_membersOf v0 v1 σ) fun x1 s2 =>
      cl (sX8_has x1 v2 s2) fun x3 s4 =>
      if x3 = (iI 0) then
        sX8_sendsToAll_31 k2 v0 v1 v2 s4
      else
        cV s4 v0 6 <|
        cl (sX8_sendsOn v0 v1 v2 s4) fun _ s5 =>
        sX8_sendsToAll_31 k2 v0 v1 v2 s5
noncomputable def sX8_sendsToAll_2 : Nat → Option Nat → Int32 → Int32 → Mem → Option (Unit × Mem)
  | 0 => fun _ _ _ _ => none
  | f + 1 => sX8_sendsToAll_2b (sX8_sendsToAll_2 f)
noncomputable def sX8_sendsToAll (v0 : Option Nat) (v1 : Int32) (σ : Mem) : Option (Unit × Mem) :=
  sX8_sendsToAll_2 FU v0 v1 (iI 0) σ
noncomputable def sX8_whoMatch_35 (k7 : Option Nat → Int32 → Int32 → Int32 → Int32 → Mem → Option (Int32 × Mem)) (v0 : Option Nat) (v1 : Int32) (v2 : Int32) (v3 : Int32) (v4 : Int32) (σ : Mem) : Option (Int32 × Mem) :=
  k7 v0 v1 v2 v3 (v4 + iI 1) σ
noncomputable def sX8_whoMatch_7b (k7 : Option Nat → Int32 → Int32 → Int32 → Int32 → Mem → Option (Int32 × Mem)) (v0 : Option Nat) (v1 : Int32) (v2 : Int32) (v3 : Int32) (v4 : Int32) (σ : Mem) : Option (Int32 × Mem) :=
  if (iI 7) ≤ v4 then
    some (v3, σ)
  else
    cV σ v0 6 <|
    cl (sX8_the v0 v1 ((iI 38) + v4) σ) fun x1 s2 =>
    if x1 < v2 then
      sX8_whoMatch_35 k7 v0 v1 v2 v3 v4 s2
    else
      sX8_whoMatch_35 k7 v0 v1 v2 (v3 ||| ((iI 1) <<< (v4 &&& 31))) v4 s2
noncomputable def sX8_whoMatch_7 : Nat → Option Nat → Int32 → Int32 → Int32 → Int32 → Mem → Option (Int32 × Mem)
  | 0 => fun _ _ _ _ _ _ => none
  | f + 1 => sX8_whoMatch_7b (sX8_whoMatch_7 f)
noncomputable def sX8_whoMatch (v0 : Option Nat) (v1 : Int32) (v2 : Int32) (σ : Mem) : Option (Int32 × Mem) :=
  sX8_whoMatch_7 FU v0 v1 v2 ((iI 1) <<< (v1 &&& 31)) (iI 0) σ
noncomputable def sX8_mostHeld_48 (k6 : Option Nat → Int32 → Int32 → Mem → Option (Int32 × Mem)) (v0 : Option Nat) (v1 : Int32) (v2 : Int32) (σ : Mem) : Option (Int32 × Mem) :=
  k6 v0 v1 (v2 + iI (-1)) σ
noncomputable def sX8_mostHeld_6b (k6 : Option Nat → Int32 → Int32 → Mem → Option (Int32 × Mem)) (v0 : Option Nat) (v1 : Int32) (v2 : Int32) (σ : Mem) : Option (Int32 × Mem) :=
  cV σ v0 6 <|
  cl (sX8_the v0 v1 (iI 9) σ) fun x1 s2 =>
  if v2 ≤ x1 then
    cV s2 v0 6 <|
    cl (sX8_the v0 v1 (iI 9) s2) fun x3 s4 =>
    some (x3, s4)
  else
    cV s2 v0 6 <|
    cl (sX8_termAt v0 v1 v2 s2) fun x5 s6 =>
    cV s6 v0 6 <|
    cl (sX8_the v0 v1 (iI 1) s6) fun x7 s8 =>
    if x5 = x7 then
      cV s8 v0 6 <|
      cl (sX8_whoMatch v0 v1 v2 s8) fun x9 s10 =>
      cV s10 v0 6 <|
      cl (sX8_isMost v0 v1 x9 s10) fun x11 s12 =>
      if x11 = (iI 0) then
        sX8_mostHeld_48 k6 v0 v1 v2 s12
      else
        some (v2, s12)
    else
      sX8_mostHeld_48 k6 v0 v1 v2 s8
noncomputable def sX8_mostHeld_6 : Nat → Option Nat → Int32 → Int32 → Mem → Option (Int32 × Mem)
  | 0 => fun _ _ _ _ => none
  | f + 1 => sX8_mostHeld_6b (sX8_mostHeld_6 f)
noncomputable def sX8_mostHeld (v0 : Option Nat) (v1 : Int32) (σ : Mem) : Option (Int32 × Mem) :=
  cV σ v0 6 <|
  cl (sX8_lastOf v0 v1 σ) fun x1 s2 =>
  sX8_mostHeld_6 FU v0 v1 x1 s2
noncomputable def sX8_hasEntry (v0 : Option Nat) (v1 : Int32) (v2 : Int32) (σ : Mem) : Option (Int32 × Mem) :=
  cV σ v0 6 <|
  cl (sX8_the v0 v1 (iI 4) σ) fun x1 s2 =>
  if v2 ≤ x1 then
    rZ (iI 0) s2
  else
    cV s2 v0 6 <|
    cl (sX8_lastOf v0 v1 s2) fun x3 s4 =>
    if x3 < v2 then
      rZ (iI 0) s4
    else
      rZ (iI 1) s4
noncomputable def sX8_seesHeld_126b (k126 : Option Nat → Int32 → Int32 → Int32 → Int32 → Mem → Option (Unit × Mem)) (v0 : Option Nat) (v2 : Int32) (v3 : Int32) (v4 : Int32) (v6 : Int32) (σ : Mem) : Option (Unit × Mem) :=
  if (iI 4) ≤ v6 then
    gR σ v0 6 0 fun x1 =>
    gR σ v0 6 0 fun x2 =>
    aI σ x2 (iI 11134) fun x3 =>
    cl (sX8_max x3 v2 σ) fun x4 s5 =>
    sI s5 x1 (iI 11134) x4 fun s6 =>
    gI s6 v0 6 29 fun x7 =>
    pI s6 v0 6 29 (x7 + (iI 1)) fun s8 =>
    some ((), s8)
  else
    gR σ v0 6 0 fun x9 =>
    gR σ v0 6 0 fun x10 =>
    aI σ x10 (v3 + v6) fun x11 =>
    sI σ x9 (v4 + v6) x11 fun s12 =>
    k126 v0 v2 v3 v4 (v6 + iI 1) s12
noncomputable def sX8_seesHeld_126 : Nat → Option Nat → Int32 → Int32 → Int32 → Int32 → Mem → Option (Unit × Mem)
  | 0 => fun _ _ _ _ _ _ => none
  | f + 1 => sX8_seesHeld_126b (sX8_seesHeld_126 f)
noncomputable def sX8_seesHeld_95 (k57 : Option Nat → Int32 → Int32 → Int32 → Int32 → Int32 → Mem → Option (Unit × Mem)) (v0 : Option Nat) (v2 : Int32) (v3 : Int32) (v4 : Int32) (v6 : Int32) (t0 : Int32) (σ : Mem) : Option (Unit × Mem) :=
  k57 v0 v2 v3 v4 t0 (v6 + iI 1) σ
noncomputable def sX8_seesHeld_94 (k57 : Option Nat → Int32 → Int32 → Int32 → Int32 → Int32 → Mem → Option (Unit × Mem)) (v0 : Option Nat) (v2 : Int32) (v3 : Int32) (v4 : Int32) (v6 : Int32) (σ : Mem) : Option (Unit × Mem) :=
  sX8_seesHeld_95 k57 v0 v2 v3 v4 v6 (iI 0) σ
noncomputable def sX8_seesHeld_57b (k57 : Option Nat → Int32 → Int32 → Int32 → Int32 → Int32 → Mem → Option (Unit × Mem)) (v0 : Option Nat) (v2 : Int32) (v3 : Int32) (v4 : Int32) (v5 : Int32) (v6 : Int32) (σ : Mem) : Option (Unit × Mem) :=
  if (iI 4) ≤ v6 then
    gR σ v0 6 0 fun x1 =>
    aI σ x1 v4 fun x2 =>
    if x2 = (iI 0) then
      sX8_seesHeld_126 FU v0 v2 v3 v4 (iI 0) σ
    else
      if v5 = (iI 0) then
        cV σ v0 6 <|
        cl (sX8_breaks v0 σ) fun _ s3 =>
        some ((), s3)
      else
        some ((), σ)
  else
    if v5 = (iI 0) then
      sX8_seesHeld_94 k57 v0 v2 v3 v4 v6 σ
    else
      gR σ v0 6 0 fun x4 =>
      aI σ x4 (v4 + v6) fun x5 =>
      gR σ v0 6 0 fun x6 =>
      aI σ x6 (v3 + v6) fun x7 =>
      if x5 = x7 then
        sX8_seesHeld_95 k57 v0 v2 v3 v4 v6 (iI 1) σ
      else
        sX8_seesHeld_94 k57 v0 v2 v3 v4 v6 σ
noncomputable def sX8_seesHeld_57 : Nat → Option Nat → Int32 → Int32 → Int32 → Int32 → Int32 → Mem → Option (Unit × Mem)
  | 0 => fun _ _ _ _ _ _ _ => none
  | f + 1 => sX8_seesHeld_57b (sX8_seesHeld_57 f)
noncomputable def sX8_seesHeld_51 (v0 : Option Nat) (v2 : Int32) (v3 : Int32) (v4 : Int32) (σ : Mem) : Option (Unit × Mem) :=
  sX8_seesHeld_57 FU v0 v2 v3 v4 (iI 1) (iI 0) σ
noncomputable def sX8_seesHeld (v0 : Option Nat) (v1 : Int32) (v2 : Int32) (σ : Mem) : Option (Unit × Mem) :=
  cV σ v0 6 <|
  cl (sX8_logPlace v0 v1 v2 σ) fun x1 s2 =>
  gR s2 v0 6 0 fun x3 =>
  aI s2 x3 (x1 + (iI 1)) fun x4 =>
  if x4 = (iI 0) then
    gR s2 v0 6 0 fun x5 =>
    aI s2 x5 (x1 + (iI 2)) fun x6 =>
    gR s2 v0 6 0 fun x7 =>
    aI s2 x7 (x1 + (iI 3)) fun x8 =>
    cV s2 v0 6 <|
    cl (sX8_sets v0 v1 ((iI 15) + x6) x8 s2) fun _ s9 =>
    sX8_seesHeld_51 v0 v2 x1 ((iI 6028) + ((iI 4) * v2)) s9
  else
    sX8_seesHeld_51 v0 v2 x1 ((iI 6028) + ((iI 4) * v2)) s2
noncomputable def sX8_growsCommit_30 (k10 : Option Nat → Int32 → Int32 → Int32 → Mem → Option (Unit × Mem)) (v0 : Option Nat) (v1 : Int32) (v2 : Int32) (v3 : Int32) (σ : Mem) : Option (Unit × Mem) :=
  k10 v0 v1 v2 (v3 + iI 1) σ
noncomputable def sX8_growsCommit_10b (k10 : Option Nat → Int32 → Int32 → Int32 → Mem → Option (Unit × Mem)) (v0 : Option Nat) (v1 : Int32) (v2 : Int32) (v3 : Int32) (σ : Mem) : Option (Unit × Mem) :=
  if v2 < v3 then
    cV σ v0 6 <|
    cl (sX8_the v0 v1 (iI 9) σ) fun x1 s2 =>
    cl (sX8_max x1 v2 s2) fun x3 s4 =>
    cV s4 v0 6 <|
    cl (sX8_sets v0 v1 (iI 9) x3 s4) fun _ s5 =>
    some ((), s5)
  else
    cV σ v0 6 <|
    cl (sX8_hasEntry v0 v1 v3 σ) fun x6 s7 =>
    if x6 = (iI 0) then
      sX8_growsCommit_30 k10 v0 v1 v2 v3 s7
    else
      cV s7 v0 6 <|
      cl (sX8_seesHeld v0 v1 v3 s7) fun _ s8 =>
      sX8_growsCommit_30 k10 v0 v1 v2 v3 s8
noncomputable def sX8_growsCommit_10 : Nat → Option Nat → Int32 → Int32 → Int32 → Mem → Option (Unit × Mem)
  | 0 => fun _ _ _ _ _ => none
  | f + 1 => sX8_growsCommit_10b (sX8_growsCommit_10 f)
noncomputable def sX8_growsCommit (v0 : Option Nat) (v1 : Int32) (v2 : Int32) (σ : Mem) : Option (Unit × Mem) :=
  cV σ v0 6 <|
  cl (sX8_the v0 v1 (iI 9) σ) fun x1 s2 =>
  sX8_growsCommit_10 FU v0 v1 v2 (x1 + (iI 1)) s2
noncomputable def sX8_isHeldConfig (v0 : Option Nat) (v1 : Int32) (σ : Mem) : Option (Int32 × Mem) :=
  cV σ v0 6 <|
  cl (sX8_configAt v0 v1 (iI 999) σ) fun x1 s2 =>
  cV s2 v0 6 <|
  cl (sX8_the v0 v1 (iI 9) s2) fun x3 s4 =>
  if x3 < x1 then
    rZ (iI 0) s4
  else
    rZ (iI 1) s4
noncomputable def sX8_holds_56 (k2 : Option Nat → Int32 → Int32 → Mem → Option (Unit × Mem)) (v0 : Option Nat) (v1 : Int32) (t0 : Int32) (σ : Mem) : Option (Unit × Mem) :=
  if t0 = (iI 0) then
    k2 v0 v1 t0 σ
  else
    cV σ v0 6 <|
    cl (sX8_lastOf v0 v1 σ) fun x1 s2 =>
    cV s2 v0 6 <|
    cl (sX8_sets v0 v1 ((iI 38) + v1) x1 s2) fun _ s3 =>
    cV s3 v0 6 <|
    cl (sX8_sendsToAll v0 v1 s3) fun _ s4 =>
    k2 v0 v1 t0 s4
noncomputable def sX8_holds_55 (k2 : Option Nat → Int32 → Int32 → Mem → Option (Unit × Mem)) (v0 : Option Nat) (v1 : Int32) (σ : Mem) : Option (Unit × Mem) :=
  sX8_holds_56 k2 v0 v1 (iI 0) σ
noncomputable def sX8_holds_2b (k2 : Option Nat → Int32 → Int32 → Mem → Option (Unit × Mem)) (v0 : Option Nat) (v1 : Int32) (v2 : Int32) (σ : Mem) : Option (Unit × Mem) :=
  if v2 = (iI 0) then
    cV σ v0 6 <|
    cl (sX8_newOf v0 v1 σ) fun x1 s2 =>
    if x1 = (iI 0) then
      cV s2 v0 6 <|
      cl (sX8_isHeldConfig v0 v1 s2) fun x3 s4 =>
      if x3 = (iI 0) then
        some ((), s4)
      else
        cV s4 v0 6 <|
        cl (sX8_membersOf v0 v1 s4) fun x5 s6 =>
        cl (sX8_has x5 v1 s6) fun x7 s8 =>
        if x7 = (iI 0) then
          cV s8 v0 6 <|
          cl (sX8_follows v0 v1 (iI (-1)) s8) fun _ s9 =>
          cV s9 v0 6 <|
          cl (sX8_setsTimer v0 v1 s9) fun _ s10 =>
          some ((), s10)
        else
          some ((), s8)
    else
      some ((), s2)
  else
    cV σ v0 6 <|
    cl (sX8_mostHeld v0 v1 σ) fun x11 s12 =>
    cV s12 v0 6 <|
    cl (sX8_growsCommit v0 v1 x11 s12) fun _ s13 =>
    cV s13 v0 6 <|
    cl (sX8_newOf v0 v1 s13) fun x14 s15 =>
    if x14 = (iI 0) then
      sX8_holds_55 k2 v0 v1 s15
    else
      cV s15 v0 6 <|
      cl (sX8_isHeldConfig v0 v1 s15) fun x16 s17 =>
      if x16 = (iI 0) then
        sX8_holds_55 k2 v0 v1 s17
      else
        cV s17 v0 6 <|
        cl (sX8_the v0 v1 (iI 1) s17) fun x18 s19 =>
        cV s19 v0 6 <|
        cl (sX8_lays v0 v1 x18 (iI 1) x14 (iI 0) s19) fun x20 s21 =>
        if x20 = (iI 0) then
          sX8_holds_55 k2 v0 v1 s21
        else
          sX8_holds_56 k2 v0 v1 (iI 1) s21
noncomputable def sX8_holds_2 : Nat → Option Nat → Int32 → Int32 → Mem → Option (Unit × Mem)
  | 0 => fun _ _ _ _ => none
  | f + 1 => sX8_holds_2b (sX8_holds_2 f)
noncomputable def sX8_holds (v0 : Option Nat) (v1 : Int32) (σ : Mem) : Option (Unit × Mem) :=
  sX8_holds_2 FU v0 v1 (iI 1) σ
noncomputable def sX8_laidByLeader (v0 : Option Nat) (v1 : Int32) (σ : Mem) : Option (Unit × Mem) :=
  cV σ v0 6 <|
  cl (sX8_lastOf v0 v1 σ) fun x1 s2 =>
  cV s2 v0 6 <|
  cl (sX8_sets v0 v1 ((iI 38) + v1) x1 s2) fun _ s3 =>
  cV s3 v0 6 <|
  cl (sX8_sendsToAll v0 v1 s3) fun _ s4 =>
  cV s4 v0 6 <|
  cl (sX8_holds v0 v1 s4) fun _ s5 =>
  some ((), s5)
noncomputable def sX8_leads_83b (k83 : Option Nat → Int32 → Int32 → Int32 → Mem → Option (Unit × Mem)) (v0 : Option Nat) (v1 : Int32) (v2 : Int32) (v3 : Int32) (σ : Mem) : Option (Unit × Mem) :=
  if (iI 7) ≤ v3 then
    cV σ v0 6 <|
    cl (sX8_sets v0 v1 (iI 14) (iI 0) σ) fun _ s1 =>
    cV s1 v0 6 <|
    cl (sX8_sets v0 v1 (iI 13) (iI 1) s1) fun _ s2 =>
    cV s2 v0 6 <|
    cl (sX8_lays v0 v1 v2 (iI 2) (iI 0) (iI 0) s2) fun x3 s4 =>
    cV s4 v0 6 <|
    cl (sX8_laidByLeader v0 v1 s4) fun _ s5 =>
    some ((), s5)
  else
    cV σ v0 6 <|
    cl (sX8_lastOf v0 v1 σ) fun x6 s7 =>
    cV s7 v0 6 <|
    cl (sX8_sets v0 v1 ((iI 31) + v3) (x6 + (iI 1)) s7) fun _ s8 =>
    cV s8 v0 6 <|
    cl (sX8_sets v0 v1 ((iI 38) + v3) (iI 0) s8) fun _ s9 =>
    cV s9 v0 6 <|
    cl (sX8_sets v0 v1 ((iI 45) + v3) (iI 0) s9) fun _ s10 =>
    k83 v0 v1 v2 (v3 + iI 1) s10
noncomputable def sX8_leads_83 : Nat → Option Nat → Int32 → Int32 → Int32 → Mem → Option (Unit × Mem)
  | 0 => fun _ _ _ _ _ => none
  | f + 1 => sX8_leads_83b (sX8_leads_83 f)
noncomputable def sX8_leads_66 (v0 : Option Nat) (v1 : Int32) (v2 : Int32) (σ : Mem) : Option (Unit × Mem) :=
  cV σ v0 6 <|
  cl (sX8_sets v0 v1 (iI 3) (iI 2) σ) fun _ s1 =>
  cV s1 v0 6 <|
  cl (sX8_sets v0 v1 (iI 11) v1 s1) fun _ s2 =>
  sX8_leads_83 FU v0 v1 v2 (iI 0) s2
noncomputable def sX8_leads_40 (v0 : Option Nat) (v1 : Int32) (v2 : Int32) (σ : Mem) : Option (Unit × Mem) :=
  gR σ v0 6 0 fun x1 =>
  aI σ x1 ((iI 10028) + v2) fun x2 =>
  if x2 = (iI 0) then
    gR σ v0 6 0 fun x3 =>
    sI σ x3 ((iI 10028) + v2) (v1 + (iI 1)) fun s4 =>
    sX8_leads_66 v0 v1 v2 s4
  else
    sX8_leads_66 v0 v1 v2 σ
noncomputable def sX8_leads (v0 : Option Nat) (v1 : Int32) (σ : Mem) : Option (Unit × Mem) :=
  cV σ v0 6 <|
  cl (sX8_the v0 v1 (iI 1) σ) fun x1 s2 =>
  gR s2 v0 6 0 fun x3 =>
  aI s2 x3 ((iI 10028) + x1) fun x4 =>
  if x4 = (iI 0) then
    sX8_leads_40 v0 v1 x1 s2
  else
    gR s2 v0 6 0 fun x5 =>
    aI s2 x5 ((iI 10028) + x1) fun x6 =>
    if x6 = (v1 + (iI 1)) then
      sX8_leads_40 v0 v1 x1 s2
    else
      cV s2 v0 6 <|
      cl (sX8_breaks v0 s2) fun _ s7 =>
      sX8_leads_40 v0 v1 x1 s7
noncomputable def sX8_hasVote (v0 : Option Nat) (v1 : Int32) (σ : Mem) : Option (Unit × Mem) :=
  cV σ v0 6 <|
  cl (sX8_the v0 v1 (iI 3) σ) fun x1 s2 =>
  if x1 = (iI 1) then
    gR s2 v0 6 4 fun x3 =>
    aI s2 x3 (iI 3) fun x4 =>
    cV s2 v0 6 <|
    cl (sX8_the v0 v1 (iI 1) s2) fun x5 s6 =>
    if x4 = x5 then
      gR s6 v0 6 4 fun x7 =>
      aI s6 x7 (iI 6) fun x8 =>
      if x8 = (iI 1) then
        cV s6 v0 6 <|
        cl (sX8_the v0 v1 (iI 12) s6) fun x9 s10 =>
        gR s10 v0 6 4 fun x11 =>
        aI s10 x11 (iI 0) fun x12 =>
        cV s10 v0 6 <|
        cl (sX8_sets v0 v1 (iI 12) (x9 ||| ((iI 1) <<< (x12 &&& 31))) s10) fun _ s13 =>
        cV s13 v0 6 <|
        cl (sX8_the v0 v1 (iI 12) s13) fun x14 s15 =>
        cV s15 v0 6 <|
        cl (sX8_isMost v0 v1 x14 s15) fun x16 s17 =>
        if x16 = (iI 0) then
          some ((), s17)
        else
          cV s17 v0 6 <|
          cl (sX8_leads v0 v1 s17) fun _ s18 =>
          some ((), s18)
      else
        some ((), s6)
    else
      some ((), s6)
  else
    some ((), s2)
noncomputable def sX8_firstOfTerm_18b (k18 : Option Nat → Int32 → Int32 → Int32 → Mem → Option (Int32 × Mem)) (v0 : Option Nat) (v1 : Int32) (v2 : Int32) (v3 : Int32) (σ : Mem) : Option (Int32 × Mem) :=
  cV σ v0 6 <|
  cl (sX8_the v0 v1 (iI 4) σ) fun x1 s2 =>
  if (v3 - (iI 1)) ≤ x1 then
    some (v3, s2)
  else
    cV s2 v0 6 <|
    cl (sX8_termAt v0 v1 (v3 - (iI 1)) s2) fun x3 s4 =>
    cV s4 v0 6 <|
    cl (sX8_termAt v0 v1 v2 s4) fun x5 s6 =>
    if x3 = x5 then
      k18 v0 v1 v2 (v3 - (iI 1)) s6
    else
      some (v3, s6)
noncomputable def sX8_firstOfTerm_18 : Nat → Option Nat → Int32 → Int32 → Int32 → Mem → Option (Int32 × Mem)
  | 0 => fun _ _ _ _ _ => none
  | f + 1 => sX8_firstOfTerm_18b (sX8_firstOfTerm_18 f)
noncomputable def sX8_firstOfTerm (v0 : Option Nat) (v1 : Int32) (v2 : Int32) (σ : Mem) : Option (Int32 × Mem) :=
  cV σ v0 6 <|
  cl (sX8_the v0 v1 (iI 4) σ) fun x1 s2 =>
  if v2 = x1 then
    cl (sX8_max (iI 1) v2 s2) fun x3 s4 =>
    some (x3, s4)
  else
    sX8_firstOfTerm_18 FU v0 v1 v2 v2 s2
noncomputable def sX8_laysAs_80 (v0 : Option Nat) (v1 : Int32) (v3 : Int32) (σ : Mem) : Option (Int32 × Mem) :=
  gR σ v0 6 4 fun x1 =>
  aI σ x1 v3 fun x2 =>
  gR σ v0 6 4 fun x3 =>
  aI σ x3 (v3 + (iI 1)) fun x4 =>
  gR σ v0 6 4 fun x5 =>
  aI σ x5 (v3 + (iI 2)) fun x6 =>
  gR σ v0 6 4 fun x7 =>
  aI σ x7 (v3 + (iI 3)) fun x8 =>
  cV σ v0 6 <|
  cl (sX8_lays v0 v1 x2 x4 x6 x8 σ) fun x9 s10 =>
  rZ x9 s10
noncomputable def sX8_laysAs (v0 : Option Nat) (v1 : Int32) (v2 : Int32) (v3 : Int32) (σ : Mem) : Option (Int32 × Mem) :=
  cV σ v0 6 <|
  cl (sX8_the v0 v1 (iI 4) σ) fun x1 s2 =>
  if x1 < v2 then
    cV s2 v0 6 <|
    cl (sX8_lastOf v0 v1 s2) fun x3 s4 =>
    if x3 < v2 then
      sX8_laysAs_80 v0 v1 v3 s4
    else
      cV s4 v0 6 <|
      cl (sX8_termAt v0 v1 v2 s4) fun x5 s6 =>
      gR s6 v0 6 4 fun x7 =>
      aI s6 x7 v3 fun x8 =>
      if x5 = x8 then
        rZ (iI 1) s6
      else
        cV s6 v0 6 <|
        cl (sX8_the v0 v1 (iI 4) s6) fun x9 s10 =>
        cV s10 v0 6 <|
        cl (sX8_sets v0 v1 (iI 8) ((v2 - x9) - (iI 1)) s10) fun _ s11 =>
        cV s11 v0 6 <|
        cl (sX8_the v0 v1 (iI 9) s11) fun x12 s13 =>
        if x12 < v2 then
          sX8_laysAs_80 v0 v1 v3 s13
        else
          cV s13 v0 6 <|
          cl (sX8_breaks v0 s13) fun _ s14 =>
          cV s14 v0 6 <|
          cl (sX8_sets v0 v1 (iI 9) (v2 - (iI 1)) s14) fun _ s15 =>
          sX8_laysAs_80 v0 v1 v3 s15
  else
    rZ (iI 1) s2
noncomputable def sX8_hasEntries_166 (v0 : Option Nat) (v1 : Int32) (v3 : Int32) (v4 : Int32) (σ : Mem) : Option (Unit × Mem) :=
  gR σ v0 6 4 fun x1 =>
  aI σ x1 (iI 8) fun x2 =>
  cl (sX8_min x2 v4 σ) fun x3 s4 =>
  cV s4 v0 6 <|
  cl (sX8_growsCommit v0 v1 x3 s4) fun _ s5 =>
  cV s5 v0 6 <|
  cl (sX8_answersBy v0 (iI 3) (iI 1) v4 v3 s5) fun _ s6 =>
  some ((), s6)
noncomputable def sX8_hasEntries_123b (k123 : Option Nat → Int32 → Int32 → Int32 → Int32 → Mem → Option (Unit × Mem)) (v0 : Option Nat) (v1 : Int32) (v2 : Int32) (v3 : Int32) (v4 : Int32) (σ : Mem) : Option (Unit × Mem) :=
  gR σ v0 6 4 fun x1 =>
  aI σ x1 (iI 5) fun x2 =>
  if (v2 + x2) ≤ v4 then
    sX8_hasEntries_166 v0 v1 v3 v4 σ
  else
    cV σ v0 6 <|
    cl (sX8_laysAs v0 v1 (v4 + (iI 1)) ((iI 11) + ((iI 4) * (v4 - v2))) σ) fun x3 s4 =>
    if x3 = (iI 0) then
      sX8_hasEntries_166 v0 v1 v3 v4 s4
    else
      k123 v0 v1 v2 v3 (v4 + (iI 1)) s4
noncomputable def sX8_hasEntries_123 : Nat → Option Nat → Int32 → Int32 → Int32 → Int32 → Mem → Option (Unit × Mem)
  | 0 => fun _ _ _ _ _ _ => none
  | f + 1 => sX8_hasEntries_123b (sX8_hasEntries_123 f)
noncomputable def sX8_hasEntries_120 (v0 : Option Nat) (v1 : Int32) (v2 : Int32) (v3 : Int32) (σ : Mem) : Option (Unit × Mem) :=
  sX8_hasEntries_123 FU v0 v1 v2 v3 v2 σ
noncomputable def sX8_hasEntries (v0 : Option Nat) (v1 : Int32) (σ : Mem) : Option (Unit × Mem) :=
  gR σ v0 6 4 fun x1 =>
  aI σ x1 (iI 6) fun x2 =>
  gR σ v0 6 4 fun x3 =>
  aI σ x3 (iI 10) fun x4 =>
  gR σ v0 6 4 fun x5 =>
  aI σ x5 (iI 3) fun x6 =>
  cV σ v0 6 <|
  cl (sX8_the v0 v1 (iI 1) σ) fun x7 s8 =>
  if x7 ≤ x6 then
    gR s8 v0 6 4 fun x9 =>
    aI s8 x9 (iI 0) fun x10 =>
    cV s8 v0 6 <|
    cl (sX8_follows v0 v1 x10 s8) fun _ s11 =>
    cV s11 v0 6 <|
    cl (sX8_setsTimer v0 v1 s11) fun _ s12 =>
    cV s12 v0 6 <|
    cl (sX8_lastOf v0 v1 s12) fun x13 s14 =>
    if x2 ≤ x13 then
      cV s14 v0 6 <|
      cl (sX8_the v0 v1 (iI 4) s14) fun x15 s16 =>
      if x2 < x15 then
        sX8_hasEntries_120 v0 v1 x2 x4 s16
      else
        cV s16 v0 6 <|
        cl (sX8_termAt v0 v1 x2 s16) fun x17 s18 =>
        gR s18 v0 6 4 fun x19 =>
        aI s18 x19 (iI 7) fun x20 =>
        if x17 = x20 then
          sX8_hasEntries_120 v0 v1 x2 x4 s18
        else
          cV s18 v0 6 <|
          cl (sX8_firstOfTerm v0 v1 x2 s18) fun x21 s22 =>
          cV s22 v0 6 <|
          cl (sX8_answersBy v0 (iI 3) (iI 0) x21 x4 s22) fun _ s23 =>
          some ((), s23)
    else
      cV s14 v0 6 <|
      cl (sX8_lastOf v0 v1 s14) fun x24 s25 =>
      cV s25 v0 6 <|
      cl (sX8_answersBy v0 (iI 3) (iI 0) (x24 + (iI 1)) x4 s25) fun _ s26 =>
      some ((), s26)
  else
    cV s8 v0 6 <|
    cl (sX8_answersBy v0 (iI 3) (iI 0) (iI 1) (iI 0) s8) fun _ s27 =>
    some ((), s27)
noncomputable def sX8_isOfLeader (v0 : Option Nat) (v1 : Int32) (σ : Mem) : Option (Int32 × Mem) :=
  cV σ v0 6 <|
  cl (sX8_the v0 v1 (iI 3) σ) fun x1 s2 =>
  if x1 = (iI 2) then
    gR s2 v0 6 4 fun x3 =>
    aI s2 x3 (iI 3) fun x4 =>
    cV s2 v0 6 <|
    cl (sX8_the v0 v1 (iI 1) s2) fun x5 s6 =>
    if x4 = x5 then
      gR s6 v0 6 4 fun x7 =>
      aI s6 x7 (iI 0) fun x8 =>
      cV s6 v0 6 <|
      cl (sX8_the v0 v1 ((iI 45) + x8) s6) fun x9 s10 =>
      gR s10 v0 6 4 fun x11 =>
      aI s10 x11 (iI 10) fun x12 =>
      cl (sX8_max x9 x12 s10) fun x13 s14 =>
      cV s14 v0 6 <|
      cl (sX8_sets v0 v1 ((iI 45) + x8) x13 s14) fun _ s15 =>
      rZ (iI 1) s15
    else
      rZ (iI 0) s6
  else
    rZ (iI 0) s2
noncomputable def sX8_matches (v0 : Option Nat) (v1 : Int32) (v2 : Int32) (σ : Mem) : Option (Unit × Mem) :=
  gR σ v0 6 4 fun x1 =>
  aI σ x1 (iI 0) fun x2 =>
  cV σ v0 6 <|
  cl (sX8_the v0 v1 ((iI 38) + x2) σ) fun x3 s4 =>
  cl (sX8_max x3 v2 s4) fun x5 s6 =>
  cV s6 v0 6 <|
  cl (sX8_sets v0 v1 ((iI 38) + x2) x5 s6) fun _ s7 =>
  cV s7 v0 6 <|
  cl (sX8_the v0 v1 ((iI 38) + x2) s7) fun x8 s9 =>
  cV s9 v0 6 <|
  cl (sX8_sets v0 v1 ((iI 31) + x2) (x8 + (iI 1)) s9) fun _ s10 =>
  cV s10 v0 6 <|
  cl (sX8_holds v0 v1 s10) fun _ s11 =>
  cV s11 v0 6 <|
  cl (sX8_the v0 v1 (iI 3) s11) fun x12 s13 =>
  if x12 = (iI 2) then
    cV s13 v0 6 <|
    cl (sX8_the v0 v1 ((iI 31) + x2) s13) fun x14 s15 =>
    cV s15 v0 6 <|
    cl (sX8_lastOf v0 v1 s15) fun x16 s17 =>
    if x16 < x14 then
      some ((), s17)
    else
      cV s17 v0 6 <|
      cl (sX8_sendsOn v0 v1 x2 s17) fun _ s18 =>
      some ((), s18)
  else
    some ((), s13)
noncomputable def sX8_whoHeard_35 (k7 : Option Nat → Int32 → Int32 → Int32 → Int32 → Mem → Option (Int32 × Mem)) (v0 : Option Nat) (v1 : Int32) (v2 : Int32) (v3 : Int32) (v4 : Int32) (σ : Mem) : Option (Int32 × Mem) :=
  k7 v0 v1 v2 v3 (v4 + iI 1) σ
noncomputable def sX8_whoHeard_7b (k7 : Option Nat → Int32 → Int32 → Int32 → Int32 → Mem → Option (Int32 × Mem)) (v0 : Option Nat) (v1 : Int32) (v2 : Int32) (v3 : Int32) (v4 : Int32) (σ : Mem) : Option (Int32 × Mem) :=
  if (iI 7) ≤ v4 then
    some (v3, σ)
  else
    cV σ v0 6 <|
    cl (sX8_the v0 v1 ((iI 45) + v4) σ) fun x1 s2 =>
    if x1 < v2 then
      sX8_whoHeard_35 k7 v0 v1 v2 v3 v4 s2
    else
      sX8_whoHeard_35 k7 v0 v1 v2 (v3 ||| ((iI 1) <<< (v4 &&& 31))) v4 s2
noncomputable def sX8_whoHeard_7 : Nat → Option Nat → Int32 → Int32 → Int32 → Int32 → Mem → Option (Int32 × Mem)
  | 0 => fun _ _ _ _ _ _ => none
  | f + 1 => sX8_whoHeard_7b (sX8_whoHeard_7 f)
noncomputable def sX8_whoHeard (v0 : Option Nat) (v1 : Int32) (v2 : Int32) (σ : Mem) : Option (Int32 × Mem) :=
  sX8_whoHeard_7 FU v0 v1 v2 ((iI 1) <<< (v1 &&& 31)) (iI 0) σ
noncomputable def sX8_answersReads_133 (k2 : Option Nat → Int32 → Int32 → Mem → Option (Unit × Mem)) (v0 : Option Nat) (v1 : Int32) (v2 : Int32) (σ : Mem) : Option (Unit × Mem) :=
  k2 v0 v1 (v2 + iI 1) σ
noncomputable def sX8_answersReads_2b (k2 : Option Nat → Int32 → Int32 → Mem → Option (Unit × Mem)) (v0 : Option Nat) (v1 : Int32) (v2 : Int32) (σ : Mem) : Option (Unit × Mem) :=
  gR σ v0 6 0 fun x1 =>
  aI σ x1 (iI 11135) fun x2 =>
  if x2 ≤ v2 then
    some ((), σ)
  else
    cV σ v0 6 <|
    cl (sX8_the v0 v1 (iI 3) σ) fun x3 s4 =>
    if x3 = (iI 2) then
      gR s4 v0 6 0 fun x5 =>
      aI s4 x5 ((iI 11028) + ((iI 6) * v2)) fun x6 =>
      if x6 = v1 then
        gR s4 v0 6 0 fun x7 =>
        aI s4 x7 (((iI 11028) + ((iI 6) * v2)) + (iI 4)) fun x8 =>
        if x8 = (iI 0) then
          gR s4 v0 6 0 fun x9 =>
          aI s4 x9 (((iI 11028) + ((iI 6) * v2)) + (iI 2)) fun x10 =>
          cV s4 v0 6 <|
          cl (sX8_whoHeard v0 v1 x10 s4) fun x11 s12 =>
          cV s12 v0 6 <|
          cl (sX8_isMost v0 v1 x11 s12) fun x13 s14 =>
          if x13 = (iI 0) then
            sX8_answersReads_133 k2 v0 v1 v2 s14
          else
            gR s14 v0 6 0 fun x15 =>
            sI s14 x15 (((iI 11028) + ((iI 6) * v2)) + (iI 4)) (iI 1) fun s16 =>
            gR s16 v0 6 0 fun x17 =>
            gR s16 v0 6 0 fun x18 =>
            aI s16 x18 (((iI 11028) + ((iI 6) * v2)) + (iI 1)) fun x19 =>
            cV s16 v0 6 <|
            cl (sX8_the v0 v1 ((iI 15) + x19) s16) fun x20 s21 =>
            sI s21 x17 (((iI 11028) + ((iI 6) * v2)) + (iI 5)) x20 fun s22 =>
            cV s22 v0 6 <|
            cl (sX8_the v0 v1 (iI 9) s22) fun x23 s24 =>
            gR s24 v0 6 0 fun x25 =>
            aI s24 x25 (((iI 11028) + ((iI 6) * v2)) + (iI 3)) fun x26 =>
            if x26 ≤ x23 then
              sX8_answersReads_133 k2 v0 v1 v2 s24
            else
              cV s24 v0 6 <|
              cl (sX8_breaks v0 s24) fun _ s27 =>
              sX8_answersReads_133 k2 v0 v1 v2 s27
        else
          sX8_answersReads_133 k2 v0 v1 v2 s4
      else
        sX8_answersReads_133 k2 v0 v1 v2 s4
    else
      some ((), s4)
noncomputable def sX8_answersReads_2 : Nat → Option Nat → Int32 → Int32 → Mem → Option (Unit × Mem)
  | 0 => fun _ _ _ _ => none
  | f + 1 => sX8_answersReads_2b (sX8_answersReads_2 f)
noncomputable def sX8_answersReads (v0 : Option Nat) (v1 : Int32) (σ : Mem) : Option (Unit × Mem) :=
  sX8_answersReads_2 FU v0 v1 (iI 0) σ
noncomputable def sX8_hearsOfEntries_90 (v0 : Option Nat) (v1 : Int32) (σ : Mem) : Option (Unit × Mem) :=
  cV σ v0 6 <|
  cl (sX8_answersReads v0 v1 σ) fun _ s1 =>
  some ((), s1)
noncomputable def sX8_hearsOfEntries (v0 : Option Nat) (v1 : Int32) (σ : Mem) : Option (Unit × Mem) :=
  cV σ v0 6 <|
  cl (sX8_isOfLeader v0 v1 σ) fun x1 s2 =>
  if x1 = (iI 0) then
    some ((), s2)
  else
    gR s2 v0 6 4 fun x3 =>
    aI s2 x3 (iI 0) fun x4 =>
    gR s2 v0 6 4 fun x5 =>
    aI s2 x5 (iI 6) fun x6 =>
    if x6 = (iI 1) then
      gR s2 v0 6 4 fun x19 =>
      aI s2 x19 (iI 7) fun x20 =>
      cV s2 v0 6 <|
      cl (sX8_matches v0 v1 x20 s2) fun _ s21 =>
      sX8_hearsOfEntries_90 v0 v1 s21
    else
      cV s2 v0 6 <|
      cl (sX8_the v0 v1 ((iI 38) + x4) s2) fun x7 s8 =>
      cV s8 v0 6 <|
      cl (sX8_the v0 v1 ((iI 31) + x4) s8) fun x9 s10 =>
      gR s10 v0 6 4 fun x11 =>
      aI s10 x11 (iI 7) fun x12 =>
      cl (sX8_min x9 x12 s10) fun x13 s14 =>
      cl (sX8_max (x7 + (iI 1)) x13 s14) fun x15 s16 =>
      cV s16 v0 6 <|
      cl (sX8_sets v0 v1 ((iI 31) + x4) x15 s16) fun _ s17 =>
      cV s17 v0 6 <|
      cl (sX8_sendsOn v0 v1 x4 s17) fun _ s18 =>
      sX8_hearsOfEntries_90 v0 v1 s18
noncomputable def sX8_hasSnapshot_170b (k170 : Option Nat → Int32 → Int32 → Int32 → Mem → Option (Unit × Mem)) (v0 : Option Nat) (v1 : Int32) (v2 : Int32) (v3 : Int32) (σ : Mem) : Option (Unit × Mem) :=
  if (iI 8) ≤ v3 then
    gR σ v0 6 4 fun x1 =>
    aI σ x1 (iI 10) fun x2 =>
    cV σ v0 6 <|
    cl (sX8_answersBy v0 (iI 5) v2 (iI 0) x2 σ) fun _ s3 =>
    some ((), s3)
  else
    gR σ v0 6 4 fun x4 =>
    aI σ x4 ((iI 11) + v3) fun x5 =>
    cV σ v0 6 <|
    cl (sX8_sets v0 v1 ((iI 23) + v3) x5 σ) fun _ s6 =>
    gR s6 v0 6 4 fun x7 =>
    aI s6 x7 ((iI 11) + v3) fun x8 =>
    cV s6 v0 6 <|
    cl (sX8_sets v0 v1 ((iI 15) + v3) x8 s6) fun _ s9 =>
    k170 v0 v1 v2 (v3 + iI 1) s9
noncomputable def sX8_hasSnapshot_170 : Nat → Option Nat → Int32 → Int32 → Int32 → Mem → Option (Unit × Mem)
  | 0 => fun _ _ _ _ _ => none
  | f + 1 => sX8_hasSnapshot_170b (sX8_hasSnapshot_170 f)
noncomputable def sX8_hasSnapshot_113 (v0 : Option Nat) (v1 : Int32) (v2 : Int32) (σ : Mem) : Option (Unit × Mem) :=
  cV σ v0 6 <|
  cl (sX8_goesUpTo v0 v1 v2 σ) fun _ s1 =>
  gR s1 v0 6 4 fun x2 =>
  aI s1 x2 (iI 7) fun x3 =>
  cV s1 v0 6 <|
  cl (sX8_sets v0 v1 (iI 5) x3 s1) fun _ s4 =>
  gR s4 v0 6 4 fun x5 =>
  aI s4 x5 (iI 8) fun x6 =>
  cV s4 v0 6 <|
  cl (sX8_sets v0 v1 (iI 6) x6 s4) fun _ s7 =>
  gR s7 v0 6 4 fun x8 =>
  aI s7 x8 (iI 9) fun x9 =>
  cV s7 v0 6 <|
  cl (sX8_sets v0 v1 (iI 7) x9 s7) fun _ s10 =>
  cV s10 v0 6 <|
  cl (sX8_sets v0 v1 (iI 9) v2 s10) fun _ s11 =>
  sX8_hasSnapshot_170 FU v0 v1 v2 (iI 0) s11
noncomputable def sX8_hasSnapshot_105 (v0 : Option Nat) (v1 : Int32) (v2 : Int32) (σ : Mem) : Option (Unit × Mem) :=
  cV σ v0 6 <|
  cl (sX8_sets v0 v1 (iI 8) (iI 0) σ) fun _ s1 =>
  sX8_hasSnapshot_113 v0 v1 v2 s1
noncomputable def sX8_hasSnapshot (v0 : Option Nat) (v1 : Int32) (σ : Mem) : Option (Unit × Mem) :=
  gR σ v0 6 4 fun x1 =>
  aI σ x1 (iI 6) fun x2 =>
  gR σ v0 6 4 fun x3 =>
  aI σ x3 (iI 3) fun x4 =>
  cV σ v0 6 <|
  cl (sX8_the v0 v1 (iI 1) σ) fun x5 s6 =>
  if x5 ≤ x4 then
    gR s6 v0 6 4 fun x7 =>
    aI s6 x7 (iI 0) fun x8 =>
    cV s6 v0 6 <|
    cl (sX8_follows v0 v1 x8 s6) fun _ s9 =>
    cV s9 v0 6 <|
    cl (sX8_setsTimer v0 v1 s9) fun _ s10 =>
    cV s10 v0 6 <|
    cl (sX8_the v0 v1 (iI 9) s10) fun x11 s12 =>
    if x11 < x2 then
      cV s12 v0 6 <|
      cl (sX8_hasEntry v0 v1 x2 s12) fun x13 s14 =>
      if x13 = (iI 0) then
        sX8_hasSnapshot_105 v0 v1 x2 s14
      else
        cV s14 v0 6 <|
        cl (sX8_termAt v0 v1 x2 s14) fun x15 s16 =>
        gR s16 v0 6 4 fun x17 =>
        aI s16 x17 (iI 7) fun x18 =>
        if x15 = x18 then
          sX8_hasSnapshot_113 v0 v1 x2 s16
        else
          sX8_hasSnapshot_105 v0 v1 x2 s16
    else
      cV s12 v0 6 <|
      cl (sX8_the v0 v1 (iI 9) s12) fun x19 s20 =>
      gR s20 v0 6 4 fun x21 =>
      aI s20 x21 (iI 10) fun x22 =>
      cV s20 v0 6 <|
      cl (sX8_answersBy v0 (iI 5) x19 (iI 0) x22 s20) fun _ s23 =>
      some ((), s23)
  else
    cV s6 v0 6 <|
    cl (sX8_answersBy v0 (iI 5) (iI 0) (iI 0) (iI 0) s6) fun _ s24 =>
    some ((), s24)
noncomputable def sX8_hearsOfSnapshot (v0 : Option Nat) (v1 : Int32) (σ : Mem) : Option (Unit × Mem) :=
  cV σ v0 6 <|
  cl (sX8_isOfLeader v0 v1 σ) fun x1 s2 =>
  if x1 = (iI 0) then
    some ((), s2)
  else
    gR s2 v0 6 4 fun x3 =>
    aI s2 x3 (iI 6) fun x4 =>
    cV s2 v0 6 <|
    cl (sX8_matches v0 v1 x4 s2) fun _ s5 =>
    cV s5 v0 6 <|
    cl (sX8_answersReads v0 v1 s5) fun _ s6 =>
    some ((), s6)
noncomputable def sX8_isHanded_29 (v0 : Option Nat) (σ : Mem) : Option (Unit × Mem) :=
  cV σ v0 6 <|
  cl (sX8_loses v0 σ) fun _ s1 =>
  some ((), s1)
noncomputable def sX8_isHanded_74 (v0 : Option Nat) (v1 : Int32) (σ : Mem) : Option (Unit × Mem) :=
  gR σ v0 6 4 fun x1 =>
  aI σ x1 (iI 2) fun x2 =>
  if x2 = iI 0 then
    cV σ v0 6 <|
    cl (sX8_isAskedToVote v0 v1 σ) fun _ s3 =>
    some ((), s3)
  else
    if x2 = iI 1 then
      cV σ v0 6 <|
      cl (sX8_hasVote v0 v1 σ) fun _ s4 =>
      some ((), s4)
    else
      if x2 = iI 2 then
        cV σ v0 6 <|
        cl (sX8_hasEntries v0 v1 σ) fun _ s5 =>
        some ((), s5)
      else
        if x2 = iI 3 then
          cV σ v0 6 <|
          cl (sX8_hearsOfEntries v0 v1 σ) fun _ s6 =>
          some ((), s6)
        else
          if x2 = iI 4 then
            cV σ v0 6 <|
            cl (sX8_hasSnapshot v0 v1 σ) fun _ s7 =>
            some ((), s7)
          else
            cV σ v0 6 <|
            cl (sX8_hearsOfSnapshot v0 v1 σ) fun _ s8 =>
            some ((), s8)
noncomputable def sX8_isHanded (v0 : Option Nat) (σ : Mem) : Option (Unit × Mem) :=
  gR σ v0 6 4 fun x1 =>
  aI σ x1 (iI 1) fun x2 =>
  cV σ v0 6 <|
  cl (sX8_isUp v0 x2 σ) fun x3 s4 =>
  if x3 = (iI 0) then
    sX8_isHanded_29 v0 s4
  else
    gR s4 v0 6 4 fun x5 =>
    aI s4 x5 (iI 0) fun x6 =>
    cV s4 v0 6 <|
    cl (sX8_areLinked v0 x2 x6 s4) fun x7 s8 =>
    if x7 = (iI 0) then
      sX8_isHanded_29 v0 s8
    else
      gR s8 v0 6 4 fun x9 =>
      aI s8 x9 (iI 3) fun x10 =>
      cV s8 v0 6 <|
      cl (sX8_the v0 x2 (iI 1) s8) fun x11 s12 =>
      if x10 ≤ x11 then
        sX8_isHanded_74 v0 x2 s12
      else
        gR s12 v0 6 4 fun x13 =>
        aI s12 x13 (iI 3) fun x14 =>
        cV s12 v0 6 <|
        cl (sX8_sets v0 x2 (iI 1) x14 s12) fun _ s15 =>
        cV s15 v0 6 <|
        cl (sX8_sets v0 x2 (iI 2) (iI (-1)) s15) fun _ s16 =>
        cV s16 v0 6 <|
        cl (sX8_follows v0 x2 (iI (-1)) s16) fun _ s17 =>
        sX8_isHanded_74 v0 x2 s17
noncomputable def sX8_stands_24 (v0 : Option Nat) (v1 : Int32) (σ : Mem) : Option (Unit × Mem) :=
  cV σ v0 6 <|
  cl (sX8_setsTimer v0 v1 σ) fun _ s1 =>
  some ((), s1)
noncomputable def sX8_stands_170 (k104 : Option Nat → Int32 → Int32 → Mem → Option (Unit × Mem)) (v0 : Option Nat) (v1 : Int32) (v2 : Int32) (σ : Mem) : Option (Unit × Mem) :=
  k104 v0 v1 (v2 + iI 1) σ
noncomputable def sX8_stands_104b (k104 : Option Nat → Int32 → Int32 → Mem → Option (Unit × Mem)) (v0 : Option Nat) (v1 : Int32) (v2 : Int32) (σ : Mem) : Option (Unit × Mem) :=
  if (iI 7) ≤ v2 then
    some ((), σ)
  else
    if v2 = v1 then
      sX8_stands_170 k104 v0 v1 v2 σ
    else
      cV σ v0 6 <|
      cl (sX8_membersOf v0 v1 σ) fun x1 s2 =>
      cl (sX8_has x1 v2 s2) fun x3 s4 =>
      if x3 = (iI 0) then
        sX8_stands_170 k104 v0 v1 v2 s4
      else
        cV s4 v0 6 <|
        cl (sX8_beginsMail v0 v1 v2 (iI 0) s4) fun _ s5 =>
        gR s5 v0 6 3 fun x6 =>
        cV s5 v0 6 <|
        cl (sX8_lastOf v0 v1 s5) fun x7 s8 =>
        sI s8 x6 (iI 6) x7 fun s9 =>
        gR s9 v0 6 3 fun x10 =>
        cV s9 v0 6 <|
        cl (sX8_lastOf v0 v1 s9) fun x11 s12 =>
        cV s12 v0 6 <|
        cl (sX8_termAt v0 v1 x11 s12) fun x13 s14 =>
        sI s14 x10 (iI 7) x13 fun s15 =>
        cV s15 v0 6 <|
        cl (sX8_posts v0 s15) fun _ s16 =>
        sX8_stands_170 k104 v0 v1 v2 s16
noncomputable def sX8_stands_104 : Nat → Option Nat → Int32 → Int32 → Mem → Option (Unit × Mem)
  | 0 => fun _ _ _ _ => none
  | f + 1 => sX8_stands_104b (sX8_stands_104 f)
noncomputable def sX8_stands (v0 : Option Nat) (v1 : Int32) (σ : Mem) : Option (Unit × Mem) :=
  cV σ v0 6 <|
  cl (sX8_membersOf v0 v1 σ) fun x1 s2 =>
  cl (sX8_has x1 v1 s2) fun x3 s4 =>
  if x3 = (iI 0) then
    sX8_stands_24 v0 v1 s4
  else
    cV s4 v0 6 <|
    cl (sX8_the v0 v1 (iI 1) s4) fun x5 s6 =>
    if x5 = (iI 999) then
      sX8_stands_24 v0 v1 s6
    else
      cV s6 v0 6 <|
      cl (sX8_the v0 v1 (iI 1) s6) fun x7 s8 =>
      cV s8 v0 6 <|
      cl (sX8_sets v0 v1 (iI 1) (x7 + (iI 1)) s8) fun _ s9 =>
      cV s9 v0 6 <|
      cl (sX8_sets v0 v1 (iI 3) (iI 1) s9) fun _ s10 =>
      cV s10 v0 6 <|
      cl (sX8_sets v0 v1 (iI 2) v1 s10) fun _ s11 =>
      cV s11 v0 6 <|
      cl (sX8_sets v0 v1 (iI 12) ((iI 1) <<< (v1 &&& 31)) s11) fun _ s12 =>
      cV s12 v0 6 <|
      cl (sX8_sets v0 v1 (iI 11) (iI (-1)) s12) fun _ s13 =>
      cV s13 v0 6 <|
      cl (sX8_setsTimer v0 v1 s13) fun _ s14 =>
      cV s14 v0 6 <|
      cl (sX8_the v0 v1 (iI 12) s14) fun x15 s16 =>
      cV s16 v0 6 <|
      cl (sX8_isMost v0 v1 x15 s16) fun x17 s18 =>
      if x17 = (iI 0) then
        sX8_stands_104 FU v0 v1 (iI 0) s18
      else
        cV s18 v0 6 <|
        cl (sX8_leads v0 v1 s18) fun _ s19 =>
        some ((), s19)
noncomputable def sX8_asksAll (v0 : Option Nat) (v1 : Int32) (σ : Mem) : Option (Unit × Mem) :=
  cV σ v0 6 <|
  cl (sX8_sets v0 v1 (iI 14) (iI 0) σ) fun _ s1 =>
  cV s1 v0 6 <|
  cl (sX8_the v0 v1 (iI 13) s1) fun x2 s3 =>
  cV s3 v0 6 <|
  cl (sX8_sets v0 v1 (iI 13) (x2 + (iI 1)) s3) fun _ s4 =>
  cV s4 v0 6 <|
  cl (sX8_sendsToAll v0 v1 s4) fun _ s5 =>
  some ((), s5)
noncomputable def sX8_nodeGoes (v0 : Option Nat) (v1 : Int32) (σ : Mem) : Option (Unit × Mem) :=
  cV σ v0 6 <|
  cl (sX8_the v0 v1 (iI 3) σ) fun x1 s2 =>
  if x1 = (iI 2) then
    cV s2 v0 6 <|
    cl (sX8_the v0 v1 (iI 14) s2) fun x3 s4 =>
    cV s4 v0 6 <|
    cl (sX8_sets v0 v1 (iI 14) (x3 + (iI 1)) s4) fun _ s5 =>
    cV s5 v0 6 <|
    cl (sX8_the v0 v1 (iI 14) s5) fun x6 s7 =>
    if (iI 3) ≤ x6 then
      cV s7 v0 6 <|
      cl (sX8_asksAll v0 v1 s7) fun _ s8 =>
      some ((), s8)
    else
      some ((), s7)
  else
    cV s2 v0 6 <|
    cl (sX8_the v0 v1 (iI 10) s2) fun x9 s10 =>
    cV s10 v0 6 <|
    cl (sX8_sets v0 v1 (iI 10) (x9 - (iI 1)) s10) fun _ s11 =>
    cV s11 v0 6 <|
    cl (sX8_the v0 v1 (iI 10) s11) fun x12 s13 =>
    if x12 = (iI 0) then
      cV s13 v0 6 <|
      cl (sX8_stands v0 v1 s13) fun _ s14 =>
      some ((), s14)
    else
      some ((), s13)
noncomputable def sX8_tickGoes_53 (k34 : Option Nat → Int32 → Mem → Option (Unit × Mem)) (v0 : Option Nat) (v1 : Int32) (σ : Mem) : Option (Unit × Mem) :=
  k34 v0 (v1 + iI 1) σ
noncomputable def sX8_tickGoes_34b (k34 : Option Nat → Int32 → Mem → Option (Unit × Mem)) (v0 : Option Nat) (v1 : Int32) (σ : Mem) : Option (Unit × Mem) :=
  if (iI 7) ≤ v1 then
    some ((), σ)
  else
    cV σ v0 6 <|
    cl (sX8_isUp v0 v1 σ) fun x1 s2 =>
    if x1 = (iI 0) then
      sX8_tickGoes_53 k34 v0 v1 s2
    else
      cV s2 v0 6 <|
      cl (sX8_nodeGoes v0 v1 s2) fun _ s3 =>
      sX8_tickGoes_53 k34 v0 v1 s3
noncomputable def sX8_tickGoes_34 : Nat → Option Nat → Int32 → Mem → Option (Unit × Mem)
  | 0 => fun _ _ _ => none
  | f + 1 => sX8_tickGoes_34b (sX8_tickGoes_34 f)
noncomputable def sX8_tickGoes_18b (k18 : Option Nat → Mem → Option (Unit × Mem)) (v0 : Option Nat) (σ : Mem) : Option (Unit × Mem) :=
  cV σ v0 6 <|
  cl (sX8_takesDue v0 σ) fun x1 s2 =>
  if x1 = (iI 0) then
    sX8_tickGoes_34 FU v0 (iI 0) s2
  else
    cV s2 v0 6 <|
    cl (sX8_isHanded v0 s2) fun _ s3 =>
    k18 v0 s3
noncomputable def sX8_tickGoes_18 : Nat → Option Nat → Mem → Option (Unit × Mem)
  | 0 => fun _ _ => none
  | f + 1 => sX8_tickGoes_18b (sX8_tickGoes_18 f)
noncomputable def sX8_tickGoes (v0 : Option Nat) (σ : Mem) : Option (Unit × Mem) :=
  gR σ v0 6 0 fun x1 =>
  gR σ v0 6 0 fun x2 =>
  aI σ x2 (iI 11131) fun x3 =>
  sI σ x1 (iI 11131) (x3 + (iI 1)) fun s4 =>
  sX8_tickGoes_18 FU v0 s4
noncomputable def sX8_oneTick (v0 : Option Nat) (σ : Mem) : Option (Int32 × Mem) :=
  gR σ v0 6 0 fun x1 =>
  aI σ x1 (iI 11131) fun x2 =>
  if x2 < (iI 9999) then
    cV σ v0 6 <|
    cl (sX8_tickGoes v0 σ) fun _ s3 =>
    rZ (iI 1) s3
  else
    rZ (iI 0) σ
noncomputable def sX8_ticksGo_7b (k7 : Option Nat → Int32 → Int32 → Mem → Option (Unit × Mem)) (v0 : Option Nat) (v1 : Int32) (v2 : Int32) (σ : Mem) : Option (Unit × Mem) :=
  if v1 ≤ v2 then
    some ((), σ)
  else
    cV σ v0 6 <|
    cl (sX8_oneTick v0 σ) fun x1 s2 =>
    k7 v0 v1 (v2 + iI 1) s2
noncomputable def sX8_ticksGo_7 : Nat → Option Nat → Int32 → Int32 → Mem → Option (Unit × Mem)
  | 0 => fun _ _ _ _ => none
  | f + 1 => sX8_ticksGo_7b (sX8_ticksGo_7 f)
noncomputable def sX8_ticksGo (v0 : Option Nat) (v1 : Int32) (σ : Mem) : Option (Unit × Mem) :=
  pI σ v0 6 29 (iI 0) fun s1 =>
  sX8_ticksGo_7 FU v0 v1 (iI 0) s1
noncomputable def sX8_ticks (v0 : Option Nat) (v1 : Int32) (σ : Mem) : Option (Int32 × Mem) :=
  cl (sX8_in v1 (iI 1) (iI 200) σ) fun x1 s2 =>
  if x1 = (iI 0) then
    some (iI (-1), s2)
  else
    cV s2 v0 6 <|
    cl (sX8_ticksGo v0 v1 s2) fun _ s3 =>
    gI s3 v0 6 29 fun x4 =>
    some (x4, s3)
noncomputable def sX8_found (v0 : Option Nat) (v1 : Int32) (σ : Mem) : Option (Int32 × Mem) :=
  cl (sX8_in v1 (iI 1) (iI 127) σ) fun x1 s2 =>
  if x1 = (iI 0) then
    rZ (iI 0) s2
  else
    cV s2 v0 6 <|
    cl (sX8_founds v0 v1 s2) fun _ s3 =>
    rZ (iI 1) s3
noncomputable def sX8_crash (v0 : Option Nat) (v1 : Int32) (σ : Mem) : Option (Int32 × Mem) :=
  cV σ v0 6 <|
  cl (sX8_isUp v0 v1 σ) fun x1 s2 =>
  if x1 = (iI 0) then
    rZ (iI 0) s2
  else
    cV s2 v0 6 <|
    cl (sX8_follows v0 v1 (iI (-1)) s2) fun _ s3 =>
    cV s3 v0 6 <|
    cl (sX8_sets v0 v1 (iI 0) (iI 0) s3) fun _ s4 =>
    rZ (iI 1) s4
noncomputable def sX8_comeUp_65b (k65 : Option Nat → Int32 → Int32 → Mem → Option (Int32 × Mem)) (v0 : Option Nat) (v1 : Int32) (v2 : Int32) (σ : Mem) : Option (Int32 × Mem) :=
  if (iI 8) ≤ v2 then
    cV σ v0 6 <|
    cl (sX8_setsTimer v0 v1 σ) fun _ s1 =>
    rZ (iI 1) s1
  else
    cV σ v0 6 <|
    cl (sX8_the v0 v1 ((iI 23) + v2) σ) fun x2 s3 =>
    cV s3 v0 6 <|
    cl (sX8_sets v0 v1 ((iI 15) + v2) x2 s3) fun _ s4 =>
    k65 v0 v1 (v2 + iI 1) s4
noncomputable def sX8_comeUp_65 : Nat → Option Nat → Int32 → Int32 → Mem → Option (Int32 × Mem)
  | 0 => fun _ _ _ _ => none
  | f + 1 => sX8_comeUp_65b (sX8_comeUp_65 f)
noncomputable def sX8_comeUp (v0 : Option Nat) (v1 : Int32) (σ : Mem) : Option (Int32 × Mem) :=
  cl (sX8_isNode v1 σ) fun x1 s2 =>
  if x1 = (iI 0) then
    rZ (iI 0) s2
  else
    cV s2 v0 6 <|
    cl (sX8_the v0 v1 (iI 0) s2) fun x3 s4 =>
    if x3 = (iI 1) then
      rZ (iI 0) s4
    else
      cV s4 v0 6 <|
      cl (sX8_sets v0 v1 (iI 0) (iI 1) s4) fun _ s5 =>
      cV s5 v0 6 <|
      cl (sX8_the v0 v1 (iI 4) s5) fun x6 s7 =>
      cV s7 v0 6 <|
      cl (sX8_sets v0 v1 (iI 9) x6 s7) fun _ s8 =>
      cV s8 v0 6 <|
      cl (sX8_sets v0 v1 (iI 12) (iI 0) s8) fun _ s9 =>
      cV s9 v0 6 <|
      cl (sX8_sets v0 v1 (iI 13) (iI 0) s9) fun _ s10 =>
      cV s10 v0 6 <|
      cl (sX8_sets v0 v1 (iI 14) (iI 0) s10) fun _ s11 =>
      sX8_comeUp_65 FU v0 v1 (iI 0) s11
noncomputable def sX8_cut_67 (v0 : Option Nat) (v1 : Int32) (v2 : Int32) (v3 : Int32) (t0 : Option Nat) (t1 : Int32) (t2 : Int32) (σ : Mem) : Option (Int32 × Mem) :=
  sI σ t0 t1 t2 fun s1 =>
  gR s1 v0 6 0 fun x2 =>
  if v3 = (iI 0) then
    gR s1 v0 6 0 fun x3 =>
    aI s1 x3 ((iI 11124) + v2) fun x4 =>
    sI s1 x2 ((iI 11124) + v2) (x4 &&& (((iI 1) <<< (v1 &&& 31)) ^^^ (iI (-1)))) fun s5 =>
    rZ (iI 1) s5
  else
    gR s1 v0 6 0 fun x6 =>
    aI s1 x6 ((iI 11124) + v2) fun x7 =>
    sI s1 x2 ((iI 11124) + v2) (x7 ||| ((iI 1) <<< (v1 &&& 31))) fun s8 =>
    rZ (iI 1) s8
noncomputable def sX8_cut (v0 : Option Nat) (v1 : Int32) (v2 : Int32) (v3 : Int32) (σ : Mem) : Option (Int32 × Mem) :=
  cl (sX8_isNode v1 σ) fun x1 s2 =>
  if x1 = (iI 0) then
    rZ (iI 0) s2
  else
    cl (sX8_isNode v2 s2) fun x3 s4 =>
    if x3 = (iI 0) then
      rZ (iI 0) s4
    else
      if v1 = v2 then
        rZ (iI 0) s4
      else
        gR s4 v0 6 0 fun x5 =>
        if v3 = (iI 0) then
          gR s4 v0 6 0 fun x6 =>
          aI s4 x6 ((iI 11124) + v1) fun x7 =>
          sX8_cut_67 v0 v1 v2 v3 x5 ((iI 11124) + v1) (x7 &&& (((iI 1) <<< (v2 &&& 31)) ^^^ (iI (-1)))) s4
        else
          gR s4 v0 6 0 fun x8 =>
          aI s4 x8 ((iI 11124) + v1) fun x9 =>
          sX8_cut_67 v0 v1 v2 v3 x5 ((iI 11124) + v1) (x9 ||| ((iI 1) <<< (v2 &&& 31))) s4
noncomputable def sX8_compact (v0 : Option Nat) (v1 : Int32) (σ : Mem) : Option (Int32 × Mem) :=
  cV σ v0 6 <|
  cl (sX8_isUp v0 v1 σ) fun x1 s2 =>
  if x1 = (iI 0) then
    rZ (iI 0) s2
  else
    cV s2 v0 6 <|
    cl (sX8_the v0 v1 (iI 9) s2) fun x3 s4 =>
    cV s4 v0 6 <|
    cl (sX8_the v0 v1 (iI 4) s4) fun x5 s6 =>
    if x3 = x5 then
      rZ (iI 0) s6
    else
      cV s6 v0 6 <|
      cl (sX8_compacts v0 v1 s6) fun _ s7 =>
      rZ (iI 1) s7
noncomputable def sX8_isLeader (v0 : Option Nat) (v1 : Int32) (σ : Mem) : Option (Int32 × Mem) :=
  cV σ v0 6 <|
  cl (sX8_isUp v0 v1 σ) fun x1 s2 =>
  if x1 = (iI 0) then
    rZ (iI 0) s2
  else
    cV s2 v0 6 <|
    cl (sX8_the v0 v1 (iI 3) s2) fun x3 s4 =>
    if x3 = (iI 2) then
      rZ (iI 1) s4
    else
      rZ (iI 0) s4
noncomputable def sX8_isFull (v0 : Option Nat) (v1 : Int32) (σ : Mem) : Option (Int32 × Mem) :=
  cV σ v0 6 <|
  cl (sX8_the v0 v1 (iI 8) σ) fun x1 s2 =>
  if (iI 40) ≤ x1 then
    rZ (iI 1) s2
  else
    cV s2 v0 6 <|
    cl (sX8_lastOf v0 v1 s2) fun x3 s4 =>
    if x3 = (iI 999) then
      rZ (iI 1) s4
    else
      rZ (iI 0) s4
noncomputable def sX8_write (v0 : Option Nat) (v1 : Int32) (v2 : Int32) (v3 : Int32) (σ : Mem) : Option (Int32 × Mem) :=
  cl (sX8_isNode v1 σ) fun x1 s2 =>
  if x1 = (iI 0) then
    some (iI (-1), s2)
  else
    cl (sX8_in v2 (iI 0) (iI 7) s2) fun x3 s4 =>
    if x3 = (iI 0) then
      some (iI (-1), s4)
    else
      cl (sX8_in v3 (iI 0) (iI 99) s4) fun x5 s6 =>
      if x5 = (iI 0) then
        some (iI (-1), s6)
      else
        cV s6 v0 6 <|
        cl (sX8_isLeader v0 v1 s6) fun x7 s8 =>
        if x7 = (iI 0) then
          some (iI (-2), s8)
        else
          cV s8 v0 6 <|
          cl (sX8_isFull v0 v1 s8) fun x9 s10 =>
          if x9 = (iI 0) then
            cV s10 v0 6 <|
            cl (sX8_the v0 v1 (iI 1) s10) fun x11 s12 =>
            cV s12 v0 6 <|
            cl (sX8_lays v0 v1 x11 (iI 0) v2 v3 s12) fun x13 s14 =>
            cV s14 v0 6 <|
            cl (sX8_lastOf v0 v1 s14) fun x15 s16 =>
            cV s16 v0 6 <|
            cl (sX8_laidByLeader v0 v1 s16) fun _ s17 =>
            some (x15, s17)
          else
            some (iI (-3), s10)
noncomputable def sX8_change (v0 : Option Nat) (v1 : Int32) (v2 : Int32) (σ : Mem) : Option (Int32 × Mem) :=
  cl (sX8_isNode v1 σ) fun x1 s2 =>
  if x1 = (iI 0) then
    some (iI (-1), s2)
  else
    cl (sX8_in v2 (iI 1) (iI 127) s2) fun x3 s4 =>
    if x3 = (iI 0) then
      some (iI (-1), s4)
    else
      cV s4 v0 6 <|
      cl (sX8_isLeader v0 v1 s4) fun x5 s6 =>
      if x5 = (iI 0) then
        some (iI (-2), s6)
      else
        cV s6 v0 6 <|
        cl (sX8_isFull v0 v1 s6) fun x7 s8 =>
        if x7 = (iI 0) then
          cV s8 v0 6 <|
          cl (sX8_newOf v0 v1 s8) fun x9 s10 =>
          if x9 = (iI 0) then
            cV s10 v0 6 <|
            cl (sX8_isHeldConfig v0 v1 s10) fun x11 s12 =>
            if x11 = (iI 0) then
              some (iI (-4), s12)
            else
              cV s12 v0 6 <|
              cl (sX8_oldOf v0 v1 s12) fun x13 s14 =>
              if x13 = v2 then
                some (iI (-4), s14)
              else
                cV s14 v0 6 <|
                cl (sX8_the v0 v1 (iI 1) s14) fun x15 s16 =>
                cV s16 v0 6 <|
                cl (sX8_oldOf v0 v1 s16) fun x17 s18 =>
                cV s18 v0 6 <|
                cl (sX8_lays v0 v1 x15 (iI 1) x17 v2 s18) fun x19 s20 =>
                cV s20 v0 6 <|
                cl (sX8_lastOf v0 v1 s20) fun x21 s22 =>
                cV s22 v0 6 <|
                cl (sX8_laidByLeader v0 v1 s22) fun _ s23 =>
                some (x21, s23)
          else
            some (iI (-4), s10)
        else
          some (iI (-3), s8)
noncomputable def sX8_ask (v0 : Option Nat) (v1 : Int32) (v2 : Int32) (σ : Mem) : Option (Int32 × Mem) :=
  cl (sX8_isNode v1 σ) fun x1 s2 =>
  if x1 = (iI 0) then
    some (iI (-1), s2)
  else
    cl (sX8_in v2 (iI 0) (iI 7) s2) fun x3 s4 =>
    if x3 = (iI 0) then
      some (iI (-1), s4)
    else
      cV s4 v0 6 <|
      cl (sX8_isLeader v0 v1 s4) fun x5 s6 =>
      if x5 = (iI 0) then
        some (iI (-2), s6)
      else
        gR s6 v0 6 0 fun x7 =>
        aI s6 x7 (iI 11135) fun x8 =>
        if x8 = (iI 16) then
          some (iI (-3), s6)
        else
          cV s6 v0 6 <|
          cl (sX8_the v0 v1 (iI 9) s6) fun x9 s10 =>
          cV s10 v0 6 <|
          cl (sX8_termAt v0 v1 x9 s10) fun x11 s12 =>
          cV s12 v0 6 <|
          cl (sX8_the v0 v1 (iI 1) s12) fun x13 s14 =>
          if x11 = x13 then
            cV s14 v0 6 <|
            cl (sX8_asksAll v0 v1 s14) fun _ s15 =>
            gR s15 v0 6 0 fun x16 =>
            aI s15 x16 (iI 11135) fun x17 =>
            gR s15 v0 6 0 fun x18 =>
            sI s15 x18 ((iI 11028) + ((iI 6) * x17)) v1 fun s19 =>
            gR s19 v0 6 0 fun x20 =>
            sI s19 x20 (((iI 11028) + ((iI 6) * x17)) + (iI 1)) v2 fun s21 =>
            gR s21 v0 6 0 fun x22 =>
            cV s21 v0 6 <|
            cl (sX8_the v0 v1 (iI 13) s21) fun x23 s24 =>
            sI s24 x22 (((iI 11028) + ((iI 6) * x17)) + (iI 2)) x23 fun s25 =>
            gR s25 v0 6 0 fun x26 =>
            gR s25 v0 6 0 fun x27 =>
            aI s25 x27 (iI 11134) fun x28 =>
            sI s25 x26 (((iI 11028) + ((iI 6) * x17)) + (iI 3)) x28 fun s29 =>
            gR s29 v0 6 0 fun x30 =>
            sI s29 x30 (((iI 11028) + ((iI 6) * x17)) + (iI 4)) (iI 0) fun s31 =>
            gR s31 v0 6 0 fun x32 =>
            sI s31 x32 (((iI 11028) + ((iI 6) * x17)) + (iI 5)) (iI 0) fun s33 =>
            gR s33 v0 6 0 fun x34 =>
            sI s33 x34 (iI 11135) (x17 + (iI 1)) fun s35 =>
            cV s35 v0 6 <|
            cl (sX8_answersReads v0 v1 s35) fun _ s36 =>
            some (x17, s36)
          else
            some (iI (-4), s14)
noncomputable def sX8_readsTimes (v0 : Option Nat) (σ : Mem) : Option (Unit × Mem) :=
  gI σ v0 6 7 fun x1 =>
  pI σ v0 6 39 x1 fun s2 =>
  pI s2 v0 6 40 (iI 1) fun s3 =>
  cV s3 v0 6 <|
  cl (sX8_here v0 s3) fun x4 s5 =>
  cl (sX8_in x4 (iI 50) (iI 57) s5) fun x6 s7 =>
  if x6 = (iI 0) then
    some ((), s7)
  else
    cV s7 v0 6 <|
    cl (sX8_here v0 s7) fun x8 s9 =>
    pI s9 v0 6 40 (x8 - (iI 48)) fun s10 =>
    gI s10 v0 6 7 fun x11 =>
    pI s10 v0 6 7 (x11 + (iI 1)) fun s12 =>
    some ((), s12)
noncomputable def sX8_isAct (v0 : Int32) (σ : Mem) : Option (Int32 × Mem) :=
  if v0 = (iI 46) then
    rZ (iI 1) σ
  else
    if v0 = (iI 107) then
      rZ (iI 1) σ
    else
      if v0 = (iI 117) then
        rZ (iI 1) σ
      else
        if v0 = (iI 99) then
          rZ (iI 1) σ
        else
          if v0 = (iI 119) then
            rZ (iI 1) σ
          else
            if v0 = (iI 114) then
              rZ (iI 1) σ
            else
              if v0 = (iI 120) then
                rZ (iI 1) σ
              else
                if v0 = (iI 106) then
                  rZ (iI 1) σ
                else
                  rZ (iI 0) σ
noncomputable def sX8_readsDigit (v0 : Option Nat) (v1 : Int32) (σ : Mem) : Option (Int32 × Mem) :=
  cV σ v0 6 <|
  cl (sX8_here v0 σ) fun x1 s2 =>
  cl (sX8_in x1 (iI 48) ((iI 48) + v1) s2) fun x3 s4 =>
  if x3 = (iI 0) then
    gI s4 v0 6 7 fun x10 =>
    cV s4 v0 6 <|
    cl (sX8_wrongAt v0 (iI 1) x10 s4) fun x11 s12 =>
    rZ x11 s12
  else
    cV s4 v0 6 <|
    cl (sX8_here v0 s4) fun x5 s6 =>
    pI s6 v0 6 10 (x5 - (iI 48)) fun s7 =>
    gI s7 v0 6 7 fun x8 =>
    pI s7 v0 6 7 (x8 + (iI 1)) fun s9 =>
    rZ (iI 1) s9
noncomputable def sX8_readsNumbers_134 (v0 : Option Nat) (v1 : Int32) (σ : Mem) : Option (Int32 × Mem) :=
  if v1 = (iI 119) then
    cV σ v0 6 <|
    cl (sX8_readsDigit v0 (iI 9) σ) fun x1 s2 =>
    if x1 = (iI 0) then
      rZ (iI 0) s2
    else
      gI s2 v0 6 10 fun x3 =>
      pI s2 v0 6 43 x3 fun s4 =>
      rZ (iI 1) s4
  else
    rZ (iI 1) σ
noncomputable def sX8_readsNumbers_110 (v0 : Option Nat) (v1 : Int32) (σ : Mem) : Option (Int32 × Mem) :=
  gI σ v0 6 41 fun x1 =>
  gI σ v0 6 42 fun x2 =>
  if x1 = x2 then
    gI σ v0 6 7 fun x3 =>
    cV σ v0 6 <|
    cl (sX8_wrongAt v0 (iI 7) (x3 - (iI 1)) σ) fun x4 s5 =>
    rZ x4 s5
  else
    sX8_readsNumbers_134 v0 v1 σ
noncomputable def sX8_readsNumbers_82 (v0 : Option Nat) (v1 : Int32) (t0 : Option Nat) (t1 : Int32) (σ : Mem) : Option (Int32 × Mem) :=
  cV σ t0 6 <|
  cl (sX8_readsDigit t0 t1 σ) fun x1 s2 =>
  if x1 = (iI 0) then
    rZ (iI 0) s2
  else
    gI s2 v0 6 10 fun x3 =>
    pI s2 v0 6 42 x3 fun s4 =>
    if v1 = (iI 120) then
      sX8_readsNumbers_110 v0 v1 s4
    else
      if v1 = (iI 106) then
        sX8_readsNumbers_110 v0 v1 s4
      else
        sX8_readsNumbers_134 v0 v1 s4
noncomputable def sX8_readsNumbers_75 (v0 : Option Nat) (v1 : Int32) (t0 : Option Nat) (σ : Mem) : Option (Int32 × Mem) :=
  sX8_readsNumbers_82 v0 v1 t0 (iI 6) σ
noncomputable def sX8_readsNumbers (v0 : Option Nat) (v1 : Int32) (σ : Mem) : Option (Int32 × Mem) :=
  pI σ v0 6 41 (iI 0) fun s1 =>
  pI s1 v0 6 42 (iI 0) fun s2 =>
  pI s2 v0 6 43 (iI 0) fun s3 =>
  if v1 = (iI 46) then
    rZ (iI 1) s3
  else
    cV s3 v0 6 <|
    cl (sX8_readsDigit v0 (iI 6) s3) fun x4 s5 =>
    if x4 = (iI 0) then
      rZ (iI 0) s5
    else
      gI s5 v0 6 10 fun x6 =>
      pI s5 v0 6 41 x6 fun s7 =>
      if v1 = (iI 107) then
        rZ (iI 1) s7
      else
        if v1 = (iI 117) then
          rZ (iI 1) s7
        else
          if v1 = (iI 99) then
            rZ (iI 1) s7
          else
            if v1 = (iI 120) then
              sX8_readsNumbers_75 v0 v1 v0 s7
            else
              if v1 = (iI 106) then
                sX8_readsNumbers_75 v0 v1 v0 s7
              else
                sX8_readsNumbers_82 v0 v1 v0 (iI 7) s7
noncomputable def sX8_repeats_34b (k34 : Option Nat → Int32 → Int32 → Int32 → Int32 → Mem → Option (Int32 × Mem)) (v0 : Option Nat) (v1 : Int32) (v2 : Int32) (v4 : Int32) (v5 : Int32) (σ : Mem) : Option (Int32 × Mem) :=
  if (v1 + (v4 * v2)) ≤ v5 then
    pI σ v0 6 37 (v1 + (v4 * v2)) fun s1 =>
    rZ (iI 1) s1
  else
    gR σ v0 6 30 fun x2 =>
    gR σ v0 6 30 fun x3 =>
    aI σ x3 (v5 - v4) fun x4 =>
    sI σ x2 v5 x4 fun s5 =>
    gR s5 v0 6 31 fun x6 =>
    gR s5 v0 6 31 fun x7 =>
    aI s5 x7 (v5 - v4) fun x8 =>
    sI s5 x6 v5 x8 fun s9 =>
    gR s9 v0 6 32 fun x10 =>
    gR s9 v0 6 32 fun x11 =>
    aI s9 x11 (v5 - v4) fun x12 =>
    sI s9 x10 v5 x12 fun s13 =>
    gR s13 v0 6 33 fun x14 =>
    gR s13 v0 6 33 fun x15 =>
    aI s13 x15 (v5 - v4) fun x16 =>
    sI s13 x14 v5 x16 fun s17 =>
    k34 v0 v1 v2 v4 (v5 + iI 1) s17
noncomputable def sX8_repeats_34 : Nat → Option Nat → Int32 → Int32 → Int32 → Int32 → Mem → Option (Int32 × Mem)
  | 0 => fun _ _ _ _ _ _ => none
  | f + 1 => sX8_repeats_34b (sX8_repeats_34 f)
noncomputable def sX8_repeats (v0 : Option Nat) (v1 : Int32) (v2 : Int32) (v3 : Int32) (σ : Mem) : Option (Int32 × Mem) :=
  gI σ v0 6 37 fun x1 =>
  if (v1 + ((x1 - v1) * v2)) ≤ (iI 200) then
    sX8_repeats_34 FU v0 v1 v2 (x1 - v1) (v1 + (x1 - v1)) σ
  else
    cV σ v0 6 <|
    cl (sX8_wrongAt v0 (iI 6) v3 σ) fun x2 s3 =>
    rZ x2 s3
noncomputable def sX8_readsAct_245b (k245 : Option Nat → Mem → Option (Int32 × Mem)) (v0 : Option Nat) (σ : Mem) : Option (Int32 × Mem) :=
  cV σ v0 6 <|
  cl (sX8_here v0 σ) fun x1 s2 =>
  if x1 = (iI 41) then
    gI s2 v0 6 38 fun x3 =>
    if x3 ≤ (iI 0) then
      rZ (iI 1) s2
    else
      gI s2 v0 6 7 fun x4 =>
      pI s2 v0 6 7 (x4 + (iI 1)) fun s5 =>
      gI s5 v0 6 38 fun x6 =>
      pI s5 v0 6 38 (x6 - (iI 1)) fun s7 =>
      gR s7 v0 6 35 fun x8 =>
      gI s7 v0 6 38 fun x9 =>
      aI s7 x8 x9 fun x10 =>
      gR s7 v0 6 36 fun x11 =>
      gI s7 v0 6 38 fun x12 =>
      aI s7 x11 x12 fun x13 =>
      gR s7 v0 6 34 fun x14 =>
      gI s7 v0 6 38 fun x15 =>
      aI s7 x14 x15 fun x16 =>
      cV s7 v0 6 <|
      cl (sX8_repeats v0 x10 x13 x16 s7) fun x17 s18 =>
      if x17 = (iI 0) then
        rZ (iI 0) s18
      else
        k245 v0 s18
  else
    rZ (iI 1) s2
noncomputable def sX8_readsAct_245 : Nat → Option Nat → Mem → Option (Int32 × Mem)
  | 0 => fun _ _ => none
  | f + 1 => sX8_readsAct_245b (sX8_readsAct_245 f)
noncomputable def sX8_readsAct_4b (k4 : Option Nat → Mem → Option (Int32 × Mem)) (v0 : Option Nat) (σ : Mem) : Option (Int32 × Mem) :=
  cV σ v0 6 <|
  cl (sX8_here v0 σ) fun x1 s2 =>
  if x1 = (iI 40) then
    gI s2 v0 6 38 fun x39 =>
    if x39 = (iI 2) then
      gI s2 v0 6 7 fun x57 =>
      cV s2 v0 6 <|
      cl (sX8_wrongAt v0 (iI 5) x57 s2) fun x58 s59 =>
      rZ x58 s59
    else
      gR s2 v0 6 34 fun x40 =>
      gI s2 v0 6 38 fun x41 =>
      gI s2 v0 6 39 fun x42 =>
      sI s2 x40 x41 x42 fun s43 =>
      gR s43 v0 6 35 fun x44 =>
      gI s43 v0 6 38 fun x45 =>
      gI s43 v0 6 37 fun x46 =>
      sI s43 x44 x45 x46 fun s47 =>
      gR s47 v0 6 36 fun x48 =>
      gI s47 v0 6 38 fun x49 =>
      gI s47 v0 6 40 fun x50 =>
      sI s47 x48 x49 x50 fun s51 =>
      gI s51 v0 6 38 fun x52 =>
      pI s51 v0 6 38 (x52 + (iI 1)) fun s53 =>
      gI s53 v0 6 7 fun x54 =>
      pI s53 v0 6 7 (x54 + (iI 1)) fun s55 =>
      cV s55 v0 6 <|
      cl (sX8_readsTimes v0 s55) fun _ s56 =>
      k4 v0 s56
  else
    gI s2 v0 6 39 fun x3 =>
    gI s2 v0 6 40 fun x4 =>
    cV s2 v0 6 <|
    cl (sX8_here v0 s2) fun x5 s6 =>
    cl (sX8_isAct x5 s6) fun x7 s8 =>
    if x7 = (iI 0) then
      gI s8 v0 6 7 fun x36 =>
      cV s8 v0 6 <|
      cl (sX8_wrongAt v0 (iI 1) x36 s8) fun x37 s38 =>
      rZ x37 s38
    else
      gI s8 v0 6 7 fun x9 =>
      pI s8 v0 6 7 (x9 + (iI 1)) fun s10 =>
      cV s10 v0 6 <|
      cl (sX8_readsNumbers v0 x5 s10) fun x11 s12 =>
      if x11 = (iI 0) then
        rZ (iI 0) s12
      else
        gI s12 v0 6 37 fun x13 =>
        if (x13 + x4) ≤ (iI 200) then
          gR s12 v0 6 30 fun x14 =>
          gI s12 v0 6 37 fun x15 =>
          sI s12 x14 x15 x5 fun s16 =>
          gR s16 v0 6 31 fun x17 =>
          gI s16 v0 6 37 fun x18 =>
          gI s16 v0 6 41 fun x19 =>
          sI s16 x17 x18 x19 fun s20 =>
          gR s20 v0 6 32 fun x21 =>
          gI s20 v0 6 37 fun x22 =>
          gI s20 v0 6 42 fun x23 =>
          sI s20 x21 x22 x23 fun s24 =>
          gR s24 v0 6 33 fun x25 =>
          gI s24 v0 6 37 fun x26 =>
          gI s24 v0 6 43 fun x27 =>
          sI s24 x25 x26 x27 fun s28 =>
          gI s28 v0 6 37 fun x29 =>
          pI s28 v0 6 37 (x29 + (iI 1)) fun s30 =>
          gI s30 v0 6 37 fun x31 =>
          cV s30 v0 6 <|
          cl (sX8_repeats v0 (x31 - (iI 1)) x4 x3 s30) fun x32 s33 =>
          if x32 = (iI 0) then
            rZ (iI 0) s33
          else
            sX8_readsAct_245 FU v0 s33
        else
          cV s12 v0 6 <|
          cl (sX8_wrongAt v0 (iI 6) x3 s12) fun x34 s35 =>
          rZ x34 s35
noncomputable def sX8_readsAct_4 : Nat → Option Nat → Mem → Option (Int32 × Mem)
  | 0 => fun _ _ => none
  | f + 1 => sX8_readsAct_4b (sX8_readsAct_4 f)
noncomputable def sX8_readsAct (v0 : Option Nat) (σ : Mem) : Option (Int32 × Mem) :=
  cV σ v0 6 <|
  cl (sX8_readsTimes v0 σ) fun _ s1 =>
  sX8_readsAct_4 FU v0 s1
noncomputable def sX8_isDone_187 (t0 : Option Nat) (t1 : Int32) (t2 : Int32) (t3 : Int32) (σ : Mem) : Option (Int32 × Mem) :=
  cV σ t0 6 <|
  cl (sX8_cut t0 t1 t2 t3 σ) fun x1 s2 =>
  rZ x1 s2
noncomputable def sX8_isDone (v0 : Option Nat) (v1 : Int32) (σ : Mem) : Option (Int32 × Mem) :=
  gR σ v0 6 30 fun x1 =>
  aI σ x1 v1 fun x2 =>
  if x2 = iI 46 then
    cV σ v0 6 <|
    cl (sX8_oneTick v0 σ) fun x3 s4 =>
    rZ x3 s4
  else
    if x2 = iI 99 then
      gR σ v0 6 31 fun x5 =>
      aI σ x5 v1 fun x6 =>
      cV σ v0 6 <|
      cl (sX8_compact v0 x6 σ) fun x7 s8 =>
      rZ x7 s8
    else
      if x2 = iI 107 then
        gR σ v0 6 31 fun x9 =>
        aI σ x9 v1 fun x10 =>
        cV σ v0 6 <|
        cl (sX8_crash v0 x10 σ) fun x11 s12 =>
        rZ x11 s12
      else
        if x2 = iI 114 then
          gR σ v0 6 31 fun x13 =>
          aI σ x13 v1 fun x14 =>
          gR σ v0 6 32 fun x15 =>
          aI σ x15 v1 fun x16 =>
          cV σ v0 6 <|
          cl (sX8_ask v0 x14 x16 σ) fun x17 s18 =>
          if x17 < (iI 0) then
            rZ (iI 0) s18
          else
            rZ (iI 1) s18
        else
          if x2 = iI 117 then
            gR σ v0 6 31 fun x19 =>
            aI σ x19 v1 fun x20 =>
            cV σ v0 6 <|
            cl (sX8_comeUp v0 x20 σ) fun x21 s22 =>
            rZ x21 s22
          else
            if x2 = iI 119 then
              gR σ v0 6 31 fun x23 =>
              aI σ x23 v1 fun x24 =>
              gR σ v0 6 32 fun x25 =>
              aI σ x25 v1 fun x26 =>
              gR σ v0 6 33 fun x27 =>
              aI σ x27 v1 fun x28 =>
              cV σ v0 6 <|
              cl (sX8_write v0 x24 x26 x28 σ) fun x29 s30 =>
              if x29 < (iI 0) then
                rZ (iI 0) s30
              else
                rZ (iI 1) s30
            else
              gR σ v0 6 31 fun x31 =>
              aI σ x31 v1 fun x32 =>
              gR σ v0 6 32 fun x33 =>
              aI σ x33 v1 fun x34 =>
              gR σ v0 6 30 fun x35 =>
              aI σ x35 v1 fun x36 =>
              if x36 = (iI 120) then
                sX8_isDone_187 v0 x32 x34 (iI 1) σ
              else
                sX8_isDone_187 v0 x32 x34 (iI 0) σ
noncomputable def sX8_plan_111 (k89 : Option Nat → Int32 → Int32 → Mem → Option (Int32 × Mem)) (v0 : Option Nat) (v3 : Int32) (v4 : Int32) (σ : Mem) : Option (Int32 × Mem) :=
  k89 v0 v3 (v4 + iI 1) σ
noncomputable def sX8_plan_89b (k89 : Option Nat → Int32 → Int32 → Mem → Option (Int32 × Mem)) (v0 : Option Nat) (v3 : Int32) (v4 : Int32) (σ : Mem) : Option (Int32 × Mem) :=
  gI σ v0 6 37 fun x1 =>
  if x1 ≤ v4 then
    some (v3, σ)
  else
    cV σ v0 6 <|
    cl (sX8_isDone v0 v4 σ) fun x2 s3 =>
    if x2 = (iI 0) then
      sX8_plan_111 k89 v0 v3 v4 s3
    else
      sX8_plan_111 k89 v0 (v3 + (iI 1)) v4 s3
noncomputable def sX8_plan_89 : Nat → Option Nat → Int32 → Int32 → Mem → Option (Int32 × Mem)
  | 0 => fun _ _ _ _ => none
  | f + 1 => sX8_plan_89b (sX8_plan_89 f)
noncomputable def sX8_plan_70 (v0 : Option Nat) (v2 : Int32) (σ : Mem) : Option (Int32 × Mem) :=
  pI σ v0 6 6 (iI 0) fun s1 =>
  if v2 = (iI 0) then
    gI s1 v0 6 9 fun x2 =>
    some (x2, s1)
  else
    sX8_plan_89 FU v0 (iI 0) (iI 0) s1
noncomputable def sX8_plan_62 (k40 : Option Nat → Int32 → Mem → Option (Int32 × Mem)) (v0 : Option Nat) (σ : Mem) : Option (Int32 × Mem) :=
  cV σ v0 6 <|
  cl (sX8_readsAct v0 σ) fun x1 s2 =>
  k40 v0 x1 s2
noncomputable def sX8_plan_40b (k40 : Option Nat → Int32 → Mem → Option (Int32 × Mem)) (v0 : Option Nat) (v2 : Int32) (σ : Mem) : Option (Int32 × Mem) :=
  if v2 = (iI 0) then
    sX8_plan_70 v0 v2 σ
  else
    gI σ v0 6 7 fun x1 =>
    gI σ v0 6 8 fun x2 =>
    if x1 < x2 then
      sX8_plan_62 k40 v0 σ
    else
      gI σ v0 6 38 fun x3 =>
      if x3 ≤ (iI 0) then
        sX8_plan_70 v0 v2 σ
      else
        sX8_plan_62 k40 v0 σ
noncomputable def sX8_plan_40 : Nat → Option Nat → Int32 → Mem → Option (Int32 × Mem)
  | 0 => fun _ _ _ => none
  | f + 1 => sX8_plan_40b (sX8_plan_40 f)
noncomputable def sX8_plan (v0 : Option Nat) (v1 : Int32) (σ : Mem) : Option (Int32 × Mem) :=
  cl (sX8_in v1 (iI 1) (iI 120) σ) fun x1 s2 =>
  if x1 = (iI 0) then
    some (iI (-1), s2)
  else
    gI s2 v0 6 6 fun x3 =>
    if v1 ≤ x3 then
      cV s2 v0 6 <|
      cl (sX8_beginsText v0 v1 s2) fun _ s4 =>
      pI s4 v0 6 37 (iI 0) fun s5 =>
      pI s5 v0 6 38 (iI 0) fun s6 =>
      cV s6 v0 6 <|
      cl (sX8_readsAct v0 s6) fun x7 s8 =>
      sX8_plan_40 FU v0 x7 s8
    else
      some (iI (-1), s2)
noncomputable def sX8_leading_42 (k5 : Option Nat → Int32 → Int32 → Mem → Option (Int32 × Mem)) (v0 : Option Nat) (v1 : Int32) (v2 : Int32) (σ : Mem) : Option (Int32 × Mem) :=
  k5 v0 v1 (v2 + iI 1) σ
noncomputable def sX8_leading_40 (k5 : Option Nat → Int32 → Int32 → Mem → Option (Int32 × Mem)) (v0 : Option Nat) (v2 : Int32) (σ : Mem) : Option (Int32 × Mem) :=
  sX8_leading_42 k5 v0 v2 v2 σ
noncomputable def sX8_leading_5b (k5 : Option Nat → Int32 → Int32 → Mem → Option (Int32 × Mem)) (v0 : Option Nat) (v1 : Int32) (v2 : Int32) (σ : Mem) : Option (Int32 × Mem) :=
  if (iI 7) ≤ v2 then
    some (v1, σ)
  else
    cV σ v0 6 <|
    cl (sX8_isLeader v0 v2 σ) fun x1 s2 =>
    if x1 = (iI 0) then
      sX8_leading_42 k5 v0 v1 v2 s2
    else
      if v1 = (iI (-2)) then
        sX8_leading_40 k5 v0 v2 s2
      else
        cV s2 v0 6 <|
        cl (sX8_the v0 v2 (iI 1) s2) fun x3 s4 =>
        cV s4 v0 6 <|
        cl (sX8_the v0 v1 (iI 1) s4) fun x5 s6 =>
        if x3 ≤ x5 then
          sX8_leading_42 k5 v0 v1 v2 s6
        else
          sX8_leading_40 k5 v0 v2 s6
noncomputable def sX8_leading_5 : Nat → Option Nat → Int32 → Int32 → Mem → Option (Int32 × Mem)
  | 0 => fun _ _ _ _ => none
  | f + 1 => sX8_leading_5b (sX8_leading_5 f)
noncomputable def sX8_leading (v0 : Option Nat) (σ : Mem) : Option (Int32 × Mem) :=
  sX8_leading_5 FU v0 (iI (-2)) (iI 0) σ
noncomputable def sX8_leaderNow (v0 : Option Nat) (σ : Mem) : Option (Int32 × Mem) :=
  cV σ v0 6 <|
  cl (sX8_leading v0 σ) fun x1 s2 =>
  some (x1, s2)
noncomputable def sX8_copies_2b (k2 : Option Nat → Option Nat → Int32 → Mem → Option (Unit × Mem)) (v0 : Option Nat) (v1 : Option Nat) (v2 : Int32) (σ : Mem) : Option (Unit × Mem) :=
  if (iI 11138) ≤ v2 then
    some ((), σ)
  else
    aI σ v0 v2 fun x1 =>
    sI σ v1 v2 x1 fun s2 =>
    k2 v0 v1 (v2 + iI 1) s2
noncomputable def sX8_copies_2 : Nat → Option Nat → Option Nat → Int32 → Mem → Option (Unit × Mem)
  | 0 => fun _ _ _ _ => none
  | f + 1 => sX8_copies_2b (sX8_copies_2 f)
noncomputable def sX8_copies (v0 : Option Nat) (v1 : Option Nat) (σ : Mem) : Option (Unit × Mem) :=
  sX8_copies_2 FU v0 v1 (iI 0) σ
noncomputable def sX8_tried_187 (v0 : Option Nat) (v3 : Int32) (σ : Mem) : Option (Int32 × Mem) :=
  gR σ v0 6 1 fun x1 =>
  gR σ v0 6 0 fun x2 =>
  cl (sX8_copies x1 x2 σ) fun _ s3 =>
  some (v3, s3)
noncomputable def sX8_tried_186 (v0 : Option Nat) (t0 : Int32) (σ : Mem) : Option (Int32 × Mem) :=
  sX8_tried_187 v0 t0 σ
noncomputable def sX8_tried_52 (v0 : Option Nat) (v1 : Int32) (v2 : Int32) (σ : Mem) : Option (Int32 × Mem) :=
  gR σ v0 6 0 fun x1 =>
  gR σ v0 6 1 fun x2 =>
  cl (sX8_copies x1 x2 σ) fun _ s3 =>
  cV s3 v0 6 <|
  cl (sX8_ticksGo v0 v1 s3) fun _ s4 =>
  if v2 = iI 0 then
    gI s4 v0 6 29 fun x5 =>
    sX8_tried_187 v0 x5 s4
  else
    if v2 = iI 1 then
      cV s4 v0 6 <|
      cl (sX8_leading v0 s4) fun x6 s7 =>
      sX8_tried_187 v0 x6 s7
    else
      if v2 = iI 2 then
        gR s4 v0 6 0 fun x8 =>
        aI s4 x8 (iI 11133) fun x9 =>
        sX8_tried_187 v0 x9 s4
      else
        if v2 = iI 3 then
          gR s4 v0 6 0 fun x10 =>
          aI s4 x10 (iI 11136) fun x11 =>
          sX8_tried_187 v0 x11 s4
        else
          if (iI 20) ≤ v2 then
            if (iI 30) ≤ v2 then
              cV s4 v0 6 <|
              cl (sX8_the v0 (v2 - (iI 30)) (iI 3) s4) fun x12 s13 =>
              sX8_tried_186 v0 x12 s13
            else
              cV s4 v0 6 <|
              cl (sX8_the v0 (v2 - (iI 20)) (iI 1) s4) fun x14 s15 =>
              sX8_tried_186 v0 x14 s15
          else
            cV s4 v0 6 <|
            cl (sX8_the v0 (v2 - (iI 10)) (iI 9) s4) fun x16 s17 =>
            sX8_tried_186 v0 x16 s17
noncomputable def sX8_tried (v0 : Option Nat) (v1 : Int32) (v2 : Int32) (σ : Mem) : Option (Int32 × Mem) :=
  cl (sX8_in v1 (iI 1) (iI 200) σ) fun x1 s2 =>
  if x1 = (iI 0) then
    some (iI (-1), s2)
  else
    cl (sX8_in v2 (iI 0) (iI 3) s2) fun x3 s4 =>
    if x3 = (iI 0) then
      cl (sX8_isNode (v2 - (iI 10)) s4) fun x5 s6 =>
      if x5 = (iI 0) then
        cl (sX8_isNode (v2 - (iI 20)) s6) fun x7 s8 =>
        if x7 = (iI 0) then
          cl (sX8_isNode (v2 - (iI 30)) s8) fun x9 s10 =>
          if x9 = (iI 0) then
            some (iI (-1), s10)
          else
            sX8_tried_52 v0 v1 v2 s10
        else
          sX8_tried_52 v0 v1 v2 s8
      else
        sX8_tried_52 v0 v1 v2 s6
    else
      sX8_tried_52 v0 v1 v2 s4
noncomputable def sX8_orNone (v0 : Int32) (σ : Mem) : Option (Int32 × Mem) :=
  if v0 = (iI (-1)) then
    some (iI (-2), σ)
  else
    some (v0, σ)
noncomputable def sX8_nodeIs_67 (v0 : Option Nat) (v1 : Int32) (v2 : Int32) (σ : Mem) : Option (Int32 × Mem) :=
  if v2 = iI 0 then
    cV σ v0 6 <|
    cl (sX8_the v0 v1 (iI 0) σ) fun x1 s2 =>
    some (x1, s2)
  else
    if v2 = iI 1 then
      cV σ v0 6 <|
      cl (sX8_the v0 v1 (iI 1) σ) fun x3 s4 =>
      some (x3, s4)
    else
      if v2 = iI 2 then
        cV σ v0 6 <|
        cl (sX8_the v0 v1 (iI 2) σ) fun x5 s6 =>
        cl (sX8_orNone x5 s6) fun x7 s8 =>
        some (x7, s8)
      else
        if v2 = iI 3 then
          cV σ v0 6 <|
          cl (sX8_the v0 v1 (iI 3) σ) fun x9 s10 =>
          some (x9, s10)
        else
          if v2 = iI 4 then
            cV σ v0 6 <|
            cl (sX8_lastOf v0 v1 σ) fun x11 s12 =>
            some (x11, s12)
          else
            if v2 = iI 5 then
              cV σ v0 6 <|
              cl (sX8_the v0 v1 (iI 9) σ) fun x13 s14 =>
              some (x13, s14)
            else
              if v2 = iI 6 then
                cV σ v0 6 <|
                cl (sX8_the v0 v1 (iI 4) σ) fun x15 s16 =>
                some (x15, s16)
              else
                if v2 = iI 7 then
                  cV σ v0 6 <|
                  cl (sX8_the v0 v1 (iI 10) σ) fun x17 s18 =>
                  some (x17, s18)
                else
                  if v2 = iI 8 then
                    cV σ v0 6 <|
                    cl (sX8_oldOf v0 v1 σ) fun x19 s20 =>
                    some (x19, s20)
                  else
                    if v2 = iI 9 then
                      cV σ v0 6 <|
                      cl (sX8_newOf v0 v1 σ) fun x21 s22 =>
                      some (x21, s22)
                    else
                      if v2 = iI 10 then
                        cV σ v0 6 <|
                        cl (sX8_the v0 v1 (iI 11) σ) fun x23 s24 =>
                        cl (sX8_orNone x23 s24) fun x25 s26 =>
                        some (x25, s26)
                      else
                        if v2 = iI 11 then
                          cV σ v0 6 <|
                          cl (sX8_the v0 v1 (iI 12) σ) fun x27 s28 =>
                          some (x27, s28)
                        else
                          if v2 = iI 12 then
                            cV σ v0 6 <|
                            cl (sX8_the v0 v1 (iI 13) σ) fun x29 s30 =>
                            some (x29, s30)
                          else
                            cV σ v0 6 <|
                            cl (sX8_lastOf v0 v1 σ) fun x31 s32 =>
                            cV s32 v0 6 <|
                            cl (sX8_termAt v0 v1 x31 s32) fun x33 s34 =>
                            some (x33, s34)
noncomputable def sX8_nodeIs_51 (v0 : Option Nat) (v1 : Int32) (v2 : Int32) (t0 : Int32) (σ : Mem) : Option (Int32 × Mem) :=
  if t0 = (iI 0) then
    sX8_nodeIs_67 v0 v1 v2 σ
  else
    cV σ v0 6 <|
    cl (sX8_isUp v0 v1 σ) fun x1 s2 =>
    if x1 = (iI 0) then
      some (iI (-2), s2)
    else
      sX8_nodeIs_67 v0 v1 v2 s2
noncomputable def sX8_nodeIs_46 (v0 : Option Nat) (v1 : Int32) (v2 : Int32) (σ : Mem) : Option (Int32 × Mem) :=
  sX8_nodeIs_51 v0 v1 v2 (iI 1) σ
noncomputable def sX8_nodeIs (v0 : Option Nat) (v1 : Int32) (v2 : Int32) (σ : Mem) : Option (Int32 × Mem) :=
  cl (sX8_isNode v1 σ) fun x1 s2 =>
  if x1 = (iI 0) then
    some (iI (-1), s2)
  else
    cl (sX8_in v2 (iI 0) (iI 13) s2) fun x3 s4 =>
    if x3 = (iI 0) then
      some (iI (-1), s4)
    else
      if v2 = (iI 3) then
        sX8_nodeIs_46 v0 v1 v2 s4
      else
        if v2 = (iI 5) then
          sX8_nodeIs_46 v0 v1 v2 s4
        else
          if v2 = (iI 7) then
            sX8_nodeIs_46 v0 v1 v2 s4
          else
            cl (sX8_in v2 (iI 10) (iI 12) s4) fun x5 s6 =>
            if x5 = (iI 0) then
              sX8_nodeIs_51 v0 v1 v2 (iI 0) s6
            else
              sX8_nodeIs_46 v0 v1 v2 s6
noncomputable def sX8_entryAt (v0 : Option Nat) (v1 : Int32) (v2 : Int32) (v3 : Int32) (σ : Mem) : Option (Int32 × Mem) :=
  cl (sX8_isNode v1 σ) fun x1 s2 =>
  if x1 = (iI 0) then
    some (iI (-1), s2)
  else
    cl (sX8_in v2 (iI 1) (iI 999) s2) fun x3 s4 =>
    if x3 = (iI 0) then
      some (iI (-1), s4)
    else
      cl (sX8_in v3 (iI 0) (iI 3) s4) fun x5 s6 =>
      if x5 = (iI 0) then
        some (iI (-1), s6)
      else
        cV s6 v0 6 <|
        cl (sX8_hasEntry v0 v1 v2 s6) fun x7 s8 =>
        if x7 = (iI 0) then
          some (iI (-2), s8)
        else
          gR s8 v0 6 0 fun x9 =>
          cV s8 v0 6 <|
          cl (sX8_logPlace v0 v1 v2 s8) fun x10 s11 =>
          aI s11 x9 (x10 + v3) fun x12 =>
          some (x12, s11)
noncomputable def sX8_keyOf_30 (v0 : Option Nat) (v1 : Int32) (v2 : Int32) (σ : Mem) : Option (Int32 × Mem) :=
  if v2 < (iI 10) then
    cV σ v0 6 <|
    cl (sX8_isUp v0 v1 σ) fun x1 s2 =>
    if x1 = (iI 0) then
      some (iI (-2), s2)
    else
      cV s2 v0 6 <|
      cl (sX8_the v0 v1 ((iI 15) + v2) s2) fun x3 s4 =>
      some (x3, s4)
  else
    cV σ v0 6 <|
    cl (sX8_the v0 v1 (((iI 23) + v2) - (iI 10)) σ) fun x5 s6 =>
    some (x5, s6)
noncomputable def sX8_keyOf (v0 : Option Nat) (v1 : Int32) (v2 : Int32) (σ : Mem) : Option (Int32 × Mem) :=
  cl (sX8_isNode v1 σ) fun x1 s2 =>
  if x1 = (iI 0) then
    some (iI (-1), s2)
  else
    cl (sX8_in v2 (iI 0) (iI 7) s2) fun x3 s4 =>
    if x3 = (iI 0) then
      cl (sX8_in v2 (iI 10) (iI 17) s4) fun x5 s6 =>
      if x5 = (iI 0) then
        some (iI (-1), s6)
      else
        sX8_keyOf_30 v0 v1 v2 s6
    else
      sX8_keyOf_30 v0 v1 v2 s4
noncomputable def sX8_about (v0 : Option Nat) (v1 : Int32) (v2 : Int32) (v3 : Int32) (σ : Mem) : Option (Int32 × Mem) :=
  cl (sX8_isNode v1 σ) fun x1 s2 =>
  if x1 = (iI 0) then
    some (iI (-1), s2)
  else
    cl (sX8_isNode v2 s2) fun x3 s4 =>
    if x3 = (iI 0) then
      some (iI (-1), s4)
    else
      cl (sX8_in v3 (iI 0) (iI 2) s4) fun x5 s6 =>
      if x5 = (iI 0) then
        some (iI (-1), s6)
      else
        cV s6 v0 6 <|
        cl (sX8_isLeader v0 v1 s6) fun x7 s8 =>
        if x7 = (iI 0) then
          some (iI (-2), s8)
        else
          if v3 = (iI 0) then
            cV s8 v0 6 <|
            cl (sX8_the v0 v1 ((iI 31) + v2) s8) fun x13 s14 =>
            some (x13, s14)
          else
            if v3 = (iI 1) then
              cV s8 v0 6 <|
              cl (sX8_the v0 v1 ((iI 38) + v2) s8) fun x11 s12 =>
              some (x11, s12)
            else
              cV s8 v0 6 <|
              cl (sX8_the v0 v1 ((iI 45) + v2) s8) fun x9 s10 =>
              some (x9, s10)
noncomputable def sX8_message (v0 : Option Nat) (v1 : Int32) (v2 : Int32) (σ : Mem) : Option (Int32 × Mem) :=
  if v1 < (iI 0) then
    some (iI (-1), σ)
  else
    cl (sX8_in v2 (iI 0) (iI 5) σ) fun x1 s2 =>
    if x1 = (iI 0) then
      some (iI (-1), s2)
    else
      gR s2 v0 6 0 fun x3 =>
      aI s2 x3 (iI 11133) fun x4 =>
      if x4 ≤ v1 then
        some (iI (-4), s2)
      else
        gR s2 v0 6 0 fun x5 =>
        aI s2 x5 (((iI 1708) + ((iI 27) * v1)) + v2) fun x6 =>
        some (x6, s2)
noncomputable def sX8_heldAt (v0 : Option Nat) (v1 : Int32) (v2 : Int32) (σ : Mem) : Option (Int32 × Mem) :=
  cl (sX8_in v1 (iI 1) (iI 9999) σ) fun x1 s2 =>
  if x1 = (iI 0) then
    some (iI (-1), s2)
  else
    cl (sX8_in v2 (iI 0) (iI 3) s2) fun x3 s4 =>
    if x3 = (iI 0) then
      some (iI (-1), s4)
    else
      if (iI 999) < v1 then
        some (iI (-2), s4)
      else
        gR s4 v0 6 0 fun x5 =>
        aI s4 x5 ((iI 6028) + ((iI 4) * v1)) fun x6 =>
        if x6 = (iI 0) then
          some (iI (-2), s4)
        else
          gR s4 v0 6 0 fun x7 =>
          aI s4 x7 (((iI 6028) + ((iI 4) * v1)) + v2) fun x8 =>
          some (x8, s4)
noncomputable def sX8_readIs (v0 : Option Nat) (v1 : Int32) (v2 : Int32) (σ : Mem) : Option (Int32 × Mem) :=
  gR σ v0 6 0 fun x1 =>
  aI σ x1 (iI 11135) fun x2 =>
  cl (sX8_in v1 (iI 0) (x2 - (iI 1)) σ) fun x3 s4 =>
  if x3 = (iI 0) then
    some (iI (-1), s4)
  else
    if v2 = iI 0 then
      gR s4 v0 6 0 fun x5 =>
      aI s4 x5 (((iI 11028) + ((iI 6) * v1)) + (iI 4)) fun x6 =>
      some (x6, s4)
    else
      if v2 = iI 1 then
        gR s4 v0 6 0 fun x7 =>
        aI s4 x7 (((iI 11028) + ((iI 6) * v1)) + (iI 4)) fun x8 =>
        if x8 = (iI 1) then
          gR s4 v0 6 0 fun x9 =>
          aI s4 x9 (((iI 11028) + ((iI 6) * v1)) + (iI 5)) fun x10 =>
          some (x10, s4)
        else
          some (iI (-2), s4)
      else
        if v2 = iI 2 then
          gR s4 v0 6 0 fun x11 =>
          aI s4 x11 ((iI 11028) + ((iI 6) * v1)) fun x12 =>
          some (x12, s4)
        else
          if v2 = iI 3 then
            gR s4 v0 6 0 fun x13 =>
            aI s4 x13 (((iI 11028) + ((iI 6) * v1)) + (iI 1)) fun x14 =>
            some (x14, s4)
          else
            some (iI (-1), s4)
noncomputable def sX8_areSame_3b (k3 : Option Nat → Int32 → Int32 → Int32 → Int32 → Mem → Option (Int32 × Mem)) (v0 : Option Nat) (v1 : Int32) (v2 : Int32) (v3 : Int32) (v4 : Int32) (σ : Mem) : Option (Int32 × Mem) :=
  if (iI 4) ≤ v4 then
    rZ (iI 1) σ
  else
    gR σ v0 6 0 fun x1 =>
    cV σ v0 6 <|
    cl (sX8_logPlace v0 v1 v3 σ) fun x2 s3 =>
    aI s3 x1 (x2 + v4) fun x4 =>
    gR s3 v0 6 0 fun x5 =>
    cV s3 v0 6 <|
    cl (sX8_logPlace v0 v2 v3 s3) fun x6 s7 =>
    aI s7 x5 (x6 + v4) fun x8 =>
    if x4 = x8 then
      k3 v0 v1 v2 v3 (v4 + iI 1) s7
    else
      rZ (iI 0) s7
noncomputable def sX8_areSame_3 : Nat → Option Nat → Int32 → Int32 → Int32 → Int32 → Mem → Option (Int32 × Mem)
  | 0 => fun _ _ _ _ _ _ => none
  | f + 1 => sX8_areSame_3b (sX8_areSame_3 f)
noncomputable def sX8_areSame (v0 : Option Nat) (v1 : Int32) (v2 : Int32) (v3 : Int32) (σ : Mem) : Option (Int32 × Mem) :=
  sX8_areSame_3 FU v0 v1 v2 v3 (iI 0) σ
noncomputable def sX8_areMatched_81 (k17 : Option Nat → Int32 → Int32 → Int32 → Int32 → Mem → Option (Int32 × Mem)) (v0 : Option Nat) (v1 : Int32) (v2 : Int32) (v3 : Int32) (v4 : Int32) (σ : Mem) : Option (Int32 × Mem) :=
  k17 v0 v1 v2 v3 (v4 + iI (-1)) σ
noncomputable def sX8_areMatched_63 (k17 : Option Nat → Int32 → Int32 → Int32 → Int32 → Mem → Option (Int32 × Mem)) (v0 : Option Nat) (v1 : Int32) (v2 : Int32) (v4 : Int32) (t0 : Int32) (σ : Mem) : Option (Int32 × Mem) :=
  if t0 = (iI 0) then
    sX8_areMatched_81 k17 v0 v1 v2 t0 v4 σ
  else
    cV σ v0 6 <|
    cl (sX8_areSame v0 v1 v2 v4 σ) fun x1 s2 =>
    if x1 = (iI 0) then
      rZ (iI 0) s2
    else
      sX8_areMatched_81 k17 v0 v1 v2 t0 v4 s2
noncomputable def sX8_areMatched_58 (k17 : Option Nat → Int32 → Int32 → Int32 → Int32 → Mem → Option (Int32 × Mem)) (v0 : Option Nat) (v1 : Int32) (v2 : Int32) (v4 : Int32) (σ : Mem) : Option (Int32 × Mem) :=
  sX8_areMatched_63 k17 v0 v1 v2 v4 (iI 1) σ
noncomputable def sX8_areMatched_17b (k17 : Option Nat → Int32 → Int32 → Int32 → Int32 → Mem → Option (Int32 × Mem)) (v0 : Option Nat) (v1 : Int32) (v2 : Int32) (v3 : Int32) (v4 : Int32) (σ : Mem) : Option (Int32 × Mem) :=
  cV σ v0 6 <|
  cl (sX8_hasEntry v0 v1 v4 σ) fun x1 s2 =>
  if x1 = (iI 0) then
    rZ (iI 1) s2
  else
    cV s2 v0 6 <|
    cl (sX8_hasEntry v0 v2 v4 s2) fun x3 s4 =>
    if x3 = (iI 0) then
      rZ (iI 1) s4
    else
      if v3 = (iI 0) then
        cV s4 v0 6 <|
        cl (sX8_termAt v0 v1 v4 s4) fun x5 s6 =>
        cV s6 v0 6 <|
        cl (sX8_termAt v0 v2 v4 s6) fun x7 s8 =>
        if x5 = x7 then
          sX8_areMatched_58 k17 v0 v1 v2 v4 s8
        else
          sX8_areMatched_63 k17 v0 v1 v2 v4 (iI 0) s8
      else
        sX8_areMatched_58 k17 v0 v1 v2 v4 s4
noncomputable def sX8_areMatched_17 : Nat → Option Nat → Int32 → Int32 → Int32 → Int32 → Mem → Option (Int32 × Mem)
  | 0 => fun _ _ _ _ _ _ => none
  | f + 1 => sX8_areMatched_17b (sX8_areMatched_17 f)
noncomputable def sX8_areMatched (v0 : Option Nat) (v1 : Int32) (v2 : Int32) (σ : Mem) : Option (Int32 × Mem) :=
  cV σ v0 6 <|
  cl (sX8_lastOf v0 v1 σ) fun x1 s2 =>
  cV s2 v0 6 <|
  cl (sX8_lastOf v0 v2 s2) fun x3 s4 =>
  cl (sX8_min x1 x3 s4) fun x5 s6 =>
  sX8_areMatched_17 FU v0 v1 v2 (iI 0) x5 s6
noncomputable def sX8_areAlike_21b (k21 : Option Nat → Int32 → Int32 → Int32 → Mem → Option (Int32 × Mem)) (v0 : Option Nat) (v1 : Int32) (v2 : Int32) (v3 : Int32) (σ : Mem) : Option (Int32 × Mem) :=
  if (iI 8) ≤ v3 then
    rZ (iI 1) σ
  else
    cV σ v0 6 <|
    cl (sX8_the v0 v1 ((iI 15) + v3) σ) fun x1 s2 =>
    cV s2 v0 6 <|
    cl (sX8_the v0 v2 ((iI 15) + v3) s2) fun x3 s4 =>
    if x1 = x3 then
      k21 v0 v1 v2 (v3 + iI 1) s4
    else
      rZ (iI 0) s4
noncomputable def sX8_areAlike_21 : Nat → Option Nat → Int32 → Int32 → Int32 → Mem → Option (Int32 × Mem)
  | 0 => fun _ _ _ _ _ => none
  | f + 1 => sX8_areAlike_21b (sX8_areAlike_21 f)
noncomputable def sX8_areAlike (v0 : Option Nat) (v1 : Int32) (v2 : Int32) (σ : Mem) : Option (Int32 × Mem) :=
  cV σ v0 6 <|
  cl (sX8_the v0 v1 (iI 9) σ) fun x1 s2 =>
  cV s2 v0 6 <|
  cl (sX8_the v0 v2 (iI 9) s2) fun x3 s4 =>
  if x1 = x3 then
    sX8_areAlike_21 FU v0 v1 v2 (iI 0) s4
  else
    rZ (iI 1) s4
noncomputable def sX8_broken_92 (k28 : Option Nat → Int32 → Int32 → Int32 → Mem → Option (Int32 × Mem)) (k37 : Option Nat → Int32 → Int32 → Int32 → Int32 → Mem → Option (Int32 × Mem)) (v0 : Option Nat) (v1 : Int32) (v2 : Int32) (v3 : Int32) (v4 : Int32) (σ : Mem) : Option (Int32 × Mem) :=
  k37 v0 v1 v2 v3 (v4 + iI 1) σ
noncomputable def sX8_broken_88 (k28 : Option Nat → Int32 → Int32 → Int32 → Mem → Option (Int32 × Mem)) (k37 : Option Nat → Int32 → Int32 → Int32 → Int32 → Mem → Option (Int32 × Mem)) (v0 : Option Nat) (v1 : Int32) (v2 : Int32) (v3 : Int32) (v4 : Int32) (σ : Mem) : Option (Int32 × Mem) :=
  sX8_broken_92 k28 k37 v0 v1 (v2 + (iI 1)) v3 v4 σ
noncomputable def sX8_broken_37b (k28 : Option Nat → Int32 → Int32 → Int32 → Mem → Option (Int32 × Mem)) (k37 : Option Nat → Int32 → Int32 → Int32 → Int32 → Mem → Option (Int32 × Mem)) (v0 : Option Nat) (v1 : Int32) (v2 : Int32) (v3 : Int32) (v4 : Int32) (σ : Mem) : Option (Int32 × Mem) :=
  if v3 ≤ v4 then
    k28 v0 v1 v2 (v3 + iI 1) σ
  else
    if v1 = (iI 1) then
      cV σ v0 6 <|
      cl (sX8_areMatched v0 v3 v4 σ) fun x7 s8 =>
      if x7 = (iI 0) then
        sX8_broken_88 k28 k37 v0 v1 v2 v3 v4 s8
      else
        sX8_broken_92 k28 k37 v0 v1 v2 v3 v4 s8
    else
      cV σ v0 6 <|
      cl (sX8_isUp v0 v3 σ) fun x1 s2 =>
      if x1 = (iI 0) then
        sX8_broken_92 k28 k37 v0 v1 v2 v3 v4 s2
      else
        cV s2 v0 6 <|
        cl (sX8_isUp v0 v4 s2) fun x3 s4 =>
        if x3 = (iI 0) then
          sX8_broken_92 k28 k37 v0 v1 v2 v3 v4 s4
        else
          cV s4 v0 6 <|
          cl (sX8_areAlike v0 v3 v4 s4) fun x5 s6 =>
          if x5 = (iI 0) then
            sX8_broken_88 k28 k37 v0 v1 v2 v3 v4 s6
          else
            sX8_broken_92 k28 k37 v0 v1 v2 v3 v4 s6
noncomputable def sX8_broken_37 (k28 : Option Nat → Int32 → Int32 → Int32 → Mem → Option (Int32 × Mem)) : Nat → Option Nat → Int32 → Int32 → Int32 → Int32 → Mem → Option (Int32 × Mem)
  | 0 => fun _ _ _ _ _ _ => none
  | f + 1 => sX8_broken_37b k28 (sX8_broken_37 k28 f)
noncomputable def sX8_broken_28b (k28 : Option Nat → Int32 → Int32 → Int32 → Mem → Option (Int32 × Mem)) (v0 : Option Nat) (v1 : Int32) (v2 : Int32) (v3 : Int32) (σ : Mem) : Option (Int32 × Mem) :=
  if (iI 7) ≤ v3 then
    some (v2, σ)
  else
    sX8_broken_37 k28 FU v0 v1 v2 v3 (iI 0) σ
noncomputable def sX8_broken_28 : Nat → Option Nat → Int32 → Int32 → Int32 → Mem → Option (Int32 × Mem)
  | 0 => fun _ _ _ _ _ => none
  | f + 1 => sX8_broken_28b (sX8_broken_28 f)
noncomputable def sX8_broken (v0 : Option Nat) (v1 : Int32) (σ : Mem) : Option (Int32 × Mem) :=
  cl (sX8_in v1 (iI 0) (iI 2) σ) fun x1 s2 =>
  if x1 = (iI 0) then
    some (iI (-1), s2)
  else
    if v1 = (iI 0) then
      gR s2 v0 6 0 fun x3 =>
      aI s2 x3 (iI 11136) fun x4 =>
      some (x4, s2)
    else
      sX8_broken_28 FU v0 v1 (iI 0) (iI 0) s2
noncomputable def sX8_wouldGrant_73 (v0 : Option Nat) (v1 : Int32) (v2 : Int32) (t0 : Int32) (σ : Mem) : Option (Int32 × Mem) :=
  if t0 = (iI 0) then
    rZ (iI 0) σ
  else
    cV σ v0 6 <|
    cl (sX8_lastOf v0 v2 σ) fun x1 s2 =>
    cV s2 v0 6 <|
    cl (sX8_lastOf v0 v2 s2) fun x3 s4 =>
    cV s4 v0 6 <|
    cl (sX8_termAt v0 v2 x3 s4) fun x5 s6 =>
    cV s6 v0 6 <|
    cl (sX8_isNoLess v0 v1 x1 x5 s6) fun x7 s8 =>
    if x7 = (iI 0) then
      rZ (iI 0) s8
    else
      rZ (iI 1) s8
noncomputable def sX8_wouldGrant_68 (v0 : Option Nat) (v1 : Int32) (v2 : Int32) (σ : Mem) : Option (Int32 × Mem) :=
  sX8_wouldGrant_73 v0 v1 v2 (iI 1) σ
noncomputable def sX8_wouldGrant (v0 : Option Nat) (v1 : Int32) (v2 : Int32) (σ : Mem) : Option (Int32 × Mem) :=
  cV σ v0 6 <|
  cl (sX8_the v0 v2 (iI 1) σ) fun x1 s2 =>
  cV s2 v0 6 <|
  cl (sX8_isUp v0 v1 s2) fun x3 s4 =>
  if x3 = (iI 0) then
    rZ (iI 0) s4
  else
    cV s4 v0 6 <|
    cl (sX8_areLinked v0 v1 v2 s4) fun x5 s6 =>
    if x5 = (iI 0) then
      rZ (iI 0) s6
    else
      cV s6 v0 6 <|
      cl (sX8_the v0 v1 (iI 1) s6) fun x7 s8 =>
      if x7 ≤ (x1 + (iI 1)) then
        cV s8 v0 6 <|
        cl (sX8_the v0 v1 (iI 1) s8) fun x9 s10 =>
        if x9 < (x1 + (iI 1)) then
          sX8_wouldGrant_68 v0 v1 v2 s10
        else
          cV s10 v0 6 <|
          cl (sX8_the v0 v1 (iI 2) s10) fun x11 s12 =>
          if x11 = (iI (-1)) then
            sX8_wouldGrant_68 v0 v1 v2 s12
          else
            cV s12 v0 6 <|
            cl (sX8_the v0 v1 (iI 2) s12) fun x13 s14 =>
            if x13 = v2 then
              sX8_wouldGrant_68 v0 v1 v2 s14
            else
              sX8_wouldGrant_73 v0 v1 v2 (iI 0) s14
      else
        rZ (iI 0) s8
noncomputable def sX8_couldWin_91 (k48 : Option Nat → Int32 → Int32 → Int32 → Int32 → Mem → Option (Int32 × Mem)) (v0 : Option Nat) (v1 : Int32) (v2 : Int32) (v3 : Int32) (v4 : Int32) (σ : Mem) : Option (Int32 × Mem) :=
  k48 v0 v1 v2 v3 (v4 + iI 1) σ
noncomputable def sX8_couldWin_48b (k48 : Option Nat → Int32 → Int32 → Int32 → Int32 → Mem → Option (Int32 × Mem)) (v0 : Option Nat) (v1 : Int32) (v2 : Int32) (v3 : Int32) (v4 : Int32) (σ : Mem) : Option (Int32 × Mem) :=
  if (iI 7) ≤ v4 then
    if v2 = (iI 1) then
      some (v3, σ)
    else
      cV σ v0 6 <|
      cl (sX8_isMost v0 v1 v3 σ) fun x1 s2 =>
      if x1 = (iI 0) then
        some (iI 0, s2)
      else
        some (iI 1, s2)
  else
    if v4 = v1 then
      sX8_couldWin_91 k48 v0 v1 v2 v3 v4 σ
    else
      cV σ v0 6 <|
      cl (sX8_membersOf v0 v1 σ) fun x3 s4 =>
      cl (sX8_has x3 v4 s4) fun x5 s6 =>
      if x5 = (iI 0) then
        sX8_couldWin_91 k48 v0 v1 v2 v3 v4 s6
      else
        cV s6 v0 6 <|
        cl (sX8_wouldGrant v0 v4 v1 s6) fun x7 s8 =>
        if x7 = (iI 0) then
          sX8_couldWin_91 k48 v0 v1 v2 v3 v4 s8
        else
          sX8_couldWin_91 k48 v0 v1 v2 (v3 ||| ((iI 1) <<< (v4 &&& 31))) v4 s8
noncomputable def sX8_couldWin_48 : Nat → Option Nat → Int32 → Int32 → Int32 → Int32 → Mem → Option (Int32 × Mem)
  | 0 => fun _ _ _ _ _ _ => none
  | f + 1 => sX8_couldWin_48b (sX8_couldWin_48 f)
noncomputable def sX8_couldWin (v0 : Option Nat) (v1 : Int32) (v2 : Int32) (σ : Mem) : Option (Int32 × Mem) :=
  cl (sX8_isNode v1 σ) fun x1 s2 =>
  if x1 = (iI 0) then
    some (iI (-1), s2)
  else
    cl (sX8_in v2 (iI 0) (iI 1) s2) fun x3 s4 =>
    if x3 = (iI 0) then
      some (iI (-1), s4)
    else
      cV s4 v0 6 <|
      cl (sX8_isUp v0 v1 s4) fun x5 s6 =>
      if x5 = (iI 0) then
        some (iI (-2), s6)
      else
        cV s6 v0 6 <|
        cl (sX8_membersOf v0 v1 s6) fun x7 s8 =>
        cl (sX8_has x7 v1 s8) fun x9 s10 =>
        if x9 = (iI 0) then
          some (iI (-2), s10)
        else
          sX8_couldWin_48 FU v0 v1 v2 ((iI 1) <<< (v1 &&& 31)) (iI 0) s10
noncomputable def sX8_majority (v0 : Option Nat) (v1 : Int32) (v2 : Int32) (σ : Mem) : Option (Int32 × Mem) :=
  cl (sX8_isNode v1 σ) fun x1 s2 =>
  if x1 = (iI 0) then
    some (iI (-1), s2)
  else
    cl (sX8_in v2 (iI 0) (iI 127) s2) fun x3 s4 =>
    if x3 = (iI 0) then
      some (iI (-1), s4)
    else
      cV s4 v0 6 <|
      cl (sX8_isMost v0 v1 v2 s4) fun x5 s6 =>
      if x5 = (iI 0) then
        some (iI 0, s6)
      else
        some (iI 1, s6)
noncomputable def sX8_allHave_36 (k2 : Option Nat → Int32 → Mem → Option (Int32 × Mem)) (v0 : Option Nat) (v1 : Int32) (σ : Mem) : Option (Int32 × Mem) :=
  k2 v0 (v1 + iI 1) σ
noncomputable def sX8_allHave_2b (k2 : Option Nat → Int32 → Mem → Option (Int32 × Mem)) (v0 : Option Nat) (v1 : Int32) (σ : Mem) : Option (Int32 × Mem) :=
  if (iI 7) ≤ v1 then
    rZ (iI 1) σ
  else
    cV σ v0 6 <|
    cl (sX8_isUp v0 v1 σ) fun x1 s2 =>
    if x1 = (iI 0) then
      sX8_allHave_36 k2 v0 v1 s2
    else
      cV s2 v0 6 <|
      cl (sX8_the v0 v1 (iI 9) s2) fun x3 s4 =>
      gR s4 v0 6 0 fun x5 =>
      aI s4 x5 (iI 11134) fun x6 =>
      if x6 ≤ x3 then
        sX8_allHave_36 k2 v0 v1 s4
      else
        rZ (iI 0) s4
noncomputable def sX8_allHave_2 : Nat → Option Nat → Int32 → Mem → Option (Int32 × Mem)
  | 0 => fun _ _ _ => none
  | f + 1 => sX8_allHave_2b (sX8_allHave_2 f)
noncomputable def sX8_allHave (v0 : Option Nat) (σ : Mem) : Option (Int32 × Mem) :=
  sX8_allHave_2 FU v0 (iI 0) σ
noncomputable def sX8_isSo (v0 : Option Nat) (v1 : Int32) (v2 : Int32) (σ : Mem) : Option (Int32 × Mem) :=
  if v1 = (iI 0) then
    cV σ v0 6 <|
    cl (sX8_leading v0 σ) fun x4 s5 =>
    if x4 = (iI (-2)) then
      rZ (iI 0) s5
    else
      rZ (iI 1) s5
  else
    if v1 = (iI 1) then
      gI σ v0 6 29 fun x3 =>
      if x3 ≤ v2 then
        rZ (iI 0) σ
      else
        rZ (iI 1) σ
    else
      cV σ v0 6 <|
      cl (sX8_allHave v0 σ) fun x1 s2 =>
      rZ x1 s2
noncomputable def sX8_till_68 (v0 : Option Nat) (v2 : Int32) (v3 : Int32) (σ : Mem) : Option (Int32 × Mem) :=
  cV σ v0 6 <|
  cl (sX8_isSo v0 v2 (iI 0) σ) fun x1 s2 =>
  gR s2 v0 6 1 fun x3 =>
  gR s2 v0 6 0 fun x4 =>
  cl (sX8_copies x3 x4 s2) fun _ s5 =>
  if x1 = (iI 0) then
    some (iI (-2), s5)
  else
    some (v3, s5)
noncomputable def sX8_till_40b (k40 : Option Nat → Int32 → Int32 → Int32 → Mem → Option (Int32 × Mem)) (v0 : Option Nat) (v1 : Int32) (v2 : Int32) (v3 : Int32) (σ : Mem) : Option (Int32 × Mem) :=
  cV σ v0 6 <|
  cl (sX8_isSo v0 v2 (iI 0) σ) fun x1 s2 =>
  if x1 = (iI 0) then
    if v1 ≤ v3 then
      sX8_till_68 v0 v2 v3 s2
    else
      cV s2 v0 6 <|
      cl (sX8_oneTick v0 s2) fun x3 s4 =>
      if x3 = (iI 0) then
        sX8_till_68 v0 v2 v3 s4
      else
        k40 v0 v1 v2 (v3 + (iI 1)) s4
  else
    sX8_till_68 v0 v2 v3 s2
noncomputable def sX8_till_40 : Nat → Option Nat → Int32 → Int32 → Int32 → Mem → Option (Int32 × Mem)
  | 0 => fun _ _ _ _ _ => none
  | f + 1 => sX8_till_40b (sX8_till_40 f)
noncomputable def sX8_till (v0 : Option Nat) (v1 : Int32) (v2 : Int32) (σ : Mem) : Option (Int32 × Mem) :=
  cl (sX8_in v1 (iI 1) (iI 200) σ) fun x1 s2 =>
  if x1 = (iI 0) then
    some (iI (-1), s2)
  else
    cl (sX8_in v2 (iI 0) (iI 2) s2) fun x3 s4 =>
    if x3 = (iI 0) then
      some (iI (-1), s4)
    else
      gR s4 v0 6 0 fun x5 =>
      gR s4 v0 6 1 fun x6 =>
      cl (sX8_copies x5 x6 s4) fun _ s7 =>
      pI s7 v0 6 29 (iI 0) fun s8 =>
      sX8_till_40 FU v0 v1 v2 (iI 0) s8
noncomputable def sX8_seed (v0 : Option Nat) (v1 : Int32) (σ : Mem) : Option (Int32 × Mem) :=
  cl (sX8_in v1 (iI 0) (iI 65535) σ) fun x1 s2 =>
  if x1 = (iI 0) then
    rZ (iI 0) s2
  else
    gR s2 v0 6 0 fun x3 =>
    sI s2 x3 (iI 11132) v1 fun s4 =>
    rZ (iI 1) s4
noncomputable def sX8_keep (v0 : Option Nat) (σ : Mem) : Option (Int32 × Mem) :=
  pZ σ v0 6 44 (iI 1) fun s1 =>
  gR s1 v0 6 0 fun x2 =>
  gR s1 v0 6 2 fun x3 =>
  cl (sX8_copies x2 x3 s1) fun _ s4 =>
  gR s4 v0 6 0 fun x5 =>
  aI s4 x5 (iI 11131) fun x6 =>
  some (x6, s4)
noncomputable def sX8_undo (v0 : Option Nat) (σ : Mem) : Option (Int32 × Mem) :=
  gI σ v0 6 44 fun x1 =>
  if x1 = (iI 0) then
    rZ (iI 0) σ
  else
    gR σ v0 6 2 fun x2 =>
    gR σ v0 6 0 fun x3 =>
    cl (sX8_copies x2 x3 σ) fun _ s4 =>
    rZ (iI 1) s4
noncomputable def sX8_greatest_42 (k4 : Option Nat → Int32 → Int32 → Mem → Option (Int32 × Mem)) (v0 : Option Nat) (v1 : Int32) (v2 : Int32) (σ : Mem) : Option (Int32 × Mem) :=
  k4 v0 v1 (v2 + iI 1) σ
noncomputable def sX8_greatest_40 (k4 : Option Nat → Int32 → Int32 → Mem → Option (Int32 × Mem)) (v0 : Option Nat) (v2 : Int32) (σ : Mem) : Option (Int32 × Mem) :=
  sX8_greatest_42 k4 v0 v2 v2 σ
noncomputable def sX8_greatest_4b (k4 : Option Nat → Int32 → Int32 → Mem → Option (Int32 × Mem)) (v0 : Option Nat) (v1 : Int32) (v2 : Int32) (σ : Mem) : Option (Int32 × Mem) :=
  if (iI 7) ≤ v2 then
    some (v1, σ)
  else
    cV σ v0 6 <|
    cl (sX8_isUp v0 v2 σ) fun x1 s2 =>
    if x1 = (iI 0) then
      sX8_greatest_42 k4 v0 v1 v2 s2
    else
      if v1 = (iI (-1)) then
        sX8_greatest_40 k4 v0 v2 s2
      else
        cV s2 v0 6 <|
        cl (sX8_the v0 v2 (iI 9) s2) fun x3 s4 =>
        cV s4 v0 6 <|
        cl (sX8_the v0 v1 (iI 9) s4) fun x5 s6 =>
        if x3 ≤ x5 then
          sX8_greatest_42 k4 v0 v1 v2 s6
        else
          sX8_greatest_40 k4 v0 v2 s6
noncomputable def sX8_greatest_4 : Nat → Option Nat → Int32 → Int32 → Mem → Option (Int32 × Mem)
  | 0 => fun _ _ _ _ => none
  | f + 1 => sX8_greatest_4b (sX8_greatest_4 f)
noncomputable def sX8_greatest (v0 : Option Nat) (σ : Mem) : Option (Int32 × Mem) :=
  sX8_greatest_4 FU v0 (iI (-1)) (iI 0) σ
noncomputable def sX8_octet (v0 : Option Nat) (v1 : Int32) (σ : Mem) : Option (Int32 × Mem) :=
  gR σ v0 6 5 fun x1 =>
  aB σ x1 v1 fun x2 =>
  some (x2 &&& (iI 255), σ)
noncomputable def sX8_check_63 (k33 : Option Nat → Int32 → Int32 → Int32 → Mem → Option (Int32 × Mem)) (v0 : Option Nat) (v1 : Int32) (v2 : Int32) (v3 : Int32) (t0 : Int32) (t1 : Int32) (σ : Mem) : Option (Int32 × Mem) :=
  if t0 = t1 then
    k33 v0 v1 v2 (v3 + iI 1) σ
  else
    some (v3, σ)
noncomputable def sX8_check_33b (k33 : Option Nat → Int32 → Int32 → Int32 → Mem → Option (Int32 × Mem)) (v0 : Option Nat) (v1 : Int32) (v2 : Int32) (v3 : Int32) (σ : Mem) : Option (Int32 × Mem) :=
  if v1 ≤ v3 then
    some (iI (-1), σ)
  else
    cV σ v0 6 <|
    cl (sX8_octet v0 v3 σ) fun x1 s2 =>
    if v2 = (iI (-1)) then
      sX8_check_63 k33 v0 v1 v2 v3 x1 (iI 255) s2
    else
      cV s2 v0 6 <|
      cl (sX8_the v0 v2 ((iI 15) + v3) s2) fun x3 s4 =>
      sX8_check_63 k33 v0 v1 v2 v3 x1 x3 s4
noncomputable def sX8_check_33 : Nat → Option Nat → Int32 → Int32 → Int32 → Mem → Option (Int32 × Mem)
  | 0 => fun _ _ _ _ _ => none
  | f + 1 => sX8_check_33b (sX8_check_33 f)
noncomputable def sX8_check (v0 : Option Nat) (v1 : Int32) (σ : Mem) : Option (Int32 × Mem) :=
  cl (sX8_in v1 (iI 0) (iI 8) σ) fun x1 s2 =>
  if x1 = (iI 0) then
    some (iI (-2), s2)
  else
    gI s2 v0 6 6 fun x3 =>
    if v1 ≤ x3 then
      pI s2 v0 6 6 (iI 0) fun s4 =>
      cV s4 v0 6 <|
      cl (sX8_greatest v0 s4) fun x5 s6 =>
      sX8_check_33 FU v0 v1 x5 (iI 0) s6
    else
      some (iI (-2), s2)
noncomputable def sX8_upSet_24 (k4 : Option Nat → Int32 → Int32 → Mem → Option (Int32 × Mem)) (v0 : Option Nat) (v1 : Int32) (v2 : Int32) (σ : Mem) : Option (Int32 × Mem) :=
  k4 v0 v1 (v2 + iI 1) σ
noncomputable def sX8_upSet_4b (k4 : Option Nat → Int32 → Int32 → Mem → Option (Int32 × Mem)) (v0 : Option Nat) (v1 : Int32) (v2 : Int32) (σ : Mem) : Option (Int32 × Mem) :=
  if (iI 7) ≤ v2 then
    some (v1, σ)
  else
    cV σ v0 6 <|
    cl (sX8_isUp v0 v2 σ) fun x1 s2 =>
    if x1 = (iI 0) then
      sX8_upSet_24 k4 v0 v1 v2 s2
    else
      sX8_upSet_24 k4 v0 (v1 ||| ((iI 1) <<< (v2 &&& 31))) v2 s2
noncomputable def sX8_upSet_4 : Nat → Option Nat → Int32 → Int32 → Mem → Option (Int32 × Mem)
  | 0 => fun _ _ _ _ => none
  | f + 1 => sX8_upSet_4b (sX8_upSet_4 f)
noncomputable def sX8_upSet (v0 : Option Nat) (σ : Mem) : Option (Int32 × Mem) :=
  sX8_upSet_4 FU v0 (iI 0) (iI 0) σ
noncomputable def sX8_cutMany_4b (k4 : Option Nat → Int32 → Int32 → Mem → Option (Int32 × Mem)) (v0 : Option Nat) (v1 : Int32) (v2 : Int32) (σ : Mem) : Option (Int32 × Mem) :=
  if (iI 7) ≤ v2 then
    dv v1 (iI 2) fun x1 =>
    some (x1, σ)
  else
    gR σ v0 6 0 fun x2 =>
    aI σ x2 ((iI 11124) + v2) fun x3 =>
    cl (sX8_bits x3 σ) fun x4 s5 =>
    k4 v0 (v1 + x4) (v2 + iI 1) s5
noncomputable def sX8_cutMany_4 : Nat → Option Nat → Int32 → Int32 → Mem → Option (Int32 × Mem)
  | 0 => fun _ _ _ _ => none
  | f + 1 => sX8_cutMany_4b (sX8_cutMany_4 f)
noncomputable def sX8_cutMany (v0 : Option Nat) (σ : Mem) : Option (Int32 × Mem) :=
  sX8_cutMany_4 FU v0 (iI 0) (iI 0) σ
noncomputable def sX8_count (v0 : Option Nat) (v1 : Int32) (σ : Mem) : Option (Int32 × Mem) :=
  if v1 = iI 0 then
    gR σ v0 6 0 fun x1 =>
    aI σ x1 (iI 11131) fun x2 =>
    some (x2, σ)
  else
    if v1 = iI 1 then
      cV σ v0 6 <|
      cl (sX8_upSet v0 σ) fun x3 s4 =>
      some (x3, s4)
    else
      if v1 = iI 2 then
        gR σ v0 6 0 fun x5 =>
        aI σ x5 (iI 11133) fun x6 =>
        some (x6, σ)
      else
        if v1 = iI 3 then
          gR σ v0 6 0 fun x7 =>
          aI σ x7 (iI 11134) fun x8 =>
          some (x8, σ)
        else
          if v1 = iI 4 then
            gI σ v0 6 15 fun x9 =>
            some (x9, σ)
          else
            if v1 = iI 5 then
              gI σ v0 6 6 fun x10 =>
              some (x10, σ)
            else
              if v1 = iI 6 then
                gR σ v0 6 0 fun x11 =>
                aI σ x11 (iI 11132) fun x12 =>
                some (x12, σ)
              else
                if v1 = iI 7 then
                  gR σ v0 6 0 fun x13 =>
                  aI σ x13 (iI 11135) fun x14 =>
                  some (x14, σ)
                else
                  if v1 = iI 8 then
                    gR σ v0 6 0 fun x15 =>
                    aI σ x15 (iI 11137) fun x16 =>
                    some (x16, σ)
                  else
                    if v1 = iI 9 then
                      cV σ v0 6 <|
                      cl (sX8_cutMany v0 σ) fun x17 s18 =>
                      some (x17, s18)
                    else
                      some (iI (-1), σ)
/-! SHALLOW FUNCTIONS, printed by gen.py out of the bytecode -/
noncomputable def sX4_init (v0 : Option Nat) (σ : Mem) : Option (Unit × Mem) :=
  cI σ v0 <|
  nA σ 20 (iI 48) fun x1 s2 =>
  pR s2 v0 3 0 x1 fun s3 =>
  nA s3 20 (iI 48) fun x4 s5 =>
  pR s5 v0 3 1 x4 fun s6 =>
  nA s6 20 (iI 48) fun x7 s8 =>
  pR s8 v0 3 2 x7 fun s9 =>
  nA s9 20 (iI 48) fun x10 s11 =>
  pR s11 v0 3 3 x10 fun s12 =>
  nA s12 20 (iI 8) fun x13 s14 =>
  pR s14 v0 3 4 x13 fun s15 =>
  nA s15 20 (iI 8) fun x16 s17 =>
  pR s17 v0 3 5 x16 fun s18 =>
  nA s18 20 (iI 7) fun x19 s20 =>
  pR s20 v0 3 6 x19 fun s21 =>
  nA s21 20 (iI 7) fun x22 s23 =>
  pR s23 v0 3 7 x22 fun s24 =>
  nA s24 20 (iI 7) fun x25 s26 =>
  pR s26 v0 3 8 x25 fun s27 =>
  some ((), s27)
noncomputable def sX4_comesUp_40b (k40 : Option Nat → Int32 → Mem → Option (Unit × Mem)) (v0 : Option Nat) (v1 : Int32) (σ : Mem) : Option (Unit × Mem) :=
  if (iI 8) ≤ v1 then
    some ((), σ)
  else
    gR σ v0 3 4 fun x1 =>
    gR σ v0 3 5 fun x2 =>
    aI σ x2 v1 fun x3 =>
    sI σ x1 v1 x3 fun s4 =>
    k40 v0 (v1 + iI 1) s4
noncomputable def sX4_comesUp_40 : Nat → Option Nat → Int32 → Mem → Option (Unit × Mem)
  | 0 => fun _ _ _ => none
  | f + 1 => sX4_comesUp_40b (sX4_comesUp_40 f)
noncomputable def sX4_comesUp (v0 : Option Nat) (σ : Mem) : Option (Unit × Mem) :=
  pZ σ v0 3 23 (iI 1) fun s1 =>
  pI s1 v0 3 16 (iI 0) fun s2 =>
  gI s2 v0 3 11 fun x3 =>
  pI s2 v0 3 17 x3 fun s4 =>
  pI s4 v0 3 19 (iI (-1)) fun s5 =>
  pI s5 v0 3 20 (iI 0) fun s6 =>
  pI s6 v0 3 21 (iI 0) fun s7 =>
  pI s7 v0 3 22 (iI 0) fun s8 =>
  sX4_comesUp_40 FU v0 (iI 0) s8
noncomputable def sX4_begins_37b (k37 : Option Nat → Int32 → Mem → Option (Unit × Mem)) (v0 : Option Nat) (v2 : Int32) (σ : Mem) : Option (Unit × Mem) :=
  if (iI 8) ≤ v2 then
    cV σ v0 3 <|
    cl (sX4_comesUp v0 σ) fun _ s1 =>
    some ((), s1)
  else
    gR σ v0 3 5 fun x2 =>
    sI σ x2 v2 (iI 0) fun s3 =>
    k37 v0 (v2 + iI 1) s3
noncomputable def sX4_begins_37 : Nat → Option Nat → Int32 → Mem → Option (Unit × Mem)
  | 0 => fun _ _ _ => none
  | f + 1 => sX4_begins_37b (sX4_begins_37 f)
noncomputable def sX4_begins (v0 : Option Nat) (v1 : Int32) (σ : Mem) : Option (Unit × Mem) :=
  pI σ v0 3 9 (iI 0) fun s1 =>
  pI s1 v0 3 10 (iI (-1)) fun s2 =>
  pI s2 v0 3 11 (iI 0) fun s3 =>
  pI s3 v0 3 12 (iI 0) fun s4 =>
  pI s4 v0 3 13 v1 fun s5 =>
  pI s5 v0 3 14 (iI 0) fun s6 =>
  pI s6 v0 3 15 (iI 0) fun s7 =>
  sX4_begins_37 FU v0 (iI 0) s7
noncomputable def sX4_kindAt (v0 : Option Nat) (v1 : Int32) (σ : Mem) : Option (Int32 × Mem) :=
  gR σ v0 3 1 fun x1 =>
  gI σ v0 3 11 fun x2 =>
  aI σ x1 ((v1 - x2) - (iI 1)) fun x3 =>
  some (x3, σ)
noncomputable def sX4_configAt_2b (k2 : Option Nat → Int32 → Mem → Option (Int32 × Mem)) (v0 : Option Nat) (v2 : Int32) (σ : Mem) : Option (Int32 × Mem) :=
  gI σ v0 3 11 fun x1 =>
  if v2 ≤ x1 then
    some (v2, σ)
  else
    cV σ v0 3 <|
    cl (sX4_kindAt v0 v2 σ) fun x2 s3 =>
    if x2 = (iI 1) then
      some (v2, s3)
    else
      k2 v0 (v2 + iI (-1)) s3
noncomputable def sX4_configAt_2 : Nat → Option Nat → Int32 → Mem → Option (Int32 × Mem)
  | 0 => fun _ _ _ => none
  | f + 1 => sX4_configAt_2b (sX4_configAt_2 f)
noncomputable def sX4_configAt (v0 : Option Nat) (v1 : Int32) (σ : Mem) : Option (Int32 × Mem) :=
  sX4_configAt_2 FU v0 v1 σ
noncomputable def sX4_oldAt (v0 : Option Nat) (v1 : Int32) (σ : Mem) : Option (Int32 × Mem) :=
  gI σ v0 3 11 fun x1 =>
  if v1 = x1 then
    gI σ v0 3 13 fun x5 =>
    some (x5, σ)
  else
    gR σ v0 3 2 fun x2 =>
    gI σ v0 3 11 fun x3 =>
    aI σ x2 ((v1 - x3) - (iI 1)) fun x4 =>
    some (x4, σ)
noncomputable def sX4_newAt (v0 : Option Nat) (v1 : Int32) (σ : Mem) : Option (Int32 × Mem) :=
  gI σ v0 3 11 fun x1 =>
  if v1 = x1 then
    gI σ v0 3 14 fun x5 =>
    some (x5, σ)
  else
    gR σ v0 3 3 fun x2 =>
    gI σ v0 3 11 fun x3 =>
    aI σ x2 ((v1 - x3) - (iI 1)) fun x4 =>
    some (x4, σ)
noncomputable def sX4_termAt (v0 : Option Nat) (v1 : Int32) (σ : Mem) : Option (Int32 × Mem) :=
  gI σ v0 3 11 fun x1 =>
  if v1 = x1 then
    gI σ v0 3 12 fun x5 =>
    some (x5, σ)
  else
    gR σ v0 3 0 fun x2 =>
    gI σ v0 3 11 fun x3 =>
    aI σ x2 ((v1 - x3) - (iI 1)) fun x4 =>
    some (x4, σ)
noncomputable def sX4_goes_2b (k2 : Option Nat → Int32 → Int32 → Mem → Option (Unit × Mem)) (v0 : Option Nat) (v1 : Int32) (v2 : Int32) (σ : Mem) : Option (Unit × Mem) :=
  gI σ v0 3 15 fun x1 =>
  if x1 ≤ v2 then
    gI σ v0 3 15 fun x2 =>
    pI σ v0 3 15 (x2 - v1) fun s3 =>
    some ((), s3)
  else
    gR σ v0 3 0 fun x4 =>
    gR σ v0 3 0 fun x5 =>
    aI σ x5 v2 fun x6 =>
    sI σ x4 (v2 - v1) x6 fun s7 =>
    gR s7 v0 3 1 fun x8 =>
    gR s7 v0 3 1 fun x9 =>
    aI s7 x9 v2 fun x10 =>
    sI s7 x8 (v2 - v1) x10 fun s11 =>
    gR s11 v0 3 2 fun x12 =>
    gR s11 v0 3 2 fun x13 =>
    aI s11 x13 v2 fun x14 =>
    sI s11 x12 (v2 - v1) x14 fun s15 =>
    gR s15 v0 3 3 fun x16 =>
    gR s15 v0 3 3 fun x17 =>
    aI s15 x17 v2 fun x18 =>
    sI s15 x16 (v2 - v1) x18 fun s19 =>
    k2 v0 v1 (v2 + iI 1) s19
noncomputable def sX4_goes_2 : Nat → Option Nat → Int32 → Int32 → Mem → Option (Unit × Mem)
  | 0 => fun _ _ _ _ => none
  | f + 1 => sX4_goes_2b (sX4_goes_2 f)
noncomputable def sX4_goes (v0 : Option Nat) (v1 : Int32) (σ : Mem) : Option (Unit × Mem) :=
  sX4_goes_2 FU v0 v1 v1 σ
noncomputable def sX4_compacts_46b (k46 : Option Nat → Int32 → Mem → Option (Unit × Mem)) (v0 : Option Nat) (v4 : Int32) (σ : Mem) : Option (Unit × Mem) :=
  if (iI 8) ≤ v4 then
    gI σ v0 3 17 fun x1 =>
    gI σ v0 3 11 fun x2 =>
    cV σ v0 3 <|
    cl (sX4_goes v0 (x1 - x2) σ) fun _ s3 =>
    gI s3 v0 3 17 fun x4 =>
    pI s3 v0 3 11 x4 fun s5 =>
    some ((), s5)
  else
    gR σ v0 3 5 fun x6 =>
    gR σ v0 3 4 fun x7 =>
    aI σ x7 v4 fun x8 =>
    sI σ x6 v4 x8 fun s9 =>
    k46 v0 (v4 + iI 1) s9
noncomputable def sX4_compacts_46 : Nat → Option Nat → Int32 → Mem → Option (Unit × Mem)
  | 0 => fun _ _ _ => none
  | f + 1 => sX4_compacts_46b (sX4_compacts_46 f)
noncomputable def sX4_compacts (v0 : Option Nat) (σ : Mem) : Option (Unit × Mem) :=
  gI σ v0 3 17 fun x1 =>
  cV σ v0 3 <|
  cl (sX4_configAt v0 x1 σ) fun x2 s3 =>
  cV s3 v0 3 <|
  cl (sX4_oldAt v0 x2 s3) fun x4 s5 =>
  cV s5 v0 3 <|
  cl (sX4_newAt v0 x2 s5) fun x6 s7 =>
  gI s7 v0 3 17 fun x8 =>
  cV s7 v0 3 <|
  cl (sX4_termAt v0 x8 s7) fun x9 s10 =>
  pI s10 v0 3 12 x9 fun s11 =>
  pI s11 v0 3 13 x4 fun s12 =>
  pI s12 v0 3 14 x6 fun s13 =>
  sX4_compacts_46 FU v0 (iI 0) s13
noncomputable def sX4_last (v0 : Option Nat) (σ : Mem) : Option (Int32 × Mem) :=
  gI σ v0 3 11 fun x1 =>
  gI σ v0 3 15 fun x2 =>
  some (x1 + x2, σ)
noncomputable def sX4_lays_24 (v0 : Option Nat) (v1 : Int32) (v2 : Int32) (v3 : Int32) (v4 : Int32) (σ : Mem) : Option (Int32 × Mem) :=
  gI σ v0 3 15 fun x1 =>
  if x1 = (iI 48) then
    rZ (iI 0) σ
  else
    cV σ v0 3 <|
    cl (sX4_last v0 σ) fun x2 s3 =>
    if x2 = (iI 999) then
      rZ (iI 0) s3
    else
      gR s3 v0 3 0 fun x4 =>
      gI s3 v0 3 15 fun x5 =>
      sI s3 x4 x5 v1 fun s6 =>
      gR s6 v0 3 1 fun x7 =>
      gI s6 v0 3 15 fun x8 =>
      sI s6 x7 x8 v2 fun s9 =>
      gR s9 v0 3 2 fun x10 =>
      gI s9 v0 3 15 fun x11 =>
      sI s9 x10 x11 v3 fun s12 =>
      gR s12 v0 3 3 fun x13 =>
      gI s12 v0 3 15 fun x14 =>
      sI s12 x13 x14 v4 fun s15 =>
      gI s15 v0 3 15 fun x16 =>
      pI s15 v0 3 15 (x16 + (iI 1)) fun s17 =>
      rZ (iI 1) s17
noncomputable def sX4_lays (v0 : Option Nat) (v1 : Int32) (v2 : Int32) (v3 : Int32) (v4 : Int32) (σ : Mem) : Option (Int32 × Mem) :=
  gI σ v0 3 15 fun x1 =>
  if x1 = (iI 48) then
    gI σ v0 3 17 fun x2 =>
    gI σ v0 3 11 fun x3 =>
    if x2 ≤ x3 then
      sX4_lays_24 v0 v1 v2 v3 v4 σ
    else
      cV σ v0 3 <|
      cl (sX4_compacts v0 σ) fun _ s4 =>
      sX4_lays_24 v0 v1 v2 v3 v4 s4
  else
    sX4_lays_24 v0 v1 v2 v3 v4 σ
noncomputable def sX4_olds (v0 : Option Nat) (σ : Mem) : Option (Int32 × Mem) :=
  cV σ v0 3 <|
  cl (sX4_last v0 σ) fun x1 s2 =>
  cV s2 v0 3 <|
  cl (sX4_configAt v0 x1 s2) fun x3 s4 =>
  cV s4 v0 3 <|
  cl (sX4_oldAt v0 x3 s4) fun x5 s6 =>
  some (x5, s6)
noncomputable def sX4_news (v0 : Option Nat) (σ : Mem) : Option (Int32 × Mem) :=
  cV σ v0 3 <|
  cl (sX4_last v0 σ) fun x1 s2 =>
  cV s2 v0 3 <|
  cl (sX4_configAt v0 x1 s2) fun x3 s4 =>
  cV s4 v0 3 <|
  cl (sX4_newAt v0 x3 s4) fun x5 s6 =>
  some (x5, s6)
noncomputable def sX4_members (v0 : Option Nat) (σ : Mem) : Option (Int32 × Mem) :=
  cV σ v0 3 <|
  cl (sX4_olds v0 σ) fun x1 s2 =>
  cV s2 v0 3 <|
  cl (sX4_news v0 s2) fun x3 s4 =>
  some (x1 ||| x3, s4)
noncomputable def sX4_isMore (v0 : Int32) (v1 : Int32) (σ : Mem) : Option (Int32 × Mem) :=
  cl (sJ1_bitCount (v0 &&& v1) σ) fun x1 s2 =>
  cl (sJ1_bitCount v1 s2) fun x3 s4 =>
  if ((iI 2) * x1) ≤ x3 then
    rZ (iI 0) s4
  else
    rZ (iI 1) s4
noncomputable def sX4_isMajority (v0 : Option Nat) (v1 : Int32) (σ : Mem) : Option (Int32 × Mem) :=
  cV σ v0 3 <|
  cl (sX4_olds v0 σ) fun x1 s2 =>
  cl (sX4_isMore v1 x1 s2) fun x3 s4 =>
  if x3 = (iI 0) then
    rZ (iI 0) s4
  else
    cV s4 v0 3 <|
    cl (sX4_news v0 s4) fun x5 s6 =>
    if x5 = (iI 0) then
      rZ (iI 1) s6
    else
      cV s6 v0 3 <|
      cl (sX4_news v0 s6) fun x7 s8 =>
      cl (sX4_isMore v1 x7 s8) fun x9 s10 =>
      if x9 = (iI 0) then
        rZ (iI 0) s10
      else
        rZ (iI 1) s10
noncomputable def sX4_isConfigHeld (v0 : Option Nat) (σ : Mem) : Option (Int32 × Mem) :=
  cV σ v0 3 <|
  cl (sX4_last v0 σ) fun x1 s2 =>
  cV s2 v0 3 <|
  cl (sX4_configAt v0 x1 s2) fun x3 s4 =>
  gI s4 v0 3 17 fun x5 =>
  if x5 < x3 then
    rZ (iI 0) s4
  else
    rZ (iI 1) s4
noncomputable def sX4_isNoLess (v0 : Option Nat) (v1 : Int32) (v2 : Int32) (σ : Mem) : Option (Int32 × Mem) :=
  cV σ v0 3 <|
  cl (sX4_last v0 σ) fun x1 s2 =>
  cV s2 v0 3 <|
  cl (sX4_termAt v0 x1 s2) fun x3 s4 =>
  if x3 < v1 then
    rZ (iI 1) s4
  else
    cV s4 v0 3 <|
    cl (sX4_last v0 s4) fun x5 s6 =>
    cV s6 v0 3 <|
    cl (sX4_termAt v0 x5 s6) fun x7 s8 =>
    if v1 = x7 then
      cV s8 v0 3 <|
      cl (sX4_last v0 s8) fun x9 s10 =>
      if v2 < x9 then
        rZ (iI 0) s10
      else
        rZ (iI 1) s10
    else
      rZ (iI 0) s8
noncomputable def sX4_firstOfTerm_33 (v2 : Int32) (σ : Mem) : Option (Int32 × Mem) :=
  some (mxi (iI 1) v2, σ)
noncomputable def sX4_firstOfTerm_2b (k2 : Option Nat → Int32 → Int32 → Mem → Option (Int32 × Mem)) (v0 : Option Nat) (v1 : Int32) (v2 : Int32) (σ : Mem) : Option (Int32 × Mem) :=
  gI σ v0 3 11 fun x1 =>
  if (v2 - (iI 1)) ≤ x1 then
    sX4_firstOfTerm_33 v2 σ
  else
    cV σ v0 3 <|
    cl (sX4_termAt v0 (v2 - (iI 1)) σ) fun x2 s3 =>
    cV s3 v0 3 <|
    cl (sX4_termAt v0 v1 s3) fun x4 s5 =>
    if x2 = x4 then
      k2 v0 v1 (v2 + iI (-1)) s5
    else
      sX4_firstOfTerm_33 v2 s5
noncomputable def sX4_firstOfTerm_2 : Nat → Option Nat → Int32 → Int32 → Mem → Option (Int32 × Mem)
  | 0 => fun _ _ _ _ => none
  | f + 1 => sX4_firstOfTerm_2b (sX4_firstOfTerm_2 f)
noncomputable def sX4_firstOfTerm (v0 : Option Nat) (v1 : Int32) (σ : Mem) : Option (Int32 × Mem) :=
  sX4_firstOfTerm_2 FU v0 v1 v1 σ
noncomputable def sX4_hasEntry (v0 : Option Nat) (v1 : Int32) (σ : Mem) : Option (Int32 × Mem) :=
  gI σ v0 3 11 fun x1 =>
  if v1 ≤ x1 then
    rZ (iI 0) σ
  else
    cV σ v0 3 <|
    cl (sX4_last v0 σ) fun x2 s3 =>
    if x2 < v1 then
      rZ (iI 0) s3
    else
      rZ (iI 1) s3
noncomputable def sX4_takes_224b (k224 : Option Nat → Option Nat → Int32 → Mem → Option (Unit × Mem)) (v0 : Option Nat) (v1 : Option Nat) (v2 : Int32) (σ : Mem) : Option (Unit × Mem) :=
  if (iI 7) ≤ v2 then
    some ((), σ)
  else
    gR σ v0 3 6 fun x1 =>
    gR σ v1 3 6 fun x2 =>
    aI σ x2 v2 fun x3 =>
    sI σ x1 v2 x3 fun s4 =>
    gR s4 v0 3 7 fun x5 =>
    gR s4 v1 3 7 fun x6 =>
    aI s4 x6 v2 fun x7 =>
    sI s4 x5 v2 x7 fun s8 =>
    gR s8 v0 3 8 fun x9 =>
    gR s8 v1 3 8 fun x10 =>
    aI s8 x10 v2 fun x11 =>
    sI s8 x9 v2 x11 fun s12 =>
    k224 v0 v1 (v2 + iI 1) s12
noncomputable def sX4_takes_224 : Nat → Option Nat → Option Nat → Int32 → Mem → Option (Unit × Mem)
  | 0 => fun _ _ _ _ => none
  | f + 1 => sX4_takes_224b (sX4_takes_224 f)
noncomputable def sX4_takes_186b (k186 : Option Nat → Option Nat → Int32 → Mem → Option (Unit × Mem)) (v0 : Option Nat) (v1 : Option Nat) (v2 : Int32) (σ : Mem) : Option (Unit × Mem) :=
  if (iI 8) ≤ v2 then
    sX4_takes_224 FU v0 v1 (iI 0) σ
  else
    gR σ v0 3 4 fun x1 =>
    gR σ v1 3 4 fun x2 =>
    aI σ x2 v2 fun x3 =>
    sI σ x1 v2 x3 fun s4 =>
    gR s4 v0 3 5 fun x5 =>
    gR s4 v1 3 5 fun x6 =>
    aI s4 x6 v2 fun x7 =>
    sI s4 x5 v2 x7 fun s8 =>
    k186 v0 v1 (v2 + iI 1) s8
noncomputable def sX4_takes_186 : Nat → Option Nat → Option Nat → Int32 → Mem → Option (Unit × Mem)
  | 0 => fun _ _ _ _ => none
  | f + 1 => sX4_takes_186b (sX4_takes_186 f)
noncomputable def sX4_takes_122b (k122 : Option Nat → Option Nat → Int32 → Mem → Option (Unit × Mem)) (v0 : Option Nat) (v1 : Option Nat) (v2 : Int32) (σ : Mem) : Option (Unit × Mem) :=
  gI σ v0 3 15 fun x1 =>
  if x1 ≤ v2 then
    sX4_takes_186 FU v0 v1 (iI 0) σ
  else
    gR σ v0 3 0 fun x2 =>
    gR σ v1 3 0 fun x3 =>
    aI σ x3 v2 fun x4 =>
    sI σ x2 v2 x4 fun s5 =>
    gR s5 v0 3 1 fun x6 =>
    gR s5 v1 3 1 fun x7 =>
    aI s5 x7 v2 fun x8 =>
    sI s5 x6 v2 x8 fun s9 =>
    gR s9 v0 3 2 fun x10 =>
    gR s9 v1 3 2 fun x11 =>
    aI s9 x11 v2 fun x12 =>
    sI s9 x10 v2 x12 fun s13 =>
    gR s13 v0 3 3 fun x14 =>
    gR s13 v1 3 3 fun x15 =>
    aI s13 x15 v2 fun x16 =>
    sI s13 x14 v2 x16 fun s17 =>
    k122 v0 v1 (v2 + iI 1) s17
noncomputable def sX4_takes_122 : Nat → Option Nat → Option Nat → Int32 → Mem → Option (Unit × Mem)
  | 0 => fun _ _ _ _ => none
  | f + 1 => sX4_takes_122b (sX4_takes_122 f)
noncomputable def sX4_takes (v0 : Option Nat) (v1 : Option Nat) (σ : Mem) : Option (Unit × Mem) :=
  gI σ v1 3 9 fun x1 =>
  pI σ v0 3 9 x1 fun s2 =>
  gI s2 v1 3 10 fun x3 =>
  pI s2 v0 3 10 x3 fun s4 =>
  gI s4 v1 3 11 fun x5 =>
  pI s4 v0 3 11 x5 fun s6 =>
  gI s6 v1 3 12 fun x7 =>
  pI s6 v0 3 12 x7 fun s8 =>
  gI s8 v1 3 13 fun x9 =>
  pI s8 v0 3 13 x9 fun s10 =>
  gI s10 v1 3 14 fun x11 =>
  pI s10 v0 3 14 x11 fun s12 =>
  gI s12 v1 3 15 fun x13 =>
  pI s12 v0 3 15 x13 fun s14 =>
  gI s14 v1 3 16 fun x15 =>
  pI s14 v0 3 16 x15 fun s16 =>
  gI s16 v1 3 17 fun x17 =>
  pI s16 v0 3 17 x17 fun s18 =>
  gI s18 v1 3 18 fun x19 =>
  pI s18 v0 3 18 x19 fun s20 =>
  gI s20 v1 3 19 fun x21 =>
  pI s20 v0 3 19 x21 fun s22 =>
  gI s22 v1 3 20 fun x23 =>
  pI s22 v0 3 20 x23 fun s24 =>
  gI s24 v1 3 21 fun x25 =>
  pI s24 v0 3 21 x25 fun s26 =>
  gI s26 v1 3 22 fun x27 =>
  pI s26 v0 3 22 x27 fun s28 =>
  gI s28 v1 3 23 fun x29 =>
  pZ s28 v0 3 23 x29 fun s30 =>
  sX4_takes_122 FU v0 v1 (iI 0) s30
noncomputable def sX4_isAlike (v0 : Option Nat) (v1 : Option Nat) (v2 : Int32) (σ : Mem) : Option (Int32 × Mem) :=
  cV σ v0 3 <|
  cl (sX4_termAt v0 v2 σ) fun x1 s2 =>
  cV s2 v1 3 <|
  cl (sX4_termAt v1 v2 s2) fun x3 s4 =>
  if x1 = x3 then
    cV s4 v0 3 <|
    cl (sX4_kindAt v0 v2 s4) fun x5 s6 =>
    cV s6 v1 3 <|
    cl (sX4_kindAt v1 v2 s6) fun x7 s8 =>
    if x5 = x7 then
      gR s8 v0 3 2 fun x9 =>
      gI s8 v0 3 11 fun x10 =>
      aI s8 x9 ((v2 - x10) - (iI 1)) fun x11 =>
      gR s8 v1 3 2 fun x12 =>
      gI s8 v1 3 11 fun x13 =>
      aI s8 x12 ((v2 - x13) - (iI 1)) fun x14 =>
      if x11 = x14 then
        gR s8 v0 3 3 fun x15 =>
        gI s8 v0 3 11 fun x16 =>
        aI s8 x15 ((v2 - x16) - (iI 1)) fun x17 =>
        gR s8 v1 3 3 fun x18 =>
        gI s8 v1 3 11 fun x19 =>
        aI s8 x18 ((v2 - x19) - (iI 1)) fun x20 =>
        if x17 = x20 then
          rZ (iI 1) s8
        else
          rZ (iI 0) s8
      else
        rZ (iI 0) s8
    else
      rZ (iI 0) s8
  else
    rZ (iI 0) s4
/-! SHALLOW FUNCTIONS, printed by gen.py out of the bytecode -/
noncomputable def sX1_init (v0 : Option Nat) (σ : Mem) : Option (Unit × Mem) :=
  cI σ v0 <|
  some ((), σ)
noncomputable def sX2_init (v0 : Option Nat) (σ : Mem) : Option (Unit × Mem) :=
  cI σ v0 <|
  cl (sX1_init v0 σ) fun _ s1 =>
  some ((), s1)
noncomputable def sX3_init_90b (k90 : Option Nat → Int32 → Mem → Option (Unit × Mem)) (v0 : Option Nat) (v2 : Int32) (σ : Mem) : Option (Unit × Mem) :=
  if (iI 7) ≤ v2 then
    some ((), σ)
  else
    gR σ v0 2 0 fun x1 =>
    nO σ 3 24 fun x2 s3 =>
    cI s3 x2 <|
    cl (sX4_init x2 s3) fun _ s4 =>
    sR s4 x1 23 v2 3 x2 fun s5 =>
    k90 v0 (v2 + iI 1) s5
noncomputable def sX3_init_90 : Nat → Option Nat → Int32 → Mem → Option (Unit × Mem)
  | 0 => fun _ _ _ => none
  | f + 1 => sX3_init_90b (sX3_init_90 f)
noncomputable def sX3_init (v0 : Option Nat) (v1 : Option Nat) (σ : Mem) : Option (Unit × Mem) :=
  pR σ v0 2 16 v1 fun s1 =>
  cI s1 v0 <|
  nA s1 23 (iI 7) fun x2 s3 =>
  pR s3 v0 2 0 x2 fun s4 =>
  nM s4 (iI 160) (iI 32) fun x5 s6 =>
  pR s6 v0 2 1 x5 fun s7 =>
  nM s7 (iI 1000) (iI 4) fun x8 s9 =>
  pR s9 v0 2 2 x8 fun s10 =>
  nM s10 (iI 16) (iI 6) fun x11 s12 =>
  pR s12 v0 2 3 x11 fun s13 =>
  nA s13 20 (iI 7) fun x14 s15 =>
  pR s15 v0 2 4 x14 fun s16 =>
  nA s16 20 (iI 1000) fun x17 s18 =>
  pR s18 v0 2 5 x17 fun s19 =>
  nA s19 20 (iI 32) fun x20 s21 =>
  pR s21 v0 2 6 x20 fun s22 =>
  nA s22 20 (iI 32) fun x23 s24 =>
  pR s24 v0 2 15 x23 fun s25 =>
  sX3_init_90 FU v0 (iI 0) s25
noncomputable def sX5_init (v0 : Option Nat) (σ : Mem) : Option (Unit × Mem) :=
  cI σ v0 <|
  nA σ 20 (iI 16) fun x1 s2 =>
  pR s2 v0 4 0 x1 fun s3 =>
  nA s3 24 (iI 16) fun x4 s5 =>
  pR s5 v0 4 1 x4 fun s6 =>
  nA s6 25 (iI 16) fun x7 s8 =>
  pR s8 v0 4 2 x7 fun s9 =>
  some ((), s9)
noncomputable def sX3_draw (v0 : Option Nat) (σ : Mem) : Option (Int32 × Mem) :=
  gI σ v0 2 9 fun x1 =>
  rm (((iI 25173) * x1) + (iI 13849)) (iI 65536) fun x2 =>
  pI σ v0 2 9 x2 fun s3 =>
  gI s3 v0 2 9 fun x4 =>
  rm x4 (iI 10) fun x5 =>
  some (x5, s3)
noncomputable def sX2_of (v0 : Option Nat) (v1 : Int32) (v2 : Int32) (v3 : Int32) (v4 : Int32) (σ : Mem) : Option (Option Nat × Mem) :=
  pI σ v0 1 1 v1 fun s1 =>
  pI s1 v0 1 2 v2 fun s2 =>
  pI s2 v0 1 3 v3 fun s3 =>
  rm v4 (iI 100) fun x4 =>
  pI s3 v0 1 4 x4 fun s5 =>
  some (v0, s5)
noncomputable def sX2_on (v0 : Option Nat) (v1 : Int32) (v2 : Int32) (v3 : Int32) (σ : Mem) : Option (Option Nat × Mem) :=
  pI σ v0 1 5 v1 fun s1 =>
  rm v2 (iI 100) fun x2 =>
  pI s1 v0 1 6 x2 fun s3 =>
  pI s3 v0 1 7 v3 fun s4 =>
  some (v0, s4)
noncomputable def sX10_worth (v0 : Option Nat) (v1 : Option Nat) (σ : Mem) : Option (Int32 × Mem) :=
  gI σ v0 8 0 fun x1 =>
  some (x1, σ)
noncomputable def sX2_value (v0 : Option Nat) (v1 : Int32) (σ : Mem) : Option (Int32 × Mem) :=
  if v1 = iI 102 then
    gI σ v0 1 1 fun x1 =>
    some (x1, σ)
  else
    if v1 = iI 103 then
      gI σ v0 1 7 fun x2 =>
      some (x2, σ)
    else
      if v1 = iI 104 then
        gI σ v0 1 7 fun x3 =>
        some (x3, σ)
      else
        if v1 = iI 105 then
          gI σ v0 1 7 fun x4 =>
          some (x4, σ)
        else
          if v1 = iI 106 then
            gI σ v0 1 7 fun x5 =>
            some (x5, σ)
          else
            if v1 = iI 107 then
              gI σ v0 1 3 fun x6 =>
              some (x6, σ)
            else
              if v1 = iI 108 then
                gI σ v0 1 7 fun x7 =>
                some (x7, σ)
              else
                if v1 = iI 109 then
                  gI σ v0 1 7 fun x8 =>
                  some (x8, σ)
                else
                  if v1 = iI 110 then
                    gI σ v0 1 4 fun x9 =>
                    some (x9, σ)
                  else
                    if v1 = iI 111 then
                      gI σ v0 1 7 fun x10 =>
                      some (x10, σ)
                    else
                      if v1 = iI 112 then
                        gI σ v0 1 7 fun x11 =>
                        some (x11, σ)
                      else
                        if v1 = iI 113 then
                          gI σ v0 1 5 fun x12 =>
                          some (x12, σ)
                        else
                          if v1 = iI 114 then
                            gI σ v0 1 7 fun x13 =>
                            some (x13, σ)
                          else
                            if v1 = iI 115 then
                              gI σ v0 1 6 fun x14 =>
                              some (x14, σ)
                            else
                              if v1 = iI 116 then
                                gI σ v0 1 2 fun x15 =>
                                some (x15, σ)
                              else
                                gI σ v0 1 7 fun x16 =>
                                some (x16, σ)
noncomputable def sX11_worth (v0 : Option Nat) (v1 : Option Nat) (σ : Mem) : Option (Int32 × Mem) :=
  gI σ v0 9 0 fun x1 =>
  cl (if kdO σ v1 = 1 then sX2_value v1 x1 σ else none) fun x2 s3 =>
  some (x2, s3)
noncomputable def sX7_worked_53 (v0 : Int32) (v1 : Int32) (v2 : Int32) (σ : Mem) : Option (Int32 × Mem) :=
  if v2 = (iI 0) then
    some (iI 0, σ)
  else
    if v0 = (iI 47) then
      dv v1 v2 fun x2 =>
      some (x2, σ)
    else
      rm v1 v2 fun x1 =>
      some (x1, σ)
noncomputable def sX7_worked_44 (v0 : Int32) (v1 : Int32) (v2 : Int32) (v3 : Option Nat) (σ : Mem) : Option (Int32 × Mem) :=
  if v2 = (iI 0) then
    pZ σ v3 1 0 (iI 1) fun s1 =>
    sX7_worked_53 v0 v1 v2 s1
  else
    sX7_worked_53 v0 v1 v2 σ
noncomputable def sX7_worked (v0 : Int32) (v1 : Int32) (v2 : Int32) (v3 : Option Nat) (σ : Mem) : Option (Int32 × Mem) :=
  if v0 = iI 42 then
    some (v1 * v2, σ)
  else
    if v0 = iI 43 then
      some (v1 + v2, σ)
    else
      if v0 = iI 44 then
        sX7_worked_44 v0 v1 v2 v3 σ
      else
        if v0 = iI 45 then
          some (v1 - v2, σ)
        else
          sX7_worked_44 v0 v1 v2 v3 σ
noncomputable def sX7_worth_14b (rX7_worth : Option Nat → Option Nat → Mem → Option (Int32 × Mem)) (k14 : Option Nat → Int32 → Option Nat → Mem → Option (Int32 × Mem)) (v1 : Option Nat) (v2 : Int32) (v3 : Option Nat) (σ : Mem) : Option (Int32 × Mem) :=
  if v3 = none then
    some (v2, σ)
  else
    gI σ v3 5 0 fun x1 =>
    gR σ v3 5 1 fun x2 =>
    cl (if kdO σ x2 = 5 then rX7_worth x2 v1 σ else if kdO σ x2 = 8 then sX10_worth x2 v1 σ else if kdO σ x2 = 9 then sX11_worth x2 v1 σ else none) fun x3 s4 =>
    cl (sX7_worked x1 v2 x3 v1 s4) fun x5 s6 =>
    gR s6 v3 5 2 fun x7 =>
    k14 v1 x5 x7 s6
noncomputable def sX7_worth_14 (rX7_worth : Option Nat → Option Nat → Mem → Option (Int32 × Mem)) : Nat → Option Nat → Int32 → Option Nat → Mem → Option (Int32 × Mem)
  | 0 => fun _ _ _ _ => none
  | f + 1 => sX7_worth_14b rX7_worth (sX7_worth_14 rX7_worth f)
noncomputable def sX7_worth_0 (rX7_worth : Option Nat → Option Nat → Mem → Option (Int32 × Mem)) (v0 : Option Nat) (v1 : Option Nat) (σ : Mem) : Option (Int32 × Mem) :=
  gR σ v0 5 1 fun x1 =>
  cl (if kdO σ x1 = 5 then rX7_worth x1 v1 σ else if kdO σ x1 = 8 then sX10_worth x1 v1 σ else if kdO σ x1 = 9 then sX11_worth x1 v1 σ else none) fun x2 s3 =>
  gR s3 v0 5 2 fun x4 =>
  sX7_worth_14 rX7_worth FU v1 x2 x4 s3
noncomputable def gX7_worth : Nat → (Option Nat → Option Nat → Mem → Option (Int32 × Mem))
  | 0 => (fun _ _ _ => none)
  | d + 1 => (sX7_worth_0 ((gX7_worth d)))
noncomputable def sX7_worth (d : Nat) : Option Nat → Option Nat → Mem → Option (Int32 × Mem) := (gX7_worth d)
noncomputable def sX15_holds_77 (v1 : Option Nat) (t0 : Int32) (σ : Mem) : Option (Int32 × Mem) :=
  gI σ v1 1 0 fun x1 =>
  if x1 = (iI 0) then
    if t0 = (iI 0) then
      some (iI 0, σ)
    else
      some (iI 1, σ)
  else
    some (iI 2, σ)
noncomputable def sX15_holds (v0 : Option Nat) (v1 : Option Nat) (σ : Mem) : Option (Int32 × Mem) :=
  pZ σ v1 1 0 (iI 0) fun s1 =>
  gR s1 v0 12 0 fun x2 =>
  cl (if kdO s1 x2 = 5 then sX7_worth 40 x2 v1 s1 else if kdO s1 x2 = 8 then sX10_worth x2 v1 s1 else if kdO s1 x2 = 9 then sX11_worth x2 v1 s1 else none) fun x3 s4 =>
  gR s4 v0 12 1 fun x5 =>
  cl (if kdO s4 x5 = 5 then sX7_worth 40 x5 v1 s4 else if kdO s4 x5 = 8 then sX10_worth x5 v1 s4 else if kdO s4 x5 = 9 then sX11_worth x5 v1 s4 else none) fun x6 s7 =>
  gI s7 v0 12 2 fun x8 =>
  if x8 = (iI 60) then
    if x6 ≤ x3 then
      sX15_holds_77 v1 (iI 0) s7
    else
      sX15_holds_77 v1 (iI 1) s7
  else
    gI s7 v0 12 2 fun x9 =>
    if x9 = (iI 62) then
      if x3 ≤ x6 then
        sX15_holds_77 v1 (iI 0) s7
      else
        sX15_holds_77 v1 (iI 1) s7
    else
      if x3 = x6 then
        sX15_holds_77 v1 (iI 1) s7
      else
        sX15_holds_77 v1 (iI 0) s7
noncomputable def sX13_holds_2b (rX13_holds : Option Nat → Option Nat → Mem → Option (Int32 × Mem)) (rX14_holds : Option Nat → Option Nat → Mem → Option (Int32 × Mem)) (k2 : Option Nat → Option Nat → Option Nat → Mem → Option (Int32 × Mem)) (v0 : Option Nat) (v1 : Option Nat) (v2 : Option Nat) (σ : Mem) : Option (Int32 × Mem) :=
  if v2 = none then
    gI σ v0 10 1 fun x1 =>
    some ((iI 1) - x1, σ)
  else
    gR σ v2 10 0 fun x2 =>
    cl (if kdO σ x2 = 10 then rX13_holds x2 v1 σ else if kdO σ x2 = 11 then rX14_holds x2 v1 σ else if kdO σ x2 = 12 then sX15_holds x2 v1 σ else none) fun x3 s4 =>
    if x3 = (iI 2) then
      some (x3, s4)
    else
      gI s4 v0 10 1 fun x5 =>
      if x3 = x5 then
        some (x3, s4)
      else
        gR s4 v2 10 2 fun x6 =>
        k2 v0 v1 x6 s4
noncomputable def sX13_holds_2 (rX13_holds : Option Nat → Option Nat → Mem → Option (Int32 × Mem)) (rX14_holds : Option Nat → Option Nat → Mem → Option (Int32 × Mem)) : Nat → Option Nat → Option Nat → Option Nat → Mem → Option (Int32 × Mem)
  | 0 => fun _ _ _ _ => none
  | f + 1 => sX13_holds_2b rX13_holds rX14_holds (sX13_holds_2 rX13_holds rX14_holds f)
noncomputable def sX13_holds_0 (rX13_holds : Option Nat → Option Nat → Mem → Option (Int32 × Mem)) (rX14_holds : Option Nat → Option Nat → Mem → Option (Int32 × Mem)) (v0 : Option Nat) (v1 : Option Nat) (σ : Mem) : Option (Int32 × Mem) :=
  sX13_holds_2 rX13_holds rX14_holds FU v0 v1 v0 σ
noncomputable def sX14_holds_0 (rX13_holds : Option Nat → Option Nat → Mem → Option (Int32 × Mem)) (rX14_holds : Option Nat → Option Nat → Mem → Option (Int32 × Mem)) (v0 : Option Nat) (v1 : Option Nat) (σ : Mem) : Option (Int32 × Mem) :=
  gR σ v0 11 0 fun x1 =>
  cl (if kdO σ x1 = 10 then rX13_holds x1 v1 σ else if kdO σ x1 = 11 then rX14_holds x1 v1 σ else if kdO σ x1 = 12 then sX15_holds x1 v1 σ else none) fun x2 s3 =>
  if x2 = (iI 2) then
    some (iI 2, s3)
  else
    some ((iI 1) - x2, s3)
noncomputable def gX13_holds : Nat → (Option Nat → Option Nat → Mem → Option (Int32 × Mem)) × (Option Nat → Option Nat → Mem → Option (Int32 × Mem))
  | 0 => (fun _ _ _ => none, fun _ _ _ => none)
  | d + 1 => (sX13_holds_0 ((gX13_holds d).1) ((gX13_holds d).2), sX14_holds_0 ((gX13_holds d).1) ((gX13_holds d).2))
noncomputable def sX13_holds (d : Nat) : Option Nat → Option Nat → Mem → Option (Int32 × Mem) := (gX13_holds d).1
noncomputable def sX14_holds (d : Nat) : Option Nat → Option Nat → Mem → Option (Int32 × Mem) := (gX13_holds d).2
noncomputable def sX6_told (v0 : Option Nat) (v1 : Option Nat) (σ : Mem) : Option (Int32 × Mem) :=
  pZ σ v1 1 0 (iI 0) fun s1 =>
  cl (if kdO s1 v0 = 5 then sX7_worth 40 v0 v1 s1 else if kdO s1 v0 = 8 then sX10_worth v0 v1 s1 else if kdO s1 v0 = 9 then sX11_worth v0 v1 s1 else none) fun x2 s3 =>
  gI s3 v1 1 0 fun x4 =>
  if x4 = (iI 0) then
    some (x2, s3)
  else
    some (iI 0, s3)
noncomputable def sX5_tells_50 (k3 : Option Nat → Int32 → Int32 → Option Nat → Int32 → Mem → Option (Int32 × Mem)) (v0 : Option Nat) (v1 : Int32) (v2 : Int32) (v3 : Option Nat) (v4 : Int32) (σ : Mem) : Option (Int32 × Mem) :=
  k3 v0 v1 v2 v3 (v4 + iI 1) σ
noncomputable def sX5_tells_3b (k3 : Option Nat → Int32 → Int32 → Option Nat → Int32 → Mem → Option (Int32 × Mem)) (v0 : Option Nat) (v1 : Int32) (v2 : Int32) (v3 : Option Nat) (v4 : Int32) (σ : Mem) : Option (Int32 × Mem) :=
  gI σ v0 4 3 fun x1 =>
  if x1 ≤ v4 then
    some (v2, σ)
  else
    gR σ v0 4 0 fun x2 =>
    aI σ x2 v4 fun x3 =>
    if x3 = v1 then
      gR σ v0 4 2 fun x4 =>
      aR σ x4 25 v4 fun x5 =>
      cl (if kdO σ x5 = 10 then sX13_holds 40 x5 v3 σ else if kdO σ x5 = 11 then sX14_holds 40 x5 v3 σ else if kdO σ x5 = 12 then sX15_holds x5 v3 σ else none) fun x6 s7 =>
      if x6 = (iI 1) then
        gR s7 v0 4 1 fun x8 =>
        aR s7 x8 24 v4 fun x9 =>
        cl (if kdO s7 x9 = 5 then sX6_told x9 v3 s7 else if kdO s7 x9 = 8 then sX6_told x9 v3 s7 else if kdO s7 x9 = 9 then sX6_told x9 v3 s7 else none) fun x10 s11 =>
        some (x10, s11)
      else
        sX5_tells_50 k3 v0 v1 v2 v3 v4 s7
    else
      sX5_tells_50 k3 v0 v1 v2 v3 v4 σ
noncomputable def sX5_tells_3 : Nat → Option Nat → Int32 → Int32 → Option Nat → Int32 → Mem → Option (Int32 × Mem)
  | 0 => fun _ _ _ _ _ _ => none
  | f + 1 => sX5_tells_3b (sX5_tells_3 f)
noncomputable def sX5_tells (v0 : Option Nat) (v1 : Int32) (v2 : Int32) (v3 : Option Nat) (σ : Mem) : Option (Int32 × Mem) :=
  sX5_tells_3 FU v0 v1 v2 v3 (iI 0) σ
noncomputable def sX3_setsTimer (v0 : Option Nat) (v1 : Int32) (σ : Mem) : Option (Unit × Mem) :=
  cV σ v0 2 <|
  cl (sX3_draw v0 σ) fun x1 s2 =>
  gR s2 v0 2 16 fun x3 =>
  gR s2 x3 0 0 fun x4 =>
  gR s2 v0 2 0 fun x5 =>
  aR s2 x5 23 v1 fun x6 =>
  gI s2 x6 3 9 fun x7 =>
  cV s2 x4 1 <|
  cl (sX2_of x4 v1 v1 (iI 6) x7 s2) fun x8 s9 =>
  gI s9 v0 2 7 fun x10 =>
  gI s9 v0 2 8 fun x11 =>
  cV s9 x8 1 <|
  cl (sX2_on x8 x10 x11 x1 s9) fun x12 s13 =>
  gR s13 v0 2 0 fun x14 =>
  aR s13 x14 23 v1 fun x15 =>
  gR s13 v0 2 16 fun x16 =>
  gR s13 x16 0 5 fun x17 =>
  cV s13 x17 4 <|
  cl (sX5_tells x17 (iI 101) (iI 8) x12 s13) fun x18 s19 =>
  pI s19 x15 3 18 ((mxi (iI 4) (mni (iI 40) x18)) + x1) fun s20 =>
  some ((), s20)
noncomputable def sX3_founded_85b (k85 : Option Nat → Int32 → Mem → Option (Unit × Mem)) (v0 : Option Nat) (v2 : Int32) (σ : Mem) : Option (Unit × Mem) :=
  if (iI 7) ≤ v2 then
    some ((), σ)
  else
    cV σ v0 2 <|
    cl (sX3_setsTimer v0 v2 σ) fun _ s1 =>
    k85 v0 (v2 + iI 1) s1
noncomputable def sX3_founded_85 : Nat → Option Nat → Int32 → Mem → Option (Unit × Mem)
  | 0 => fun _ _ _ => none
  | f + 1 => sX3_founded_85b (sX3_founded_85 f)
noncomputable def sX3_founded_54b (k54 : Option Nat → Int32 → Int32 → Mem → Option (Unit × Mem)) (v0 : Option Nat) (v1 : Int32) (v2 : Int32) (σ : Mem) : Option (Unit × Mem) :=
  if (iI 7) ≤ v2 then
    sX3_founded_85 FU v0 (iI 0) σ
  else
    gR σ v0 2 4 fun x1 =>
    sI σ x1 v2 (iI 0) fun s2 =>
    gR s2 v0 2 0 fun x3 =>
    aR s2 x3 23 v2 fun x4 =>
    cV s2 x4 3 <|
    cl (sX4_begins x4 v1 s2) fun _ s5 =>
    k54 v0 v1 (v2 + iI 1) s5
noncomputable def sX3_founded_54 : Nat → Option Nat → Int32 → Int32 → Mem → Option (Unit × Mem)
  | 0 => fun _ _ _ _ => none
  | f + 1 => sX3_founded_54b (sX3_founded_54 f)
noncomputable def sX3_founded_32b (k32 : Option Nat → Int32 → Int32 → Mem → Option (Unit × Mem)) (v0 : Option Nat) (v1 : Int32) (v2 : Int32) (σ : Mem) : Option (Unit × Mem) :=
  if (iI 1000) ≤ v2 then
    sX3_founded_54 FU v0 v1 (iI 0) σ
  else
    gR σ v0 2 5 fun x1 =>
    sI σ x1 v2 (iI (-1)) fun s2 =>
    k32 v0 v1 (v2 + iI 1) s2
noncomputable def sX3_founded_32 : Nat → Option Nat → Int32 → Int32 → Mem → Option (Unit × Mem)
  | 0 => fun _ _ _ _ => none
  | f + 1 => sX3_founded_32b (sX3_founded_32 f)
noncomputable def sX3_founded (v0 : Option Nat) (v1 : Int32) (σ : Mem) : Option (Unit × Mem) :=
  pI σ v0 2 7 (iI 0) fun s1 =>
  pI s1 v0 2 8 (iI 0) fun s2 =>
  pI s2 v0 2 10 (iI 0) fun s3 =>
  pI s3 v0 2 11 (iI 0) fun s4 =>
  pI s4 v0 2 12 (iI 0) fun s5 =>
  pI s5 v0 2 14 (iI 0) fun s6 =>
  sX3_founded_32 FU v0 v1 (iI 0) s6
noncomputable def sX0_init (v0 : Option Nat) (σ : Mem) : Option (Unit × Mem) :=
  cI σ v0 <|
  nO σ 1 8 fun x1 s2 =>
  cI s2 x1 <|
  cl (sX2_init x1 s2) fun _ s3 =>
  pR s3 v0 0 0 x1 fun s4 =>
  nO s4 2 17 fun x5 s6 =>
  cI s6 x5 <|
  cl (sX3_init x5 v0 s6) fun _ s7 =>
  pR s7 v0 0 1 x5 fun s8 =>
  nO s8 2 17 fun x9 s10 =>
  cI s10 x9 <|
  cl (sX3_init x9 v0 s10) fun _ s11 =>
  pR s11 v0 0 2 x9 fun s12 =>
  nO s12 2 17 fun x13 s14 =>
  cI s14 x13 <|
  cl (sX3_init x13 v0 s14) fun _ s15 =>
  pR s15 v0 0 3 x13 fun s16 =>
  nA s16 21 (iI 260) fun x17 s18 =>
  pR s18 v0 0 4 x17 fun s19 =>
  nO s19 4 4 fun x20 s21 =>
  cI s21 x20 <|
  cl (sX5_init x20 s21) fun _ s22 =>
  pR s22 v0 0 5 x20 fun s23 =>
  gR s23 v0 0 1 fun x24 =>
  pI s23 x24 2 9 (iI 1) fun s25 =>
  gR s25 v0 0 1 fun x26 =>
  cV s25 x26 2 <|
  cl (sX3_founded x26 (iI 7) s25) fun _ s27 =>
  some ((), s27)
noncomputable def sX0_within (v0 : Int32) (v1 : Int32) (v2 : Int32) (σ : Mem) : Option (Int32 × Mem) :=
  if v0 < v1 then
    rZ (iI 0) σ
  else
    if v2 < v0 then
      rZ (iI 0) σ
    else
      rZ (iI 1) σ
noncomputable def sX0_found (v0 : Option Nat) (v1 : Int32) (σ : Mem) : Option (Int32 × Mem) :=
  cl (sX0_within v1 (iI 1) (iI 127) σ) fun x1 s2 =>
  if x1 = (iI 0) then
    rZ (iI 0) s2
  else
    gR s2 v0 0 1 fun x3 =>
    cV s2 x3 2 <|
    cl (sX3_founded x3 v1 s2) fun _ s4 =>
    rZ (iI 1) s4
noncomputable def sX0_in (v0 : Int32) (v1 : Int32) (σ : Mem) : Option (Int32 × Mem) :=
  if v0 < (iI 0) then
    rZ (iI 0) σ
  else
    if v1 ≤ v0 then
      rZ (iI 0) σ
    else
      rZ (iI 1) σ
noncomputable def sX0_isNode (v0 : Int32) (σ : Mem) : Option (Int32 × Mem) :=
  cl (sX0_in v0 (iI 7) σ) fun x1 s2 =>
  rZ x1 s2
noncomputable def sX3_losesReads_42 (k2 : Option Nat → Int32 → Int32 → Mem → Option (Unit × Mem)) (v0 : Option Nat) (v1 : Int32) (v2 : Int32) (σ : Mem) : Option (Unit × Mem) :=
  k2 v0 v1 (v2 + iI 1) σ
noncomputable def sX3_losesReads_2b (k2 : Option Nat → Int32 → Int32 → Mem → Option (Unit × Mem)) (v0 : Option Nat) (v1 : Int32) (v2 : Int32) (σ : Mem) : Option (Unit × Mem) :=
  gI σ v0 2 14 fun x1 =>
  if x1 ≤ v2 then
    some ((), σ)
  else
    gR σ v0 2 3 fun x2 =>
    aR σ x2 22 v2 fun x3 =>
    aI σ x3 (iI 0) fun x4 =>
    if x4 = v1 then
      gR σ v0 2 3 fun x5 =>
      aR σ x5 22 v2 fun x6 =>
      aI σ x6 (iI 4) fun x7 =>
      if x7 = (iI 0) then
        gR σ v0 2 3 fun x8 =>
        aR σ x8 22 v2 fun x9 =>
        sI σ x9 (iI 4) (iI 2) fun s10 =>
        sX3_losesReads_42 k2 v0 v1 v2 s10
      else
        sX3_losesReads_42 k2 v0 v1 v2 σ
    else
      sX3_losesReads_42 k2 v0 v1 v2 σ
noncomputable def sX3_losesReads_2 : Nat → Option Nat → Int32 → Int32 → Mem → Option (Unit × Mem)
  | 0 => fun _ _ _ _ => none
  | f + 1 => sX3_losesReads_2b (sX3_losesReads_2 f)
noncomputable def sX3_losesReads (v0 : Option Nat) (v1 : Int32) (σ : Mem) : Option (Unit × Mem) :=
  sX3_losesReads_2 FU v0 v1 (iI 0) σ
noncomputable def sX0_crash (v0 : Option Nat) (v1 : Int32) (σ : Mem) : Option (Int32 × Mem) :=
  cl (sX0_isNode v1 σ) fun x1 s2 =>
  if x1 = (iI 0) then
    rZ (iI 0) s2
  else
    gR s2 v0 0 1 fun x3 =>
    gR s2 x3 2 0 fun x4 =>
    aR s2 x4 23 v1 fun x5 =>
    gI s2 x5 3 23 fun x6 =>
    if x6 = (iI 0) then
      rZ (iI 0) s2
    else
      gR s2 v0 0 1 fun x7 =>
      cV s2 x7 2 <|
      cl (sX3_losesReads x7 v1 s2) fun _ s8 =>
      gR s8 v0 0 1 fun x9 =>
      gR s8 x9 2 0 fun x10 =>
      aR s8 x10 23 v1 fun x11 =>
      pZ s8 x11 3 23 (iI 0) fun s12 =>
      gR s12 v0 0 1 fun x13 =>
      gR s12 x13 2 0 fun x14 =>
      aR s12 x14 23 v1 fun x15 =>
      pI s12 x15 3 16 (iI 0) fun s16 =>
      rZ (iI 1) s16
noncomputable def sX0_comeUp (v0 : Option Nat) (v1 : Int32) (σ : Mem) : Option (Int32 × Mem) :=
  cl (sX0_isNode v1 σ) fun x1 s2 =>
  if x1 = (iI 0) then
    rZ (iI 0) s2
  else
    gR s2 v0 0 1 fun x3 =>
    gR s2 x3 2 0 fun x4 =>
    aR s2 x4 23 v1 fun x5 =>
    gI s2 x5 3 23 fun x6 =>
    if x6 = (iI 0) then
      gR s2 v0 0 1 fun x7 =>
      gR s2 x7 2 0 fun x8 =>
      aR s2 x8 23 v1 fun x9 =>
      cV s2 x9 3 <|
      cl (sX4_comesUp x9 s2) fun _ s10 =>
      gR s10 v0 0 1 fun x11 =>
      cV s10 x11 2 <|
      cl (sX3_setsTimer x11 v1 s10) fun _ s12 =>
      rZ (iI 1) s12
    else
      rZ (iI 0) s2
noncomputable def sX0_cut_64 (v0 : Option Nat) (v1 : Int32) (v2 : Int32) (v3 : Int32) (t0 : Option Nat) (t1 : Int32) (t2 : Int32) (σ : Mem) : Option (Int32 × Mem) :=
  sI σ t0 t1 t2 fun s1 =>
  gR s1 v0 0 1 fun x2 =>
  gR s1 x2 2 4 fun x3 =>
  if v3 = (iI 0) then
    gR s1 v0 0 1 fun x4 =>
    gR s1 x4 2 4 fun x5 =>
    aI s1 x5 v2 fun x6 =>
    sI s1 x3 v2 (x6 &&& (((iI 1) <<< (v1 &&& 31)) ^^^ (iI (-1)))) fun s7 =>
    rZ (iI 1) s7
  else
    gR s1 v0 0 1 fun x8 =>
    gR s1 x8 2 4 fun x9 =>
    aI s1 x9 v2 fun x10 =>
    sI s1 x3 v2 (x10 ||| ((iI 1) <<< (v1 &&& 31))) fun s11 =>
    rZ (iI 1) s11
noncomputable def sX0_cut (v0 : Option Nat) (v1 : Int32) (v2 : Int32) (v3 : Int32) (σ : Mem) : Option (Int32 × Mem) :=
  cl (sX0_isNode v1 σ) fun x1 s2 =>
  if x1 = (iI 0) then
    rZ (iI 0) s2
  else
    cl (sX0_isNode v2 s2) fun x3 s4 =>
    if x3 = (iI 0) then
      rZ (iI 0) s4
    else
      if v1 = v2 then
        rZ (iI 0) s4
      else
        gR s4 v0 0 1 fun x5 =>
        gR s4 x5 2 4 fun x6 =>
        if v3 = (iI 0) then
          gR s4 v0 0 1 fun x7 =>
          gR s4 x7 2 4 fun x8 =>
          aI s4 x8 v1 fun x9 =>
          sX0_cut_64 v0 v1 v2 v3 x6 v1 (x9 &&& (((iI 1) <<< (v2 &&& 31)) ^^^ (iI (-1)))) s4
        else
          gR s4 v0 0 1 fun x10 =>
          gR s4 x10 2 4 fun x11 =>
          aI s4 x11 v1 fun x12 =>
          sX0_cut_64 v0 v1 v2 v3 x6 v1 (x12 ||| ((iI 1) <<< (v2 &&& 31))) s4
noncomputable def sX0_compact (v0 : Option Nat) (v1 : Int32) (σ : Mem) : Option (Int32 × Mem) :=
  cl (sX0_isNode v1 σ) fun x1 s2 =>
  if x1 = (iI 0) then
    rZ (iI 0) s2
  else
    gR s2 v0 0 1 fun x3 =>
    gR s2 x3 2 0 fun x4 =>
    aR s2 x4 23 v1 fun x5 =>
    gI s2 x5 3 23 fun x6 =>
    if x6 = (iI 0) then
      rZ (iI 0) s2
    else
      gR s2 v0 0 1 fun x7 =>
      gR s2 x7 2 0 fun x8 =>
      aR s2 x8 23 v1 fun x9 =>
      gI s2 x9 3 17 fun x10 =>
      gR s2 v0 0 1 fun x11 =>
      gR s2 x11 2 0 fun x12 =>
      aR s2 x12 23 v1 fun x13 =>
      gI s2 x13 3 11 fun x14 =>
      if x10 = x14 then
        rZ (iI 0) s2
      else
        gR s2 v0 0 1 fun x15 =>
        gR s2 x15 2 0 fun x16 =>
        aR s2 x16 23 v1 fun x17 =>
        cV s2 x17 3 <|
        cl (sX4_compacts x17 s2) fun _ s18 =>
        rZ (iI 1) s18
noncomputable def sX3_isLeader (v0 : Option Nat) (v1 : Int32) (σ : Mem) : Option (Int32 × Mem) :=
  gR σ v0 2 0 fun x1 =>
  aR σ x1 23 v1 fun x2 =>
  gI σ x2 3 23 fun x3 =>
  if x3 = (iI 0) then
    rZ (iI 0) σ
  else
    gR σ v0 2 0 fun x4 =>
    aR σ x4 23 v1 fun x5 =>
    gI σ x5 3 16 fun x6 =>
    if x6 = (iI 2) then
      rZ (iI 1) σ
    else
      rZ (iI 0) σ
noncomputable def sX3_isFull (v0 : Option Nat) (v1 : Int32) (σ : Mem) : Option (Int32 × Mem) :=
  gR σ v0 2 0 fun x1 =>
  aR σ x1 23 v1 fun x2 =>
  gI σ x2 3 15 fun x3 =>
  if (iI 40) ≤ x3 then
    rZ (iI 1) σ
  else
    gR σ v0 2 0 fun x4 =>
    aR σ x4 23 v1 fun x5 =>
    cV σ x5 3 <|
    cl (sX4_last x5 σ) fun x6 s7 =>
    if x6 = (iI 999) then
      rZ (iI 1) s7
    else
      rZ (iI 0) s7
noncomputable def sX0_has (v0 : Int32) (v1 : Int32) (σ : Mem) : Option (Int32 × Mem) :=
  if ((v0 >>> (v1 &&& 31)) &&& (iI 1)) = (iI 1) then
    rZ (iI 1) σ
  else
    rZ (iI 0) σ
noncomputable def sX3_writes (v0 : Option Nat) (v1 : Int32) (v2 : Int32) (v3 : Int32) (v4 : Int32) (v5 : Int32) (v6 : Int32) (v7 : Int32) (σ : Mem) : Option (Option Nat × Mem) :=
  gR σ v0 2 6 fun x1 =>
  sI σ x1 (iI 0) v1 fun s2 =>
  gR s2 v0 2 6 fun x3 =>
  sI s2 x3 (iI 1) v2 fun s4 =>
  gR s4 v0 2 6 fun x5 =>
  sI s4 x5 (iI 2) v3 fun s6 =>
  gR s6 v0 2 6 fun x7 =>
  gR s6 v0 2 0 fun x8 =>
  aR s6 x8 23 v1 fun x9 =>
  gI s6 x9 3 9 fun x10 =>
  sI s6 x7 (iI 3) x10 fun s11 =>
  gR s11 v0 2 6 fun x12 =>
  sI s11 x12 (iI 5) v4 fun s13 =>
  gR s13 v0 2 6 fun x14 =>
  sI s13 x14 (iI 6) v5 fun s15 =>
  gR s15 v0 2 6 fun x16 =>
  sI s15 x16 (iI 7) v6 fun s17 =>
  gR s17 v0 2 6 fun x18 =>
  sI s17 x18 (iI 8) v7 fun s19 =>
  gR s19 v0 2 6 fun x20 =>
  sI s19 x20 (iI 9) (iI 0) fun s21 =>
  gR s21 v0 2 6 fun x22 =>
  some (x22, s21)
noncomputable def sX5_says_36 (k2 : Option Nat → Int32 → Option Nat → Int32 → Mem → Option (Int32 × Mem)) (v0 : Option Nat) (v1 : Int32) (v2 : Option Nat) (v3 : Int32) (σ : Mem) : Option (Int32 × Mem) :=
  k2 v0 v1 v2 (v3 + iI 1) σ
noncomputable def sX5_says_2b (k2 : Option Nat → Int32 → Option Nat → Int32 → Mem → Option (Int32 × Mem)) (v0 : Option Nat) (v1 : Int32) (v2 : Option Nat) (v3 : Int32) (σ : Mem) : Option (Int32 × Mem) :=
  gI σ v0 4 3 fun x1 =>
  if x1 ≤ v3 then
    rZ (iI 0) σ
  else
    gR σ v0 4 0 fun x2 =>
    aI σ x2 v3 fun x3 =>
    if x3 = v1 then
      gR σ v0 4 2 fun x4 =>
      aR σ x4 25 v3 fun x5 =>
      cl (if kdO σ x5 = 10 then sX13_holds 40 x5 v2 σ else if kdO σ x5 = 11 then sX14_holds 40 x5 v2 σ else if kdO σ x5 = 12 then sX15_holds x5 v2 σ else none) fun x6 s7 =>
      if x6 = (iI 1) then
        rZ (iI 1) s7
      else
        sX5_says_36 k2 v0 v1 v2 v3 s7
    else
      sX5_says_36 k2 v0 v1 v2 v3 σ
noncomputable def sX5_says_2 : Nat → Option Nat → Int32 → Option Nat → Int32 → Mem → Option (Int32 × Mem)
  | 0 => fun _ _ _ _ _ => none
  | f + 1 => sX5_says_2b (sX5_says_2 f)
noncomputable def sX5_says (v0 : Option Nat) (v1 : Int32) (v2 : Option Nat) (σ : Mem) : Option (Int32 × Mem) :=
  sX5_says_2 FU v0 v1 v2 (iI 0) σ
noncomputable def sX0_held (v0 : Int32) (v1 : Int32) (σ : Mem) : Option (Int32 × Mem) :=
  some (mxi (iI 0) (mni v1 v0), σ)
noncomputable def sX3_isLost (v0 : Option Nat) (σ : Mem) : Option (Unit × Mem) :=
  gI σ v0 2 11 fun x1 =>
  pI σ v0 2 11 (mni (iI 99999) (x1 + (iI 1))) fun s2 =>
  some ((), s2)
noncomputable def sX3_copies_2b (k2 : Option Nat → Option Nat → Int32 → Mem → Option (Unit × Mem)) (v1 : Option Nat) (v2 : Option Nat) (v3 : Int32) (σ : Mem) : Option (Unit × Mem) :=
  aL σ v1 20 fun x1 =>
  if x1 ≤ v3 then
    some ((), σ)
  else
    aI σ v1 v3 fun x2 =>
    sI σ v2 v3 x2 fun s3 =>
    k2 v1 v2 (v3 + iI 1) s3
noncomputable def sX3_copies_2 : Nat → Option Nat → Option Nat → Int32 → Mem → Option (Unit × Mem)
  | 0 => fun _ _ _ _ => none
  | f + 1 => sX3_copies_2b (sX3_copies_2 f)
noncomputable def sX3_copies (v0 : Option Nat) (v1 : Option Nat) (v2 : Option Nat) (σ : Mem) : Option (Unit × Mem) :=
  sX3_copies_2 FU v1 v2 (iI 0) σ
noncomputable def sX3_sends_106 (v0 : Option Nat) (v2 : Option Nat) (t0 : Int32) (σ : Mem) : Option (Unit × Mem) :=
  if t0 = (iI 0) then
    gR σ v0 2 6 fun x1 =>
    gI σ v0 2 8 fun x2 =>
    gR σ v0 2 16 fun x3 =>
    gR σ x3 0 5 fun x4 =>
    cV σ x4 4 <|
    cl (sX5_tells x4 (iI 100) (iI 0) v2 σ) fun x5 s6 =>
    cl (sX0_held x5 (iI 9) s6) fun x7 s8 =>
    sI s8 x1 (iI 4) ((x2 + (iI 1)) + x7) fun s9 =>
    gR s9 v0 2 6 fun x10 =>
    gR s9 v0 2 1 fun x11 =>
    gI s9 v0 2 7 fun x12 =>
    aR s9 x11 22 x12 fun x13 =>
    cV s9 v0 2 <|
    cl (sX3_copies v0 x10 x13 s9) fun _ s14 =>
    gI s14 v0 2 7 fun x15 =>
    pI s14 v0 2 7 (x15 + (iI 1)) fun s16 =>
    some ((), s16)
  else
    cV σ v0 2 <|
    cl (sX3_isLost v0 σ) fun _ s17 =>
    some ((), s17)
noncomputable def sX3_sends_101 (v0 : Option Nat) (v2 : Option Nat) (σ : Mem) : Option (Unit × Mem) :=
  sX3_sends_106 v0 v2 (iI 1) σ
noncomputable def sX3_sends (v0 : Option Nat) (σ : Mem) : Option (Unit × Mem) :=
  cV σ v0 2 <|
  cl (sX3_draw v0 σ) fun x1 s2 =>
  gR s2 v0 2 16 fun x3 =>
  gR s2 x3 0 0 fun x4 =>
  gR s2 v0 2 6 fun x5 =>
  aI s2 x5 (iI 0) fun x6 =>
  gR s2 v0 2 6 fun x7 =>
  aI s2 x7 (iI 1) fun x8 =>
  gR s2 v0 2 6 fun x9 =>
  aI s2 x9 (iI 2) fun x10 =>
  gR s2 v0 2 6 fun x11 =>
  aI s2 x11 (iI 3) fun x12 =>
  cV s2 x4 1 <|
  cl (sX2_of x4 x6 x8 x10 x12 s2) fun x13 s14 =>
  gI s14 v0 2 7 fun x15 =>
  gI s14 v0 2 8 fun x16 =>
  cV s14 x13 1 <|
  cl (sX2_on x13 x15 x16 x1 s14) fun x17 s18 =>
  gR s18 v0 2 16 fun x19 =>
  gR s18 x19 0 5 fun x20 =>
  cV s18 x20 4 <|
  cl (sX5_says x20 (iI 120) x17 s18) fun x21 s22 =>
  if x21 = (iI 0) then
    gR s22 v0 2 16 fun x23 =>
    gR s22 x23 0 5 fun x24 =>
    cV s22 x24 4 <|
    cl (sX5_tells x24 (iI 108) (iI 0) x17 s22) fun x25 s26 =>
    cl (sX0_held x25 (iI 10) s26) fun x27 s28 =>
    if x1 < x27 then
      sX3_sends_101 v0 x17 s28
    else
      gI s28 v0 2 7 fun x29 =>
      if x29 = (iI 160) then
        sX3_sends_101 v0 x17 s28
      else
        sX3_sends_106 v0 x17 (iI 0) s28
  else
    sX3_sends_101 v0 x17 s22
noncomputable def sX3_sendsOn_266 (v0 : Option Nat) (σ : Mem) : Option (Unit × Mem) :=
  cV σ v0 2 <|
  cl (sX3_sends v0 σ) fun _ s1 =>
  some ((), s1)
noncomputable def sX3_sendsOn_154b (k154 : Option Nat → Option Nat → Int32 → Int32 → Mem → Option (Unit × Mem)) (v0 : Option Nat) (v3 : Option Nat) (v4 : Int32) (v5 : Int32) (σ : Mem) : Option (Unit × Mem) :=
  gR σ v0 2 6 fun x1 =>
  aI σ x1 (iI 9) fun x2 =>
  if x2 ≤ v5 then
    sX3_sendsOn_266 v0 σ
  else
    gI σ v3 3 11 fun x3 =>
    gR σ v0 2 6 fun x4 =>
    gR σ v3 3 0 fun x5 =>
    aI σ x5 ((v4 - x3) + v5) fun x6 =>
    sI σ x4 ((iI 10) + ((iI 4) * v5)) x6 fun s7 =>
    gR s7 v0 2 6 fun x8 =>
    gR s7 v3 3 1 fun x9 =>
    aI s7 x9 ((v4 - x3) + v5) fun x10 =>
    sI s7 x8 (((iI 10) + ((iI 4) * v5)) + (iI 1)) x10 fun s11 =>
    gR s11 v0 2 6 fun x12 =>
    gR s11 v3 3 2 fun x13 =>
    aI s11 x13 ((v4 - x3) + v5) fun x14 =>
    sI s11 x12 (((iI 10) + ((iI 4) * v5)) + (iI 2)) x14 fun s15 =>
    gR s15 v0 2 6 fun x16 =>
    gR s15 v3 3 3 fun x17 =>
    aI s15 x17 ((v4 - x3) + v5) fun x18 =>
    sI s15 x16 (((iI 10) + ((iI 4) * v5)) + (iI 3)) x18 fun s19 =>
    k154 v0 v3 v4 (v5 + iI 1) s19
noncomputable def sX3_sendsOn_154 : Nat → Option Nat → Option Nat → Int32 → Int32 → Mem → Option (Unit × Mem)
  | 0 => fun _ _ _ _ _ => none
  | f + 1 => sX3_sendsOn_154b (sX3_sendsOn_154 f)
noncomputable def sX3_sendsOn_66b (k66 : Option Nat → Option Nat → Int32 → Mem → Option (Unit × Mem)) (v0 : Option Nat) (v3 : Option Nat) (v4 : Int32) (σ : Mem) : Option (Unit × Mem) :=
  if (iI 8) ≤ v4 then
    sX3_sendsOn_266 v0 σ
  else
    gR σ v0 2 6 fun x1 =>
    gR σ v3 3 5 fun x2 =>
    aI σ x2 v4 fun x3 =>
    sI σ x1 ((iI 12) + v4) x3 fun s4 =>
    k66 v0 v3 (v4 + iI 1) s4
noncomputable def sX3_sendsOn_66 : Nat → Option Nat → Option Nat → Int32 → Mem → Option (Unit × Mem)
  | 0 => fun _ _ _ _ => none
  | f + 1 => sX3_sendsOn_66b (sX3_sendsOn_66 f)
noncomputable def sX3_sendsOn (v0 : Option Nat) (v1 : Int32) (v2 : Int32) (σ : Mem) : Option (Unit × Mem) :=
  gR σ v0 2 0 fun x1 =>
  aR σ x1 23 v1 fun x2 =>
  gR σ x2 3 6 fun x3 =>
  aI σ x3 v2 fun x4 =>
  gI σ x2 3 11 fun x5 =>
  if x5 < x4 then
    gR σ x2 3 6 fun x6 =>
    aI σ x6 v2 fun x7 =>
    cV σ x2 3 <|
    cl (sX4_termAt x2 (x7 - (iI 1)) σ) fun x8 s9 =>
    gI s9 x2 3 17 fun x10 =>
    gI s9 x2 3 21 fun x11 =>
    cV s9 v0 2 <|
    cl (sX3_writes v0 v1 v2 (iI 2) (x7 - (iI 1)) x8 x10 x11 s9) fun x12 s13 =>
    gR s13 v0 2 6 fun x14 =>
    cV s13 x2 3 <|
    cl (sX4_last x2 s13) fun x15 s16 =>
    sI s16 x14 (iI 9) (mni (iI 4) (x15 - (x7 - (iI 1)))) fun s17 =>
    sX3_sendsOn_154 FU v0 x2 (x7 - (iI 1)) (iI 0) s17
  else
    gI σ x2 3 11 fun x18 =>
    gI σ x2 3 12 fun x19 =>
    gI σ x2 3 21 fun x20 =>
    cV σ v0 2 <|
    cl (sX3_writes v0 v1 v2 (iI 4) x18 x19 x20 (iI 0) σ) fun x21 s22 =>
    gR s22 v0 2 6 fun x23 =>
    gI s22 x2 3 13 fun x24 =>
    sI s22 x23 (iI 10) x24 fun s25 =>
    gR s25 v0 2 6 fun x26 =>
    gI s25 x2 3 14 fun x27 =>
    sI s25 x26 (iI 11) x27 fun s28 =>
    sX3_sendsOn_66 FU v0 x2 (iI 0) s28
noncomputable def sX3_sendsToAll_37 (k12 : Option Nat → Int32 → Int32 → Int32 → Mem → Option (Unit × Mem)) (v0 : Option Nat) (v1 : Int32) (v2 : Int32) (v3 : Int32) (σ : Mem) : Option (Unit × Mem) :=
  k12 v0 v1 v2 (v3 + iI 1) σ
noncomputable def sX3_sendsToAll_12b (k12 : Option Nat → Int32 → Int32 → Int32 → Mem → Option (Unit × Mem)) (v0 : Option Nat) (v1 : Int32) (v2 : Int32) (v3 : Int32) (σ : Mem) : Option (Unit × Mem) :=
  if (iI 7) ≤ v3 then
    some ((), σ)
  else
    if v3 = v1 then
      sX3_sendsToAll_37 k12 v0 v1 v2 v3 σ
    else
      cl (sX0_has v2 v3 σ) fun x1 s2 =>
      if x1 = (iI 0) then
        sX3_sendsToAll_37 k12 v0 v1 v2 v3 s2
      else
        cV s2 v0 2 <|
        cl (sX3_sendsOn v0 v1 v3 s2) fun _ s3 =>
        sX3_sendsToAll_37 k12 v0 v1 v2 v3 s3
noncomputable def sX3_sendsToAll_12 : Nat → Option Nat → Int32 → Int32 → Int32 → Mem → Option (Unit × Mem)
  | 0 => fun _ _ _ _ _ => none
  | f + 1 => sX3_sendsToAll_12b (sX3_sendsToAll_12 f)
noncomputable def sX3_sendsToAll (v0 : Option Nat) (v1 : Int32) (σ : Mem) : Option (Unit × Mem) :=
  gR σ v0 2 0 fun x1 =>
  aR σ x1 23 v1 fun x2 =>
  cV σ x2 3 <|
  cl (sX4_members x2 σ) fun x3 s4 =>
  sX3_sendsToAll_12 FU v0 v1 x3 (iI 0) s4
noncomputable def sX3_withMatch_55 (k5 : Option Nat → Int32 → Int32 → Int32 → Int32 → Mem → Option (Int32 × Mem)) (v0 : Option Nat) (v1 : Int32) (v2 : Int32) (v4 : Int32) (t0 : Int32) (t1 : Int32) (σ : Mem) : Option (Int32 × Mem) :=
  k5 v0 v1 v2 (t0 ||| t1) (v4 + iI 1) σ
noncomputable def sX3_withMatch_43 (k5 : Option Nat → Int32 → Int32 → Int32 → Int32 → Mem → Option (Int32 × Mem)) (v0 : Option Nat) (v1 : Int32) (v2 : Int32) (v4 : Int32) (t0 : Int32) (t1 : Int32) (σ : Mem) : Option (Int32 × Mem) :=
  if t1 < v2 then
    sX3_withMatch_55 k5 v0 v1 v2 v4 t0 (iI 0) σ
  else
    sX3_withMatch_55 k5 v0 v1 v2 v4 t0 ((iI 1) <<< (v4 &&& 31)) σ
noncomputable def sX3_withMatch_5b (k5 : Option Nat → Int32 → Int32 → Int32 → Int32 → Mem → Option (Int32 × Mem)) (v0 : Option Nat) (v1 : Int32) (v2 : Int32) (v3 : Int32) (v4 : Int32) (σ : Mem) : Option (Int32 × Mem) :=
  if (iI 7) ≤ v4 then
    some (v3, σ)
  else
    if v4 = v1 then
      gR σ v0 2 0 fun x5 =>
      aR σ x5 23 v1 fun x6 =>
      cV σ x6 3 <|
      cl (sX4_last x6 σ) fun x7 s8 =>
      sX3_withMatch_43 k5 v0 v1 v2 v4 v3 x7 s8
    else
      gR σ v0 2 0 fun x1 =>
      aR σ x1 23 v1 fun x2 =>
      gR σ x2 3 7 fun x3 =>
      aI σ x3 v4 fun x4 =>
      sX3_withMatch_43 k5 v0 v1 v2 v4 v3 x4 σ
noncomputable def sX3_withMatch_5 : Nat → Option Nat → Int32 → Int32 → Int32 → Int32 → Mem → Option (Int32 × Mem)
  | 0 => fun _ _ _ _ _ _ => none
  | f + 1 => sX3_withMatch_5b (sX3_withMatch_5 f)
noncomputable def sX3_withMatch (v0 : Option Nat) (v1 : Int32) (v2 : Int32) (σ : Mem) : Option (Int32 × Mem) :=
  sX3_withMatch_5 FU v0 v1 v2 (iI 0) (iI 0) σ
noncomputable def sX3_isSeenHeld_35 (v0 : Option Nat) (v1 : Option Nat) (v2 : Int32) (v3 : Int32) (σ : Mem) : Option (Unit × Mem) :=
  gR σ v0 2 2 fun x1 =>
  aR σ x1 22 v2 fun x2 =>
  gI σ v0 2 12 fun x3 =>
  if x3 < v2 then
    pI σ v0 2 12 v2 fun s4 =>
    gI s4 v0 2 13 fun x5 =>
    pI s4 v0 2 13 (x5 + (iI 1)) fun s6 =>
    gR s6 v1 3 0 fun x7 =>
    aI s6 x7 v3 fun x8 =>
    sI s6 x2 (iI 0) x8 fun s9 =>
    gR s9 v1 3 1 fun x10 =>
    aI s9 x10 v3 fun x11 =>
    sI s9 x2 (iI 1) x11 fun s12 =>
    gR s12 v1 3 2 fun x13 =>
    aI s12 x13 v3 fun x14 =>
    sI s12 x2 (iI 2) x14 fun s15 =>
    gR s15 v1 3 3 fun x16 =>
    aI s15 x16 v3 fun x17 =>
    sI s15 x2 (iI 3) x17 fun s18 =>
    some ((), s18)
  else
    gI σ v0 2 10 fun x19 =>
    aI σ x2 (iI 0) fun x20 =>
    gR σ v1 3 0 fun x21 =>
    aI σ x21 v3 fun x22 =>
    if x20 = x22 then
      aI σ x2 (iI 1) fun x24 =>
      gR σ v1 3 1 fun x25 =>
      aI σ x25 v3 fun x26 =>
      if x24 = x26 then
        aI σ x2 (iI 2) fun x28 =>
        gR σ v1 3 2 fun x29 =>
        aI σ x29 v3 fun x30 =>
        if x28 = x30 then
          aI σ x2 (iI 3) fun x32 =>
          gR σ v1 3 3 fun x33 =>
          aI σ x33 v3 fun x34 =>
          if x32 = x34 then
            pI σ v0 2 10 (x19 + (iI 0)) fun s36 =>
            some ((), s36)
          else
            pI σ v0 2 10 (x19 + (iI 1)) fun s35 =>
            some ((), s35)
        else
          pI σ v0 2 10 (x19 + (iI 1)) fun s31 =>
          some ((), s31)
      else
        pI σ v0 2 10 (x19 + (iI 1)) fun s27 =>
        some ((), s27)
    else
      pI σ v0 2 10 (x19 + (iI 1)) fun s23 =>
      some ((), s23)
noncomputable def sX3_isSeenHeld (v0 : Option Nat) (v1 : Option Nat) (v2 : Int32) (σ : Mem) : Option (Unit × Mem) :=
  gI σ v1 3 11 fun x1 =>
  gR σ v1 3 1 fun x2 =>
  aI σ x2 ((v2 - x1) - (iI 1)) fun x3 =>
  if x3 = (iI 0) then
    gR σ v1 3 4 fun x4 =>
    gR σ v1 3 2 fun x5 =>
    aI σ x5 ((v2 - x1) - (iI 1)) fun x6 =>
    gR σ v1 3 3 fun x7 =>
    aI σ x7 ((v2 - x1) - (iI 1)) fun x8 =>
    sI σ x4 x6 x8 fun s9 =>
    sX3_isSeenHeld_35 v0 v1 v2 ((v2 - x1) - (iI 1)) s9
  else
    sX3_isSeenHeld_35 v0 v1 v2 ((v2 - x1) - (iI 1)) σ
noncomputable def sX3_commits_7b (k7 : Option Nat → Int32 → Option Nat → Mem → Option (Unit × Mem)) (v0 : Option Nat) (v2 : Int32) (v3 : Option Nat) (σ : Mem) : Option (Unit × Mem) :=
  gI σ v3 3 17 fun x1 =>
  if v2 ≤ x1 then
    some ((), σ)
  else
    gI σ v3 3 17 fun x2 =>
    pI σ v3 3 17 (x2 + (iI 1)) fun s3 =>
    gI s3 v3 3 17 fun x4 =>
    cV s3 v0 2 <|
    cl (sX3_isSeenHeld v0 v3 x4 s3) fun _ s5 =>
    k7 v0 v2 v3 s5
noncomputable def sX3_commits_7 : Nat → Option Nat → Int32 → Option Nat → Mem → Option (Unit × Mem)
  | 0 => fun _ _ _ _ => none
  | f + 1 => sX3_commits_7b (sX3_commits_7 f)
noncomputable def sX3_commits (v0 : Option Nat) (v1 : Int32) (v2 : Int32) (σ : Mem) : Option (Unit × Mem) :=
  gR σ v0 2 0 fun x1 =>
  aR σ x1 23 v1 fun x2 =>
  sX3_commits_7 FU v0 v2 x2 σ
noncomputable def sX3_follows_20 (v2 : Int32) (v3 : Option Nat) (σ : Mem) : Option (Unit × Mem) :=
  pI σ v3 3 16 (iI 0) fun s1 =>
  pI s1 v3 3 19 v2 fun s2 =>
  some ((), s2)
noncomputable def sX3_follows (v0 : Option Nat) (v1 : Int32) (v2 : Int32) (σ : Mem) : Option (Unit × Mem) :=
  gR σ v0 2 0 fun x1 =>
  aR σ x1 23 v1 fun x2 =>
  gI σ x2 3 16 fun x3 =>
  if x3 = (iI 2) then
    cV σ v0 2 <|
    cl (sX3_losesReads v0 v1 σ) fun _ s4 =>
    sX3_follows_20 v2 x2 s4
  else
    sX3_follows_20 v2 x2 σ
noncomputable def sX3_holds_51 (rX3_holds : Option Nat → Int32 → Mem → Option (Unit × Mem)) (v0 : Option Nat) (v1 : Int32) (v2 : Option Nat) (v3 : Int32) (σ : Mem) : Option (Unit × Mem) :=
  cV σ v0 2 <|
  cl (sX3_commits v0 v1 v3 σ) fun _ s1 =>
  cV s1 v2 3 <|
  cl (sX4_isConfigHeld v2 s1) fun x2 s3 =>
  if x2 = (iI 0) then
    some ((), s3)
  else
    cV s3 v2 3 <|
    cl (sX4_news v2 s3) fun x4 s5 =>
    if x4 = (iI 0) then
      cV s5 v2 3 <|
      cl (sX4_members v2 s5) fun x6 s7 =>
      cl (sX0_has x6 v1 s7) fun x8 s9 =>
      if x8 = (iI 0) then
        cV s9 v0 2 <|
        cl (sX3_follows v0 v1 (iI (-1)) s9) fun _ s10 =>
        cV s10 v0 2 <|
        cl (sX3_setsTimer v0 v1 s10) fun _ s11 =>
        some ((), s11)
      else
        some ((), s9)
    else
      gI s5 v2 3 9 fun x12 =>
      cV s5 v2 3 <|
      cl (sX4_news v2 s5) fun x13 s14 =>
      cV s14 v2 3 <|
      cl (sX4_lays v2 x12 (iI 1) x13 (iI 0) s14) fun x15 s16 =>
      if x15 = (iI 0) then
        some ((), s16)
      else
        gR s16 v2 3 7 fun x17 =>
        cV s16 v2 3 <|
        cl (sX4_last v2 s16) fun x18 s19 =>
        sI s19 x17 v1 x18 fun s20 =>
        cV s20 v0 2 <|
        cl (sX3_sendsToAll v0 v1 s20) fun _ s21 =>
        cV s21 v0 2 <|
        cl (rX3_holds v0 v1 s21) fun _ s22 =>
        some ((), s22)
noncomputable def sX3_holds_45 (rX3_holds : Option Nat → Int32 → Mem → Option (Unit × Mem)) (k12 : Option Nat → Int32 → Option Nat → Int32 → Mem → Option (Unit × Mem)) (v0 : Option Nat) (v1 : Int32) (v2 : Option Nat) (v3 : Int32) (σ : Mem) : Option (Unit × Mem) :=
  k12 v0 v1 v2 (v3 + iI (-1)) σ
noncomputable def sX3_holds_12b (rX3_holds : Option Nat → Int32 → Mem → Option (Unit × Mem)) (k12 : Option Nat → Int32 → Option Nat → Int32 → Mem → Option (Unit × Mem)) (v0 : Option Nat) (v1 : Int32) (v2 : Option Nat) (v3 : Int32) (σ : Mem) : Option (Unit × Mem) :=
  gI σ v2 3 17 fun x1 =>
  if v3 ≤ x1 then
    sX3_holds_51 rX3_holds v0 v1 v2 v3 σ
  else
    cV σ v2 3 <|
    cl (sX4_termAt v2 v3 σ) fun x2 s3 =>
    gI s3 v2 3 9 fun x4 =>
    if x2 = x4 then
      cV s3 v0 2 <|
      cl (sX3_withMatch v0 v1 v3 s3) fun x5 s6 =>
      cV s6 v2 3 <|
      cl (sX4_isMajority v2 x5 s6) fun x7 s8 =>
      if x7 = (iI 0) then
        sX3_holds_45 rX3_holds k12 v0 v1 v2 v3 s8
      else
        sX3_holds_51 rX3_holds v0 v1 v2 v3 s8
    else
      sX3_holds_45 rX3_holds k12 v0 v1 v2 v3 s3
noncomputable def sX3_holds_12 (rX3_holds : Option Nat → Int32 → Mem → Option (Unit × Mem)) : Nat → Option Nat → Int32 → Option Nat → Int32 → Mem → Option (Unit × Mem)
  | 0 => fun _ _ _ _ _ => none
  | f + 1 => sX3_holds_12b rX3_holds (sX3_holds_12 rX3_holds f)
noncomputable def sX3_holds_0 (rX3_holds : Option Nat → Int32 → Mem → Option (Unit × Mem)) (v0 : Option Nat) (v1 : Int32) (σ : Mem) : Option (Unit × Mem) :=
  gR σ v0 2 0 fun x1 =>
  aR σ x1 23 v1 fun x2 =>
  cV σ x2 3 <|
  cl (sX4_last x2 σ) fun x3 s4 =>
  sX3_holds_12 rX3_holds FU v0 v1 x2 x3 s4
noncomputable def gX3_holds : Nat → (Option Nat → Int32 → Mem → Option (Unit × Mem))
  | 0 => (fun _ _ _ => none)
  | d + 1 => (sX3_holds_0 ((gX3_holds d)))
noncomputable def sX3_holds (d : Nat) : Option Nat → Int32 → Mem → Option (Unit × Mem) := (gX3_holds d)
noncomputable def sX3_laysFor (v0 : Option Nat) (v1 : Int32) (v2 : Int32) (v3 : Int32) (v4 : Int32) (σ : Mem) : Option (Int32 × Mem) :=
  gR σ v0 2 0 fun x1 =>
  aR σ x1 23 v1 fun x2 =>
  gI σ x2 3 9 fun x3 =>
  cV σ x2 3 <|
  cl (sX4_lays x2 x3 v2 v3 v4 σ) fun x4 s5 =>
  cV s5 x2 3 <|
  cl (sX4_last x2 s5) fun x6 s7 =>
  gR s7 x2 3 7 fun x8 =>
  sI s7 x8 v1 x6 fun s9 =>
  cV s9 v0 2 <|
  cl (sX3_sendsToAll v0 v1 s9) fun _ s10 =>
  cV s10 v0 2 <|
  cl (sX3_holds 4 v0 v1 s10) fun _ s11 =>
  some (x6, s11)
noncomputable def sX0_write (v0 : Option Nat) (v1 : Int32) (v2 : Int32) (v3 : Int32) (σ : Mem) : Option (Int32 × Mem) :=
  cl (sX0_isNode v1 σ) fun x1 s2 =>
  if x1 = (iI 0) then
    some (iI (-1), s2)
  else
    cl (sX0_in v2 (iI 8) s2) fun x3 s4 =>
    if x3 = (iI 0) then
      some (iI (-1), s4)
    else
      cl (sX0_within v3 (iI 0) (iI 99) s4) fun x5 s6 =>
      if x5 = (iI 0) then
        some (iI (-1), s6)
      else
        gR s6 v0 0 1 fun x7 =>
        cV s6 x7 2 <|
        cl (sX3_isLeader x7 v1 s6) fun x8 s9 =>
        if x8 = (iI 0) then
          some (iI (-2), s9)
        else
          gR s9 v0 0 1 fun x10 =>
          cV s9 x10 2 <|
          cl (sX3_isFull x10 v1 s9) fun x11 s12 =>
          if x11 = (iI 0) then
            gR s12 v0 0 1 fun x13 =>
            cV s12 x13 2 <|
            cl (sX3_laysFor x13 v1 (iI 0) v2 v3 s12) fun x14 s15 =>
            some (x14, s15)
          else
            some (iI (-3), s12)
noncomputable def sX0_change (v0 : Option Nat) (v1 : Int32) (v2 : Int32) (σ : Mem) : Option (Int32 × Mem) :=
  cl (sX0_isNode v1 σ) fun x1 s2 =>
  if x1 = (iI 0) then
    some (iI (-1), s2)
  else
    cl (sX0_within v2 (iI 1) (iI 127) s2) fun x3 s4 =>
    if x3 = (iI 0) then
      some (iI (-1), s4)
    else
      gR s4 v0 0 1 fun x5 =>
      cV s4 x5 2 <|
      cl (sX3_isLeader x5 v1 s4) fun x6 s7 =>
      if x6 = (iI 0) then
        some (iI (-2), s7)
      else
        gR s7 v0 0 1 fun x8 =>
        cV s7 x8 2 <|
        cl (sX3_isFull x8 v1 s7) fun x9 s10 =>
        if x9 = (iI 0) then
          gR s10 v0 0 1 fun x11 =>
          gR s10 x11 2 0 fun x12 =>
          aR s10 x12 23 v1 fun x13 =>
          cV s10 x13 3 <|
          cl (sX4_news x13 s10) fun x14 s15 =>
          if x14 = (iI 0) then
            cV s15 x13 3 <|
            cl (sX4_isConfigHeld x13 s15) fun x16 s17 =>
            if x16 = (iI 0) then
              some (iI (-4), s17)
            else
              cV s17 x13 3 <|
              cl (sX4_olds x13 s17) fun x18 s19 =>
              if x18 = v2 then
                some (iI (-4), s19)
              else
                gR s19 v0 0 1 fun x20 =>
                cV s19 x13 3 <|
                cl (sX4_olds x13 s19) fun x21 s22 =>
                cV s22 x20 2 <|
                cl (sX3_laysFor x20 v1 (iI 1) x21 v2 s22) fun x23 s24 =>
                some (x23, s24)
          else
            some (iI (-4), s15)
        else
          some (iI (-3), s10)
noncomputable def sX3_withHeard_39 (k7 : Option Nat → Int32 → Int32 → Int32 → Int32 → Mem → Option (Int32 × Mem)) (v0 : Option Nat) (v1 : Int32) (v2 : Int32) (v4 : Int32) (t0 : Int32) (t1 : Int32) (σ : Mem) : Option (Int32 × Mem) :=
  k7 v0 v1 v2 (t0 ||| t1) (v4 + iI 1) σ
noncomputable def sX3_withHeard_7b (k7 : Option Nat → Int32 → Int32 → Int32 → Int32 → Mem → Option (Int32 × Mem)) (v0 : Option Nat) (v1 : Int32) (v2 : Int32) (v3 : Int32) (v4 : Int32) (σ : Mem) : Option (Int32 × Mem) :=
  if (iI 7) ≤ v4 then
    some (v3, σ)
  else
    gR σ v0 2 0 fun x1 =>
    aR σ x1 23 v1 fun x2 =>
    gR σ x2 3 8 fun x3 =>
    aI σ x3 v4 fun x4 =>
    if x4 < v2 then
      sX3_withHeard_39 k7 v0 v1 v2 v4 v3 (iI 0) σ
    else
      sX3_withHeard_39 k7 v0 v1 v2 v4 v3 ((iI 1) <<< (v4 &&& 31)) σ
noncomputable def sX3_withHeard_7 : Nat → Option Nat → Int32 → Int32 → Int32 → Int32 → Mem → Option (Int32 × Mem)
  | 0 => fun _ _ _ _ _ _ => none
  | f + 1 => sX3_withHeard_7b (sX3_withHeard_7 f)
noncomputable def sX3_withHeard (v0 : Option Nat) (v1 : Int32) (v2 : Int32) (σ : Mem) : Option (Int32 × Mem) :=
  sX3_withHeard_7 FU v0 v1 v2 ((iI 1) <<< (v1 &&& 31)) (iI 0) σ
noncomputable def sX3_answersReads_102 (k9 : Option Nat → Int32 → Option Nat → Int32 → Mem → Option (Unit × Mem)) (v0 : Option Nat) (v1 : Int32) (v2 : Option Nat) (v3 : Int32) (σ : Mem) : Option (Unit × Mem) :=
  k9 v0 v1 v2 (v3 + iI 1) σ
noncomputable def sX3_answersReads_98 (k9 : Option Nat → Int32 → Option Nat → Int32 → Mem → Option (Unit × Mem)) (v0 : Option Nat) (v1 : Int32) (v2 : Option Nat) (v3 : Int32) (t0 : Option Nat) (t1 : Int32) (t2 : Int32) (σ : Mem) : Option (Unit × Mem) :=
  pI σ t0 2 10 (t1 + t2) fun s1 =>
  sX3_answersReads_102 k9 v0 v1 v2 v3 s1
noncomputable def sX3_answersReads_9b (k9 : Option Nat → Int32 → Option Nat → Int32 → Mem → Option (Unit × Mem)) (v0 : Option Nat) (v1 : Int32) (v2 : Option Nat) (v3 : Int32) (σ : Mem) : Option (Unit × Mem) :=
  gI σ v0 2 14 fun x1 =>
  if x1 ≤ v3 then
    some ((), σ)
  else
    gR σ v0 2 3 fun x2 =>
    aR σ x2 22 v3 fun x3 =>
    aI σ x3 (iI 0) fun x4 =>
    if x4 = v1 then
      aI σ x3 (iI 4) fun x5 =>
      if x5 = (iI 0) then
        aI σ x3 (iI 2) fun x6 =>
        cV σ v0 2 <|
        cl (sX3_withHeard v0 v1 x6 σ) fun x7 s8 =>
        cV s8 v2 3 <|
        cl (sX4_isMajority v2 x7 s8) fun x9 s10 =>
        if x9 = (iI 0) then
          sX3_answersReads_102 k9 v0 v1 v2 v3 s10
        else
          sI s10 x3 (iI 4) (iI 1) fun s11 =>
          gR s11 v2 3 4 fun x12 =>
          aI s11 x3 (iI 1) fun x13 =>
          aI s11 x12 x13 fun x14 =>
          sI s11 x3 (iI 5) x14 fun s15 =>
          gI s15 v0 2 10 fun x16 =>
          gI s15 v2 3 17 fun x17 =>
          aI s15 x3 (iI 3) fun x18 =>
          if x18 ≤ x17 then
            sX3_answersReads_98 k9 v0 v1 v2 v3 v0 x16 (iI 0) s15
          else
            sX3_answersReads_98 k9 v0 v1 v2 v3 v0 x16 (iI 1) s15
      else
        sX3_answersReads_102 k9 v0 v1 v2 v3 σ
    else
      sX3_answersReads_102 k9 v0 v1 v2 v3 σ
noncomputable def sX3_answersReads_9 : Nat → Option Nat → Int32 → Option Nat → Int32 → Mem → Option (Unit × Mem)
  | 0 => fun _ _ _ _ _ => none
  | f + 1 => sX3_answersReads_9b (sX3_answersReads_9 f)
noncomputable def sX3_answersReads (v0 : Option Nat) (v1 : Int32) (σ : Mem) : Option (Unit × Mem) :=
  gR σ v0 2 0 fun x1 =>
  aR σ x1 23 v1 fun x2 =>
  sX3_answersReads_9 FU v0 v1 x2 (iI 0) σ
noncomputable def sX0_ask (v0 : Option Nat) (v1 : Int32) (v2 : Int32) (σ : Mem) : Option (Int32 × Mem) :=
  cl (sX0_isNode v1 σ) fun x1 s2 =>
  if x1 = (iI 0) then
    some (iI (-1), s2)
  else
    cl (sX0_in v2 (iI 8) s2) fun x3 s4 =>
    if x3 = (iI 0) then
      some (iI (-1), s4)
    else
      gR s4 v0 0 1 fun x5 =>
      cV s4 x5 2 <|
      cl (sX3_isLeader x5 v1 s4) fun x6 s7 =>
      if x6 = (iI 0) then
        some (iI (-2), s7)
      else
        gR s7 v0 0 1 fun x8 =>
        gI s7 x8 2 14 fun x9 =>
        if x9 = (iI 16) then
          some (iI (-3), s7)
        else
          gR s7 v0 0 1 fun x10 =>
          gR s7 x10 2 0 fun x11 =>
          aR s7 x11 23 v1 fun x12 =>
          gI s7 x12 3 17 fun x13 =>
          cV s7 x12 3 <|
          cl (sX4_termAt x12 x13 s7) fun x14 s15 =>
          gI s15 x12 3 9 fun x16 =>
          if x14 = x16 then
            gI s15 x12 3 21 fun x17 =>
            pI s15 x12 3 21 (x17 + (iI 1)) fun s18 =>
            pI s18 x12 3 22 (iI 0) fun s19 =>
            gR s19 v0 0 1 fun x20 =>
            gI s19 x20 2 14 fun x21 =>
            gR s19 v0 0 1 fun x22 =>
            gR s19 x22 2 3 fun x23 =>
            aR s19 x23 22 x21 fun x24 =>
            sI s19 x24 (iI 0) v1 fun s25 =>
            sI s25 x24 (iI 1) v2 fun s26 =>
            gI s26 x12 3 21 fun x27 =>
            sI s26 x24 (iI 2) x27 fun s28 =>
            gR s28 v0 0 1 fun x29 =>
            gI s28 x29 2 12 fun x30 =>
            sI s28 x24 (iI 3) x30 fun s31 =>
            sI s31 x24 (iI 4) (iI 0) fun s32 =>
            sI s32 x24 (iI 5) (iI (-2)) fun s33 =>
            gR s33 v0 0 1 fun x34 =>
            gI s33 x34 2 14 fun x35 =>
            pI s33 x34 2 14 (x35 + (iI 1)) fun s36 =>
            gR s36 v0 0 1 fun x37 =>
            cV s36 x37 2 <|
            cl (sX3_sendsToAll x37 v1 s36) fun _ s38 =>
            gR s38 v0 0 1 fun x39 =>
            cV s38 x39 2 <|
            cl (sX3_answersReads x39 v1 s38) fun _ s40 =>
            some (x21, s40)
          else
            some (iI (-4), s15)
noncomputable def sX0_push_3b (k3 : Option Nat → Int32 → Int32 → Mem → Option (Unit × Mem)) (v0 : Option Nat) (v1 : Int32) (v2 : Int32) (σ : Mem) : Option (Unit × Mem) :=
  if v2 < (iI 0) then
    some ((), σ)
  else
    gR σ v0 0 4 fun x1 =>
    gI σ v0 0 6 fun x2 =>
    sB σ x1 x2 ((v1 >>> (v2 &&& 31)).toInt8.toInt32) fun s3 =>
    gI s3 v0 0 6 fun x4 =>
    pI s3 v0 0 6 (x4 + (iI 1)) fun s5 =>
    k3 v0 v1 (v2 + iI (-8)) s5
noncomputable def sX0_push_3 : Nat → Option Nat → Int32 → Int32 → Mem → Option (Unit × Mem)
  | 0 => fun _ _ _ _ => none
  | f + 1 => sX0_push_3b (sX0_push_3 f)
noncomputable def sX0_push (v0 : Option Nat) (v1 : Int32) (σ : Mem) : Option (Unit × Mem) :=
  sX0_push_3 FU v0 v1 (iI 24) σ
noncomputable def sX0_feed (v0 : Option Nat) (v1 : Int32) (v2 : Int32) (v3 : Int32) (v4 : Int32) (v5 : Int32) (σ : Mem) : Option (Int32 × Mem) :=
  gI σ v0 0 6 fun x1 =>
  if (x1 + (iI 20)) ≤ (iI 260) then
    cV σ v0 0 <|
    cl (sX0_push v0 v1 σ) fun _ s2 =>
    cV s2 v0 0 <|
    cl (sX0_push v0 v2 s2) fun _ s3 =>
    cV s3 v0 0 <|
    cl (sX0_push v0 v3 s3) fun _ s4 =>
    cV s4 v0 0 <|
    cl (sX0_push v0 v4 s4) fun _ s5 =>
    cV s5 v0 0 <|
    cl (sX0_push v0 v5 s5) fun _ s6 =>
    gI s6 v0 0 6 fun x7 =>
    some (x7, s6)
  else
    some (iI (-1), σ)
noncomputable def sX9_init (v0 : Option Nat) (v1 : Option Nat) (v2 : Int32) (σ : Mem) : Option (Unit × Mem) :=
  pR σ v0 7 6 v1 fun s1 =>
  cI s1 v0 <|
  nO s1 4 4 fun x2 s3 =>
  cI s3 x2 <|
  cl (sX5_init x2 s3) fun _ s4 =>
  pR s4 v0 7 1 x2 fun s5 =>
  pI s5 v0 7 0 v2 fun s6 =>
  some ((), s6)
noncomputable def sX9_isGood (v0 : Option Nat) (σ : Mem) : Option (Int32 × Mem) :=
  gI σ v0 7 4 fun x1 =>
  if x1 = (iI 0) then
    rZ (iI 1) σ
  else
    rZ (iI 0) σ
noncomputable def sX9_here (v0 : Option Nat) (σ : Mem) : Option (Int32 × Mem) :=
  gI σ v0 7 2 fun x1 =>
  gI σ v0 7 0 fun x2 =>
  if x2 ≤ x1 then
    some (iI 0, σ)
  else
    gR σ v0 7 6 fun x3 =>
    gR σ x3 0 4 fun x4 =>
    gI σ v0 7 2 fun x5 =>
    aB σ x4 x5 fun x6 =>
    some (x6 &&& (iI 255), σ)
noncomputable def sX9_bad (v0 : Option Nat) (v1 : Int32) (v2 : Int32) (σ : Mem) : Option (Unit × Mem) :=
  gI σ v0 7 4 fun x1 =>
  if x1 ≤ (iI 0) then
    pI σ v0 7 4 v1 fun s2 =>
    pI s2 v0 7 5 v2 fun s3 =>
    some ((), s3)
  else
    some ((), σ)
noncomputable def sX9_opens_18 (v0 : Option Nat) (σ : Mem) : Option (Unit × Mem) :=
  gI σ v0 7 3 fun x1 =>
  pI σ v0 7 3 (x1 + (iI 1)) fun s2 =>
  gI s2 v0 7 2 fun x3 =>
  pI s2 v0 7 2 (x3 + (iI 1)) fun s4 =>
  some ((), s4)
noncomputable def sX9_opens (v0 : Option Nat) (σ : Mem) : Option (Unit × Mem) :=
  gI σ v0 7 3 fun x1 =>
  if x1 = (iI 6) then
    gI σ v0 7 2 fun x2 =>
    cV σ v0 7 <|
    cl (sX9_bad v0 (iI 5) x2 σ) fun _ s3 =>
    sX9_opens_18 v0 s3
  else
    sX9_opens_18 v0 σ
noncomputable def sX9_must_17 (v0 : Option Nat) (σ : Mem) : Option (Unit × Mem) :=
  gI σ v0 7 2 fun x1 =>
  pI σ v0 7 2 (x1 + (iI 1)) fun s2 =>
  some ((), s2)
noncomputable def sX9_must (v0 : Option Nat) (v1 : Int32) (σ : Mem) : Option (Unit × Mem) :=
  cV σ v0 7 <|
  cl (sX9_here v0 σ) fun x1 s2 =>
  if x1 = v1 then
    sX9_must_17 v0 s2
  else
    gI s2 v0 7 2 fun x3 =>
    cV s2 v0 7 <|
    cl (sX9_bad v0 (iI 1) x3 s2) fun _ s4 =>
    sX9_must_17 v0 s4
noncomputable def sX9_seesDigit (v0 : Option Nat) (σ : Mem) : Option (Int32 × Mem) :=
  cV σ v0 7 <|
  cl (sX9_here v0 σ) fun x1 s2 =>
  if x1 < (iI 48) then
    rZ (iI 0) s2
  else
    cV s2 v0 7 <|
    cl (sX9_here v0 s2) fun x3 s4 =>
    if (iI 57) < x3 then
      rZ (iI 0) s4
    else
      rZ (iI 1) s4
noncomputable def sX9_number_40 (k7 : Option Nat → Int32 → Int32 → Mem → Option (Int32 × Mem)) (v0 : Option Nat) (v1 : Int32) (v2 : Int32) (σ : Mem) : Option (Int32 × Mem) :=
  cV σ v0 7 <|
  cl (sX9_here v0 σ) fun x1 s2 =>
  gI s2 v0 7 2 fun x3 =>
  pI s2 v0 7 2 (x3 + (iI 1)) fun s4 =>
  k7 v0 v1 ((((iI 10) * v2) + x1) - (iI 48)) s4
noncomputable def sX9_number_7b (k7 : Option Nat → Int32 → Int32 → Mem → Option (Int32 × Mem)) (v0 : Option Nat) (v1 : Int32) (v2 : Int32) (σ : Mem) : Option (Int32 × Mem) :=
  cV σ v0 7 <|
  cl (sX9_isGood v0 σ) fun x1 s2 =>
  if x1 = (iI 0) then
    some (v2, s2)
  else
    cV s2 v0 7 <|
    cl (sX9_seesDigit v0 s2) fun x3 s4 =>
    if x3 = (iI 0) then
      some (v2, s4)
    else
      gI s4 v0 7 2 fun x5 =>
      if x5 = (v1 + (iI 5)) then
        gI s4 v0 7 2 fun x6 =>
        cV s4 v0 7 <|
        cl (sX9_bad v0 (iI 2) x6 s4) fun _ s7 =>
        sX9_number_40 k7 v0 v1 v2 s7
      else
        sX9_number_40 k7 v0 v1 v2 s4
noncomputable def sX9_number_7 : Nat → Option Nat → Int32 → Int32 → Mem → Option (Int32 × Mem)
  | 0 => fun _ _ _ _ => none
  | f + 1 => sX9_number_7b (sX9_number_7 f)
noncomputable def sX9_number (v0 : Option Nat) (σ : Mem) : Option (Int32 × Mem) :=
  gI σ v0 7 2 fun x1 =>
  sX9_number_7 FU v0 x1 (iI 0) σ
noncomputable def sX6_init (v0 : Option Nat) (σ : Mem) : Option (Unit × Mem) :=
  cI σ v0 <|
  some ((), σ)
noncomputable def sX10_init (v0 : Option Nat) (v1 : Int32) (σ : Mem) : Option (Unit × Mem) :=
  cI σ v0 <|
  cl (sX6_init v0 σ) fun _ s1 =>
  pI s1 v0 8 0 v1 fun s2 =>
  some ((), s2)
noncomputable def sX11_init (v0 : Option Nat) (v1 : Int32) (σ : Mem) : Option (Unit × Mem) :=
  cI σ v0 <|
  cl (sX6_init v0 σ) fun _ s1 =>
  pI s1 v0 9 0 v1 fun s2 =>
  some ((), s2)
noncomputable def sX7_init (v0 : Option Nat) (v1 : Int32) (v2 : Option Nat) (σ : Mem) : Option (Unit × Mem) :=
  cI σ v0 <|
  cl (sX6_init v0 σ) fun _ s1 =>
  pI s1 v0 5 0 v1 fun s2 =>
  pR s2 v0 5 1 v2 fun s3 =>
  some ((), s3)
noncomputable def sX9_factor_97 (rX9_factor : Option Nat → Mem → Option (Option Nat × Mem)) (rX9_product : Option Nat → Mem → Option (Option Nat × Mem)) (rX9_sum : Option Nat → Mem → Option (Option Nat × Mem)) (v0 : Option Nat) (v1 : Int32) (σ : Mem) : Option (Option Nat × Mem) :=
  gI σ v0 7 2 fun x1 =>
  pI σ v0 7 2 (x1 + (iI 1)) fun s2 =>
  nO s2 9 1 fun x3 s4 =>
  cI s4 x3 <|
  cl (sX11_init x3 v1 s4) fun _ s5 =>
  some (x3, s5)
noncomputable def sX9_factor_88 (rX9_factor : Option Nat → Mem → Option (Option Nat × Mem)) (rX9_product : Option Nat → Mem → Option (Option Nat × Mem)) (rX9_sum : Option Nat → Mem → Option (Option Nat × Mem)) (v0 : Option Nat) (v1 : Int32) (σ : Mem) : Option (Option Nat × Mem) :=
  gI σ v0 7 2 fun x1 =>
  cV σ v0 7 <|
  cl (sX9_bad v0 (iI 1) x1 σ) fun _ s2 =>
  sX9_factor_97 rX9_factor rX9_product rX9_sum v0 v1 s2
noncomputable def sX9_factor_44 (rX9_factor : Option Nat → Mem → Option (Option Nat × Mem)) (rX9_product : Option Nat → Mem → Option (Option Nat × Mem)) (rX9_sum : Option Nat → Mem → Option (Option Nat × Mem)) (v0 : Option Nat) (v2 : Option Nat) (σ : Mem) : Option (Option Nat × Mem) :=
  gI σ v0 7 3 fun x1 =>
  pI σ v0 7 3 (x1 - (iI 1)) fun s2 =>
  some (v2, s2)
noncomputable def sX9_factor_30 (rX9_factor : Option Nat → Mem → Option (Option Nat × Mem)) (rX9_product : Option Nat → Mem → Option (Option Nat × Mem)) (rX9_sum : Option Nat → Mem → Option (Option Nat × Mem)) (v0 : Option Nat) (t0 : Option Nat) (σ : Mem) : Option (Option Nat × Mem) :=
  cV σ v0 7 <|
  cl (sX9_isGood v0 σ) fun x1 s2 =>
  if x1 = (iI 0) then
    sX9_factor_44 rX9_factor rX9_product rX9_sum v0 t0 s2
  else
    cV s2 v0 7 <|
    cl (sX9_must v0 (iI 93) s2) fun _ s3 =>
    sX9_factor_44 rX9_factor rX9_product rX9_sum v0 t0 s3
noncomputable def sX9_factor_0 (rX9_factor : Option Nat → Mem → Option (Option Nat × Mem)) (rX9_product : Option Nat → Mem → Option (Option Nat × Mem)) (rX9_sum : Option Nat → Mem → Option (Option Nat × Mem)) (v0 : Option Nat) (σ : Mem) : Option (Option Nat × Mem) :=
  cV σ v0 7 <|
  cl (sX9_here v0 σ) fun x1 s2 =>
  if x1 = (iI 91) then
    cV s2 v0 7 <|
    cl (sX9_opens v0 s2) fun _ s10 =>
    cV s10 v0 7 <|
    cl (sX9_isGood v0 s10) fun x11 s12 =>
    if x11 = (iI 0) then
      sX9_factor_30 rX9_factor rX9_product rX9_sum v0 none s12
    else
      cV s12 v0 7 <|
      cl (rX9_sum v0 s12) fun x13 s14 =>
      sX9_factor_30 rX9_factor rX9_product rX9_sum v0 x13 s14
  else
    cV s2 v0 7 <|
    cl (sX9_seesDigit v0 s2) fun x3 s4 =>
    if x3 = (iI 0) then
      if x1 = (iI 0) then
        sX9_factor_88 rX9_factor rX9_product rX9_sum v0 x1 s4
      else
        if (iI 0) ≤ (ixo (lits 1) x1) then
          sX9_factor_97 rX9_factor rX9_product rX9_sum v0 x1 s4
        else
          sX9_factor_88 rX9_factor rX9_product rX9_sum v0 x1 s4
    else
      nO s4 8 1 fun x5 s6 =>
      cV s6 v0 7 <|
      cl (sX9_number v0 s6) fun x7 s8 =>
      cI s8 x5 <|
      cl (sX10_init x5 x7 s8) fun _ s9 =>
      some (x5, s9)
noncomputable def sX9_product_49 (rX9_factor : Option Nat → Mem → Option (Option Nat × Mem)) (rX9_product : Option Nat → Mem → Option (Option Nat × Mem)) (rX9_sum : Option Nat → Mem → Option (Option Nat × Mem)) (k15 : Option Nat → Option Nat → Option Nat → Mem → Option (Option Nat × Mem)) (v0 : Option Nat) (v1 : Option Nat) (v2 : Option Nat) (σ : Mem) : Option (Option Nat × Mem) :=
  cV σ v0 7 <|
  cl (sX9_here v0 σ) fun x1 s2 =>
  gI s2 v0 7 2 fun x3 =>
  pI s2 v0 7 2 (x3 + (iI 1)) fun s4 =>
  nO s4 5 3 fun x5 s6 =>
  cV s6 v0 7 <|
  cl (rX9_factor v0 s6) fun x7 s8 =>
  cI s8 x5 <|
  cl (sX7_init x5 x1 x7 s8) fun _ s9 =>
  pR s9 v2 5 2 x5 fun s10 =>
  gR s10 v2 5 2 fun x11 =>
  k15 v0 v1 x11 s10
noncomputable def sX9_product_15b (rX9_factor : Option Nat → Mem → Option (Option Nat × Mem)) (rX9_product : Option Nat → Mem → Option (Option Nat × Mem)) (rX9_sum : Option Nat → Mem → Option (Option Nat × Mem)) (k15 : Option Nat → Option Nat → Option Nat → Mem → Option (Option Nat × Mem)) (v0 : Option Nat) (v1 : Option Nat) (v2 : Option Nat) (σ : Mem) : Option (Option Nat × Mem) :=
  cV σ v0 7 <|
  cl (sX9_isGood v0 σ) fun x1 s2 =>
  if x1 = (iI 0) then
    some (v1, s2)
  else
    cV s2 v0 7 <|
    cl (sX9_here v0 s2) fun x3 s4 =>
    if x3 = (iI 42) then
      sX9_product_49 rX9_factor rX9_product rX9_sum k15 v0 v1 v2 s4
    else
      cV s4 v0 7 <|
      cl (sX9_here v0 s4) fun x5 s6 =>
      if x5 = (iI 47) then
        sX9_product_49 rX9_factor rX9_product rX9_sum k15 v0 v1 v2 s6
      else
        cV s6 v0 7 <|
        cl (sX9_here v0 s6) fun x7 s8 =>
        if x7 = (iI 37) then
          sX9_product_49 rX9_factor rX9_product rX9_sum k15 v0 v1 v2 s8
        else
          some (v1, s8)
noncomputable def sX9_product_15 (rX9_factor : Option Nat → Mem → Option (Option Nat × Mem)) (rX9_product : Option Nat → Mem → Option (Option Nat × Mem)) (rX9_sum : Option Nat → Mem → Option (Option Nat × Mem)) : Nat → Option Nat → Option Nat → Option Nat → Mem → Option (Option Nat × Mem)
  | 0 => fun _ _ _ _ => none
  | f + 1 => sX9_product_15b rX9_factor rX9_product rX9_sum (sX9_product_15 rX9_factor rX9_product rX9_sum f)
noncomputable def sX9_product_0 (rX9_factor : Option Nat → Mem → Option (Option Nat × Mem)) (rX9_product : Option Nat → Mem → Option (Option Nat × Mem)) (rX9_sum : Option Nat → Mem → Option (Option Nat × Mem)) (v0 : Option Nat) (σ : Mem) : Option (Option Nat × Mem) :=
  nO σ 5 3 fun x1 s2 =>
  cV s2 v0 7 <|
  cl (rX9_factor v0 s2) fun x3 s4 =>
  cI s4 x1 <|
  cl (sX7_init x1 (iI 0) x3 s4) fun _ s5 =>
  sX9_product_15 rX9_factor rX9_product rX9_sum FU v0 x1 x1 s5
noncomputable def sX9_sum_40 (rX9_factor : Option Nat → Mem → Option (Option Nat × Mem)) (rX9_product : Option Nat → Mem → Option (Option Nat × Mem)) (rX9_sum : Option Nat → Mem → Option (Option Nat × Mem)) (k15 : Option Nat → Option Nat → Option Nat → Mem → Option (Option Nat × Mem)) (v0 : Option Nat) (v1 : Option Nat) (v2 : Option Nat) (σ : Mem) : Option (Option Nat × Mem) :=
  cV σ v0 7 <|
  cl (sX9_here v0 σ) fun x1 s2 =>
  gI s2 v0 7 2 fun x3 =>
  pI s2 v0 7 2 (x3 + (iI 1)) fun s4 =>
  nO s4 5 3 fun x5 s6 =>
  cV s6 v0 7 <|
  cl (rX9_product v0 s6) fun x7 s8 =>
  cI s8 x5 <|
  cl (sX7_init x5 x1 x7 s8) fun _ s9 =>
  pR s9 v2 5 2 x5 fun s10 =>
  gR s10 v2 5 2 fun x11 =>
  k15 v0 v1 x11 s10
noncomputable def sX9_sum_15b (rX9_factor : Option Nat → Mem → Option (Option Nat × Mem)) (rX9_product : Option Nat → Mem → Option (Option Nat × Mem)) (rX9_sum : Option Nat → Mem → Option (Option Nat × Mem)) (k15 : Option Nat → Option Nat → Option Nat → Mem → Option (Option Nat × Mem)) (v0 : Option Nat) (v1 : Option Nat) (v2 : Option Nat) (σ : Mem) : Option (Option Nat × Mem) :=
  cV σ v0 7 <|
  cl (sX9_isGood v0 σ) fun x1 s2 =>
  if x1 = (iI 0) then
    some (v1, s2)
  else
    cV s2 v0 7 <|
    cl (sX9_here v0 s2) fun x3 s4 =>
    if x3 = (iI 43) then
      sX9_sum_40 rX9_factor rX9_product rX9_sum k15 v0 v1 v2 s4
    else
      cV s4 v0 7 <|
      cl (sX9_here v0 s4) fun x5 s6 =>
      if x5 = (iI 45) then
        sX9_sum_40 rX9_factor rX9_product rX9_sum k15 v0 v1 v2 s6
      else
        some (v1, s6)
noncomputable def sX9_sum_15 (rX9_factor : Option Nat → Mem → Option (Option Nat × Mem)) (rX9_product : Option Nat → Mem → Option (Option Nat × Mem)) (rX9_sum : Option Nat → Mem → Option (Option Nat × Mem)) : Nat → Option Nat → Option Nat → Option Nat → Mem → Option (Option Nat × Mem)
  | 0 => fun _ _ _ _ => none
  | f + 1 => sX9_sum_15b rX9_factor rX9_product rX9_sum (sX9_sum_15 rX9_factor rX9_product rX9_sum f)
noncomputable def sX9_sum_0 (rX9_factor : Option Nat → Mem → Option (Option Nat × Mem)) (rX9_product : Option Nat → Mem → Option (Option Nat × Mem)) (rX9_sum : Option Nat → Mem → Option (Option Nat × Mem)) (v0 : Option Nat) (σ : Mem) : Option (Option Nat × Mem) :=
  nO σ 5 3 fun x1 s2 =>
  cV s2 v0 7 <|
  cl (rX9_product v0 s2) fun x3 s4 =>
  cI s4 x1 <|
  cl (sX7_init x1 (iI 0) x3 s4) fun _ s5 =>
  sX9_sum_15 rX9_factor rX9_product rX9_sum FU v0 x1 x1 s5
noncomputable def gX9_factor : Nat → (Option Nat → Mem → Option (Option Nat × Mem)) × (Option Nat → Mem → Option (Option Nat × Mem)) × (Option Nat → Mem → Option (Option Nat × Mem))
  | 0 => (fun _ _ => none, fun _ _ => none, fun _ _ => none)
  | d + 1 => (sX9_factor_0 ((gX9_factor d).1) ((gX9_factor d).2.1) ((gX9_factor d).2.2), sX9_product_0 ((gX9_factor d).1) ((gX9_factor d).2.1) ((gX9_factor d).2.2), sX9_sum_0 ((gX9_factor d).1) ((gX9_factor d).2.1) ((gX9_factor d).2.2))
noncomputable def sX9_factor (d : Nat) : Option Nat → Mem → Option (Option Nat × Mem) := (gX9_factor d).1
noncomputable def sX9_product (d : Nat) : Option Nat → Mem → Option (Option Nat × Mem) := (gX9_factor d).2.1
noncomputable def sX9_sum (d : Nat) : Option Nat → Mem → Option (Option Nat × Mem) := (gX9_factor d).2.2
noncomputable def sX12_init (v0 : Option Nat) (σ : Mem) : Option (Unit × Mem) :=
  cI σ v0 <|
  some ((), σ)
noncomputable def sX14_init (v0 : Option Nat) (v1 : Option Nat) (σ : Mem) : Option (Unit × Mem) :=
  cI σ v0 <|
  cl (sX12_init v0 σ) fun _ s1 =>
  pR s1 v0 11 0 v1 fun s2 =>
  some ((), s2)
noncomputable def sX15_init (v0 : Option Nat) (v1 : Option Nat) (v2 : Int32) (v3 : Option Nat) (σ : Mem) : Option (Unit × Mem) :=
  cI σ v0 <|
  cl (sX12_init v0 σ) fun _ s1 =>
  pR s1 v0 12 0 v1 fun s2 =>
  pI s2 v0 12 2 v2 fun s3 =>
  pR s3 v0 12 1 v3 fun s4 =>
  some ((), s4)
noncomputable def sX13_init (v0 : Option Nat) (v1 : Option Nat) (v2 : Int32) (σ : Mem) : Option (Unit × Mem) :=
  cI σ v0 <|
  cl (sX12_init v0 σ) fun _ s1 =>
  pR s1 v0 10 0 v1 fun s2 =>
  pI s2 v0 10 1 v2 fun s3 =>
  some ((), s3)
noncomputable def sX9_condition_93 (rX9_condition : Option Nat → Mem → Option (Option Nat × Mem)) (rX9_piece : Option Nat → Mem → Option (Option Nat × Mem)) (rX9_pieces : Option Nat → Mem → Option (Option Nat × Mem)) (v0 : Option Nat) (v1 : Option Nat) (σ : Mem) : Option (Option Nat × Mem) :=
  gI σ v0 7 3 fun x1 =>
  pI σ v0 7 3 (x1 - (iI 1)) fun s2 =>
  some (v1, s2)
noncomputable def sX9_condition_80 (rX9_condition : Option Nat → Mem → Option (Option Nat × Mem)) (rX9_piece : Option Nat → Mem → Option (Option Nat × Mem)) (rX9_pieces : Option Nat → Mem → Option (Option Nat × Mem)) (v0 : Option Nat) (v1 : Option Nat) (σ : Mem) : Option (Option Nat × Mem) :=
  cV σ v0 7 <|
  cl (sX9_isGood v0 σ) fun x1 s2 =>
  if x1 = (iI 0) then
    sX9_condition_93 rX9_condition rX9_piece rX9_pieces v0 v1 s2
  else
    cV s2 v0 7 <|
    cl (sX9_must v0 (iI 41) s2) fun _ s3 =>
    sX9_condition_93 rX9_condition rX9_piece rX9_pieces v0 v1 s3
noncomputable def sX9_condition_30b (rX9_condition : Option Nat → Mem → Option (Option Nat × Mem)) (rX9_piece : Option Nat → Mem → Option (Option Nat × Mem)) (rX9_pieces : Option Nat → Mem → Option (Option Nat × Mem)) (k30 : Option Nat → Option Nat → Option Nat → Mem → Option (Option Nat × Mem)) (v0 : Option Nat) (v1 : Option Nat) (v2 : Option Nat) (σ : Mem) : Option (Option Nat × Mem) :=
  cV σ v0 7 <|
  cl (sX9_isGood v0 σ) fun x1 s2 =>
  if x1 = (iI 0) then
    sX9_condition_80 rX9_condition rX9_piece rX9_pieces v0 v1 s2
  else
    cV s2 v0 7 <|
    cl (sX9_here v0 s2) fun x3 s4 =>
    if x3 = (iI 124) then
      gI s4 v0 7 2 fun x5 =>
      pI s4 v0 7 2 (x5 + (iI 1)) fun s6 =>
      nO s6 10 3 fun x7 s8 =>
      cV s8 v0 7 <|
      cl (rX9_pieces v0 s8) fun x9 s10 =>
      cI s10 x7 <|
      cl (sX13_init x7 x9 (iI 1) s10) fun _ s11 =>
      pR s11 v2 10 2 x7 fun s12 =>
      gR s12 v2 10 2 fun x13 =>
      k30 v0 v1 x13 s12
    else
      sX9_condition_80 rX9_condition rX9_piece rX9_pieces v0 v1 s4
noncomputable def sX9_condition_30 (rX9_condition : Option Nat → Mem → Option (Option Nat × Mem)) (rX9_piece : Option Nat → Mem → Option (Option Nat × Mem)) (rX9_pieces : Option Nat → Mem → Option (Option Nat × Mem)) : Nat → Option Nat → Option Nat → Option Nat → Mem → Option (Option Nat × Mem)
  | 0 => fun _ _ _ _ => none
  | f + 1 => sX9_condition_30b rX9_condition rX9_piece rX9_pieces (sX9_condition_30 rX9_condition rX9_piece rX9_pieces f)
noncomputable def sX9_condition_27 (rX9_condition : Option Nat → Mem → Option (Option Nat × Mem)) (rX9_piece : Option Nat → Mem → Option (Option Nat × Mem)) (rX9_pieces : Option Nat → Mem → Option (Option Nat × Mem)) (v0 : Option Nat) (t0 : Option Nat) (σ : Mem) : Option (Option Nat × Mem) :=
  sX9_condition_30 rX9_condition rX9_piece rX9_pieces FU v0 t0 t0 σ
noncomputable def sX9_condition_0 (rX9_condition : Option Nat → Mem → Option (Option Nat × Mem)) (rX9_piece : Option Nat → Mem → Option (Option Nat × Mem)) (rX9_pieces : Option Nat → Mem → Option (Option Nat × Mem)) (v0 : Option Nat) (σ : Mem) : Option (Option Nat × Mem) :=
  cV σ v0 7 <|
  cl (sX9_opens v0 σ) fun _ s1 =>
  cV s1 v0 7 <|
  cl (sX9_isGood v0 s1) fun x2 s3 =>
  if x2 = (iI 0) then
    sX9_condition_27 rX9_condition rX9_piece rX9_pieces v0 none s3
  else
    nO s3 10 3 fun x4 s5 =>
    cV s5 v0 7 <|
    cl (rX9_pieces v0 s5) fun x6 s7 =>
    cI s7 x4 <|
    cl (sX13_init x4 x6 (iI 1) s7) fun _ s8 =>
    sX9_condition_27 rX9_condition rX9_piece rX9_pieces v0 x4 s8
noncomputable def sX9_piece_129 (rX9_condition : Option Nat → Mem → Option (Option Nat × Mem)) (rX9_piece : Option Nat → Mem → Option (Option Nat × Mem)) (rX9_pieces : Option Nat → Mem → Option (Option Nat × Mem)) (t0 : Option Nat) (t1 : Option Nat) (t2 : Option Nat) (t3 : Int32) (t4 : Option Nat) (σ : Mem) : Option (Option Nat × Mem) :=
  cI σ t1 <|
  cl (sX15_init t1 t2 t3 t4 σ) fun _ s1 =>
  some (t0, s1)
noncomputable def sX9_piece_98 (rX9_condition : Option Nat → Mem → Option (Option Nat × Mem)) (rX9_piece : Option Nat → Mem → Option (Option Nat × Mem)) (rX9_pieces : Option Nat → Mem → Option (Option Nat × Mem)) (v0 : Option Nat) (v2 : Option Nat) (v3 : Int32) (σ : Mem) : Option (Option Nat × Mem) :=
  gI σ v0 7 2 fun x1 =>
  pI σ v0 7 2 (x1 + (iI 1)) fun s2 =>
  nO s2 12 3 fun x3 s4 =>
  cV s4 v0 7 <|
  cl (sX9_isGood v0 s4) fun x5 s6 =>
  if x5 = (iI 0) then
    sX9_piece_129 rX9_condition rX9_piece rX9_pieces x3 x3 v2 v3 none s6
  else
    cV s6 v0 7 <|
    cl (sX9_sum 40 v0 s6) fun x7 s8 =>
    sX9_piece_129 rX9_condition rX9_piece rX9_pieces x3 x3 v2 v3 x7 s8
noncomputable def sX9_piece_30 (rX9_condition : Option Nat → Mem → Option (Option Nat × Mem)) (rX9_piece : Option Nat → Mem → Option (Option Nat × Mem)) (rX9_pieces : Option Nat → Mem → Option (Option Nat × Mem)) (v0 : Option Nat) (t0 : Option Nat) (σ : Mem) : Option (Option Nat × Mem) :=
  gI σ v0 7 3 fun x1 =>
  pI σ v0 7 3 (x1 - (iI 1)) fun s2 =>
  nO s2 11 1 fun x3 s4 =>
  cI s4 x3 <|
  cl (sX14_init x3 t0 s4) fun _ s5 =>
  some (x3, s5)
noncomputable def sX9_piece_0 (rX9_condition : Option Nat → Mem → Option (Option Nat × Mem)) (rX9_piece : Option Nat → Mem → Option (Option Nat × Mem)) (rX9_pieces : Option Nat → Mem → Option (Option Nat × Mem)) (v0 : Option Nat) (σ : Mem) : Option (Option Nat × Mem) :=
  cV σ v0 7 <|
  cl (sX9_here v0 σ) fun x1 s2 =>
  if x1 = (iI 33) then
    cV s2 v0 7 <|
    cl (sX9_opens v0 s2) fun _ s11 =>
    cV s11 v0 7 <|
    cl (sX9_isGood v0 s11) fun x12 s13 =>
    if x12 = (iI 0) then
      sX9_piece_30 rX9_condition rX9_piece rX9_pieces v0 none s13
    else
      cV s13 v0 7 <|
      cl (rX9_piece v0 s13) fun x14 s15 =>
      sX9_piece_30 rX9_condition rX9_piece rX9_pieces v0 x14 s15
  else
    if x1 = (iI 40) then
      cV s2 v0 7 <|
      cl (rX9_condition v0 s2) fun x9 s10 =>
      some (x9, s10)
    else
      cV s2 v0 7 <|
      cl (sX9_sum 40 v0 s2) fun x3 s4 =>
      cV s4 v0 7 <|
      cl (sX9_here v0 s4) fun x5 s6 =>
      if x5 = (iI 60) then
        sX9_piece_98 rX9_condition rX9_piece rX9_pieces v0 x3 x5 s6
      else
        if x5 = (iI 62) then
          sX9_piece_98 rX9_condition rX9_piece rX9_pieces v0 x3 x5 s6
        else
          if x5 = (iI 61) then
            sX9_piece_98 rX9_condition rX9_piece rX9_pieces v0 x3 x5 s6
          else
            gI s6 v0 7 2 fun x7 =>
            cV s6 v0 7 <|
            cl (sX9_bad v0 (iI 1) x7 s6) fun _ s8 =>
            sX9_piece_98 rX9_condition rX9_piece rX9_pieces v0 x3 x5 s8
noncomputable def sX9_pieces_15b (rX9_condition : Option Nat → Mem → Option (Option Nat × Mem)) (rX9_piece : Option Nat → Mem → Option (Option Nat × Mem)) (rX9_pieces : Option Nat → Mem → Option (Option Nat × Mem)) (k15 : Option Nat → Option Nat → Option Nat → Mem → Option (Option Nat × Mem)) (v0 : Option Nat) (v1 : Option Nat) (v2 : Option Nat) (σ : Mem) : Option (Option Nat × Mem) :=
  cV σ v0 7 <|
  cl (sX9_isGood v0 σ) fun x1 s2 =>
  if x1 = (iI 0) then
    some (v1, s2)
  else
    cV s2 v0 7 <|
    cl (sX9_here v0 s2) fun x3 s4 =>
    if x3 = (iI 38) then
      gI s4 v0 7 2 fun x5 =>
      pI s4 v0 7 2 (x5 + (iI 1)) fun s6 =>
      nO s6 10 3 fun x7 s8 =>
      cV s8 v0 7 <|
      cl (rX9_piece v0 s8) fun x9 s10 =>
      cI s10 x7 <|
      cl (sX13_init x7 x9 (iI 0) s10) fun _ s11 =>
      pR s11 v2 10 2 x7 fun s12 =>
      gR s12 v2 10 2 fun x13 =>
      k15 v0 v1 x13 s12
    else
      some (v1, s4)
noncomputable def sX9_pieces_15 (rX9_condition : Option Nat → Mem → Option (Option Nat × Mem)) (rX9_piece : Option Nat → Mem → Option (Option Nat × Mem)) (rX9_pieces : Option Nat → Mem → Option (Option Nat × Mem)) : Nat → Option Nat → Option Nat → Option Nat → Mem → Option (Option Nat × Mem)
  | 0 => fun _ _ _ _ => none
  | f + 1 => sX9_pieces_15b rX9_condition rX9_piece rX9_pieces (sX9_pieces_15 rX9_condition rX9_piece rX9_pieces f)
noncomputable def sX9_pieces_0 (rX9_condition : Option Nat → Mem → Option (Option Nat × Mem)) (rX9_piece : Option Nat → Mem → Option (Option Nat × Mem)) (rX9_pieces : Option Nat → Mem → Option (Option Nat × Mem)) (v0 : Option Nat) (σ : Mem) : Option (Option Nat × Mem) :=
  nO σ 10 3 fun x1 s2 =>
  cV s2 v0 7 <|
  cl (rX9_piece v0 s2) fun x3 s4 =>
  cI s4 x1 <|
  cl (sX13_init x1 x3 (iI 0) s4) fun _ s5 =>
  sX9_pieces_15 rX9_condition rX9_piece rX9_pieces FU v0 x1 x1 s5
noncomputable def gX9_condition : Nat → (Option Nat → Mem → Option (Option Nat × Mem)) × (Option Nat → Mem → Option (Option Nat × Mem)) × (Option Nat → Mem → Option (Option Nat × Mem))
  | 0 => (fun _ _ => none, fun _ _ => none, fun _ _ => none)
  | d + 1 => (sX9_condition_0 ((gX9_condition d).1) ((gX9_condition d).2.1) ((gX9_condition d).2.2), sX9_piece_0 ((gX9_condition d).1) ((gX9_condition d).2.1) ((gX9_condition d).2.2), sX9_pieces_0 ((gX9_condition d).1) ((gX9_condition d).2.1) ((gX9_condition d).2.2))
noncomputable def sX9_condition (d : Nat) : Option Nat → Mem → Option (Option Nat × Mem) := (gX9_condition d).1
noncomputable def sX9_piece (d : Nat) : Option Nat → Mem → Option (Option Nat × Mem) := (gX9_condition d).2.1
noncomputable def sX9_pieces (d : Nat) : Option Nat → Mem → Option (Option Nat × Mem) := (gX9_condition d).2.2
noncomputable def sX9_clause_129 (v0 : Option Nat) (v1 : Int32) (v2 : Option Nat) (t0 : Option Nat) (σ : Mem) : Option (Unit × Mem) :=
  gR σ v0 7 1 fun x1 =>
  gR σ x1 4 0 fun x2 =>
  gR σ v0 7 1 fun x3 =>
  gI σ x3 4 3 fun x4 =>
  sI σ x2 x4 v1 fun s5 =>
  gR s5 v0 7 1 fun x6 =>
  gR s5 x6 4 1 fun x7 =>
  gR s5 v0 7 1 fun x8 =>
  gI s5 x8 4 3 fun x9 =>
  sR s5 x7 24 x9 5 v2 fun s10 =>
  gR s10 v0 7 1 fun x11 =>
  gR s10 x11 4 2 fun x12 =>
  gR s10 v0 7 1 fun x13 =>
  gI s10 x13 4 3 fun x14 =>
  sR s10 x12 25 x14 10 t0 fun s15 =>
  gR s15 v0 7 1 fun x16 =>
  gI s15 x16 4 3 fun x17 =>
  pI s15 x16 4 3 (x17 + (iI 1)) fun s18 =>
  some ((), s18)
noncomputable def sX9_clause_114 (v0 : Option Nat) (v1 : Int32) (v2 : Option Nat) (σ : Mem) : Option (Unit × Mem) :=
  cV σ v0 7 <|
  cl (sX9_isGood v0 σ) fun x1 s2 =>
  if x1 = (iI 0) then
    sX9_clause_129 v0 v1 v2 none s2
  else
    cV s2 v0 7 <|
    cl (sX9_condition 40 v0 s2) fun x3 s4 =>
    sX9_clause_129 v0 v1 v2 x3 s4
noncomputable def sX9_clause_88 (v0 : Option Nat) (v1 : Int32) (t0 : Option Nat) (σ : Mem) : Option (Unit × Mem) :=
  cV σ v0 7 <|
  cl (sX9_isGood v0 σ) fun x1 s2 =>
  if x1 = (iI 0) then
    sX9_clause_114 v0 v1 t0 s2
  else
    cV s2 v0 7 <|
    cl (sX9_here v0 s2) fun x3 s4 =>
    if x3 = (iI 40) then
      sX9_clause_114 v0 v1 t0 s4
    else
      gI s4 v0 7 2 fun x5 =>
      cV s4 v0 7 <|
      cl (sX9_bad v0 (iI 1) x5 s4) fun _ s6 =>
      sX9_clause_114 v0 v1 t0 s6
noncomputable def sX9_clause_51 (v0 : Option Nat) (v1 : Int32) (σ : Mem) : Option (Unit × Mem) :=
  cV σ v0 7 <|
  cl (sX9_isGood v0 σ) fun x1 s2 =>
  if x1 = (iI 0) then
    some ((), s2)
  else
    gI s2 v0 7 2 fun x3 =>
    pI s2 v0 7 2 (x3 + (iI 1)) fun s4 =>
    pI s4 v0 7 3 (iI 0) fun s5 =>
    if v1 = (iI 120) then
      sX9_clause_88 v0 v1 none s5
    else
      cV s5 v0 7 <|
      cl (sX9_sum 40 v0 s5) fun x6 s7 =>
      sX9_clause_88 v0 v1 x6 s7
noncomputable def sX9_clause_18 (v0 : Option Nat) (v1 : Int32) (σ : Mem) : Option (Unit × Mem) :=
  gI σ v0 7 2 fun x1 =>
  cV σ v0 7 <|
  cl (sX9_bad v0 (iI 1) x1 σ) fun _ s2 =>
  sX9_clause_51 v0 v1 s2
noncomputable def sX9_clause (v0 : Option Nat) (σ : Mem) : Option (Unit × Mem) :=
  cV σ v0 7 <|
  cl (sX9_here v0 σ) fun x1 s2 =>
  if x1 = (iI 0) then
    sX9_clause_18 v0 x1 s2
  else
    if (iI 0) ≤ (ixo (lits 0) x1) then
      gR s2 v0 7 1 fun x3 =>
      gI s2 x3 4 3 fun x4 =>
      if x4 = (iI 16) then
        gI s2 v0 7 2 fun x5 =>
        cV s2 v0 7 <|
        cl (sX9_bad v0 (iI 4) x5 s2) fun _ s6 =>
        sX9_clause_51 v0 x1 s6
      else
        sX9_clause_51 v0 x1 s2
    else
      sX9_clause_18 v0 x1 s2
noncomputable def sX9_read_54 (v0 : Option Nat) (σ : Mem) : Option (Int32 × Mem) :=
  cV σ v0 7 <|
  cl (sX9_isGood v0 σ) fun x1 s2 =>
  if x1 = (iI 0) then
    gI s2 v0 7 4 fun x3 =>
    gI s2 v0 7 5 fun x4 =>
    some (((iI (-1000)) * x3) - x4, s2)
  else
    gR s2 v0 7 1 fun x5 =>
    gI s2 x5 4 3 fun x6 =>
    some (x6, s2)
noncomputable def sX9_read_40 (k2 : Option Nat → Int32 → Mem → Option (Int32 × Mem)) (v0 : Option Nat) (t0 : Int32) (σ : Mem) : Option (Int32 × Mem) :=
  if t0 = (iI 0) then
    k2 v0 t0 σ
  else
    cV σ v0 7 <|
    cl (sX9_must v0 (iI 59) σ) fun _ s1 =>
    k2 v0 t0 s1
noncomputable def sX9_read_39 (k2 : Option Nat → Int32 → Mem → Option (Int32 × Mem)) (v0 : Option Nat) (σ : Mem) : Option (Int32 × Mem) :=
  sX9_read_40 k2 v0 (iI 0) σ
noncomputable def sX9_read_2b (k2 : Option Nat → Int32 → Mem → Option (Int32 × Mem)) (v0 : Option Nat) (v1 : Int32) (σ : Mem) : Option (Int32 × Mem) :=
  if v1 = (iI 0) then
    sX9_read_54 v0 σ
  else
    cV σ v0 7 <|
    cl (sX9_isGood v0 σ) fun x1 s2 =>
    if x1 = (iI 0) then
      sX9_read_54 v0 s2
    else
      cV s2 v0 7 <|
      cl (sX9_clause v0 s2) fun _ s3 =>
      cV s3 v0 7 <|
      cl (sX9_isGood v0 s3) fun x4 s5 =>
      if x4 = (iI 0) then
        sX9_read_39 k2 v0 s5
      else
        gI s5 v0 7 2 fun x6 =>
        gI s5 v0 7 0 fun x7 =>
        if x7 ≤ x6 then
          sX9_read_39 k2 v0 s5
        else
          sX9_read_40 k2 v0 (iI 1) s5
noncomputable def sX9_read_2 : Nat → Option Nat → Int32 → Mem → Option (Int32 × Mem)
  | 0 => fun _ _ _ => none
  | f + 1 => sX9_read_2b (sX9_read_2 f)
noncomputable def sX9_read (v0 : Option Nat) (σ : Mem) : Option (Int32 × Mem) :=
  sX9_read_2 FU v0 (iI 1) σ
noncomputable def sX0_law (v0 : Option Nat) (v1 : Int32) (σ : Mem) : Option (Int32 × Mem) :=
  cl (sX0_within v1 (iI 1) (iI 240) σ) fun x1 s2 =>
  if x1 = (iI 0) then
    some (iI (-1), s2)
  else
    gI s2 v0 0 6 fun x3 =>
    if v1 ≤ x3 then
      pI s2 v0 0 6 (iI 0) fun s4 =>
      nO s4 7 7 fun x5 s6 =>
      cI s6 x5 <|
      cl (sX9_init x5 v0 v1 s6) fun _ s7 =>
      cV s7 x5 7 <|
      cl (sX9_read x5 s7) fun x8 s9 =>
      if x8 < (iI 0) then
        some (x8, s9)
      else
        gR s9 x5 7 1 fun x10 =>
        pR s9 v0 0 5 x10 fun s11 =>
        some (x8, s11)
    else
      some (iI (-1), s2)
noncomputable def sX16_init (v0 : Option Nat) (v1 : Option Nat) (v2 : Int32) (σ : Mem) : Option (Unit × Mem) :=
  pR σ v0 13 10 v1 fun s1 =>
  cI s1 v0 <|
  nA s1 20 (iI 200) fun x2 s3 =>
  pR s3 v0 13 1 x2 fun s4 =>
  nA s4 20 (iI 200) fun x5 s6 =>
  pR s6 v0 13 2 x5 fun s7 =>
  nA s7 20 (iI 200) fun x8 s9 =>
  pR s9 v0 13 3 x8 fun s10 =>
  nA s10 20 (iI 200) fun x11 s12 =>
  pR s12 v0 13 4 x11 fun s13 =>
  pI s13 v0 13 0 v2 fun s14 =>
  some ((), s14)
noncomputable def sX16_isGood (v0 : Option Nat) (σ : Mem) : Option (Int32 × Mem) :=
  gI σ v0 13 6 fun x1 =>
  if x1 = (iI 0) then
    rZ (iI 1) σ
  else
    rZ (iI 0) σ
noncomputable def sX16_here (v0 : Option Nat) (σ : Mem) : Option (Int32 × Mem) :=
  gI σ v0 13 5 fun x1 =>
  gI σ v0 13 0 fun x2 =>
  if x2 ≤ x1 then
    some (iI 0, σ)
  else
    gR σ v0 13 10 fun x3 =>
    gR σ x3 0 4 fun x4 =>
    gI σ v0 13 5 fun x5 =>
    aB σ x4 x5 fun x6 =>
    some (x6 &&& (iI 255), σ)
noncomputable def sX16_bad (v0 : Option Nat) (v1 : Int32) (v2 : Int32) (σ : Mem) : Option (Unit × Mem) :=
  gI σ v0 13 6 fun x1 =>
  if x1 ≤ (iI 0) then
    pI σ v0 13 6 v1 fun s2 =>
    pI s2 v0 13 7 v2 fun s3 =>
    some ((), s3)
  else
    some ((), σ)
noncomputable def sX16_digit_32 (v0 : Option Nat) (v2 : Int32) (σ : Mem) : Option (Int32 × Mem) :=
  gI σ v0 13 5 fun x1 =>
  pI σ v0 13 5 (x1 + (iI 1)) fun s2 =>
  some (v2, s2)
noncomputable def sX16_digit (v0 : Option Nat) (v1 : Int32) (σ : Mem) : Option (Int32 × Mem) :=
  cV σ v0 13 <|
  cl (sX16_here v0 σ) fun x1 s2 =>
  cV s2 v0 13 <|
  cl (sX16_isGood v0 s2) fun x3 s4 =>
  if x3 = (iI 0) then
    sX16_digit_32 v0 (x1 - (iI 48)) s4
  else
    cl (sX0_in (x1 - (iI 48)) v1 s4) fun x5 s6 =>
    if x5 = (iI 0) then
      gI s6 v0 13 5 fun x7 =>
      cV s6 v0 13 <|
      cl (sX16_bad v0 (iI 1) x7 s6) fun _ s8 =>
      sX16_digit_32 v0 (x1 - (iI 48)) s8
    else
      sX16_digit_32 v0 (x1 - (iI 48)) s6
noncomputable def sX16_act_192 (v0 : Option Nat) (v3 : Int32) (v4 : Int32) (v6 : Int32) (v7 : Int32) (σ : Mem) : Option (Unit × Mem) :=
  cV σ v0 13 <|
  cl (sX16_isGood v0 σ) fun x1 s2 =>
  if x1 = (iI 0) then
    some ((), s2)
  else
    gR s2 v0 13 1 fun x3 =>
    gI s2 v0 13 8 fun x4 =>
    sI s2 x3 x4 v3 fun s5 =>
    gR s5 v0 13 2 fun x6 =>
    gI s5 v0 13 8 fun x7 =>
    sI s5 x6 x7 v4 fun s8 =>
    gR s8 v0 13 3 fun x9 =>
    gI s8 v0 13 8 fun x10 =>
    sI s8 x9 x10 v6 fun s11 =>
    gR s11 v0 13 4 fun x12 =>
    gI s11 v0 13 8 fun x13 =>
    sI s11 x12 x13 v7 fun s14 =>
    gI s14 v0 13 8 fun x15 =>
    pI s14 v0 13 8 (x15 + (iI 1)) fun s16 =>
    some ((), s16)
noncomputable def sX16_act_164 (v0 : Option Nat) (v1 : Int32) (v2 : Int32) (v3 : Int32) (v4 : Int32) (v6 : Int32) (t0 : Int32) (σ : Mem) : Option (Unit × Mem) :=
  cV σ v0 13 <|
  cl (sX16_isGood v0 σ) fun x1 s2 =>
  if x1 = (iI 0) then
    sX16_act_192 v0 v3 v4 v6 t0 s2
  else
    gI s2 v0 13 8 fun x3 =>
    if (x3 + v2) ≤ (iI 200) then
      sX16_act_192 v0 v3 v4 v6 t0 s2
    else
      cV s2 v0 13 <|
      cl (sX16_bad v0 (iI 6) v1 s2) fun _ s4 =>
      sX16_act_192 v0 v3 v4 v6 t0 s4
noncomputable def sX16_act_148 (v0 : Option Nat) (v1 : Int32) (v2 : Int32) (v3 : Int32) (v4 : Int32) (v6 : Int32) (σ : Mem) : Option (Unit × Mem) :=
  if v3 = (iI 119) then
    cV σ v0 13 <|
    cl (sX16_digit v0 (iI 10) σ) fun x1 s2 =>
    sX16_act_164 v0 v1 v2 v3 v4 v6 x1 s2
  else
    sX16_act_164 v0 v1 v2 v3 v4 v6 (iI 0) σ
noncomputable def sX16_act_133 (v0 : Option Nat) (v1 : Int32) (v2 : Int32) (v3 : Int32) (v4 : Int32) (v5 : Int32) (v6 : Int32) (σ : Mem) : Option (Unit × Mem) :=
  if v4 = v6 then
    cV σ v0 13 <|
    cl (sX16_bad v0 (iI 7) v5 σ) fun _ s1 =>
    sX16_act_148 v0 v1 v2 v3 v4 v6 s1
  else
    sX16_act_148 v0 v1 v2 v3 v4 v6 σ
noncomputable def sX16_act_112 (v0 : Option Nat) (v1 : Int32) (v2 : Int32) (v3 : Int32) (v4 : Int32) (v5 : Int32) (t0 : Int32) (σ : Mem) : Option (Unit × Mem) :=
  cV σ v0 13 <|
  cl (sX16_isGood v0 σ) fun x1 s2 =>
  if x1 = (iI 0) then
    sX16_act_148 v0 v1 v2 v3 v4 t0 s2
  else
    if v3 = (iI 120) then
      sX16_act_133 v0 v1 v2 v3 v4 v5 t0 s2
    else
      if v3 = (iI 106) then
        sX16_act_133 v0 v1 v2 v3 v4 v5 t0 s2
      else
        sX16_act_148 v0 v1 v2 v3 v4 t0 s2
noncomputable def sX16_act_85 (v0 : Option Nat) (v1 : Int32) (v2 : Int32) (v3 : Int32) (v4 : Int32) (v5 : Int32) (σ : Mem) : Option (Unit × Mem) :=
  sX16_act_112 v0 v1 v2 v3 v4 v5 (iI 0) σ
noncomputable def sX16_act_109 (v0 : Option Nat) (v1 : Int32) (v2 : Int32) (v3 : Int32) (v4 : Int32) (v5 : Int32) (t0 : Option Nat) (t1 : Int32) (σ : Mem) : Option (Unit × Mem) :=
  cV σ t0 13 <|
  cl (sX16_digit t0 t1 σ) fun x1 s2 =>
  sX16_act_112 v0 v1 v2 v3 v4 v5 x1 s2
noncomputable def sX16_act_102 (v0 : Option Nat) (v1 : Int32) (v2 : Int32) (v3 : Int32) (v4 : Int32) (v5 : Int32) (t0 : Option Nat) (σ : Mem) : Option (Unit × Mem) :=
  sX16_act_109 v0 v1 v2 v3 v4 v5 t0 (iI 8) σ
noncomputable def sX16_act_53 (v0 : Option Nat) (v1 : Int32) (v2 : Int32) (v3 : Int32) (t0 : Int32) (σ : Mem) : Option (Unit × Mem) :=
  gI σ v0 13 5 fun x1 =>
  if v3 = (iI 46) then
    sX16_act_85 v0 v1 v2 v3 t0 x1 σ
  else
    if v3 = (iI 107) then
      sX16_act_85 v0 v1 v2 v3 t0 x1 σ
    else
      if v3 = (iI 117) then
        sX16_act_85 v0 v1 v2 v3 t0 x1 σ
      else
        if v3 = (iI 99) then
          sX16_act_85 v0 v1 v2 v3 t0 x1 σ
        else
          if v3 = (iI 119) then
            sX16_act_102 v0 v1 v2 v3 t0 x1 v0 σ
          else
            if v3 = (iI 114) then
              sX16_act_102 v0 v1 v2 v3 t0 x1 v0 σ
            else
              sX16_act_109 v0 v1 v2 v3 t0 x1 v0 (iI 7) σ
noncomputable def sX16_act_27 (v0 : Option Nat) (v1 : Int32) (v2 : Int32) (v3 : Int32) (σ : Mem) : Option (Unit × Mem) :=
  gI σ v0 13 5 fun x1 =>
  pI σ v0 13 5 (x1 + (iI 1)) fun s2 =>
  if v3 = (iI 46) then
    sX16_act_53 v0 v1 v2 v3 (iI 0) s2
  else
    cV s2 v0 13 <|
    cl (sX16_digit v0 (iI 7) s2) fun x3 s4 =>
    sX16_act_53 v0 v1 v2 v3 x3 s4
noncomputable def sX16_act_18 (v0 : Option Nat) (v1 : Int32) (v2 : Int32) (v3 : Int32) (σ : Mem) : Option (Unit × Mem) :=
  gI σ v0 13 5 fun x1 =>
  cV σ v0 13 <|
  cl (sX16_bad v0 (iI 1) x1 σ) fun _ s2 =>
  sX16_act_27 v0 v1 v2 v3 s2
noncomputable def sX16_act (v0 : Option Nat) (v1 : Int32) (v2 : Int32) (σ : Mem) : Option (Unit × Mem) :=
  cV σ v0 13 <|
  cl (sX16_here v0 σ) fun x1 s2 =>
  if x1 = (iI 0) then
    sX16_act_18 v0 v1 v2 x1 s2
  else
    if (iI 0) ≤ (ixo (lits 2) x1) then
      sX16_act_27 v0 v1 v2 x1 s2
    else
      sX16_act_18 v0 v1 v2 x1 s2
noncomputable def sX16_all_45 (rX16_all : Option Nat → Mem → Option (Unit × Mem)) (rX16_one : Option Nat → Mem → Option (Unit × Mem)) (rX16_rounds : Option Nat → Mem → Option (Unit × Mem)) (k5 : Option Nat → Int32 → Mem → Option (Unit × Mem)) (v0 : Option Nat) (t0 : Int32) (σ : Mem) : Option (Unit × Mem) :=
  k5 v0 t0 σ
noncomputable def sX16_all_44 (rX16_all : Option Nat → Mem → Option (Unit × Mem)) (rX16_one : Option Nat → Mem → Option (Unit × Mem)) (rX16_rounds : Option Nat → Mem → Option (Unit × Mem)) (k5 : Option Nat → Int32 → Mem → Option (Unit × Mem)) (v0 : Option Nat) (σ : Mem) : Option (Unit × Mem) :=
  sX16_all_45 rX16_all rX16_one rX16_rounds k5 v0 (iI 0) σ
noncomputable def sX16_all_5b (rX16_all : Option Nat → Mem → Option (Unit × Mem)) (rX16_one : Option Nat → Mem → Option (Unit × Mem)) (rX16_rounds : Option Nat → Mem → Option (Unit × Mem)) (k5 : Option Nat → Int32 → Mem → Option (Unit × Mem)) (v0 : Option Nat) (v1 : Int32) (σ : Mem) : Option (Unit × Mem) :=
  if v1 = (iI 0) then
    some ((), σ)
  else
    cV σ v0 13 <|
    cl (rX16_one v0 σ) fun _ s1 =>
    cV s1 v0 13 <|
    cl (sX16_isGood v0 s1) fun x2 s3 =>
    if x2 = (iI 0) then
      sX16_all_44 rX16_all rX16_one rX16_rounds k5 v0 s3
    else
      gI s3 v0 13 5 fun x4 =>
      gI s3 v0 13 0 fun x5 =>
      if x5 ≤ x4 then
        sX16_all_44 rX16_all rX16_one rX16_rounds k5 v0 s3
      else
        cV s3 v0 13 <|
        cl (sX16_here v0 s3) fun x6 s7 =>
        if x6 = (iI 41) then
          sX16_all_44 rX16_all rX16_one rX16_rounds k5 v0 s7
        else
          sX16_all_45 rX16_all rX16_one rX16_rounds k5 v0 (iI 1) s7
noncomputable def sX16_all_5 (rX16_all : Option Nat → Mem → Option (Unit × Mem)) (rX16_one : Option Nat → Mem → Option (Unit × Mem)) (rX16_rounds : Option Nat → Mem → Option (Unit × Mem)) : Nat → Option Nat → Int32 → Mem → Option (Unit × Mem)
  | 0 => fun _ _ _ => none
  | f + 1 => sX16_all_5b rX16_all rX16_one rX16_rounds (sX16_all_5 rX16_all rX16_one rX16_rounds f)
noncomputable def sX16_all_0 (rX16_all : Option Nat → Mem → Option (Unit × Mem)) (rX16_one : Option Nat → Mem → Option (Unit × Mem)) (rX16_rounds : Option Nat → Mem → Option (Unit × Mem)) (v0 : Option Nat) (σ : Mem) : Option (Unit × Mem) :=
  cV σ v0 13 <|
  cl (sX16_isGood v0 σ) fun x1 s2 =>
  sX16_all_5 rX16_all rX16_one rX16_rounds FU v0 x1 s2
noncomputable def sX16_one_115b (rX16_all : Option Nat → Mem → Option (Unit × Mem)) (rX16_one : Option Nat → Mem → Option (Unit × Mem)) (rX16_rounds : Option Nat → Mem → Option (Unit × Mem)) (k115 : Option Nat → Int32 → Int32 → Int32 → Int32 → Mem → Option (Unit × Mem)) (v0 : Option Nat) (v2 : Int32) (v3 : Int32) (v4 : Int32) (v5 : Int32) (σ : Mem) : Option (Unit × Mem) :=
  cV σ v0 13 <|
  cl (sX16_isGood v0 σ) fun x1 s2 =>
  if x1 = (iI 0) then
    some ((), s2)
  else
    if (v4 * v2) ≤ v5 then
      some ((), s2)
    else
      gR s2 v0 13 1 fun x3 =>
      gI s2 v0 13 8 fun x4 =>
      gR s2 v0 13 1 fun x5 =>
      rm v5 v4 fun x6 =>
      aI s2 x5 (v3 + x6) fun x7 =>
      sI s2 x3 x4 x7 fun s8 =>
      gR s8 v0 13 2 fun x9 =>
      gI s8 v0 13 8 fun x10 =>
      gR s8 v0 13 2 fun x11 =>
      rm v5 v4 fun x12 =>
      aI s8 x11 (v3 + x12) fun x13 =>
      sI s8 x9 x10 x13 fun s14 =>
      gR s14 v0 13 3 fun x15 =>
      gI s14 v0 13 8 fun x16 =>
      gR s14 v0 13 3 fun x17 =>
      rm v5 v4 fun x18 =>
      aI s14 x17 (v3 + x18) fun x19 =>
      sI s14 x15 x16 x19 fun s20 =>
      gR s20 v0 13 4 fun x21 =>
      gI s20 v0 13 8 fun x22 =>
      gR s20 v0 13 4 fun x23 =>
      rm v5 v4 fun x24 =>
      aI s20 x23 (v3 + x24) fun x25 =>
      sI s20 x21 x22 x25 fun s26 =>
      gI s26 v0 13 8 fun x27 =>
      pI s26 v0 13 8 (x27 + (iI 1)) fun s28 =>
      k115 v0 v2 v3 v4 (v5 + iI 1) s28
noncomputable def sX16_one_115 (rX16_all : Option Nat → Mem → Option (Unit × Mem)) (rX16_one : Option Nat → Mem → Option (Unit × Mem)) (rX16_rounds : Option Nat → Mem → Option (Unit × Mem)) : Nat → Option Nat → Int32 → Int32 → Int32 → Int32 → Mem → Option (Unit × Mem)
  | 0 => fun _ _ _ _ _ _ => none
  | f + 1 => sX16_one_115b rX16_all rX16_one rX16_rounds (sX16_one_115 rX16_all rX16_one rX16_rounds f)
noncomputable def sX16_one_111 (rX16_all : Option Nat → Mem → Option (Unit × Mem)) (rX16_one : Option Nat → Mem → Option (Unit × Mem)) (rX16_rounds : Option Nat → Mem → Option (Unit × Mem)) (v0 : Option Nat) (v2 : Int32) (v3 : Int32) (v4 : Int32) (σ : Mem) : Option (Unit × Mem) :=
  sX16_one_115 rX16_all rX16_one rX16_rounds FU v0 v2 v3 v4 v4 σ
noncomputable def sX16_one_77 (rX16_all : Option Nat → Mem → Option (Unit × Mem)) (rX16_one : Option Nat → Mem → Option (Unit × Mem)) (rX16_rounds : Option Nat → Mem → Option (Unit × Mem)) (v0 : Option Nat) (v1 : Int32) (v2 : Int32) (v3 : Int32) (σ : Mem) : Option (Unit × Mem) :=
  gI σ v0 13 8 fun x1 =>
  cV σ v0 13 <|
  cl (sX16_isGood v0 σ) fun x2 s3 =>
  if x2 = (iI 0) then
    sX16_one_111 rX16_all rX16_one rX16_rounds v0 v2 v3 (x1 - v3) s3
  else
    if (v3 + ((x1 - v3) * v2)) ≤ (iI 200) then
      sX16_one_111 rX16_all rX16_one rX16_rounds v0 v2 v3 (x1 - v3) s3
    else
      cV s3 v0 13 <|
      cl (sX16_bad v0 (iI 6) v1 s3) fun _ s4 =>
      sX16_one_111 rX16_all rX16_one rX16_rounds v0 v2 v3 (x1 - v3) s4
noncomputable def sX16_one_50 (rX16_all : Option Nat → Mem → Option (Unit × Mem)) (rX16_one : Option Nat → Mem → Option (Unit × Mem)) (rX16_rounds : Option Nat → Mem → Option (Unit × Mem)) (v0 : Option Nat) (v1 : Int32) (v2 : Int32) (σ : Mem) : Option (Unit × Mem) :=
  gI σ v0 13 8 fun x1 =>
  cV σ v0 13 <|
  cl (sX16_here v0 σ) fun x2 s3 =>
  if x2 = (iI 40) then
    cV s3 v0 13 <|
    cl (rX16_rounds v0 s3) fun _ s5 =>
    sX16_one_77 rX16_all rX16_one rX16_rounds v0 v1 v2 x1 s5
  else
    cV s3 v0 13 <|
    cl (sX16_act v0 v1 v2 s3) fun _ s4 =>
    sX16_one_77 rX16_all rX16_one rX16_rounds v0 v1 v2 x1 s4
noncomputable def sX16_one_34 (rX16_all : Option Nat → Mem → Option (Unit × Mem)) (rX16_one : Option Nat → Mem → Option (Unit × Mem)) (rX16_rounds : Option Nat → Mem → Option (Unit × Mem)) (v0 : Option Nat) (v1 : Int32) (t0 : Int32) (σ : Mem) : Option (Unit × Mem) :=
  if t0 ≤ (iI 1) then
    sX16_one_50 rX16_all rX16_one rX16_rounds v0 v1 t0 σ
  else
    gI σ v0 13 5 fun x1 =>
    pI σ v0 13 5 (x1 + (iI 1)) fun s2 =>
    sX16_one_50 rX16_all rX16_one rX16_rounds v0 v1 t0 s2
noncomputable def sX16_one_33 (rX16_all : Option Nat → Mem → Option (Unit × Mem)) (rX16_one : Option Nat → Mem → Option (Unit × Mem)) (rX16_rounds : Option Nat → Mem → Option (Unit × Mem)) (v0 : Option Nat) (v1 : Int32) (σ : Mem) : Option (Unit × Mem) :=
  sX16_one_34 rX16_all rX16_one rX16_rounds v0 v1 (iI 1) σ
noncomputable def sX16_one_0 (rX16_all : Option Nat → Mem → Option (Unit × Mem)) (rX16_one : Option Nat → Mem → Option (Unit × Mem)) (rX16_rounds : Option Nat → Mem → Option (Unit × Mem)) (v0 : Option Nat) (σ : Mem) : Option (Unit × Mem) :=
  gI σ v0 13 5 fun x1 =>
  cV σ v0 13 <|
  cl (sX16_here v0 σ) fun x2 s3 =>
  if x2 < (iI 50) then
    sX16_one_33 rX16_all rX16_one rX16_rounds v0 x1 s3
  else
    cV s3 v0 13 <|
    cl (sX16_here v0 s3) fun x4 s5 =>
    if (iI 57) < x4 then
      sX16_one_33 rX16_all rX16_one rX16_rounds v0 x1 s5
    else
      cV s5 v0 13 <|
      cl (sX16_here v0 s5) fun x6 s7 =>
      sX16_one_34 rX16_all rX16_one rX16_rounds v0 x1 (x6 - (iI 48)) s7
noncomputable def sX16_rounds_66 (rX16_all : Option Nat → Mem → Option (Unit × Mem)) (rX16_one : Option Nat → Mem → Option (Unit × Mem)) (rX16_rounds : Option Nat → Mem → Option (Unit × Mem)) (v0 : Option Nat) (σ : Mem) : Option (Unit × Mem) :=
  gI σ v0 13 5 fun x1 =>
  pI σ v0 13 5 (x1 + (iI 1)) fun s2 =>
  gI s2 v0 13 9 fun x3 =>
  pI s2 v0 13 9 (x3 - (iI 1)) fun s4 =>
  some ((), s4)
noncomputable def sX16_rounds_17 (rX16_all : Option Nat → Mem → Option (Unit × Mem)) (rX16_one : Option Nat → Mem → Option (Unit × Mem)) (rX16_rounds : Option Nat → Mem → Option (Unit × Mem)) (v0 : Option Nat) (σ : Mem) : Option (Unit × Mem) :=
  gI σ v0 13 5 fun x1 =>
  pI σ v0 13 5 (x1 + (iI 1)) fun s2 =>
  gI s2 v0 13 9 fun x3 =>
  pI s2 v0 13 9 (x3 + (iI 1)) fun s4 =>
  cV s4 v0 13 <|
  cl (rX16_all v0 s4) fun _ s5 =>
  cV s5 v0 13 <|
  cl (sX16_isGood v0 s5) fun x6 s7 =>
  if x6 = (iI 0) then
    sX16_rounds_66 rX16_all rX16_one rX16_rounds v0 s7
  else
    cV s7 v0 13 <|
    cl (sX16_here v0 s7) fun x8 s9 =>
    if x8 = (iI 41) then
      sX16_rounds_66 rX16_all rX16_one rX16_rounds v0 s9
    else
      gI s9 v0 13 5 fun x10 =>
      cV s9 v0 13 <|
      cl (sX16_bad v0 (iI 1) x10 s9) fun _ s11 =>
      sX16_rounds_66 rX16_all rX16_one rX16_rounds v0 s11
noncomputable def sX16_rounds_0 (rX16_all : Option Nat → Mem → Option (Unit × Mem)) (rX16_one : Option Nat → Mem → Option (Unit × Mem)) (rX16_rounds : Option Nat → Mem → Option (Unit × Mem)) (v0 : Option Nat) (σ : Mem) : Option (Unit × Mem) :=
  gI σ v0 13 9 fun x1 =>
  if x1 = (iI 2) then
    gI σ v0 13 5 fun x2 =>
    cV σ v0 13 <|
    cl (sX16_bad v0 (iI 5) x2 σ) fun _ s3 =>
    sX16_rounds_17 rX16_all rX16_one rX16_rounds v0 s3
  else
    sX16_rounds_17 rX16_all rX16_one rX16_rounds v0 σ
noncomputable def gX16_all : Nat → (Option Nat → Mem → Option (Unit × Mem)) × (Option Nat → Mem → Option (Unit × Mem)) × (Option Nat → Mem → Option (Unit × Mem))
  | 0 => (fun _ _ => none, fun _ _ => none, fun _ _ => none)
  | d + 1 => (sX16_all_0 ((gX16_all d).1) ((gX16_all d).2.1) ((gX16_all d).2.2), sX16_one_0 ((gX16_all d).1) ((gX16_all d).2.1) ((gX16_all d).2.2), sX16_rounds_0 ((gX16_all d).1) ((gX16_all d).2.1) ((gX16_all d).2.2))
noncomputable def sX16_all (d : Nat) : Option Nat → Mem → Option (Unit × Mem) := (gX16_all d).1
noncomputable def sX16_one (d : Nat) : Option Nat → Mem → Option (Unit × Mem) := (gX16_all d).2.1
noncomputable def sX16_rounds (d : Nat) : Option Nat → Mem → Option (Unit × Mem) := (gX16_all d).2.2
noncomputable def sX16_reads_31 (v0 : Option Nat) (σ : Mem) : Option (Int32 × Mem) :=
  cV σ v0 13 <|
  cl (sX16_isGood v0 σ) fun x1 s2 =>
  if x1 = (iI 0) then
    gI s2 v0 13 6 fun x3 =>
    gI s2 v0 13 7 fun x4 =>
    some (((iI (-1000)) * x3) - x4, s2)
  else
    gI s2 v0 13 8 fun x5 =>
    some (x5, s2)
noncomputable def sX16_reads (v0 : Option Nat) (σ : Mem) : Option (Int32 × Mem) :=
  cV σ v0 13 <|
  cl (sX16_all 40 v0 σ) fun _ s1 =>
  cV s1 v0 13 <|
  cl (sX16_isGood v0 s1) fun x2 s3 =>
  if x2 = (iI 0) then
    sX16_reads_31 v0 s3
  else
    gI s3 v0 13 5 fun x4 =>
    gI s3 v0 13 0 fun x5 =>
    if x5 ≤ x4 then
      sX16_reads_31 v0 s3
    else
      gI s3 v0 13 5 fun x6 =>
      cV s3 v0 13 <|
      cl (sX16_bad v0 (iI 1) x6 s3) fun _ s7 =>
      sX16_reads_31 v0 s7
noncomputable def sX3_takesDue_54b (k54 : Option Nat → Int32 → Mem → Option (Int32 × Mem)) (v0 : Option Nat) (v2 : Int32) (σ : Mem) : Option (Int32 × Mem) :=
  gI σ v0 2 7 fun x1 =>
  if x1 ≤ v2 then
    rZ (iI 1) σ
  else
    gR σ v0 2 1 fun x2 =>
    aR σ x2 22 (v2 + (iI 1)) fun x3 =>
    gR σ v0 2 1 fun x4 =>
    aR σ x4 22 v2 fun x5 =>
    cV σ v0 2 <|
    cl (sX3_copies v0 x3 x5 σ) fun _ s6 =>
    k54 v0 (v2 + iI 1) s6
noncomputable def sX3_takesDue_54 : Nat → Option Nat → Int32 → Mem → Option (Int32 × Mem)
  | 0 => fun _ _ _ => none
  | f + 1 => sX3_takesDue_54b (sX3_takesDue_54 f)
noncomputable def sX3_takesDue_2b (k2 : Option Nat → Int32 → Mem → Option (Int32 × Mem)) (v0 : Option Nat) (v1 : Int32) (σ : Mem) : Option (Int32 × Mem) :=
  gI σ v0 2 7 fun x1 =>
  if x1 ≤ v1 then
    rZ (iI 0) σ
  else
    gR σ v0 2 1 fun x2 =>
    aR σ x2 22 v1 fun x3 =>
    aI σ x3 (iI 4) fun x4 =>
    gI σ v0 2 8 fun x5 =>
    if x4 ≤ x5 then
      gR σ v0 2 1 fun x6 =>
      aR σ x6 22 v1 fun x7 =>
      gR σ v0 2 15 fun x8 =>
      cV σ v0 2 <|
      cl (sX3_copies v0 x7 x8 σ) fun _ s9 =>
      gI s9 v0 2 7 fun x10 =>
      pI s9 v0 2 7 (x10 - (iI 1)) fun s11 =>
      sX3_takesDue_54 FU v0 v1 s11
    else
      k2 v0 (v1 + iI 1) σ
noncomputable def sX3_takesDue_2 : Nat → Option Nat → Int32 → Mem → Option (Int32 × Mem)
  | 0 => fun _ _ _ => none
  | f + 1 => sX3_takesDue_2b (sX3_takesDue_2 f)
noncomputable def sX3_takesDue (v0 : Option Nat) (σ : Mem) : Option (Int32 × Mem) :=
  sX3_takesDue_2 FU v0 (iI 0) σ
noncomputable def sX3_areLinked (v0 : Option Nat) (v1 : Int32) (v2 : Int32) (σ : Mem) : Option (Int32 × Mem) :=
  gR σ v0 2 4 fun x1 =>
  aI σ x1 v1 fun x2 =>
  cl (sX0_has x2 v2 σ) fun x3 s4 =>
  if x3 = (iI 0) then
    rZ (iI 1) s4
  else
    rZ (iI 0) s4
noncomputable def sX3_answers (v0 : Option Nat) (v1 : Int32) (v2 : Int32) (v3 : Int32) (v4 : Int32) (v5 : Int32) (v6 : Int32) (σ : Mem) : Option (Unit × Mem) :=
  cV σ v0 2 <|
  cl (sX3_writes v0 v1 v2 v3 v4 v5 v6 (iI 0) σ) fun x1 s2 =>
  cV s2 v0 2 <|
  cl (sX3_sends v0 s2) fun _ s3 =>
  some ((), s3)
noncomputable def sX3_votes_104 (t0 : Option Nat) (t1 : Int32) (t2 : Int32) (t3 : Int32) (t4 : Int32) (σ : Mem) : Option (Unit × Mem) :=
  cV σ t0 2 <|
  cl (sX3_answers t0 t1 t2 t3 t4 (iI 0) (iI 0) σ) fun _ s1 =>
  some ((), s1)
noncomputable def sX3_votes_86 (v0 : Option Nat) (v1 : Int32) (v3 : Int32) (σ : Mem) : Option (Unit × Mem) :=
  gR σ v0 2 15 fun x1 =>
  aI σ x1 (iI 0) fun x2 =>
  if v3 = (iI 0) then
    sX3_votes_104 v0 v1 x2 (iI 1) (iI 0) σ
  else
    sX3_votes_104 v0 v1 x2 (iI 1) (iI 1) σ
noncomputable def sX3_votes_66 (v0 : Option Nat) (v1 : Int32) (v2 : Option Nat) (t0 : Int32) (σ : Mem) : Option (Unit × Mem) :=
  if t0 = (iI 0) then
    sX3_votes_86 v0 v1 t0 σ
  else
    gR σ v0 2 15 fun x1 =>
    aI σ x1 (iI 0) fun x2 =>
    pI σ v2 3 10 x2 fun s3 =>
    cV s3 v0 2 <|
    cl (sX3_setsTimer v0 v1 s3) fun _ s4 =>
    sX3_votes_86 v0 v1 t0 s4
noncomputable def sX3_votes_65 (v0 : Option Nat) (v1 : Int32) (v2 : Option Nat) (σ : Mem) : Option (Unit × Mem) :=
  sX3_votes_66 v0 v1 v2 (iI 0) σ
noncomputable def sX3_votes_41 (v0 : Option Nat) (v1 : Int32) (v2 : Option Nat) (σ : Mem) : Option (Unit × Mem) :=
  gR σ v0 2 15 fun x1 =>
  aI σ x1 (iI 6) fun x2 =>
  gR σ v0 2 15 fun x3 =>
  aI σ x3 (iI 5) fun x4 =>
  cV σ v2 3 <|
  cl (sX4_isNoLess v2 x2 x4 σ) fun x5 s6 =>
  if x5 = (iI 0) then
    sX3_votes_65 v0 v1 v2 s6
  else
    sX3_votes_66 v0 v1 v2 (iI 1) s6
noncomputable def sX3_votes (v0 : Option Nat) (v1 : Int32) (σ : Mem) : Option (Unit × Mem) :=
  gR σ v0 2 0 fun x1 =>
  aR σ x1 23 v1 fun x2 =>
  gR σ v0 2 15 fun x3 =>
  aI σ x3 (iI 3) fun x4 =>
  gI σ x2 3 9 fun x5 =>
  if x4 = x5 then
    gI σ x2 3 10 fun x6 =>
    if x6 = (iI (-1)) then
      sX3_votes_41 v0 v1 x2 σ
    else
      gI σ x2 3 10 fun x7 =>
      gR σ v0 2 15 fun x8 =>
      aI σ x8 (iI 0) fun x9 =>
      if x7 = x9 then
        sX3_votes_41 v0 v1 x2 σ
      else
        sX3_votes_65 v0 v1 x2 σ
  else
    sX3_votes_65 v0 v1 x2 σ
noncomputable def sX3_leads_137 (v0 : Option Nat) (v1 : Int32) (v2 : Option Nat) (t0 : Option Nat) (t1 : Int32) (t2 : Int32) (σ : Mem) : Option (Unit × Mem) :=
  sI σ t0 t1 t2 fun s1 =>
  gI s1 v2 3 9 fun x2 =>
  cV s1 v2 3 <|
  cl (sX4_lays v2 x2 (iI 2) (iI 0) (iI 0) s1) fun x3 s4 =>
  gR s4 v2 3 7 fun x5 =>
  cV s4 v2 3 <|
  cl (sX4_last v2 s4) fun x6 s7 =>
  sI s7 x5 v1 x6 fun s8 =>
  cV s8 v0 2 <|
  cl (sX3_sendsToAll v0 v1 s8) fun _ s9 =>
  cV s9 v0 2 <|
  cl (sX3_holds 4 v0 v1 s9) fun _ s10 =>
  some ((), s10)
noncomputable def sX3_leads_103 (v0 : Option Nat) (v1 : Int32) (v2 : Option Nat) (σ : Mem) : Option (Unit × Mem) :=
  gR σ v0 2 5 fun x1 =>
  gI σ v2 3 9 fun x2 =>
  gR σ v0 2 5 fun x3 =>
  gI σ v2 3 9 fun x4 =>
  aI σ x3 x4 fun x5 =>
  if x5 = (iI (-1)) then
    sX3_leads_137 v0 v1 v2 x1 x2 v1 σ
  else
    gR σ v0 2 5 fun x6 =>
    gI σ v2 3 9 fun x7 =>
    aI σ x6 x7 fun x8 =>
    sX3_leads_137 v0 v1 v2 x1 x2 x8 σ
noncomputable def sX3_leads_19b (k19 : Option Nat → Int32 → Option Nat → Int32 → Mem → Option (Unit × Mem)) (v0 : Option Nat) (v1 : Int32) (v2 : Option Nat) (v3 : Int32) (σ : Mem) : Option (Unit × Mem) :=
  if (iI 7) ≤ v3 then
    pI σ v2 3 22 (iI 0) fun s1 =>
    pI s1 v2 3 21 (iI 1) fun s2 =>
    gR s2 v0 2 5 fun x3 =>
    gI s2 v2 3 9 fun x4 =>
    aI s2 x3 x4 fun x5 =>
    if x5 = (iI (-1)) then
      sX3_leads_103 v0 v1 v2 s2
    else
      gR s2 v0 2 5 fun x6 =>
      gI s2 v2 3 9 fun x7 =>
      aI s2 x6 x7 fun x8 =>
      if x8 = v1 then
        sX3_leads_103 v0 v1 v2 s2
      else
        gI s2 v0 2 10 fun x9 =>
        pI s2 v0 2 10 (x9 + (iI 1)) fun s10 =>
        sX3_leads_103 v0 v1 v2 s10
  else
    gR σ v2 3 6 fun x11 =>
    cV σ v2 3 <|
    cl (sX4_last v2 σ) fun x12 s13 =>
    sI s13 x11 v3 (x12 + (iI 1)) fun s14 =>
    gR s14 v2 3 7 fun x15 =>
    sI s14 x15 v3 (iI 0) fun s16 =>
    gR s16 v2 3 8 fun x17 =>
    sI s16 x17 v3 (iI 0) fun s18 =>
    k19 v0 v1 v2 (v3 + iI 1) s18
noncomputable def sX3_leads_19 : Nat → Option Nat → Int32 → Option Nat → Int32 → Mem → Option (Unit × Mem)
  | 0 => fun _ _ _ _ _ => none
  | f + 1 => sX3_leads_19b (sX3_leads_19 f)
noncomputable def sX3_leads (v0 : Option Nat) (v1 : Int32) (σ : Mem) : Option (Unit × Mem) :=
  gR σ v0 2 0 fun x1 =>
  aR σ x1 23 v1 fun x2 =>
  pI σ x2 3 16 (iI 2) fun s3 =>
  pI s3 x2 3 19 v1 fun s4 =>
  sX3_leads_19 FU v0 v1 x2 (iI 0) s4
noncomputable def sX3_countsVote (v0 : Option Nat) (v1 : Int32) (σ : Mem) : Option (Unit × Mem) :=
  gR σ v0 2 0 fun x1 =>
  aR σ x1 23 v1 fun x2 =>
  gI σ x2 3 16 fun x3 =>
  if x3 = (iI 1) then
    gR σ v0 2 15 fun x4 =>
    aI σ x4 (iI 3) fun x5 =>
    gI σ x2 3 9 fun x6 =>
    if x5 = x6 then
      gR σ v0 2 15 fun x7 =>
      aI σ x7 (iI 5) fun x8 =>
      if x8 = (iI 0) then
        some ((), σ)
      else
        gI σ x2 3 20 fun x9 =>
        gR σ v0 2 15 fun x10 =>
        aI σ x10 (iI 0) fun x11 =>
        pI σ x2 3 20 (x9 ||| ((iI 1) <<< (x11 &&& 31))) fun s12 =>
        gI s12 x2 3 20 fun x13 =>
        cV s12 x2 3 <|
        cl (sX4_isMajority x2 x13 s12) fun x14 s15 =>
        if x14 = (iI 0) then
          some ((), s15)
        else
          cV s15 v0 2 <|
          cl (sX3_leads v0 v1 s15) fun _ s16 =>
          some ((), s16)
    else
      some ((), σ)
  else
    some ((), σ)
noncomputable def sX3_comesTo_102 (v0 : Option Nat) (v4 : Option Nat) (v5 : Int32) (σ : Mem) : Option (Int32 × Mem) :=
  gR σ v0 2 15 fun x1 =>
  aI σ x1 v5 fun x2 =>
  gR σ v0 2 15 fun x3 =>
  aI σ x3 (v5 + (iI 1)) fun x4 =>
  gR σ v0 2 15 fun x5 =>
  aI σ x5 (v5 + (iI 2)) fun x6 =>
  gR σ v0 2 15 fun x7 =>
  aI σ x7 (v5 + (iI 3)) fun x8 =>
  cV σ v4 3 <|
  cl (sX4_lays v4 x2 x4 x6 x8 σ) fun x9 s10 =>
  rZ x9 s10
noncomputable def sX3_comesTo_88 (v0 : Option Nat) (v2 : Int32) (v4 : Option Nat) (v5 : Int32) (σ : Mem) : Option (Int32 × Mem) :=
  gI σ v4 3 11 fun x1 =>
  pI σ v4 3 15 ((v2 - x1) - (iI 1)) fun s2 =>
  sX3_comesTo_102 v0 v4 v5 s2
noncomputable def sX3_comesTo_52 (v0 : Option Nat) (v2 : Int32) (v4 : Option Nat) (v5 : Int32) (σ : Mem) : Option (Int32 × Mem) :=
  cV σ v4 3 <|
  cl (sX4_hasEntry v4 v2 σ) fun x1 s2 =>
  if x1 = (iI 0) then
    sX3_comesTo_102 v0 v4 v5 s2
  else
    gI s2 v4 3 17 fun x3 =>
    if x3 < v2 then
      sX3_comesTo_88 v0 v2 v4 v5 s2
    else
      gI s2 v0 2 10 fun x4 =>
      pI s2 v0 2 10 (x4 + (iI 1)) fun s5 =>
      pI s5 v4 3 17 (v2 - (iI 1)) fun s6 =>
      sX3_comesTo_88 v0 v2 v4 v5 s6
noncomputable def sX3_comesTo (v0 : Option Nat) (v1 : Int32) (v2 : Int32) (v3 : Int32) (σ : Mem) : Option (Int32 × Mem) :=
  gR σ v0 2 0 fun x1 =>
  aR σ x1 23 v1 fun x2 =>
  gI σ x2 3 11 fun x3 =>
  if v2 ≤ x3 then
    rZ (iI 1) σ
  else
    cV σ x2 3 <|
    cl (sX4_hasEntry x2 v2 σ) fun x4 s5 =>
    if x4 = (iI 0) then
      sX3_comesTo_52 v0 v2 x2 ((iI 10) + ((iI 4) * v3)) s5
    else
      cV s5 x2 3 <|
      cl (sX4_termAt x2 v2 s5) fun x6 s7 =>
      gR s7 v0 2 15 fun x8 =>
      aI s7 x8 ((iI 10) + ((iI 4) * v3)) fun x9 =>
      if x6 = x9 then
        rZ (iI 1) s7
      else
        sX3_comesTo_52 v0 v2 x2 ((iI 10) + ((iI 4) * v3)) s7
noncomputable def sX3_takesEntries_186 (v0 : Option Nat) (v1 : Int32) (v3 : Int32) (v5 : Int32) (σ : Mem) : Option (Unit × Mem) :=
  gR σ v0 2 15 fun x1 =>
  aI σ x1 (iI 7) fun x2 =>
  cV σ v0 2 <|
  cl (sX3_commits v0 v1 (mni x2 v5) σ) fun _ s3 =>
  gR s3 v0 2 15 fun x4 =>
  aI s3 x4 (iI 8) fun x5 =>
  cV s3 v0 2 <|
  cl (sX3_answers v0 v1 v3 (iI 3) (iI 1) v5 x5 s3) fun _ s6 =>
  some ((), s6)
noncomputable def sX3_takesEntries_142b (k142 : Option Nat → Int32 → Int32 → Int32 → Int32 → Int32 → Mem → Option (Unit × Mem)) (v0 : Option Nat) (v1 : Int32) (v3 : Int32) (v4 : Int32) (v5 : Int32) (v6 : Int32) (σ : Mem) : Option (Unit × Mem) :=
  gR σ v0 2 15 fun x1 =>
  aI σ x1 (iI 9) fun x2 =>
  if x2 ≤ v6 then
    sX3_takesEntries_186 v0 v1 v3 v5 σ
  else
    cV σ v0 2 <|
    cl (sX3_comesTo v0 v1 ((v4 + (iI 1)) + v6) v6 σ) fun x3 s4 =>
    if x3 = (iI 0) then
      sX3_takesEntries_186 v0 v1 v3 v5 s4
    else
      k142 v0 v1 v3 v4 ((v4 + (iI 1)) + v6) (v6 + iI 1) s4
noncomputable def sX3_takesEntries_142 : Nat → Option Nat → Int32 → Int32 → Int32 → Int32 → Int32 → Mem → Option (Unit × Mem)
  | 0 => fun _ _ _ _ _ _ _ => none
  | f + 1 => sX3_takesEntries_142b (sX3_takesEntries_142 f)
noncomputable def sX3_takesEntries_135 (v0 : Option Nat) (v1 : Int32) (v3 : Int32) (v4 : Int32) (σ : Mem) : Option (Unit × Mem) :=
  sX3_takesEntries_142 FU v0 v1 v3 v4 v4 (iI 0) σ
noncomputable def sX3_takesEntries (v0 : Option Nat) (v1 : Int32) (σ : Mem) : Option (Unit × Mem) :=
  gR σ v0 2 0 fun x1 =>
  aR σ x1 23 v1 fun x2 =>
  gR σ v0 2 15 fun x3 =>
  aI σ x3 (iI 0) fun x4 =>
  gR σ v0 2 15 fun x5 =>
  aI σ x5 (iI 3) fun x6 =>
  gI σ x2 3 9 fun x7 =>
  if x7 ≤ x6 then
    cV σ v0 2 <|
    cl (sX3_follows v0 v1 x4 σ) fun _ s8 =>
    cV s8 v0 2 <|
    cl (sX3_setsTimer v0 v1 s8) fun _ s9 =>
    gR s9 v0 2 15 fun x10 =>
    aI s9 x10 (iI 5) fun x11 =>
    cV s9 x2 3 <|
    cl (sX4_last x2 s9) fun x12 s13 =>
    if x11 ≤ x12 then
      gI s13 x2 3 11 fun x14 =>
      if x11 < x14 then
        sX3_takesEntries_135 v0 v1 x4 x11 s13
      else
        cV s13 x2 3 <|
        cl (sX4_termAt x2 x11 s13) fun x15 s16 =>
        gR s16 v0 2 15 fun x17 =>
        aI s16 x17 (iI 6) fun x18 =>
        if x15 = x18 then
          sX3_takesEntries_135 v0 v1 x4 x11 s16
        else
          cV s16 x2 3 <|
          cl (sX4_firstOfTerm x2 x11 s16) fun x19 s20 =>
          gR s20 v0 2 15 fun x21 =>
          aI s20 x21 (iI 8) fun x22 =>
          cV s20 v0 2 <|
          cl (sX3_answers v0 v1 x4 (iI 3) (iI 0) x19 x22 s20) fun _ s23 =>
          some ((), s23)
    else
      cV s13 x2 3 <|
      cl (sX4_last x2 s13) fun x24 s25 =>
      gR s25 v0 2 15 fun x26 =>
      aI s25 x26 (iI 8) fun x27 =>
      cV s25 v0 2 <|
      cl (sX3_answers v0 v1 x4 (iI 3) (iI 0) (x24 + (iI 1)) x27 s25) fun _ s28 =>
      some ((), s28)
  else
    cV σ v0 2 <|
    cl (sX3_answers v0 v1 x4 (iI 3) (iI 0) (iI 1) (iI 0) σ) fun _ s29 =>
    some ((), s29)
noncomputable def sX3_takesSnapshot_177b (k177 : Option Nat → Int32 → Option Nat → Int32 → Int32 → Int32 → Mem → Option (Unit × Mem)) (v0 : Option Nat) (v1 : Int32) (v2 : Option Nat) (v3 : Int32) (v4 : Int32) (v5 : Int32) (σ : Mem) : Option (Unit × Mem) :=
  if (iI 8) ≤ v5 then
    gR σ v0 2 15 fun x1 =>
    aI σ x1 (iI 7) fun x2 =>
    cV σ v0 2 <|
    cl (sX3_answers v0 v1 v3 (iI 5) v4 x2 (iI 0) σ) fun _ s3 =>
    some ((), s3)
  else
    gR σ v2 3 5 fun x4 =>
    gR σ v0 2 15 fun x5 =>
    aI σ x5 ((iI 12) + v5) fun x6 =>
    sI σ x4 v5 x6 fun s7 =>
    gR s7 v2 3 4 fun x8 =>
    gR s7 v2 3 5 fun x9 =>
    aI s7 x9 v5 fun x10 =>
    sI s7 x8 v5 x10 fun s11 =>
    k177 v0 v1 v2 v3 v4 (v5 + iI 1) s11
noncomputable def sX3_takesSnapshot_177 : Nat → Option Nat → Int32 → Option Nat → Int32 → Int32 → Int32 → Mem → Option (Unit × Mem)
  | 0 => fun _ _ _ _ _ _ _ => none
  | f + 1 => sX3_takesSnapshot_177b (sX3_takesSnapshot_177 f)
noncomputable def sX3_takesSnapshot_126 (v0 : Option Nat) (v1 : Int32) (v2 : Option Nat) (v3 : Int32) (v4 : Int32) (t0 : Option Nat) (t1 : Int32) (σ : Mem) : Option (Unit × Mem) :=
  cV σ t0 3 <|
  cl (sX4_goes t0 t1 σ) fun _ s1 =>
  pI s1 v2 3 11 v4 fun s2 =>
  gR s2 v0 2 15 fun x3 =>
  aI s2 x3 (iI 6) fun x4 =>
  pI s2 v2 3 12 x4 fun s5 =>
  gR s5 v0 2 15 fun x6 =>
  aI s5 x6 (iI 10) fun x7 =>
  pI s5 v2 3 13 x7 fun s8 =>
  gR s8 v0 2 15 fun x9 =>
  aI s8 x9 (iI 11) fun x10 =>
  pI s8 v2 3 14 x10 fun s11 =>
  pI s11 v2 3 17 v4 fun s12 =>
  sX3_takesSnapshot_177 FU v0 v1 v2 v3 v4 (iI 0) s12
noncomputable def sX3_takesSnapshot_122 (v0 : Option Nat) (v1 : Int32) (v2 : Option Nat) (v3 : Int32) (v4 : Int32) (t0 : Option Nat) (σ : Mem) : Option (Unit × Mem) :=
  gI σ v2 3 15 fun x1 =>
  sX3_takesSnapshot_126 v0 v1 v2 v3 v4 t0 x1 σ
noncomputable def sX3_takesSnapshot (v0 : Option Nat) (v1 : Int32) (σ : Mem) : Option (Unit × Mem) :=
  gR σ v0 2 0 fun x1 =>
  aR σ x1 23 v1 fun x2 =>
  gR σ v0 2 15 fun x3 =>
  aI σ x3 (iI 0) fun x4 =>
  gR σ v0 2 15 fun x5 =>
  aI σ x5 (iI 3) fun x6 =>
  gI σ x2 3 9 fun x7 =>
  if x7 ≤ x6 then
    cV σ v0 2 <|
    cl (sX3_follows v0 v1 x4 σ) fun _ s8 =>
    cV s8 v0 2 <|
    cl (sX3_setsTimer v0 v1 s8) fun _ s9 =>
    gR s9 v0 2 15 fun x10 =>
    aI s9 x10 (iI 5) fun x11 =>
    gI s9 x2 3 17 fun x12 =>
    if x12 < x11 then
      cV s9 x2 3 <|
      cl (sX4_hasEntry x2 x11 s9) fun x13 s14 =>
      if x13 = (iI 0) then
        sX3_takesSnapshot_122 v0 v1 x2 x4 x11 x2 s14
      else
        cV s14 x2 3 <|
        cl (sX4_termAt x2 x11 s14) fun x15 s16 =>
        gR s16 v0 2 15 fun x17 =>
        aI s16 x17 (iI 6) fun x18 =>
        if x15 = x18 then
          gI s16 x2 3 11 fun x19 =>
          sX3_takesSnapshot_126 v0 v1 x2 x4 x11 x2 (x11 - x19) s16
        else
          sX3_takesSnapshot_122 v0 v1 x2 x4 x11 x2 s16
    else
      gI s9 x2 3 17 fun x20 =>
      gR s9 v0 2 15 fun x21 =>
      aI s9 x21 (iI 7) fun x22 =>
      cV s9 v0 2 <|
      cl (sX3_answers v0 v1 x4 (iI 5) x20 x22 (iI 0) s9) fun _ s23 =>
      some ((), s23)
  else
    cV σ v0 2 <|
    cl (sX3_answers v0 v1 x4 (iI 5) (iI 0) (iI 0) (iI 0) σ) fun _ s24 =>
    some ((), s24)
noncomputable def sX3_isLeadersOwn (v0 : Option Nat) (v1 : Int32) (σ : Mem) : Option (Int32 × Mem) :=
  gR σ v0 2 0 fun x1 =>
  aR σ x1 23 v1 fun x2 =>
  gI σ x2 3 16 fun x3 =>
  if x3 = (iI 2) then
    gR σ v0 2 15 fun x4 =>
    aI σ x4 (iI 3) fun x5 =>
    gR σ v0 2 0 fun x6 =>
    aR σ x6 23 v1 fun x7 =>
    gI σ x7 3 9 fun x8 =>
    if x5 = x8 then
      rZ (iI 1) σ
    else
      rZ (iI 0) σ
  else
    rZ (iI 0) σ
noncomputable def sX3_hears (v0 : Option Nat) (v1 : Int32) (v2 : Int32) (v3 : Int32) (σ : Mem) : Option (Unit × Mem) :=
  gR σ v0 2 0 fun x1 =>
  aR σ x1 23 v1 fun x2 =>
  gR σ v0 2 15 fun x3 =>
  aI σ x3 (iI 0) fun x4 =>
  gR σ x2 3 8 fun x5 =>
  gR σ x2 3 8 fun x6 =>
  aI σ x6 x4 fun x7 =>
  sI σ x5 x4 (mxi x7 v3) fun s8 =>
  gR s8 x2 3 7 fun x9 =>
  gR s8 x2 3 7 fun x10 =>
  aI s8 x10 x4 fun x11 =>
  sI s8 x9 x4 (mxi x11 v2) fun s12 =>
  gR s12 x2 3 6 fun x13 =>
  gR s12 x2 3 7 fun x14 =>
  aI s12 x14 x4 fun x15 =>
  sI s12 x13 x4 (x15 + (iI 1)) fun s16 =>
  cV s16 v0 2 <|
  cl (sX3_holds 4 v0 v1 s16) fun _ s17 =>
  gI s17 x2 3 16 fun x18 =>
  if x18 = (iI 2) then
    gR s17 x2 3 6 fun x19 =>
    aI s17 x19 x4 fun x20 =>
    cV s17 x2 3 <|
    cl (sX4_last x2 s17) fun x21 s22 =>
    if x21 < x20 then
      some ((), s22)
    else
      cV s22 v0 2 <|
      cl (sX3_sendsOn v0 v1 x4 s22) fun _ s23 =>
      some ((), s23)
  else
    some ((), s17)
noncomputable def sX3_isAnswered_147 (v0 : Option Nat) (v1 : Int32) (v2 : Option Nat) (σ : Mem) : Option (Unit × Mem) :=
  gI σ v2 3 16 fun x1 =>
  if x1 = (iI 2) then
    cV σ v0 2 <|
    cl (sX3_answersReads v0 v1 σ) fun _ s2 =>
    some ((), s2)
  else
    some ((), σ)
noncomputable def sX3_isAnswered (v0 : Option Nat) (v1 : Int32) (σ : Mem) : Option (Unit × Mem) :=
  cV σ v0 2 <|
  cl (sX3_isLeadersOwn v0 v1 σ) fun x1 s2 =>
  if x1 = (iI 0) then
    some ((), s2)
  else
    gR s2 v0 2 0 fun x3 =>
    aR s2 x3 23 v1 fun x4 =>
    gR s2 v0 2 15 fun x5 =>
    aI s2 x5 (iI 0) fun x6 =>
    gR s2 v0 2 15 fun x7 =>
    aI s2 x7 (iI 2) fun x8 =>
    if x8 = (iI 5) then
      gR s2 v0 2 15 fun x31 =>
      aI s2 x31 (iI 5) fun x32 =>
      gR s2 v0 2 15 fun x33 =>
      aI s2 x33 (iI 6) fun x34 =>
      cV s2 v0 2 <|
      cl (sX3_hears v0 v1 x32 x34 s2) fun _ s35 =>
      sX3_isAnswered_147 v0 v1 x4 s35
    else
      gR s2 v0 2 15 fun x9 =>
      aI s2 x9 (iI 5) fun x10 =>
      if x10 = (iI 1) then
        gR s2 v0 2 15 fun x26 =>
        aI s2 x26 (iI 6) fun x27 =>
        gR s2 v0 2 15 fun x28 =>
        aI s2 x28 (iI 7) fun x29 =>
        cV s2 v0 2 <|
        cl (sX3_hears v0 v1 x27 x29 s2) fun _ s30 =>
        sX3_isAnswered_147 v0 v1 x4 s30
      else
        gR s2 x4 3 8 fun x11 =>
        gR s2 x4 3 8 fun x12 =>
        aI s2 x12 x6 fun x13 =>
        gR s2 v0 2 15 fun x14 =>
        aI s2 x14 (iI 7) fun x15 =>
        sI s2 x11 x6 (mxi x13 x15) fun s16 =>
        gR s16 x4 3 6 fun x17 =>
        gR s16 x4 3 7 fun x18 =>
        aI s16 x18 x6 fun x19 =>
        gR s16 x4 3 6 fun x20 =>
        aI s16 x20 x6 fun x21 =>
        gR s16 v0 2 15 fun x22 =>
        aI s16 x22 (iI 6) fun x23 =>
        sI s16 x17 x6 (mxi (x19 + (iI 1)) (mni x21 x23)) fun s24 =>
        cV s24 v0 2 <|
        cl (sX3_sendsOn v0 v1 x6 s24) fun _ s25 =>
        sX3_isAnswered_147 v0 v1 x4 s25
noncomputable def sX3_isHanded_35 (v0 : Option Nat) (σ : Mem) : Option (Unit × Mem) :=
  cV σ v0 2 <|
  cl (sX3_isLost v0 σ) fun _ s1 =>
  some ((), s1)
noncomputable def sX3_isHanded_148 (v0 : Option Nat) (v1 : Int32) (σ : Mem) : Option (Unit × Mem) :=
  cV σ v0 2 <|
  cl (sX3_isAnswered v0 v1 σ) fun _ s1 =>
  some ((), s1)
noncomputable def sX3_isHanded_74 (v0 : Option Nat) (v1 : Int32) (σ : Mem) : Option (Unit × Mem) :=
  gR σ v0 2 15 fun x1 =>
  aI σ x1 (iI 2) fun x2 =>
  if x2 = iI 0 then
    cV σ v0 2 <|
    cl (sX3_votes v0 v1 σ) fun _ s3 =>
    some ((), s3)
  else
    if x2 = iI 1 then
      cV σ v0 2 <|
      cl (sX3_countsVote v0 v1 σ) fun _ s4 =>
      some ((), s4)
    else
      if x2 = iI 2 then
        cV σ v0 2 <|
        cl (sX3_takesEntries v0 v1 σ) fun _ s5 =>
        some ((), s5)
      else
        if x2 = iI 3 then
          sX3_isHanded_148 v0 v1 σ
        else
          if x2 = iI 4 then
            cV σ v0 2 <|
            cl (sX3_takesSnapshot v0 v1 σ) fun _ s6 =>
            some ((), s6)
          else
            sX3_isHanded_148 v0 v1 σ
noncomputable def sX3_isHanded (v0 : Option Nat) (σ : Mem) : Option (Unit × Mem) :=
  gR σ v0 2 15 fun x1 =>
  aI σ x1 (iI 1) fun x2 =>
  gR σ v0 2 0 fun x3 =>
  aR σ x3 23 x2 fun x4 =>
  gI σ x4 3 23 fun x5 =>
  if x5 = (iI 0) then
    sX3_isHanded_35 v0 σ
  else
    gR σ v0 2 15 fun x6 =>
    aI σ x6 (iI 0) fun x7 =>
    cV σ v0 2 <|
    cl (sX3_areLinked v0 x2 x7 σ) fun x8 s9 =>
    if x8 = (iI 0) then
      sX3_isHanded_35 v0 s9
    else
      gR s9 v0 2 15 fun x10 =>
      aI s9 x10 (iI 3) fun x11 =>
      gI s9 x4 3 9 fun x12 =>
      if x11 ≤ x12 then
        sX3_isHanded_74 v0 x2 s9
      else
        gR s9 v0 2 15 fun x13 =>
        aI s9 x13 (iI 3) fun x14 =>
        pI s9 x4 3 9 x14 fun s15 =>
        pI s15 x4 3 10 (iI (-1)) fun s16 =>
        cV s16 v0 2 <|
        cl (sX3_follows v0 x2 (iI (-1)) s16) fun _ s17 =>
        sX3_isHanded_74 v0 x2 s17
noncomputable def sX3_stands_28 (v0 : Option Nat) (v1 : Int32) (σ : Mem) : Option (Unit × Mem) :=
  cV σ v0 2 <|
  cl (sX3_setsTimer v0 v1 σ) fun _ s1 =>
  some ((), s1)
noncomputable def sX3_stands_141 (k90 : Option Nat → Int32 → Option Nat → Int32 → Mem → Option (Unit × Mem)) (v0 : Option Nat) (v1 : Int32) (v2 : Option Nat) (v3 : Int32) (σ : Mem) : Option (Unit × Mem) :=
  k90 v0 v1 v2 (v3 + iI 1) σ
noncomputable def sX3_stands_90b (k90 : Option Nat → Int32 → Option Nat → Int32 → Mem → Option (Unit × Mem)) (v0 : Option Nat) (v1 : Int32) (v2 : Option Nat) (v3 : Int32) (σ : Mem) : Option (Unit × Mem) :=
  if (iI 7) ≤ v3 then
    some ((), σ)
  else
    if v3 = v1 then
      sX3_stands_141 k90 v0 v1 v2 v3 σ
    else
      cV σ v2 3 <|
      cl (sX4_members v2 σ) fun x1 s2 =>
      cl (sX0_has x1 v3 s2) fun x3 s4 =>
      if x3 = (iI 0) then
        sX3_stands_141 k90 v0 v1 v2 v3 s4
      else
        cV s4 v2 3 <|
        cl (sX4_last v2 s4) fun x5 s6 =>
        cV s6 v2 3 <|
        cl (sX4_last v2 s6) fun x7 s8 =>
        cV s8 v2 3 <|
        cl (sX4_termAt v2 x7 s8) fun x9 s10 =>
        cV s10 v0 2 <|
        cl (sX3_writes v0 v1 v3 (iI 0) x5 x9 (iI 0) (iI 0) s10) fun x11 s12 =>
        cV s12 v0 2 <|
        cl (sX3_sends v0 s12) fun _ s13 =>
        sX3_stands_141 k90 v0 v1 v2 v3 s13
noncomputable def sX3_stands_90 : Nat → Option Nat → Int32 → Option Nat → Int32 → Mem → Option (Unit × Mem)
  | 0 => fun _ _ _ _ _ => none
  | f + 1 => sX3_stands_90b (sX3_stands_90 f)
noncomputable def sX3_stands (v0 : Option Nat) (v1 : Int32) (σ : Mem) : Option (Unit × Mem) :=
  gR σ v0 2 0 fun x1 =>
  aR σ x1 23 v1 fun x2 =>
  cV σ x2 3 <|
  cl (sX4_members x2 σ) fun x3 s4 =>
  cl (sX0_has x3 v1 s4) fun x5 s6 =>
  if x5 = (iI 0) then
    sX3_stands_28 v0 v1 s6
  else
    gI s6 x2 3 9 fun x7 =>
    if x7 = (iI 999) then
      sX3_stands_28 v0 v1 s6
    else
      gI s6 x2 3 9 fun x8 =>
      pI s6 x2 3 9 (x8 + (iI 1)) fun s9 =>
      pI s9 x2 3 16 (iI 1) fun s10 =>
      pI s10 x2 3 10 v1 fun s11 =>
      pI s11 x2 3 20 ((iI 1) <<< (v1 &&& 31)) fun s12 =>
      pI s12 x2 3 19 (iI (-1)) fun s13 =>
      cV s13 v0 2 <|
      cl (sX3_setsTimer v0 v1 s13) fun _ s14 =>
      gI s14 x2 3 20 fun x15 =>
      cV s14 x2 3 <|
      cl (sX4_isMajority x2 x15 s14) fun x16 s17 =>
      if x16 = (iI 0) then
        sX3_stands_90 FU v0 v1 x2 (iI 0) s17
      else
        cV s17 v0 2 <|
        cl (sX3_leads v0 v1 s17) fun _ s18 =>
        some ((), s18)
noncomputable def sX3_beats (v0 : Option Nat) (v1 : Int32) (σ : Mem) : Option (Unit × Mem) :=
  gR σ v0 2 0 fun x1 =>
  aR σ x1 23 v1 fun x2 =>
  gI σ x2 3 16 fun x3 =>
  if x3 = (iI 2) then
    gI σ x2 3 22 fun x4 =>
    pI σ x2 3 22 (x4 + (iI 1)) fun s5 =>
    gI s5 x2 3 22 fun x6 =>
    if (iI 3) ≤ x6 then
      pI s5 x2 3 22 (iI 0) fun s7 =>
      gI s7 x2 3 21 fun x8 =>
      pI s7 x2 3 21 (x8 + (iI 1)) fun s9 =>
      cV s9 v0 2 <|
      cl (sX3_sendsToAll v0 v1 s9) fun _ s10 =>
      some ((), s10)
    else
      some ((), s5)
  else
    gI σ x2 3 18 fun x11 =>
    pI σ x2 3 18 (x11 - (iI 1)) fun s12 =>
    gI s12 x2 3 18 fun x13 =>
    if (iI 0) < x13 then
      some ((), s12)
    else
      cV s12 v0 2 <|
      cl (sX3_stands v0 v1 s12) fun _ s14 =>
      some ((), s14)
noncomputable def sX3_tickGoes_49 (k26 : Option Nat → Int32 → Mem → Option (Unit × Mem)) (v0 : Option Nat) (v1 : Int32) (σ : Mem) : Option (Unit × Mem) :=
  k26 v0 (v1 + iI 1) σ
noncomputable def sX3_tickGoes_26b (k26 : Option Nat → Int32 → Mem → Option (Unit × Mem)) (v0 : Option Nat) (v1 : Int32) (σ : Mem) : Option (Unit × Mem) :=
  if (iI 7) ≤ v1 then
    some ((), σ)
  else
    gR σ v0 2 0 fun x1 =>
    aR σ x1 23 v1 fun x2 =>
    gI σ x2 3 23 fun x3 =>
    if x3 = (iI 0) then
      sX3_tickGoes_49 k26 v0 v1 σ
    else
      cV σ v0 2 <|
      cl (sX3_beats v0 v1 σ) fun _ s4 =>
      sX3_tickGoes_49 k26 v0 v1 s4
noncomputable def sX3_tickGoes_26 : Nat → Option Nat → Int32 → Mem → Option (Unit × Mem)
  | 0 => fun _ _ _ => none
  | f + 1 => sX3_tickGoes_26b (sX3_tickGoes_26 f)
noncomputable def sX3_tickGoes_10b (k10 : Option Nat → Mem → Option (Unit × Mem)) (v0 : Option Nat) (σ : Mem) : Option (Unit × Mem) :=
  cV σ v0 2 <|
  cl (sX3_takesDue v0 σ) fun x1 s2 =>
  if x1 = (iI 0) then
    sX3_tickGoes_26 FU v0 (iI 0) s2
  else
    cV s2 v0 2 <|
    cl (sX3_isHanded v0 s2) fun _ s3 =>
    k10 v0 s3
noncomputable def sX3_tickGoes_10 : Nat → Option Nat → Mem → Option (Unit × Mem)
  | 0 => fun _ _ => none
  | f + 1 => sX3_tickGoes_10b (sX3_tickGoes_10 f)
noncomputable def sX3_tickGoes (v0 : Option Nat) (σ : Mem) : Option (Unit × Mem) :=
  gI σ v0 2 8 fun x1 =>
  pI σ v0 2 8 (x1 + (iI 1)) fun s2 =>
  sX3_tickGoes_10 FU v0 s2
noncomputable def sX3_goes_7b (k7 : Option Nat → Int32 → Int32 → Mem → Option (Option Nat × Mem)) (v0 : Option Nat) (v1 : Int32) (v2 : Int32) (σ : Mem) : Option (Option Nat × Mem) :=
  if v1 ≤ v2 then
    some (v0, σ)
  else
    gI σ v0 2 8 fun x1 =>
    if (iI 9999) ≤ x1 then
      some (v0, σ)
    else
      cV σ v0 2 <|
      cl (sX3_tickGoes v0 σ) fun _ s2 =>
      k7 v0 v1 (v2 + iI 1) s2
noncomputable def sX3_goes_7 : Nat → Option Nat → Int32 → Int32 → Mem → Option (Option Nat × Mem)
  | 0 => fun _ _ _ _ => none
  | f + 1 => sX3_goes_7b (sX3_goes_7 f)
noncomputable def sX3_goes (v0 : Option Nat) (v1 : Int32) (σ : Mem) : Option (Option Nat × Mem) :=
  pI σ v0 2 13 (iI 0) fun s1 =>
  sX3_goes_7 FU v0 v1 (iI 0) s1
noncomputable def sX0_ticks_32 (v0 : Option Nat) (v1 : Int32) (t0 : Option Nat) (t1 : Int32) (σ : Mem) : Option (Int32 × Mem) :=
  pZ σ t0 0 8 t1 fun s1 =>
  gR s1 v0 0 1 fun x2 =>
  cV s1 x2 2 <|
  cl (sX3_goes x2 v1 s1) fun x3 s4 =>
  gI s4 x3 2 13 fun x5 =>
  some (x5, s4)
noncomputable def sX0_ticks (v0 : Option Nat) (v1 : Int32) (σ : Mem) : Option (Int32 × Mem) :=
  cl (sX0_within v1 (iI 1) (iI 200) σ) fun x1 s2 =>
  if x1 = (iI 0) then
    some (iI (-1), s2)
  else
    gR s2 v0 0 1 fun x3 =>
    gI s2 x3 2 8 fun x4 =>
    if (iI 9999) ≤ x4 then
      sX0_ticks_32 v0 v1 v0 (iI 0) s2
    else
      sX0_ticks_32 v0 v1 v0 (iI 1) s2
noncomputable def sX0_isTicked (v0 : Option Nat) (σ : Mem) : Option (Int32 × Mem) :=
  gI σ v0 0 8 fun x1 =>
  rZ x1 σ
noncomputable def sX16_isDone (v0 : Option Nat) (v1 : Int32) (σ : Mem) : Option (Int32 × Mem) :=
  gR σ v0 13 2 fun x1 =>
  aI σ x1 v1 fun x2 =>
  gR σ v0 13 3 fun x3 =>
  aI σ x3 v1 fun x4 =>
  gR σ v0 13 1 fun x5 =>
  aI σ x5 v1 fun x6 =>
  if x6 = iI 46 then
    gR σ v0 13 10 fun x7 =>
    cV σ x7 0 <|
    cl (sX0_ticks x7 (iI 1) σ) fun x8 s9 =>
    if x8 < (iI 0) then
      rZ (iI 0) s9
    else
      gR s9 v0 13 10 fun x10 =>
      cV s9 x10 0 <|
      cl (sX0_isTicked x10 s9) fun x11 s12 =>
      if x11 = (iI 0) then
        rZ (iI 0) s12
      else
        rZ (iI 1) s12
  else
    if x6 = iI 99 then
      gR σ v0 13 10 fun x13 =>
      cV σ x13 0 <|
      cl (sX0_compact x13 x2 σ) fun x14 s15 =>
      rZ x14 s15
    else
      if x6 = iI 107 then
        gR σ v0 13 10 fun x16 =>
        cV σ x16 0 <|
        cl (sX0_crash x16 x2 σ) fun x17 s18 =>
        rZ x17 s18
      else
        if x6 = iI 114 then
          gR σ v0 13 10 fun x19 =>
          cV σ x19 0 <|
          cl (sX0_ask x19 x2 x4 σ) fun x20 s21 =>
          if x20 < (iI 0) then
            rZ (iI 0) s21
          else
            rZ (iI 1) s21
        else
          if x6 = iI 117 then
            gR σ v0 13 10 fun x22 =>
            cV σ x22 0 <|
            cl (sX0_comeUp x22 x2 σ) fun x23 s24 =>
            rZ x23 s24
          else
            if x6 = iI 119 then
              gR σ v0 13 10 fun x25 =>
              gR σ v0 13 4 fun x26 =>
              aI σ x26 v1 fun x27 =>
              cV σ x25 0 <|
              cl (sX0_write x25 x2 x4 x27 σ) fun x28 s29 =>
              if x28 < (iI 0) then
                rZ (iI 0) s29
              else
                rZ (iI 1) s29
            else
              if x6 = iI 120 then
                gR σ v0 13 10 fun x30 =>
                cV σ x30 0 <|
                cl (sX0_cut x30 x2 x4 (iI 1) σ) fun x31 s32 =>
                rZ x31 s32
              else
                gR σ v0 13 10 fun x33 =>
                cV σ x33 0 <|
                cl (sX0_cut x33 x2 x4 (iI 0) σ) fun x34 s35 =>
                rZ x34 s35
noncomputable def sX0_plan_74 (k52 : Option Nat → Int32 → Int32 → Int32 → Mem → Option (Int32 × Mem)) (v2 : Option Nat) (v3 : Int32) (v5 : Int32) (t0 : Int32) (t1 : Int32) (σ : Mem) : Option (Int32 × Mem) :=
  k52 v2 v3 (t0 + t1) (v5 + iI 1) σ
noncomputable def sX0_plan_52b (k52 : Option Nat → Int32 → Int32 → Int32 → Mem → Option (Int32 × Mem)) (v2 : Option Nat) (v3 : Int32) (v4 : Int32) (v5 : Int32) (σ : Mem) : Option (Int32 × Mem) :=
  if v3 ≤ v5 then
    some (v4, σ)
  else
    cV σ v2 13 <|
    cl (sX16_isDone v2 v5 σ) fun x1 s2 =>
    if x1 = (iI 0) then
      sX0_plan_74 k52 v2 v3 v5 v4 (iI 0) s2
    else
      sX0_plan_74 k52 v2 v3 v5 v4 (iI 1) s2
noncomputable def sX0_plan_52 : Nat → Option Nat → Int32 → Int32 → Int32 → Mem → Option (Int32 × Mem)
  | 0 => fun _ _ _ _ _ => none
  | f + 1 => sX0_plan_52b (sX0_plan_52 f)
noncomputable def sX0_plan (v0 : Option Nat) (v1 : Int32) (σ : Mem) : Option (Int32 × Mem) :=
  cl (sX0_within v1 (iI 1) (iI 120) σ) fun x1 s2 =>
  if x1 = (iI 0) then
    some (iI (-1), s2)
  else
    gI s2 v0 0 6 fun x3 =>
    if v1 ≤ x3 then
      pI s2 v0 0 6 (iI 0) fun s4 =>
      nO s4 13 11 fun x5 s6 =>
      cI s6 x5 <|
      cl (sX16_init x5 v0 v1 s6) fun _ s7 =>
      cV s7 x5 13 <|
      cl (sX16_reads x5 s7) fun x8 s9 =>
      if (iI 0) ≤ x8 then
        sX0_plan_52 FU x5 x8 (iI 0) (iI 0) s9
      else
        some (x8, s9)
    else
      some (iI (-1), s2)
noncomputable def sX3_takes_131b (k131 : Option Nat → Option Nat → Int32 → Mem → Option (Option Nat × Mem)) (v0 : Option Nat) (v1 : Option Nat) (v2 : Int32) (σ : Mem) : Option (Option Nat × Mem) :=
  gI σ v0 2 14 fun x1 =>
  if x1 ≤ v2 then
    gR σ v1 2 5 fun x2 =>
    gR σ v0 2 5 fun x3 =>
    cV σ v0 2 <|
    cl (sX3_copies v0 x2 x3 σ) fun _ s4 =>
    gI s4 v1 2 8 fun x5 =>
    pI s4 v0 2 8 x5 fun s6 =>
    gI s6 v1 2 9 fun x7 =>
    pI s6 v0 2 9 x7 fun s8 =>
    gI s8 v1 2 10 fun x9 =>
    pI s8 v0 2 10 x9 fun s10 =>
    gI s10 v1 2 11 fun x11 =>
    pI s10 v0 2 11 x11 fun s12 =>
    some (v0, s12)
  else
    gR σ v1 2 3 fun x13 =>
    aR σ x13 22 v2 fun x14 =>
    gR σ v0 2 3 fun x15 =>
    aR σ x15 22 v2 fun x16 =>
    cV σ v0 2 <|
    cl (sX3_copies v0 x14 x16 σ) fun _ s17 =>
    k131 v0 v1 (v2 + iI 1) s17
noncomputable def sX3_takes_131 : Nat → Option Nat → Option Nat → Int32 → Mem → Option (Option Nat × Mem)
  | 0 => fun _ _ _ _ => none
  | f + 1 => sX3_takes_131b (sX3_takes_131 f)
noncomputable def sX3_takes_91b (k91 : Option Nat → Option Nat → Int32 → Mem → Option (Option Nat × Mem)) (v0 : Option Nat) (v1 : Option Nat) (v2 : Int32) (σ : Mem) : Option (Option Nat × Mem) :=
  gI σ v0 2 12 fun x1 =>
  if x1 < v2 then
    gI σ v1 2 14 fun x2 =>
    pI σ v0 2 14 x2 fun s3 =>
    sX3_takes_131 FU v0 v1 (iI 0) s3
  else
    gR σ v1 2 2 fun x4 =>
    aR σ x4 22 v2 fun x5 =>
    gR σ v0 2 2 fun x6 =>
    aR σ x6 22 v2 fun x7 =>
    cV σ v0 2 <|
    cl (sX3_copies v0 x5 x7 σ) fun _ s8 =>
    k91 v0 v1 (v2 + iI 1) s8
noncomputable def sX3_takes_91 : Nat → Option Nat → Option Nat → Int32 → Mem → Option (Option Nat × Mem)
  | 0 => fun _ _ _ _ => none
  | f + 1 => sX3_takes_91b (sX3_takes_91 f)
noncomputable def sX3_takes_51b (k51 : Option Nat → Option Nat → Int32 → Mem → Option (Option Nat × Mem)) (v0 : Option Nat) (v1 : Option Nat) (v2 : Int32) (σ : Mem) : Option (Option Nat × Mem) :=
  gI σ v0 2 7 fun x1 =>
  if x1 ≤ v2 then
    gI σ v1 2 12 fun x2 =>
    pI σ v0 2 12 x2 fun s3 =>
    sX3_takes_91 FU v0 v1 (iI 1) s3
  else
    gR σ v1 2 1 fun x4 =>
    aR σ x4 22 v2 fun x5 =>
    gR σ v0 2 1 fun x6 =>
    aR σ x6 22 v2 fun x7 =>
    cV σ v0 2 <|
    cl (sX3_copies v0 x5 x7 σ) fun _ s8 =>
    k51 v0 v1 (v2 + iI 1) s8
noncomputable def sX3_takes_51 : Nat → Option Nat → Option Nat → Int32 → Mem → Option (Option Nat × Mem)
  | 0 => fun _ _ _ _ => none
  | f + 1 => sX3_takes_51b (sX3_takes_51 f)
noncomputable def sX3_takes_2b (k2 : Option Nat → Option Nat → Int32 → Mem → Option (Option Nat × Mem)) (v0 : Option Nat) (v1 : Option Nat) (v2 : Int32) (σ : Mem) : Option (Option Nat × Mem) :=
  if (iI 7) ≤ v2 then
    gI σ v1 2 7 fun x1 =>
    pI σ v0 2 7 x1 fun s2 =>
    sX3_takes_51 FU v0 v1 (iI 0) s2
  else
    gR σ v0 2 0 fun x3 =>
    aR σ x3 23 v2 fun x4 =>
    gR σ v1 2 0 fun x5 =>
    aR σ x5 23 v2 fun x6 =>
    cV σ x4 3 <|
    cl (sX4_takes x4 x6 σ) fun _ s7 =>
    gR s7 v0 2 4 fun x8 =>
    gR s7 v1 2 4 fun x9 =>
    aI s7 x9 v2 fun x10 =>
    sI s7 x8 v2 x10 fun s11 =>
    k2 v0 v1 (v2 + iI 1) s11
noncomputable def sX3_takes_2 : Nat → Option Nat → Option Nat → Int32 → Mem → Option (Option Nat × Mem)
  | 0 => fun _ _ _ _ => none
  | f + 1 => sX3_takes_2b (sX3_takes_2 f)
noncomputable def sX3_takes (v0 : Option Nat) (v1 : Option Nat) (σ : Mem) : Option (Option Nat × Mem) :=
  sX3_takes_2 FU v0 v1 (iI 0) σ
noncomputable def sX3_leads_2_65 (k5 : Option Nat → Int32 → Int32 → Mem → Option (Int32 × Mem)) (v0 : Option Nat) (v1 : Int32) (v2 : Int32) (σ : Mem) : Option (Int32 × Mem) :=
  k5 v0 v1 (v2 + iI 1) σ
noncomputable def sX3_leads_2_63 (k5 : Option Nat → Int32 → Int32 → Mem → Option (Int32 × Mem)) (v0 : Option Nat) (v2 : Int32) (σ : Mem) : Option (Int32 × Mem) :=
  sX3_leads_2_65 k5 v0 v2 v2 σ
noncomputable def sX3_leads_2_5b (k5 : Option Nat → Int32 → Int32 → Mem → Option (Int32 × Mem)) (v0 : Option Nat) (v1 : Int32) (v2 : Int32) (σ : Mem) : Option (Int32 × Mem) :=
  if (iI 7) ≤ v2 then
    some (v1, σ)
  else
    gR σ v0 2 0 fun x1 =>
    aR σ x1 23 v2 fun x2 =>
    gI σ x2 3 23 fun x3 =>
    if x3 = (iI 0) then
      sX3_leads_2_65 k5 v0 v1 v2 σ
    else
      gR σ v0 2 0 fun x4 =>
      aR σ x4 23 v2 fun x5 =>
      gI σ x5 3 16 fun x6 =>
      if x6 = (iI 2) then
        if v1 = (iI (-2)) then
          sX3_leads_2_63 k5 v0 v2 σ
        else
          gR σ v0 2 0 fun x7 =>
          aR σ x7 23 v2 fun x8 =>
          gI σ x8 3 9 fun x9 =>
          gR σ v0 2 0 fun x10 =>
          aR σ x10 23 v1 fun x11 =>
          gI σ x11 3 9 fun x12 =>
          if x9 ≤ x12 then
            sX3_leads_2_65 k5 v0 v1 v2 σ
          else
            sX3_leads_2_63 k5 v0 v2 σ
      else
        sX3_leads_2_65 k5 v0 v1 v2 σ
noncomputable def sX3_leads_2_5 : Nat → Option Nat → Int32 → Int32 → Mem → Option (Int32 × Mem)
  | 0 => fun _ _ _ _ => none
  | f + 1 => sX3_leads_2_5b (sX3_leads_2_5 f)
noncomputable def sX3_leads_2 (v0 : Option Nat) (σ : Mem) : Option (Int32 × Mem) :=
  sX3_leads_2_5 FU v0 (iI (-2)) (iI 0) σ
noncomputable def sX0_tried_51 (v0 : Option Nat) (v1 : Int32) (v2 : Int32) (σ : Mem) : Option (Int32 × Mem) :=
  gR σ v0 0 2 fun x1 =>
  gR σ v0 0 1 fun x2 =>
  cV σ x1 2 <|
  cl (sX3_takes x1 x2 σ) fun x3 s4 =>
  cV s4 x3 2 <|
  cl (sX3_goes x3 v1 s4) fun x5 s6 =>
  if v2 = iI 0 then
    gR s6 v0 0 2 fun x7 =>
    gI s6 x7 2 13 fun x8 =>
    some (x8, s6)
  else
    if v2 = iI 1 then
      gR s6 v0 0 2 fun x9 =>
      cV s6 x9 2 <|
      cl (sX3_leads_2 x9 s6) fun x10 s11 =>
      some (x10, s11)
    else
      if v2 = iI 2 then
        gR s6 v0 0 2 fun x12 =>
        gI s6 x12 2 7 fun x13 =>
        some (x13, s6)
      else
        if v2 = iI 3 then
          gR s6 v0 0 2 fun x14 =>
          gI s6 x14 2 10 fun x15 =>
          some (x15, s6)
        else
          if (iI 20) ≤ v2 then
            if (iI 30) ≤ v2 then
              gR s6 v0 0 2 fun x16 =>
              gR s6 x16 2 0 fun x17 =>
              aR s6 x17 23 (v2 - (iI 30)) fun x18 =>
              gI s6 x18 3 16 fun x19 =>
              some (x19, s6)
            else
              gR s6 v0 0 2 fun x20 =>
              gR s6 x20 2 0 fun x21 =>
              aR s6 x21 23 (v2 - (iI 20)) fun x22 =>
              gI s6 x22 3 9 fun x23 =>
              some (x23, s6)
          else
            gR s6 v0 0 2 fun x24 =>
            gR s6 x24 2 0 fun x25 =>
            aR s6 x25 23 (v2 - (iI 10)) fun x26 =>
            gI s6 x26 3 17 fun x27 =>
            some (x27, s6)
noncomputable def sX0_tried (v0 : Option Nat) (v1 : Int32) (v2 : Int32) (σ : Mem) : Option (Int32 × Mem) :=
  cl (sX0_within v1 (iI 1) (iI 200) σ) fun x1 s2 =>
  if x1 = (iI 0) then
    some (iI (-1), s2)
  else
    cl (sX0_in v2 (iI 4) s2) fun x3 s4 =>
    if x3 = (iI 0) then
      cl (sX0_isNode (v2 - (iI 10)) s4) fun x5 s6 =>
      if x5 = (iI 0) then
        cl (sX0_isNode (v2 - (iI 20)) s6) fun x7 s8 =>
        if x7 = (iI 0) then
          cl (sX0_isNode (v2 - (iI 30)) s8) fun x9 s10 =>
          if x9 = (iI 0) then
            some (iI (-1), s10)
          else
            sX0_tried_51 v0 v1 v2 s10
        else
          sX0_tried_51 v0 v1 v2 s8
      else
        sX0_tried_51 v0 v1 v2 s6
    else
      sX0_tried_51 v0 v1 v2 s4
noncomputable def sX0_orNone (v0 : Int32) (σ : Mem) : Option (Int32 × Mem) :=
  if v0 = (iI (-1)) then
    some (iI (-2), σ)
  else
    some (v0, σ)
noncomputable def sX0_ofUp (v0 : Option Nat) (v1 : Int32) (σ : Mem) : Option (Int32 × Mem) :=
  gI σ v0 3 23 fun x1 =>
  if x1 = (iI 0) then
    some (iI (-2), σ)
  else
    some (v1, σ)
noncomputable def sX0_nodeIs (v0 : Option Nat) (v1 : Int32) (v2 : Int32) (σ : Mem) : Option (Int32 × Mem) :=
  cl (sX0_isNode v1 σ) fun x1 s2 =>
  if x1 = (iI 0) then
    some (iI (-1), s2)
  else
    gR s2 v0 0 1 fun x3 =>
    gR s2 x3 2 0 fun x4 =>
    aR s2 x4 23 v1 fun x5 =>
    if v2 = iI 0 then
      gI s2 x5 3 23 fun x6 =>
      if x6 = (iI 0) then
        some (iI 0, s2)
      else
        some (iI 1, s2)
    else
      if v2 = iI 1 then
        gI s2 x5 3 9 fun x7 =>
        some (x7, s2)
      else
        if v2 = iI 2 then
          gI s2 x5 3 10 fun x8 =>
          cl (sX0_orNone x8 s2) fun x9 s10 =>
          some (x9, s10)
        else
          if v2 = iI 3 then
            gI s2 x5 3 16 fun x11 =>
            cl (sX0_ofUp x5 x11 s2) fun x12 s13 =>
            some (x12, s13)
          else
            if v2 = iI 4 then
              cV s2 x5 3 <|
              cl (sX4_last x5 s2) fun x14 s15 =>
              some (x14, s15)
            else
              if v2 = iI 5 then
                gI s2 x5 3 17 fun x16 =>
                cl (sX0_ofUp x5 x16 s2) fun x17 s18 =>
                some (x17, s18)
              else
                if v2 = iI 6 then
                  gI s2 x5 3 11 fun x19 =>
                  some (x19, s2)
                else
                  if v2 = iI 7 then
                    gI s2 x5 3 18 fun x20 =>
                    cl (sX0_ofUp x5 x20 s2) fun x21 s22 =>
                    some (x21, s22)
                  else
                    if v2 = iI 8 then
                      cV s2 x5 3 <|
                      cl (sX4_olds x5 s2) fun x23 s24 =>
                      some (x23, s24)
                    else
                      if v2 = iI 9 then
                        cV s2 x5 3 <|
                        cl (sX4_news x5 s2) fun x25 s26 =>
                        some (x25, s26)
                      else
                        if v2 = iI 10 then
                          gI s2 x5 3 19 fun x27 =>
                          cl (sX0_orNone x27 s2) fun x28 s29 =>
                          cl (sX0_ofUp x5 x28 s29) fun x30 s31 =>
                          some (x30, s31)
                        else
                          if v2 = iI 11 then
                            gI s2 x5 3 20 fun x32 =>
                            cl (sX0_ofUp x5 x32 s2) fun x33 s34 =>
                            some (x33, s34)
                          else
                            if v2 = iI 12 then
                              gI s2 x5 3 21 fun x35 =>
                              cl (sX0_ofUp x5 x35 s2) fun x36 s37 =>
                              some (x36, s37)
                            else
                              if v2 = iI 13 then
                                cV s2 x5 3 <|
                                cl (sX4_last x5 s2) fun x38 s39 =>
                                cV s39 x5 3 <|
                                cl (sX4_termAt x5 x38 s39) fun x40 s41 =>
                                some (x40, s41)
                              else
                                some (iI (-1), s2)
noncomputable def sX0_partOf (v0 : Option Nat) (v1 : Int32) (v2 : Int32) (σ : Mem) : Option (Int32 × Mem) :=
  gI σ v0 3 11 fun x1 =>
  if v2 = (iI 0) then
    gR σ v0 3 0 fun x8 =>
    aI σ x8 ((v1 - x1) - (iI 1)) fun x9 =>
    some (x9, σ)
  else
    if v2 = (iI 1) then
      gR σ v0 3 1 fun x6 =>
      aI σ x6 ((v1 - x1) - (iI 1)) fun x7 =>
      some (x7, σ)
    else
      if v2 = (iI 2) then
        gR σ v0 3 2 fun x4 =>
        aI σ x4 ((v1 - x1) - (iI 1)) fun x5 =>
        some (x5, σ)
      else
        gR σ v0 3 3 fun x2 =>
        aI σ x2 ((v1 - x1) - (iI 1)) fun x3 =>
        some (x3, σ)
noncomputable def sX0_entryAt (v0 : Option Nat) (v1 : Int32) (v2 : Int32) (v3 : Int32) (σ : Mem) : Option (Int32 × Mem) :=
  cl (sX0_isNode v1 σ) fun x1 s2 =>
  if x1 = (iI 0) then
    some (iI (-1), s2)
  else
    cl (sX0_within v2 (iI 1) (iI 999) s2) fun x3 s4 =>
    if x3 = (iI 0) then
      some (iI (-1), s4)
    else
      cl (sX0_in v3 (iI 4) s4) fun x5 s6 =>
      if x5 = (iI 0) then
        some (iI (-1), s6)
      else
        gR s6 v0 0 1 fun x7 =>
        gR s6 x7 2 0 fun x8 =>
        aR s6 x8 23 v1 fun x9 =>
        cV s6 x9 3 <|
        cl (sX4_hasEntry x9 v2 s6) fun x10 s11 =>
        if x10 = (iI 0) then
          some (iI (-2), s11)
        else
          cl (sX0_partOf x9 v2 v3 s11) fun x12 s13 =>
          some (x12, s13)
noncomputable def sX0_keyOf_30 (v0 : Option Nat) (v1 : Int32) (v2 : Int32) (σ : Mem) : Option (Int32 × Mem) :=
  gR σ v0 0 1 fun x1 =>
  gR σ x1 2 0 fun x2 =>
  aR σ x2 23 v1 fun x3 =>
  if v2 < (iI 10) then
    gR σ x3 3 4 fun x4 =>
    aI σ x4 v2 fun x5 =>
    cl (sX0_ofUp x3 x5 σ) fun x6 s7 =>
    some (x6, s7)
  else
    gR σ x3 3 5 fun x8 =>
    aI σ x8 (v2 - (iI 10)) fun x9 =>
    some (x9, σ)
noncomputable def sX0_keyOf (v0 : Option Nat) (v1 : Int32) (v2 : Int32) (σ : Mem) : Option (Int32 × Mem) :=
  cl (sX0_isNode v1 σ) fun x1 s2 =>
  if x1 = (iI 0) then
    some (iI (-1), s2)
  else
    cl (sX0_in v2 (iI 8) s2) fun x3 s4 =>
    if x3 = (iI 0) then
      cl (sX0_in (v2 - (iI 10)) (iI 8) s4) fun x5 s6 =>
      if x5 = (iI 0) then
        some (iI (-1), s6)
      else
        sX0_keyOf_30 v0 v1 v2 s6
    else
      sX0_keyOf_30 v0 v1 v2 s4
noncomputable def sX0_about (v0 : Option Nat) (v1 : Int32) (v2 : Int32) (v3 : Int32) (σ : Mem) : Option (Int32 × Mem) :=
  cl (sX0_isNode v1 σ) fun x1 s2 =>
  if x1 = (iI 0) then
    some (iI (-1), s2)
  else
    cl (sX0_isNode v2 s2) fun x3 s4 =>
    if x3 = (iI 0) then
      some (iI (-1), s4)
    else
      cl (sX0_in v3 (iI 3) s4) fun x5 s6 =>
      if x5 = (iI 0) then
        some (iI (-1), s6)
      else
        gR s6 v0 0 1 fun x7 =>
        cV s6 x7 2 <|
        cl (sX3_isLeader x7 v1 s6) fun x8 s9 =>
        if x8 = (iI 0) then
          some (iI (-2), s9)
        else
          gR s9 v0 0 1 fun x10 =>
          gR s9 x10 2 0 fun x11 =>
          aR s9 x11 23 v1 fun x12 =>
          if v3 = (iI 0) then
            gR s9 x12 3 6 fun x17 =>
            aI s9 x17 v2 fun x18 =>
            some (x18, s9)
          else
            if v3 = (iI 1) then
              gR s9 x12 3 7 fun x15 =>
              aI s9 x15 v2 fun x16 =>
              some (x16, s9)
            else
              gR s9 x12 3 8 fun x13 =>
              aI s9 x13 v2 fun x14 =>
              some (x14, s9)
noncomputable def sX0_message (v0 : Option Nat) (v1 : Int32) (v2 : Int32) (σ : Mem) : Option (Int32 × Mem) :=
  if v1 < (iI 0) then
    some (iI (-1), σ)
  else
    cl (sX0_in v2 (iI 6) σ) fun x1 s2 =>
    if x1 = (iI 0) then
      some (iI (-1), s2)
    else
      gR s2 v0 0 1 fun x3 =>
      gI s2 x3 2 7 fun x4 =>
      if v1 < x4 then
        gR s2 v0 0 1 fun x5 =>
        gR s2 x5 2 1 fun x6 =>
        aR s2 x6 22 v1 fun x7 =>
        if (iI 5) ≤ v2 then
          aI s2 x7 (iI 9) fun x8 =>
          some (x8, s2)
        else
          aI s2 x7 v2 fun x9 =>
          some (x9, s2)
      else
        some (iI (-4), s2)
noncomputable def sX0_leaderNow (v0 : Option Nat) (σ : Mem) : Option (Int32 × Mem) :=
  gR σ v0 0 1 fun x1 =>
  cV σ x1 2 <|
  cl (sX3_leads_2 x1 σ) fun x2 s3 =>
  some (x2, s3)
noncomputable def sX0_heldAt (v0 : Option Nat) (v1 : Int32) (v2 : Int32) (σ : Mem) : Option (Int32 × Mem) :=
  cl (sX0_within v1 (iI 1) (iI 9999) σ) fun x1 s2 =>
  if x1 = (iI 0) then
    some (iI (-1), s2)
  else
    cl (sX0_in v2 (iI 4) s2) fun x3 s4 =>
    if x3 = (iI 0) then
      some (iI (-1), s4)
    else
      gR s4 v0 0 1 fun x5 =>
      gI s4 x5 2 12 fun x6 =>
      if v1 ≤ x6 then
        gR s4 v0 0 1 fun x7 =>
        gR s4 x7 2 2 fun x8 =>
        aR s4 x8 22 v1 fun x9 =>
        aI s4 x9 v2 fun x10 =>
        some (x10, s4)
      else
        some (iI (-2), s4)
noncomputable def sX0_readIs (v0 : Option Nat) (v1 : Int32) (v2 : Int32) (σ : Mem) : Option (Int32 × Mem) :=
  gR σ v0 0 1 fun x1 =>
  gI σ x1 2 14 fun x2 =>
  cl (sX0_in v1 x2 σ) fun x3 s4 =>
  if x3 = (iI 0) then
    some (iI (-1), s4)
  else
    gR s4 v0 0 1 fun x5 =>
    gR s4 x5 2 3 fun x6 =>
    aR s4 x6 22 v1 fun x7 =>
    if v2 = iI 0 then
      aI s4 x7 (iI 4) fun x8 =>
      some (x8, s4)
    else
      if v2 = iI 1 then
        aI s4 x7 (iI 5) fun x9 =>
        some (x9, s4)
      else
        if v2 = iI 2 then
          aI s4 x7 (iI 0) fun x10 =>
          some (x10, s4)
        else
          if v2 = iI 3 then
            aI s4 x7 (iI 1) fun x11 =>
            some (x11, s4)
          else
            some (iI (-1), s4)
noncomputable def sX0_areMatched_69 (k16 : Option Nat → Option Nat → Int32 → Int32 → Mem → Option (Int32 × Mem)) (v0 : Option Nat) (v1 : Option Nat) (v2 : Int32) (v3 : Int32) (σ : Mem) : Option (Int32 × Mem) :=
  k16 v0 v1 v2 (v3 + iI 1) σ
noncomputable def sX0_areMatched_49 (k16 : Option Nat → Option Nat → Int32 → Int32 → Mem → Option (Int32 × Mem)) (v0 : Option Nat) (v1 : Option Nat) (v3 : Int32) (t0 : Int32) (σ : Mem) : Option (Int32 × Mem) :=
  cV σ v0 3 <|
  cl (sX4_termAt v0 v3 σ) fun x1 s2 =>
  cV s2 v1 3 <|
  cl (sX4_termAt v1 v3 s2) fun x3 s4 =>
  if x1 = x3 then
    if t0 = (iI 0) then
      rZ (iI 0) s4
    else
      sX0_areMatched_69 k16 v0 v1 t0 v3 s4
  else
    sX0_areMatched_69 k16 v0 v1 t0 v3 s4
noncomputable def sX0_areMatched_48 (k16 : Option Nat → Option Nat → Int32 → Int32 → Mem → Option (Int32 × Mem)) (v0 : Option Nat) (v1 : Option Nat) (v3 : Int32) (σ : Mem) : Option (Int32 × Mem) :=
  sX0_areMatched_49 k16 v0 v1 v3 (iI 0) σ
noncomputable def sX0_areMatched_16b (k16 : Option Nat → Option Nat → Int32 → Int32 → Mem → Option (Int32 × Mem)) (v0 : Option Nat) (v1 : Option Nat) (v2 : Int32) (v3 : Int32) (σ : Mem) : Option (Int32 × Mem) :=
  cV σ v0 3 <|
  cl (sX4_last v0 σ) fun x1 s2 =>
  cV s2 v1 3 <|
  cl (sX4_last v1 s2) fun x3 s4 =>
  if (mni x1 x3) < v3 then
    rZ (iI 1) s4
  else
    if v2 = (iI 0) then
      sX0_areMatched_48 k16 v0 v1 v3 s4
    else
      cV s4 v0 3 <|
      cl (sX4_isAlike v0 v1 v3 s4) fun x5 s6 =>
      if x5 = (iI 0) then
        sX0_areMatched_48 k16 v0 v1 v3 s6
      else
        sX0_areMatched_49 k16 v0 v1 v3 (iI 1) s6
noncomputable def sX0_areMatched_16 : Nat → Option Nat → Option Nat → Int32 → Int32 → Mem → Option (Int32 × Mem)
  | 0 => fun _ _ _ _ _ => none
  | f + 1 => sX0_areMatched_16b (sX0_areMatched_16 f)
noncomputable def sX0_areMatched (v0 : Option Nat) (v1 : Option Nat) (σ : Mem) : Option (Int32 × Mem) :=
  gI σ v0 3 11 fun x1 =>
  gI σ v1 3 11 fun x2 =>
  sX0_areMatched_16 FU v0 v1 (iI 1) ((mxi x1 x2) + (iI 1)) σ
noncomputable def sX0_areAlike_29b (k29 : Option Nat → Option Nat → Int32 → Mem → Option (Int32 × Mem)) (v0 : Option Nat) (v1 : Option Nat) (v2 : Int32) (σ : Mem) : Option (Int32 × Mem) :=
  if (iI 8) ≤ v2 then
    rZ (iI 1) σ
  else
    gR σ v0 3 4 fun x1 =>
    aI σ x1 v2 fun x2 =>
    gR σ v1 3 4 fun x3 =>
    aI σ x3 v2 fun x4 =>
    if x2 = x4 then
      k29 v0 v1 (v2 + iI 1) σ
    else
      rZ (iI 0) σ
noncomputable def sX0_areAlike_29 : Nat → Option Nat → Option Nat → Int32 → Mem → Option (Int32 × Mem)
  | 0 => fun _ _ _ _ => none
  | f + 1 => sX0_areAlike_29b (sX0_areAlike_29 f)
noncomputable def sX0_areAlike (v0 : Option Nat) (v1 : Option Nat) (σ : Mem) : Option (Int32 × Mem) :=
  gI σ v0 3 23 fun x1 =>
  if x1 = (iI 0) then
    rZ (iI 1) σ
  else
    gI σ v1 3 23 fun x2 =>
    if x2 = (iI 0) then
      rZ (iI 1) σ
    else
      gI σ v0 3 17 fun x3 =>
      gI σ v1 3 17 fun x4 =>
      if x3 = x4 then
        sX0_areAlike_29 FU v0 v1 (iI 0) σ
      else
        rZ (iI 1) σ
noncomputable def sX0_broken_105 (k26 : Option Nat → Int32 → Int32 → Int32 → Mem → Option (Int32 × Mem)) (k35 : Option Nat → Int32 → Int32 → Int32 → Int32 → Mem → Option (Int32 × Mem)) (v0 : Option Nat) (v1 : Int32) (v3 : Int32) (v4 : Int32) (t0 : Int32) (t1 : Int32) (σ : Mem) : Option (Int32 × Mem) :=
  k35 v0 v1 (t0 + t1) v3 (v4 + iI 1) σ
noncomputable def sX0_broken_104 (k26 : Option Nat → Int32 → Int32 → Int32 → Mem → Option (Int32 × Mem)) (k35 : Option Nat → Int32 → Int32 → Int32 → Int32 → Mem → Option (Int32 × Mem)) (v0 : Option Nat) (v1 : Int32) (v3 : Int32) (v4 : Int32) (t0 : Int32) (σ : Mem) : Option (Int32 × Mem) :=
  sX0_broken_105 k26 k35 v0 v1 v3 v4 t0 (iI 1) σ
noncomputable def sX0_broken_100 (k26 : Option Nat → Int32 → Int32 → Int32 → Mem → Option (Int32 × Mem)) (k35 : Option Nat → Int32 → Int32 → Int32 → Int32 → Mem → Option (Int32 × Mem)) (v0 : Option Nat) (v1 : Int32) (v3 : Int32) (v4 : Int32) (t0 : Int32) (σ : Mem) : Option (Int32 × Mem) :=
  sX0_broken_105 k26 k35 v0 v1 v3 v4 t0 (iI 0) σ
noncomputable def sX0_broken_35b (k26 : Option Nat → Int32 → Int32 → Int32 → Mem → Option (Int32 × Mem)) (k35 : Option Nat → Int32 → Int32 → Int32 → Int32 → Mem → Option (Int32 × Mem)) (v0 : Option Nat) (v1 : Int32) (v2 : Int32) (v3 : Int32) (v4 : Int32) (σ : Mem) : Option (Int32 × Mem) :=
  if v3 ≤ v4 then
    k26 v0 v1 v2 (v3 + iI 1) σ
  else
    if v1 = (iI 1) then
      gR σ v0 0 1 fun x9 =>
      gR σ x9 2 0 fun x10 =>
      aR σ x10 23 v3 fun x11 =>
      gR σ v0 0 1 fun x12 =>
      gR σ x12 2 0 fun x13 =>
      aR σ x13 23 v4 fun x14 =>
      cl (sX0_areMatched x11 x14 σ) fun x15 s16 =>
      if x15 = (iI 0) then
        sX0_broken_104 k26 k35 v0 v1 v3 v4 v2 s16
      else
        sX0_broken_100 k26 k35 v0 v1 v3 v4 v2 s16
    else
      gR σ v0 0 1 fun x1 =>
      gR σ x1 2 0 fun x2 =>
      aR σ x2 23 v3 fun x3 =>
      gR σ v0 0 1 fun x4 =>
      gR σ x4 2 0 fun x5 =>
      aR σ x5 23 v4 fun x6 =>
      cl (sX0_areAlike x3 x6 σ) fun x7 s8 =>
      if x7 = (iI 0) then
        sX0_broken_104 k26 k35 v0 v1 v3 v4 v2 s8
      else
        sX0_broken_100 k26 k35 v0 v1 v3 v4 v2 s8
noncomputable def sX0_broken_35 (k26 : Option Nat → Int32 → Int32 → Int32 → Mem → Option (Int32 × Mem)) : Nat → Option Nat → Int32 → Int32 → Int32 → Int32 → Mem → Option (Int32 × Mem)
  | 0 => fun _ _ _ _ _ _ => none
  | f + 1 => sX0_broken_35b k26 (sX0_broken_35 k26 f)
noncomputable def sX0_broken_26b (k26 : Option Nat → Int32 → Int32 → Int32 → Mem → Option (Int32 × Mem)) (v0 : Option Nat) (v1 : Int32) (v2 : Int32) (v3 : Int32) (σ : Mem) : Option (Int32 × Mem) :=
  if (iI 7) ≤ v3 then
    some (v2, σ)
  else
    sX0_broken_35 k26 FU v0 v1 v2 v3 (iI 0) σ
noncomputable def sX0_broken_26 : Nat → Option Nat → Int32 → Int32 → Int32 → Mem → Option (Int32 × Mem)
  | 0 => fun _ _ _ _ _ => none
  | f + 1 => sX0_broken_26b (sX0_broken_26 f)
noncomputable def sX0_broken (v0 : Option Nat) (v1 : Int32) (σ : Mem) : Option (Int32 × Mem) :=
  cl (sX0_in v1 (iI 3) σ) fun x1 s2 =>
  if x1 = (iI 0) then
    some (iI (-1), s2)
  else
    if v1 = (iI 0) then
      gR s2 v0 0 1 fun x3 =>
      gI s2 x3 2 10 fun x4 =>
      some (x4, s2)
    else
      sX0_broken_26 FU v0 v1 (iI 0) (iI 0) s2
noncomputable def sX0_wouldGrant_99 (v3 : Option Nat) (v4 : Option Nat) (t0 : Int32) (σ : Mem) : Option (Int32 × Mem) :=
  if t0 = (iI 0) then
    rZ (iI 0) σ
  else
    cV σ v3 3 <|
    cl (sX4_last v3 σ) fun x1 s2 =>
    cV s2 v3 3 <|
    cl (sX4_termAt v3 x1 s2) fun x3 s4 =>
    cV s4 v3 3 <|
    cl (sX4_last v3 s4) fun x5 s6 =>
    cV s6 v4 3 <|
    cl (sX4_isNoLess v4 x3 x5 s6) fun x7 s8 =>
    if x7 = (iI 0) then
      rZ (iI 0) s8
    else
      rZ (iI 1) s8
noncomputable def sX0_wouldGrant_94 (v3 : Option Nat) (v4 : Option Nat) (σ : Mem) : Option (Int32 × Mem) :=
  sX0_wouldGrant_99 v3 v4 (iI 1) σ
noncomputable def sX0_wouldGrant (v0 : Option Nat) (v1 : Int32) (v2 : Int32) (σ : Mem) : Option (Int32 × Mem) :=
  gR σ v0 0 1 fun x1 =>
  gR σ x1 2 0 fun x2 =>
  aR σ x2 23 v2 fun x3 =>
  gR σ v0 0 1 fun x4 =>
  gR σ x4 2 0 fun x5 =>
  aR σ x5 23 v1 fun x6 =>
  if v1 = v2 then
    rZ (iI 1) σ
  else
    gI σ x6 3 23 fun x7 =>
    if x7 = (iI 0) then
      rZ (iI 0) σ
    else
      gR σ v0 0 1 fun x8 =>
      cV σ x8 2 <|
      cl (sX3_areLinked x8 v1 v2 σ) fun x9 s10 =>
      if x9 = (iI 0) then
        rZ (iI 0) s10
      else
        gI s10 x6 3 9 fun x11 =>
        gI s10 x3 3 9 fun x12 =>
        if x11 ≤ (x12 + (iI 1)) then
          gI s10 x6 3 9 fun x13 =>
          gI s10 x3 3 9 fun x14 =>
          if x13 ≤ x14 then
            sX0_wouldGrant_94 x3 x6 s10
          else
            gI s10 x6 3 10 fun x15 =>
            if x15 = (iI (-1)) then
              sX0_wouldGrant_94 x3 x6 s10
            else
              gI s10 x6 3 10 fun x16 =>
              if x16 = v2 then
                sX0_wouldGrant_94 x3 x6 s10
              else
                sX0_wouldGrant_99 x3 x6 (iI 0) s10
        else
          rZ (iI 0) s10
noncomputable def sX0_couldWin_93 (k54 : Option Nat → Int32 → Int32 → Option Nat → Int32 → Int32 → Mem → Option (Int32 × Mem)) (v0 : Option Nat) (v1 : Int32) (v2 : Int32) (v3 : Option Nat) (v5 : Int32) (t0 : Int32) (t1 : Int32) (σ : Mem) : Option (Int32 × Mem) :=
  k54 v0 v1 v2 v3 (t0 ||| t1) (v5 + iI 1) σ
noncomputable def sX0_couldWin_92 (k54 : Option Nat → Int32 → Int32 → Option Nat → Int32 → Int32 → Mem → Option (Int32 × Mem)) (v0 : Option Nat) (v1 : Int32) (v2 : Int32) (v3 : Option Nat) (v5 : Int32) (t0 : Int32) (σ : Mem) : Option (Int32 × Mem) :=
  sX0_couldWin_93 k54 v0 v1 v2 v3 v5 t0 (iI 0) σ
noncomputable def sX0_couldWin_54b (k54 : Option Nat → Int32 → Int32 → Option Nat → Int32 → Int32 → Mem → Option (Int32 × Mem)) (v0 : Option Nat) (v1 : Int32) (v2 : Int32) (v3 : Option Nat) (v4 : Int32) (v5 : Int32) (σ : Mem) : Option (Int32 × Mem) :=
  if (iI 7) ≤ v5 then
    if v2 = (iI 1) then
      some (v4, σ)
    else
      cV σ v3 3 <|
      cl (sX4_isMajority v3 v4 σ) fun x1 s2 =>
      if x1 = (iI 0) then
        some (iI 0, s2)
      else
        some (iI 1, s2)
  else
    cV σ v3 3 <|
    cl (sX4_members v3 σ) fun x3 s4 =>
    cl (sX0_has x3 v5 s4) fun x5 s6 =>
    if x5 = (iI 0) then
      sX0_couldWin_92 k54 v0 v1 v2 v3 v5 v4 s6
    else
      cV s6 v0 0 <|
      cl (sX0_wouldGrant v0 v5 v1 s6) fun x7 s8 =>
      if x7 = (iI 0) then
        sX0_couldWin_92 k54 v0 v1 v2 v3 v5 v4 s8
      else
        sX0_couldWin_93 k54 v0 v1 v2 v3 v5 v4 ((iI 1) <<< (v5 &&& 31)) s8
noncomputable def sX0_couldWin_54 : Nat → Option Nat → Int32 → Int32 → Option Nat → Int32 → Int32 → Mem → Option (Int32 × Mem)
  | 0 => fun _ _ _ _ _ _ _ => none
  | f + 1 => sX0_couldWin_54b (sX0_couldWin_54 f)
noncomputable def sX0_couldWin (v0 : Option Nat) (v1 : Int32) (v2 : Int32) (σ : Mem) : Option (Int32 × Mem) :=
  cl (sX0_isNode v1 σ) fun x1 s2 =>
  if x1 = (iI 0) then
    some (iI (-1), s2)
  else
    cl (sX0_in v2 (iI 2) s2) fun x3 s4 =>
    if x3 = (iI 0) then
      some (iI (-1), s4)
    else
      gR s4 v0 0 1 fun x5 =>
      gR s4 x5 2 0 fun x6 =>
      aR s4 x6 23 v1 fun x7 =>
      gI s4 x7 3 23 fun x8 =>
      if x8 = (iI 0) then
        some (iI (-2), s4)
      else
        cV s4 x7 3 <|
        cl (sX4_members x7 s4) fun x9 s10 =>
        cl (sX0_has x9 v1 s10) fun x11 s12 =>
        if x11 = (iI 0) then
          some (iI (-2), s12)
        else
          sX0_couldWin_54 FU v0 v1 v2 x7 (iI 0) (iI 0) s12
noncomputable def sX0_majority (v0 : Option Nat) (v1 : Int32) (v2 : Int32) (σ : Mem) : Option (Int32 × Mem) :=
  cl (sX0_isNode v1 σ) fun x1 s2 =>
  if x1 = (iI 0) then
    some (iI (-1), s2)
  else
    cl (sX0_in v2 (iI 128) s2) fun x3 s4 =>
    if x3 = (iI 0) then
      some (iI (-1), s4)
    else
      gR s4 v0 0 1 fun x5 =>
      gR s4 x5 2 0 fun x6 =>
      aR s4 x6 23 v1 fun x7 =>
      cV s4 x7 3 <|
      cl (sX4_isMajority x7 v2 s4) fun x8 s9 =>
      if x8 = (iI 0) then
        some (iI 0, s9)
      else
        some (iI 1, s9)
noncomputable def sX3_haveAllHeld_42 (k10 : Option Nat → Option Nat → Int32 → Int32 → Mem → Option (Int32 × Mem)) (v0 : Option Nat) (v1 : Option Nat) (v2 : Int32) (v3 : Int32) (σ : Mem) : Option (Int32 × Mem) :=
  k10 v0 v1 v2 (v3 + iI 1) σ
noncomputable def sX3_haveAllHeld_10b (k10 : Option Nat → Option Nat → Int32 → Int32 → Mem → Option (Int32 × Mem)) (v0 : Option Nat) (v1 : Option Nat) (v2 : Int32) (v3 : Int32) (σ : Mem) : Option (Int32 × Mem) :=
  if v2 ≤ v3 then
    rZ (iI 1) σ
  else
    aR σ v1 23 v3 fun x1 =>
    gI σ x1 3 23 fun x2 =>
    if x2 = (iI 0) then
      sX3_haveAllHeld_42 k10 v0 v1 v2 v3 σ
    else
      gI σ x1 3 17 fun x3 =>
      gI σ v0 2 12 fun x4 =>
      if x4 ≤ x3 then
        sX3_haveAllHeld_42 k10 v0 v1 v2 v3 σ
      else
        rZ (iI 0) σ
noncomputable def sX3_haveAllHeld_10 : Nat → Option Nat → Option Nat → Int32 → Int32 → Mem → Option (Int32 × Mem)
  | 0 => fun _ _ _ _ _ => none
  | f + 1 => sX3_haveAllHeld_10b (sX3_haveAllHeld_10 f)
noncomputable def sX3_haveAllHeld (v0 : Option Nat) (σ : Mem) : Option (Int32 × Mem) :=
  gR σ v0 2 0 fun x1 =>
  aL σ x1 23 fun x2 =>
  sX3_haveAllHeld_10 FU v0 x1 x2 (iI 0) σ
noncomputable def sX0_till_101 (k35 : Option Nat → Int32 → Int32 → Int32 → Mem → Option (Int32 × Mem)) (v0 : Option Nat) (v1 : Int32) (v2 : Int32) (v3 : Int32) (t0 : Int32) (σ : Mem) : Option (Int32 × Mem) :=
  if t0 = (iI 0) then
    if v3 = v1 then
      some (iI (-2), σ)
    else
      gR σ v0 0 2 fun x1 =>
      gI σ x1 2 8 fun x2 =>
      if x2 = (iI 9999) then
        some (iI (-2), σ)
      else
        gR σ v0 0 2 fun x3 =>
        cV σ x3 2 <|
        cl (sX3_tickGoes x3 σ) fun _ s4 =>
        k35 v0 v1 v2 (v3 + iI 1) s4
  else
    some (v3, σ)
noncomputable def sX0_till_35b (k35 : Option Nat → Int32 → Int32 → Int32 → Mem → Option (Int32 × Mem)) (v0 : Option Nat) (v1 : Int32) (v2 : Int32) (v3 : Int32) (σ : Mem) : Option (Int32 × Mem) :=
  if v1 < v3 then
    some (iI (-2), σ)
  else
    if v2 = (iI 0) then
      gR σ v0 0 2 fun x8 =>
      cV σ x8 2 <|
      cl (sX3_leads_2 x8 σ) fun x9 s10 =>
      if x9 = (iI (-2)) then
        sX0_till_101 k35 v0 v1 v2 v3 (iI 0) s10
      else
        sX0_till_101 k35 v0 v1 v2 v3 (iI 1) s10
    else
      if v2 = (iI 1) then
        gR σ v0 0 2 fun x4 =>
        gI σ x4 2 12 fun x5 =>
        gR σ v0 0 1 fun x6 =>
        gI σ x6 2 12 fun x7 =>
        if x5 ≤ x7 then
          sX0_till_101 k35 v0 v1 v2 v3 (iI 0) σ
        else
          sX0_till_101 k35 v0 v1 v2 v3 (iI 1) σ
      else
        gR σ v0 0 2 fun x1 =>
        cV σ x1 2 <|
        cl (sX3_haveAllHeld x1 σ) fun x2 s3 =>
        sX0_till_101 k35 v0 v1 v2 v3 x2 s3
noncomputable def sX0_till_35 : Nat → Option Nat → Int32 → Int32 → Int32 → Mem → Option (Int32 × Mem)
  | 0 => fun _ _ _ _ _ => none
  | f + 1 => sX0_till_35b (sX0_till_35 f)
noncomputable def sX0_till (v0 : Option Nat) (v1 : Int32) (v2 : Int32) (σ : Mem) : Option (Int32 × Mem) :=
  cl (sX0_within v1 (iI 1) (iI 200) σ) fun x1 s2 =>
  if x1 = (iI 0) then
    some (iI (-1), s2)
  else
    cl (sX0_in v2 (iI 3) s2) fun x3 s4 =>
    if x3 = (iI 0) then
      some (iI (-1), s4)
    else
      gR s4 v0 0 2 fun x5 =>
      gR s4 v0 0 1 fun x6 =>
      cV s4 x5 2 <|
      cl (sX3_takes x5 x6 s4) fun x7 s8 =>
      sX0_till_35 FU v0 v1 v2 (iI 0) s8
noncomputable def sX0_seed (v0 : Option Nat) (v1 : Int32) (σ : Mem) : Option (Int32 × Mem) :=
  cl (sX0_in v1 (iI 65536) σ) fun x1 s2 =>
  if x1 = (iI 0) then
    rZ (iI 0) s2
  else
    gR s2 v0 0 1 fun x3 =>
    pI s2 x3 2 9 v1 fun s4 =>
    rZ (iI 1) s4
noncomputable def sX0_keep (v0 : Option Nat) (σ : Mem) : Option (Int32 × Mem) :=
  pZ σ v0 0 7 (iI 1) fun s1 =>
  gR s1 v0 0 3 fun x2 =>
  gR s1 v0 0 1 fun x3 =>
  cV s1 x2 2 <|
  cl (sX3_takes x2 x3 s1) fun x4 s5 =>
  gR s5 v0 0 1 fun x6 =>
  gI s5 x6 2 8 fun x7 =>
  some (x7, s5)
noncomputable def sX0_undo (v0 : Option Nat) (σ : Mem) : Option (Int32 × Mem) :=
  gI σ v0 0 7 fun x1 =>
  if x1 = (iI 0) then
    rZ (iI 0) σ
  else
    gR σ v0 0 1 fun x2 =>
    gR σ v0 0 3 fun x3 =>
    cV σ x2 2 <|
    cl (sX3_takes x2 x3 σ) fun x4 s5 =>
    rZ (iI 1) s5
noncomputable def sX0_farthest_59 (k4 : Option Nat → Int32 → Int32 → Mem → Option (Int32 × Mem)) (v0 : Option Nat) (v1 : Int32) (v2 : Int32) (σ : Mem) : Option (Int32 × Mem) :=
  k4 v0 v1 (v2 + iI 1) σ
noncomputable def sX0_farthest_57 (k4 : Option Nat → Int32 → Int32 → Mem → Option (Int32 × Mem)) (v0 : Option Nat) (v2 : Int32) (σ : Mem) : Option (Int32 × Mem) :=
  sX0_farthest_59 k4 v0 v2 v2 σ
noncomputable def sX0_farthest_4b (k4 : Option Nat → Int32 → Int32 → Mem → Option (Int32 × Mem)) (v0 : Option Nat) (v1 : Int32) (v2 : Int32) (σ : Mem) : Option (Int32 × Mem) :=
  if (iI 7) ≤ v2 then
    some (v1, σ)
  else
    gR σ v0 0 1 fun x1 =>
    gR σ x1 2 0 fun x2 =>
    aR σ x2 23 v2 fun x3 =>
    gI σ x3 3 23 fun x4 =>
    if x4 = (iI 0) then
      sX0_farthest_59 k4 v0 v1 v2 σ
    else
      if v1 = (iI (-1)) then
        sX0_farthest_57 k4 v0 v2 σ
      else
        gR σ v0 0 1 fun x5 =>
        gR σ x5 2 0 fun x6 =>
        aR σ x6 23 v2 fun x7 =>
        gI σ x7 3 17 fun x8 =>
        gR σ v0 0 1 fun x9 =>
        gR σ x9 2 0 fun x10 =>
        aR σ x10 23 v1 fun x11 =>
        gI σ x11 3 17 fun x12 =>
        if x8 ≤ x12 then
          sX0_farthest_59 k4 v0 v1 v2 σ
        else
          sX0_farthest_57 k4 v0 v2 σ
noncomputable def sX0_farthest_4 : Nat → Option Nat → Int32 → Int32 → Mem → Option (Int32 × Mem)
  | 0 => fun _ _ _ _ => none
  | f + 1 => sX0_farthest_4b (sX0_farthest_4 f)
noncomputable def sX0_farthest (v0 : Option Nat) (σ : Mem) : Option (Int32 × Mem) :=
  sX0_farthest_4 FU v0 (iI (-1)) (iI 0) σ
noncomputable def sX0_fed (v0 : Option Nat) (v1 : Int32) (σ : Mem) : Option (Int32 × Mem) :=
  gR σ v0 0 4 fun x1 =>
  aB σ x1 v1 fun x2 =>
  some (x2 &&& (iI 255), σ)
noncomputable def sX0_check_68 (k33 : Option Nat → Int32 → Int32 → Int32 → Mem → Option (Int32 × Mem)) (v0 : Option Nat) (v1 : Int32) (v2 : Int32) (v3 : Int32) (t0 : Int32) (t1 : Int32) (σ : Mem) : Option (Int32 × Mem) :=
  if t0 = t1 then
    k33 v0 v1 v2 (v3 + iI 1) σ
  else
    some (v3, σ)
noncomputable def sX0_check_33b (k33 : Option Nat → Int32 → Int32 → Int32 → Mem → Option (Int32 × Mem)) (v0 : Option Nat) (v1 : Int32) (v2 : Int32) (v3 : Int32) (σ : Mem) : Option (Int32 × Mem) :=
  if v1 ≤ v3 then
    some (iI (-1), σ)
  else
    cV σ v0 0 <|
    cl (sX0_fed v0 v3 σ) fun x1 s2 =>
    if v2 = (iI (-1)) then
      sX0_check_68 k33 v0 v1 v2 v3 x1 (iI 255) s2
    else
      gR s2 v0 0 1 fun x3 =>
      gR s2 x3 2 0 fun x4 =>
      aR s2 x4 23 v2 fun x5 =>
      gR s2 x5 3 4 fun x6 =>
      aI s2 x6 v3 fun x7 =>
      sX0_check_68 k33 v0 v1 v2 v3 x1 x7 s2
noncomputable def sX0_check_33 : Nat → Option Nat → Int32 → Int32 → Int32 → Mem → Option (Int32 × Mem)
  | 0 => fun _ _ _ _ _ => none
  | f + 1 => sX0_check_33b (sX0_check_33 f)
noncomputable def sX0_check (v0 : Option Nat) (v1 : Int32) (σ : Mem) : Option (Int32 × Mem) :=
  cl (sX0_within v1 (iI 0) (iI 8) σ) fun x1 s2 =>
  if x1 = (iI 0) then
    some (iI (-2), s2)
  else
    gI s2 v0 0 6 fun x3 =>
    if v1 ≤ x3 then
      pI s2 v0 0 6 (iI 0) fun s4 =>
      cV s4 v0 0 <|
      cl (sX0_farthest v0 s4) fun x5 s6 =>
      sX0_check_33 FU v0 v1 x5 (iI 0) s6
    else
      some (iI (-2), s2)
noncomputable def sX0_ups_33 (k4 : Option Nat → Int32 → Int32 → Mem → Option (Int32 × Mem)) (v0 : Option Nat) (v2 : Int32) (t0 : Int32) (t1 : Int32) (σ : Mem) : Option (Int32 × Mem) :=
  k4 v0 (t0 ||| t1) (v2 + iI 1) σ
noncomputable def sX0_ups_4b (k4 : Option Nat → Int32 → Int32 → Mem → Option (Int32 × Mem)) (v0 : Option Nat) (v1 : Int32) (v2 : Int32) (σ : Mem) : Option (Int32 × Mem) :=
  if (iI 7) ≤ v2 then
    some (v1, σ)
  else
    gR σ v0 0 1 fun x1 =>
    gR σ x1 2 0 fun x2 =>
    aR σ x2 23 v2 fun x3 =>
    gI σ x3 3 23 fun x4 =>
    if x4 = (iI 0) then
      sX0_ups_33 k4 v0 v2 v1 (iI 0) σ
    else
      sX0_ups_33 k4 v0 v2 v1 ((iI 1) <<< (v2 &&& 31)) σ
noncomputable def sX0_ups_4 : Nat → Option Nat → Int32 → Int32 → Mem → Option (Int32 × Mem)
  | 0 => fun _ _ _ _ => none
  | f + 1 => sX0_ups_4b (sX0_ups_4 f)
noncomputable def sX0_ups (v0 : Option Nat) (σ : Mem) : Option (Int32 × Mem) :=
  sX0_ups_4 FU v0 (iI 0) (iI 0) σ
noncomputable def sX0_cutLinks_16b (k16 : Int32 → Option Nat → Int32 → Int32 → Mem → Option (Int32 × Mem)) (v1 : Int32) (v2 : Option Nat) (v3 : Int32) (v4 : Int32) (σ : Mem) : Option (Int32 × Mem) :=
  if v3 ≤ v4 then
    dv v1 (iI 2) fun x1 =>
    some (x1, σ)
  else
    aI σ v2 v4 fun x2 =>
    cl (sJ1_bitCount x2 σ) fun x3 s4 =>
    k16 (v1 + x3) v2 v3 (v4 + iI 1) s4
noncomputable def sX0_cutLinks_16 : Nat → Int32 → Option Nat → Int32 → Int32 → Mem → Option (Int32 × Mem)
  | 0 => fun _ _ _ _ _ => none
  | f + 1 => sX0_cutLinks_16b (sX0_cutLinks_16 f)
noncomputable def sX0_cutLinks (v0 : Option Nat) (σ : Mem) : Option (Int32 × Mem) :=
  gR σ v0 0 1 fun x1 =>
  gR σ x1 2 4 fun x2 =>
  aL σ x2 20 fun x3 =>
  sX0_cutLinks_16 FU (iI 0) x2 x3 (iI 0) σ
noncomputable def sX0_count (v0 : Option Nat) (v1 : Int32) (σ : Mem) : Option (Int32 × Mem) :=
  if v1 = iI 0 then
    gR σ v0 0 1 fun x1 =>
    gI σ x1 2 8 fun x2 =>
    some (x2, σ)
  else
    if v1 = iI 1 then
      cV σ v0 0 <|
      cl (sX0_ups v0 σ) fun x3 s4 =>
      some (x3, s4)
    else
      if v1 = iI 2 then
        gR σ v0 0 1 fun x5 =>
        gI σ x5 2 7 fun x6 =>
        some (x6, σ)
      else
        if v1 = iI 3 then
          gR σ v0 0 1 fun x7 =>
          gI σ x7 2 12 fun x8 =>
          some (x8, σ)
        else
          if v1 = iI 4 then
            gR σ v0 0 5 fun x9 =>
            gI σ x9 4 3 fun x10 =>
            some (x10, σ)
          else
            if v1 = iI 5 then
              gI σ v0 0 6 fun x11 =>
              some (x11, σ)
            else
              if v1 = iI 6 then
                gR σ v0 0 1 fun x12 =>
                gI σ x12 2 9 fun x13 =>
                some (x13, σ)
              else
                if v1 = iI 7 then
                  gR σ v0 0 1 fun x14 =>
                  gI σ x14 2 14 fun x15 =>
                  some (x15, σ)
                else
                  if v1 = iI 8 then
                    gR σ v0 0 1 fun x16 =>
                    gI σ x16 2 11 fun x17 =>
                    some (x17, σ)
                  else
                    if v1 = iI 9 then
                      cV σ v0 0 <|
                      cl (sX0_cutLinks v0 σ) fun x18 s19 =>
                      some (x18, s19)
                    else
                      some (iI (-1), σ)
noncomputable def sL_law_1074 (sn : Nat) (xs : Nat → Int32) (k18 : Option Nat → Option Nat → Int32 → Mem → Option (Int32 × Mem)) (v1 : Option Nat) (v2 : Option Nat) (v3 : Int32) (σ : Mem) : Option (Int32 × Mem) :=
  k18 v1 v2 (v3 + iI 6) σ
noncomputable def sL_law_288 (sn : Nat) (xs : Nat → Int32) (k18 : Option Nat → Option Nat → Int32 → Mem → Option (Int32 × Mem)) (v1 : Option Nat) (v2 : Option Nat) (v3 : Int32) (t0 : Int32) (t1 : Option Nat) (t2 : Int32) (t3 : Int32) (t4 : Int32) (σ : Mem) : Option (Int32 × Mem) :=
  cV σ t1 6 <|
  cl (sX8_cut t1 t2 t3 t4 σ) fun x1 s2 =>
  if t0 = x1 then
    sL_law_1074 sn xs k18 v1 v2 v3 s2
  else
    rZ (iI 0) s2
noncomputable def sL_law_261 (sn : Nat) (xs : Nat → Int32) (k18 : Option Nat → Option Nat → Int32 → Mem → Option (Int32 × Mem)) (v1 : Option Nat) (v2 : Option Nat) (v3 : Int32) (t0 : Option Nat) (t1 : Int32) (t2 : Int32) (t3 : Int32) (σ : Mem) : Option (Int32 × Mem) :=
  cV σ t0 0 <|
  cl (sX0_cut t0 t1 t2 t3 σ) fun x1 s2 =>
  scI sn xs (v3 + (iI 1)) fun x3 =>
  scI sn xs (v3 + (iI 2)) fun x4 =>
  scI sn xs (v3 + (iI 3)) fun x5 =>
  if x5 = (iI 0) then
    sL_law_288 sn xs k18 v1 v2 v3 x1 v2 x3 x4 (iI 0) s2
  else
    sL_law_288 sn xs k18 v1 v2 v3 x1 v2 x3 x4 (iI 1) s2
noncomputable def sL_law_18b (sn : Nat) (xs : Nat → Int32) (k18 : Option Nat → Option Nat → Int32 → Mem → Option (Int32 × Mem)) (v1 : Option Nat) (v2 : Option Nat) (v3 : Int32) (σ : Mem) : Option (Int32 × Mem) :=
  if ((Int32.ofNat sn) - (iI 6)) < v3 then
    rZ (iI 1) σ
  else
    scI sn xs v3 fun x1 =>
    if (x1 &&& (iI 31)) = iI 0 then
      scI sn xs (v3 + (iI 1)) fun x2 =>
      cV σ v1 0 <|
      cl (sX0_found v1 x2 σ) fun x3 s4 =>
      scI sn xs (v3 + (iI 1)) fun x5 =>
      cV s4 v2 6 <|
      cl (sX8_found v2 x5 s4) fun x6 s7 =>
      if x3 = x6 then
        sL_law_1074 sn xs k18 v1 v2 v3 s7
      else
        rZ (iI 0) s7
    else
      if (x1 &&& (iI 31)) = iI 1 then
        scI sn xs (v3 + (iI 1)) fun x8 =>
        cV σ v1 0 <|
        cl (sX0_crash v1 x8 σ) fun x9 s10 =>
        scI sn xs (v3 + (iI 1)) fun x11 =>
        cV s10 v2 6 <|
        cl (sX8_crash v2 x11 s10) fun x12 s13 =>
        if x9 = x12 then
          sL_law_1074 sn xs k18 v1 v2 v3 s13
        else
          rZ (iI 0) s13
      else
        if (x1 &&& (iI 31)) = iI 2 then
          scI sn xs (v3 + (iI 1)) fun x14 =>
          cV σ v1 0 <|
          cl (sX0_comeUp v1 x14 σ) fun x15 s16 =>
          scI sn xs (v3 + (iI 1)) fun x17 =>
          cV s16 v2 6 <|
          cl (sX8_comeUp v2 x17 s16) fun x18 s19 =>
          if x15 = x18 then
            sL_law_1074 sn xs k18 v1 v2 v3 s19
          else
            rZ (iI 0) s19
        else
          if (x1 &&& (iI 31)) = iI 3 then
            scI sn xs (v3 + (iI 1)) fun x20 =>
            scI sn xs (v3 + (iI 2)) fun x21 =>
            scI sn xs (v3 + (iI 3)) fun x22 =>
            if x22 = (iI 0) then
              sL_law_261 sn xs k18 v1 v2 v3 v1 x20 x21 (iI 0) σ
            else
              sL_law_261 sn xs k18 v1 v2 v3 v1 x20 x21 (iI 1) σ
          else
            if (x1 &&& (iI 31)) = iI 4 then
              scI sn xs (v3 + (iI 1)) fun x23 =>
              cV σ v1 0 <|
              cl (sX0_compact v1 x23 σ) fun x24 s25 =>
              scI sn xs (v3 + (iI 1)) fun x26 =>
              cV s25 v2 6 <|
              cl (sX8_compact v2 x26 s25) fun x27 s28 =>
              if x24 = x27 then
                sL_law_1074 sn xs k18 v1 v2 v3 s28
              else
                rZ (iI 0) s28
            else
              if (x1 &&& (iI 31)) = iI 5 then
                scI sn xs (v3 + (iI 1)) fun x29 =>
                scI sn xs (v3 + (iI 2)) fun x30 =>
                scI sn xs (v3 + (iI 3)) fun x31 =>
                cV σ v1 0 <|
                cl (sX0_write v1 x29 x30 x31 σ) fun x32 s33 =>
                scI sn xs (v3 + (iI 1)) fun x34 =>
                scI sn xs (v3 + (iI 2)) fun x35 =>
                scI sn xs (v3 + (iI 3)) fun x36 =>
                cV s33 v2 6 <|
                cl (sX8_write v2 x34 x35 x36 s33) fun x37 s38 =>
                if x32 = x37 then
                  sL_law_1074 sn xs k18 v1 v2 v3 s38
                else
                  rZ (iI 0) s38
              else
                if (x1 &&& (iI 31)) = iI 6 then
                  scI sn xs (v3 + (iI 1)) fun x39 =>
                  scI sn xs (v3 + (iI 2)) fun x40 =>
                  cV σ v1 0 <|
                  cl (sX0_change v1 x39 x40 σ) fun x41 s42 =>
                  scI sn xs (v3 + (iI 1)) fun x43 =>
                  scI sn xs (v3 + (iI 2)) fun x44 =>
                  cV s42 v2 6 <|
                  cl (sX8_change v2 x43 x44 s42) fun x45 s46 =>
                  if x41 = x45 then
                    sL_law_1074 sn xs k18 v1 v2 v3 s46
                  else
                    rZ (iI 0) s46
                else
                  if (x1 &&& (iI 31)) = iI 7 then
                    scI sn xs (v3 + (iI 1)) fun x47 =>
                    scI sn xs (v3 + (iI 2)) fun x48 =>
                    cV σ v1 0 <|
                    cl (sX0_ask v1 x47 x48 σ) fun x49 s50 =>
                    scI sn xs (v3 + (iI 1)) fun x51 =>
                    scI sn xs (v3 + (iI 2)) fun x52 =>
                    cV s50 v2 6 <|
                    cl (sX8_ask v2 x51 x52 s50) fun x53 s54 =>
                    if x49 = x53 then
                      sL_law_1074 sn xs k18 v1 v2 v3 s54
                    else
                      rZ (iI 0) s54
                  else
                    if (x1 &&& (iI 31)) = iI 8 then
                      scI sn xs (v3 + (iI 1)) fun x55 =>
                      scI sn xs (v3 + (iI 2)) fun x56 =>
                      scI sn xs (v3 + (iI 3)) fun x57 =>
                      scI sn xs (v3 + (iI 4)) fun x58 =>
                      scI sn xs (v3 + (iI 5)) fun x59 =>
                      cV σ v1 0 <|
                      cl (sX0_feed v1 x55 x56 x57 x58 x59 σ) fun x60 s61 =>
                      scI sn xs (v3 + (iI 1)) fun x62 =>
                      scI sn xs (v3 + (iI 2)) fun x63 =>
                      scI sn xs (v3 + (iI 3)) fun x64 =>
                      scI sn xs (v3 + (iI 4)) fun x65 =>
                      scI sn xs (v3 + (iI 5)) fun x66 =>
                      cV s61 v2 6 <|
                      cl (sX8_feed v2 x62 x63 x64 x65 x66 s61) fun x67 s68 =>
                      if x60 = x67 then
                        sL_law_1074 sn xs k18 v1 v2 v3 s68
                      else
                        rZ (iI 0) s68
                    else
                      if (x1 &&& (iI 31)) = iI 9 then
                        scI sn xs (v3 + (iI 1)) fun x69 =>
                        cV σ v1 0 <|
                        cl (sX0_law v1 x69 σ) fun x70 s71 =>
                        scI sn xs (v3 + (iI 1)) fun x72 =>
                        cV s71 v2 6 <|
                        cl (sX8_law v2 x72 s71) fun x73 s74 =>
                        if x70 = x73 then
                          sL_law_1074 sn xs k18 v1 v2 v3 s74
                        else
                          rZ (iI 0) s74
                      else
                        if (x1 &&& (iI 31)) = iI 10 then
                          scI sn xs (v3 + (iI 1)) fun x75 =>
                          cV σ v1 0 <|
                          cl (sX0_plan v1 x75 σ) fun x76 s77 =>
                          scI sn xs (v3 + (iI 1)) fun x78 =>
                          cV s77 v2 6 <|
                          cl (sX8_plan v2 x78 s77) fun x79 s80 =>
                          if x76 = x79 then
                            sL_law_1074 sn xs k18 v1 v2 v3 s80
                          else
                            rZ (iI 0) s80
                        else
                          if (x1 &&& (iI 31)) = iI 11 then
                            scI sn xs (v3 + (iI 1)) fun x81 =>
                            cV σ v1 0 <|
                            cl (sX0_ticks v1 x81 σ) fun x82 s83 =>
                            scI sn xs (v3 + (iI 1)) fun x84 =>
                            cV s83 v2 6 <|
                            cl (sX8_ticks v2 x84 s83) fun x85 s86 =>
                            if x82 = x85 then
                              sL_law_1074 sn xs k18 v1 v2 v3 s86
                            else
                              rZ (iI 0) s86
                          else
                            if (x1 &&& (iI 31)) = iI 12 then
                              scI sn xs (v3 + (iI 1)) fun x87 =>
                              scI sn xs (v3 + (iI 2)) fun x88 =>
                              cV σ v1 0 <|
                              cl (sX0_tried v1 x87 x88 σ) fun x89 s90 =>
                              scI sn xs (v3 + (iI 1)) fun x91 =>
                              scI sn xs (v3 + (iI 2)) fun x92 =>
                              cV s90 v2 6 <|
                              cl (sX8_tried v2 x91 x92 s90) fun x93 s94 =>
                              if x89 = x93 then
                                sL_law_1074 sn xs k18 v1 v2 v3 s94
                              else
                                rZ (iI 0) s94
                            else
                              if (x1 &&& (iI 31)) = iI 13 then
                                scI sn xs (v3 + (iI 1)) fun x95 =>
                                scI sn xs (v3 + (iI 2)) fun x96 =>
                                cV σ v1 0 <|
                                cl (sX0_nodeIs v1 x95 x96 σ) fun x97 s98 =>
                                scI sn xs (v3 + (iI 1)) fun x99 =>
                                scI sn xs (v3 + (iI 2)) fun x100 =>
                                cV s98 v2 6 <|
                                cl (sX8_nodeIs v2 x99 x100 s98) fun x101 s102 =>
                                if x97 = x101 then
                                  sL_law_1074 sn xs k18 v1 v2 v3 s102
                                else
                                  rZ (iI 0) s102
                              else
                                if (x1 &&& (iI 31)) = iI 14 then
                                  scI sn xs (v3 + (iI 1)) fun x103 =>
                                  scI sn xs (v3 + (iI 2)) fun x104 =>
                                  scI sn xs (v3 + (iI 3)) fun x105 =>
                                  cV σ v1 0 <|
                                  cl (sX0_entryAt v1 x103 x104 x105 σ) fun x106 s107 =>
                                  scI sn xs (v3 + (iI 1)) fun x108 =>
                                  scI sn xs (v3 + (iI 2)) fun x109 =>
                                  scI sn xs (v3 + (iI 3)) fun x110 =>
                                  cV s107 v2 6 <|
                                  cl (sX8_entryAt v2 x108 x109 x110 s107) fun x111 s112 =>
                                  if x106 = x111 then
                                    sL_law_1074 sn xs k18 v1 v2 v3 s112
                                  else
                                    rZ (iI 0) s112
                                else
                                  if (x1 &&& (iI 31)) = iI 15 then
                                    scI sn xs (v3 + (iI 1)) fun x113 =>
                                    scI sn xs (v3 + (iI 2)) fun x114 =>
                                    cV σ v1 0 <|
                                    cl (sX0_keyOf v1 x113 x114 σ) fun x115 s116 =>
                                    scI sn xs (v3 + (iI 1)) fun x117 =>
                                    scI sn xs (v3 + (iI 2)) fun x118 =>
                                    cV s116 v2 6 <|
                                    cl (sX8_keyOf v2 x117 x118 s116) fun x119 s120 =>
                                    if x115 = x119 then
                                      sL_law_1074 sn xs k18 v1 v2 v3 s120
                                    else
                                      rZ (iI 0) s120
                                  else
                                    if (x1 &&& (iI 31)) = iI 16 then
                                      scI sn xs (v3 + (iI 1)) fun x121 =>
                                      scI sn xs (v3 + (iI 2)) fun x122 =>
                                      scI sn xs (v3 + (iI 3)) fun x123 =>
                                      cV σ v1 0 <|
                                      cl (sX0_about v1 x121 x122 x123 σ) fun x124 s125 =>
                                      scI sn xs (v3 + (iI 1)) fun x126 =>
                                      scI sn xs (v3 + (iI 2)) fun x127 =>
                                      scI sn xs (v3 + (iI 3)) fun x128 =>
                                      cV s125 v2 6 <|
                                      cl (sX8_about v2 x126 x127 x128 s125) fun x129 s130 =>
                                      if x124 = x129 then
                                        sL_law_1074 sn xs k18 v1 v2 v3 s130
                                      else
                                        rZ (iI 0) s130
                                    else
                                      if (x1 &&& (iI 31)) = iI 17 then
                                        scI sn xs (v3 + (iI 1)) fun x131 =>
                                        scI sn xs (v3 + (iI 2)) fun x132 =>
                                        cV σ v1 0 <|
                                        cl (sX0_message v1 x131 x132 σ) fun x133 s134 =>
                                        scI sn xs (v3 + (iI 1)) fun x135 =>
                                        scI sn xs (v3 + (iI 2)) fun x136 =>
                                        cV s134 v2 6 <|
                                        cl (sX8_message v2 x135 x136 s134) fun x137 s138 =>
                                        if x133 = x137 then
                                          sL_law_1074 sn xs k18 v1 v2 v3 s138
                                        else
                                          rZ (iI 0) s138
                                      else
                                        if (x1 &&& (iI 31)) = iI 18 then
                                          cV σ v1 0 <|
                                          cl (sX0_leaderNow v1 σ) fun x139 s140 =>
                                          cV s140 v2 6 <|
                                          cl (sX8_leaderNow v2 s140) fun x141 s142 =>
                                          if x139 = x141 then
                                            sL_law_1074 sn xs k18 v1 v2 v3 s142
                                          else
                                            rZ (iI 0) s142
                                        else
                                          if (x1 &&& (iI 31)) = iI 19 then
                                            scI sn xs (v3 + (iI 1)) fun x143 =>
                                            scI sn xs (v3 + (iI 2)) fun x144 =>
                                            cV σ v1 0 <|
                                            cl (sX0_heldAt v1 x143 x144 σ) fun x145 s146 =>
                                            scI sn xs (v3 + (iI 1)) fun x147 =>
                                            scI sn xs (v3 + (iI 2)) fun x148 =>
                                            cV s146 v2 6 <|
                                            cl (sX8_heldAt v2 x147 x148 s146) fun x149 s150 =>
                                            if x145 = x149 then
                                              sL_law_1074 sn xs k18 v1 v2 v3 s150
                                            else
                                              rZ (iI 0) s150
                                          else
                                            if (x1 &&& (iI 31)) = iI 20 then
                                              scI sn xs (v3 + (iI 1)) fun x151 =>
                                              scI sn xs (v3 + (iI 2)) fun x152 =>
                                              cV σ v1 0 <|
                                              cl (sX0_readIs v1 x151 x152 σ) fun x153 s154 =>
                                              scI sn xs (v3 + (iI 1)) fun x155 =>
                                              scI sn xs (v3 + (iI 2)) fun x156 =>
                                              cV s154 v2 6 <|
                                              cl (sX8_readIs v2 x155 x156 s154) fun x157 s158 =>
                                              if x153 = x157 then
                                                sL_law_1074 sn xs k18 v1 v2 v3 s158
                                              else
                                                rZ (iI 0) s158
                                            else
                                              if (x1 &&& (iI 31)) = iI 21 then
                                                scI sn xs (v3 + (iI 1)) fun x159 =>
                                                cV σ v1 0 <|
                                                cl (sX0_broken v1 x159 σ) fun x160 s161 =>
                                                scI sn xs (v3 + (iI 1)) fun x162 =>
                                                cV s161 v2 6 <|
                                                cl (sX8_broken v2 x162 s161) fun x163 s164 =>
                                                if x160 = x163 then
                                                  sL_law_1074 sn xs k18 v1 v2 v3 s164
                                                else
                                                  rZ (iI 0) s164
                                              else
                                                if (x1 &&& (iI 31)) = iI 22 then
                                                  scI sn xs (v3 + (iI 1)) fun x165 =>
                                                  scI sn xs (v3 + (iI 2)) fun x166 =>
                                                  cV σ v1 0 <|
                                                  cl (sX0_couldWin v1 x165 x166 σ) fun x167 s168 =>
                                                  scI sn xs (v3 + (iI 1)) fun x169 =>
                                                  scI sn xs (v3 + (iI 2)) fun x170 =>
                                                  cV s168 v2 6 <|
                                                  cl (sX8_couldWin v2 x169 x170 s168) fun x171 s172 =>
                                                  if x167 = x171 then
                                                    sL_law_1074 sn xs k18 v1 v2 v3 s172
                                                  else
                                                    rZ (iI 0) s172
                                                else
                                                  if (x1 &&& (iI 31)) = iI 23 then
                                                    scI sn xs (v3 + (iI 1)) fun x173 =>
                                                    scI sn xs (v3 + (iI 2)) fun x174 =>
                                                    cV σ v1 0 <|
                                                    cl (sX0_majority v1 x173 x174 σ) fun x175 s176 =>
                                                    scI sn xs (v3 + (iI 1)) fun x177 =>
                                                    scI sn xs (v3 + (iI 2)) fun x178 =>
                                                    cV s176 v2 6 <|
                                                    cl (sX8_majority v2 x177 x178 s176) fun x179 s180 =>
                                                    if x175 = x179 then
                                                      sL_law_1074 sn xs k18 v1 v2 v3 s180
                                                    else
                                                      rZ (iI 0) s180
                                                  else
                                                    if (x1 &&& (iI 31)) = iI 24 then
                                                      scI sn xs (v3 + (iI 1)) fun x181 =>
                                                      scI sn xs (v3 + (iI 2)) fun x182 =>
                                                      cV σ v1 0 <|
                                                      cl (sX0_till v1 x181 x182 σ) fun x183 s184 =>
                                                      scI sn xs (v3 + (iI 1)) fun x185 =>
                                                      scI sn xs (v3 + (iI 2)) fun x186 =>
                                                      cV s184 v2 6 <|
                                                      cl (sX8_till v2 x185 x186 s184) fun x187 s188 =>
                                                      if x183 = x187 then
                                                        sL_law_1074 sn xs k18 v1 v2 v3 s188
                                                      else
                                                        rZ (iI 0) s188
                                                    else
                                                      if (x1 &&& (iI 31)) = iI 25 then
                                                        scI sn xs (v3 + (iI 1)) fun x189 =>
                                                        cV σ v1 0 <|
                                                        cl (sX0_seed v1 x189 σ) fun x190 s191 =>
                                                        scI sn xs (v3 + (iI 1)) fun x192 =>
                                                        cV s191 v2 6 <|
                                                        cl (sX8_seed v2 x192 s191) fun x193 s194 =>
                                                        if x190 = x193 then
                                                          sL_law_1074 sn xs k18 v1 v2 v3 s194
                                                        else
                                                          rZ (iI 0) s194
                                                      else
                                                        if (x1 &&& (iI 31)) = iI 26 then
                                                          cV σ v1 0 <|
                                                          cl (sX0_keep v1 σ) fun x195 s196 =>
                                                          cV s196 v2 6 <|
                                                          cl (sX8_keep v2 s196) fun x197 s198 =>
                                                          if x195 = x197 then
                                                            sL_law_1074 sn xs k18 v1 v2 v3 s198
                                                          else
                                                            rZ (iI 0) s198
                                                        else
                                                          if (x1 &&& (iI 31)) = iI 27 then
                                                            cV σ v1 0 <|
                                                            cl (sX0_undo v1 σ) fun x199 s200 =>
                                                            cV s200 v2 6 <|
                                                            cl (sX8_undo v2 s200) fun x201 s202 =>
                                                            if x199 = x201 then
                                                              sL_law_1074 sn xs k18 v1 v2 v3 s202
                                                            else
                                                              rZ (iI 0) s202
                                                          else
                                                            if (x1 &&& (iI 31)) = iI 28 then
                                                              scI sn xs (v3 + (iI 1)) fun x203 =>
                                                              cV σ v1 0 <|
                                                              cl (sX0_check v1 x203 σ) fun x204 s205 =>
                                                              scI sn xs (v3 + (iI 1)) fun x206 =>
                                                              cV s205 v2 6 <|
                                                              cl (sX8_check v2 x206 s205) fun x207 s208 =>
                                                              if x204 = x207 then
                                                                sL_law_1074 sn xs k18 v1 v2 v3 s208
                                                              else
                                                                rZ (iI 0) s208
                                                            else
                                                              if (x1 &&& (iI 31)) = iI 29 then
                                                                scI sn xs (v3 + (iI 1)) fun x209 =>
                                                                cV σ v1 0 <|
                                                                cl (sX0_count v1 x209 σ) fun x210 s211 =>
                                                                scI sn xs (v3 + (iI 1)) fun x212 =>
                                                                cV s211 v2 6 <|
                                                                cl (sX8_count v2 x212 s211) fun x213 s214 =>
                                                                if x210 = x213 then
                                                                  sL_law_1074 sn xs k18 v1 v2 v3 s214
                                                                else
                                                                  rZ (iI 0) s214
                                                              else
                                                                sL_law_1074 sn xs k18 v1 v2 v3 σ
noncomputable def sL_law_18 (sn : Nat) (xs : Nat → Int32) : Nat → Option Nat → Option Nat → Int32 → Mem → Option (Int32 × Mem)
  | 0 => fun _ _ _ _ => none
  | f + 1 => sL_law_18b sn xs (sL_law_18 sn xs f)
noncomputable def sL_law (sn : Nat) (xs : Nat → Int32) (σ : Mem) : Option (Int32 × Mem) :=
  nO σ 0 9 fun x1 s2 =>
  cI s2 x1 <|
  cl (sX0_init x1 s2) fun _ s3 =>
  nO s3 6 45 fun x4 s5 =>
  cI s5 x4 <|
  cl (sX8_init x4 s5) fun _ s6 =>
  sL_law_18 sn xs FU x1 x4 (iI 0) s6
