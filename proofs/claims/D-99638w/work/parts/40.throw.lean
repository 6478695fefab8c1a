def eTI (r : Option Int32 × Sg) : Option Value × Sg := (some (match r.1 with | some x => .int x | none => .float 301), r.2)
def eTL (r : Option Int64 × Sg) : Option Value × Sg := (some (match r.1 with | some x => .long x | none => .float 301), r.2)
def X_lake  (s : Sg) (x1 : Int32) (x2 : Int32) : Option (Option Int32 × Sg) := (X_isLake s x1).bind fun v1 => if v1 = 0 then (some (none, s)) else (if x2 = 0 then ((aI s 11 6 x1).bind fun v2 => some (some v2, s)) else if x2 = 1 then ((aI s 4 6 x1).bind fun v3 => some (some v3, s)) else if x2 = 2 then ((aI s 12 6 x1).bind fun v4 => some (some v4, s)) else if x2 = 3 then ((aI s 5 6 x1).bind fun v5 => some (some v5, s)) else if x2 = 4 then ((aI s 13 6 x1).bind fun v6 => some (some v6, s)) else if x2 = 5 then ((aI s 2 6 x1).bind fun v7 => some (some v7, s)) else if x2 = 6 then ((X_has (gI s 1 4) x1).bind fun v8 => if v8 = 0 then (some (some 0, s)) else (some (some 1, s))) else if x2 = 7 then ((aI s 3 6 x1).bind fun v9 => some (some v9, s)) else if x2 = 8 then (b2 (X_run s 1 x1) fun v10 s11 => some (some v10, s11)) else (some (none, s)))
theorem vct_X_lake (l : Launch) (s : Sg) (x1 : Int32) (x2 : Int32) : VC l true false eTI cX1_lake RX1 "lake" 3 1202 40053 (some .int) s 0 [(0, .ref 0), (1, .int x1), (2, .int x2)] [] (X_lake s x1 x2) := by
  unfold X_lake
  refine vv_aload_n (n := 1) dX1_lake_0 rfl 0 rfl ?_
  refine vv_iload_n (n := 2) dX1_lake_1 rfl 1 rfl ?_
  refine k1_297 (n := 5) dX1_lake_2 rfl rfl rfl (fun v1 => ?_)
  refine vv_if_ne (tgt := 16) (n := 8) dX1_lake_5 (by decide) rfl ?_ ?_
  · refine vv_iload_n (n := 17) dX1_lake_16 rfl 2 rfl ?_
    refine vv_case (fun h0 => ?_) (fun h0 => ?_)
    · refine vv_tabC (c := 0) (tgt := 68) dX1_lake_17 h0 (by decide) (by decide) rfl (by decide) ?_
      refine vv_aload_n (n := 69) dX1_lake_68 rfl 0 rfl ?_
      refine g1_19 (n := 72) dX1_lake_69 rfl ?_
      refine vv_iload_n (n := 73) dX1_lake_72 rfl 1 rfl ?_
      refine vv_iald (n := 74) sk11 dX1_lake_73 rfl (fun v2 => ?_)
      exact vv_iret dX1_lake_74 rfl
    refine vv_case (fun h1 => ?_) (fun h1 => ?_)
    · refine vv_tabC (c := 1) (tgt := 75) dX1_lake_17 h1 (by decide) (by decide) rfl (by decide) ?_
      refine vv_aload_n (n := 76) dX1_lake_75 rfl 0 rfl ?_
      refine g1_12 (n := 79) dX1_lake_76 rfl ?_
      refine g1_206 (n := 82) (r := 4) (Or.inl rfl) rfl dX1_lake_79 rfl ?_
      refine vv_iload_n (n := 83) dX1_lake_82 rfl 1 rfl ?_
      refine vv_iald (n := 84) sk4 dX1_lake_83 rfl (fun v3 => ?_)
      exact vv_iret dX1_lake_84 rfl
    refine vv_case (fun h2 => ?_) (fun h2 => ?_)
    · refine vv_tabC (c := 2) (tgt := 85) dX1_lake_17 h2 (by decide) (by decide) rfl (by decide) ?_
      refine vv_aload_n (n := 86) dX1_lake_85 rfl 0 rfl ?_
      refine g1_23 (n := 89) dX1_lake_86 rfl ?_
      refine vv_iload_n (n := 90) dX1_lake_89 rfl 1 rfl ?_
      refine vv_iald (n := 91) sk12 dX1_lake_90 rfl (fun v4 => ?_)
      exact vv_iret dX1_lake_91 rfl
    refine vv_case (fun h3 => ?_) (fun h3 => ?_)
    · refine vv_tabC (c := 3) (tgt := 92) dX1_lake_17 h3 (by decide) (by decide) rfl (by decide) ?_
      refine vv_aload_n (n := 93) dX1_lake_92 rfl 0 rfl ?_
      refine g1_12 (n := 96) dX1_lake_93 rfl ?_
      refine g1_140 (n := 99) (r := 5) (Or.inl rfl) rfl dX1_lake_96 rfl ?_
      refine vv_iload_n (n := 100) dX1_lake_99 rfl 1 rfl ?_
      refine vv_iald (n := 101) sk5 dX1_lake_100 rfl (fun v5 => ?_)
      exact vv_iret dX1_lake_101 rfl
    refine vv_case (fun h4 => ?_) (fun h4 => ?_)
    · refine vv_tabC (c := 4) (tgt := 102) dX1_lake_17 h4 (by decide) (by decide) rfl (by decide) ?_
      refine vv_aload_n (n := 103) dX1_lake_102 rfl 0 rfl ?_
      refine g1_26 (n := 106) dX1_lake_103 rfl ?_
      refine vv_iload_n (n := 107) dX1_lake_106 rfl 1 rfl ?_
      refine vv_iald (n := 108) sk13 dX1_lake_107 rfl (fun v6 => ?_)
      exact vv_iret dX1_lake_108 rfl
    refine vv_case (fun h5 => ?_) (fun h5 => ?_)
    · refine vv_tabC (c := 5) (tgt := 109) dX1_lake_17 h5 (by decide) (by decide) rfl (by decide) ?_
      refine vv_aload_n (n := 110) dX1_lake_109 rfl 0 rfl ?_
      refine g1_12 (n := 113) dX1_lake_110 rfl ?_
      refine g1_133 (n := 116) (r := 2) (Or.inl rfl) rfl dX1_lake_113 rfl ?_
      refine vv_iload_n (n := 117) dX1_lake_116 rfl 1 rfl ?_
      refine vv_iald (n := 118) sk2 dX1_lake_117 rfl (fun v7 => ?_)
      exact vv_iret dX1_lake_118 rfl
    refine vv_case (fun h6 => ?_) (fun h6 => ?_)
    · refine vv_tabC (c := 6) (tgt := 119) dX1_lake_17 h6 (by decide) (by decide) rfl (by decide) ?_
      refine vv_aload_n (n := 120) dX1_lake_119 rfl 0 rfl ?_
      refine g1_12 (n := 123) dX1_lake_120 rfl ?_
      refine g1_280 (n := 126) (Or.inl rfl) dX1_lake_123 rfl ?_
      refine vv_iload_n (n := 127) dX1_lake_126 rfl 1 rfl ?_
      refine k1_129 (n := 130) dX1_lake_127 rfl rfl rfl (fun v8 => ?_)
      refine vv_if_eq (tgt := 137) (n := 133) dX1_lake_130 (by decide) rfl ?_ ?_
      · refine vv_iconst (n := 138) (v := 0) dX1_lake_137 rfl (by decide) ?_
        exact vv_iret dX1_lake_138 rfl
      · refine vv_iconst (n := 134) (v := 1) dX1_lake_133 rfl (by decide) ?_
        refine vv_goto (n := 138) dX1_lake_134 (by decide) ?_
        exact vv_iret dX1_lake_138 rfl
    refine vv_case (fun h7 => ?_) (fun h7 => ?_)
    · refine vv_tabC (c := 7) (tgt := 139) dX1_lake_17 h7 (by decide) (by decide) rfl (by decide) ?_
      refine vv_aload_n (n := 140) dX1_lake_139 rfl 0 rfl ?_
      refine g1_12 (n := 143) dX1_lake_140 rfl ?_
      refine g1_209 (n := 146) (r := 3) (Or.inl rfl) rfl dX1_lake_143 rfl ?_
      refine vv_iload_n (n := 147) dX1_lake_146 rfl 1 rfl ?_
      refine vv_iald (n := 148) sk3 dX1_lake_147 rfl (fun v9 => ?_)
      exact vv_iret dX1_lake_148 rfl
    refine vv_case (fun h8 => ?_) (fun h8 => ?_)
    · refine vv_tabC (c := 8) (tgt := 149) dX1_lake_17 h8 (by decide) (by decide) rfl (by decide) ?_
      refine vv_aload_n (n := 150) dX1_lake_149 rfl 0 rfl ?_
      refine vv_aload_n (n := 151) dX1_lake_150 rfl 0 rfl ?_
      refine g1_12 (n := 154) dX1_lake_151 rfl ?_
      refine vv_iload_n (n := 155) dX1_lake_154 rfl 1 rfl ?_
      refine k1_304 (n := 158) dX1_lake_155 rfl rfl rfl (fun v10 s11 => ?_)
      exact vv_iret dX1_lake_158 rfl
    refine vv_tabD (tgt := 159) dX1_lake_17 (by have g0 : (x2 : Int32).toInt ≠ 0 := fun e => h0 (i32_of e); have g1 : (x2 : Int32).toInt ≠ 1 := fun e => h1 (i32_of e); have g2 : (x2 : Int32).toInt ≠ 2 := fun e => h2 (i32_of e); have g3 : (x2 : Int32).toInt ≠ 3 := fun e => h3 (i32_of e); have g4 : (x2 : Int32).toInt ≠ 4 := fun e => h4 (i32_of e); have g5 : (x2 : Int32).toInt ≠ 5 := fun e => h5 (i32_of e); have g6 : (x2 : Int32).toInt ≠ 6 := fun e => h6 (i32_of e); have g7 : (x2 : Int32).toInt ≠ 7 := fun e => h7 (i32_of e); have g8 : (x2 : Int32).toInt ≠ 8 := fun e => h8 (i32_of e); omega) (by decide) ?_
    exact vv_thr (k := 301) dX1_lake_159 dX1_lake_162 dX1_lake_163 dX1_lake_166 rfl
  · exact vv_thr (k := 301) dX1_lake_8 dX1_lake_11 dX1_lake_12 dX1_lake_15 rfl
def X_row  (s : Sg) (x1 : Int32) : Option (Option Int64 × Sg) := (X_in ((x1 : Int32).toInt64) 0 ((((gI s 0 48) - 1) : Int32).toInt64)).bind fun v1 => if v1 = 0 then (some (none, s)) else ((aJ s 44 16 x1).bind fun v2 => some (some v2, s))
theorem vct_X_row (l : Launch) (s : Sg) (x1 : Int32) : VC l true false eTL cX1_row RX1 "row" 2 10 120 (some .long) s 0 [(0, .ref 0), (1, .int x1)] [] (X_row s x1) := by
  unfold X_row
  refine vv_iload_n (n := 1) dX1_row_0 rfl 1 rfl ?_
  refine vv_i2l (n := 2) dX1_row_1 rfl ?_
  refine vv_lconst (n := 3) (v := 0) dX1_row_2 rfl (by decide) ?_
  refine vv_aload_n (n := 4) dX1_row_3 rfl 0 rfl ?_
  refine g1_350 (n := 7) dX1_row_4 rfl ?_
  refine vv_iconst (n := 8) (v := 1) dX1_row_7 rfl (by decide) ?_
  refine vv_isub (n := 9) dX1_row_8 rfl ?_
  refine vv_i2l (n := 10) dX1_row_9 rfl ?_
  refine k1_121 (n := 13) dX1_row_10 rfl rfl rfl (fun v1 => ?_)
  refine vv_if_ne (tgt := 24) (n := 16) dX1_row_13 (by decide) rfl ?_ ?_
  · refine vv_aload_n (n := 25) dX1_row_24 rfl 0 rfl ?_
    refine g1_110 (n := 28) dX1_row_25 rfl ?_
    refine vv_iload_n (n := 29) dX1_row_28 rfl 1 rfl ?_
    refine vv_lald (n := 30) sk44 dX1_row_29 rfl (fun v2 => ?_)
    exact vv_lret dX1_row_30 rfl
  · exact vv_thr (k := 301) dX1_row_16 dX1_row_19 dX1_row_20 dX1_row_23 rfl
