set_option maxRecDepth 100000
def f_J0_init (v0 : Option Nat) (h : zH) : zO :=
  if ¬ v0 = none then
    zrV h
  else none
def f_J1_init (v0 : Option Nat) (h : zH) : zO :=
  if ¬ v0 = none then
    zcV (f_J0_init v0 h) zX fun h1 =>
    zpF h1 [12, 13] 7 v0 (.float 1061158912) fun h2 =>
    zrV h2
  else none
def f_J2_init (v0 : Option Nat) (h : zH) : zO :=
  if ¬ v0 = none then
    zcV (f_J1_init v0 h) zX fun h1 =>
    zpF h1 [13] 11 v0 (.int 0) fun h2 =>
    zpN h2 [13] 10 v0 .boolean (.int 0) fun h3 =>
    zrV h3
  else none
def f_J3_init (v0 : Option Nat) (h : zH) : zO :=
  if ¬ v0 = none then
    zrV h
  else none
def f_J4_init (v0 : Option Nat) (h : zH) : zO :=
  if ¬ v0 = none then
    zcV (f_J3_init v0 h) zX fun h1 =>
    zrV h1
  else none
def f_J5_init (v0 : Option Nat) (h : zH) : zO :=
  if ¬ v0 = none then
    zcV (f_J4_init v0 h) zX fun h1 =>
    znO h1 12 [.null, .null, .null, .null, .int 0, .int 0, .int 0, .float 0] fun r2 h3 =>
    if ¬ r2 = none then
      zcV (f_J1_init r2 h3) zX fun h4 =>
      zpF h4 [14] 0 v0 (va_rf r2) fun h5 =>
      zrV h5
    else none
  else none
def f_J13_init (v0 : Option Nat) (v1 : Option Nat) (v2 : Int32) (h : zH) : zO :=
  zpF h [19] 1 v0 (va_rf v1) fun h1 =>
  if ¬ v0 = none then
    zcV (f_J3_init v0 h1) zX fun h2 =>
    zpN h2 [19] 0 v0 .boolean (.int v2) fun h3 =>
    zrV h3
  else none
def f_J2_sequencedValues (v0 : Option Nat) (h : zH) : zO :=
  zgR h [12, 13] 1 v0 fun r1 =>
  if ¬ r1 = none then
    zcast h [15, 19, 23, 27] r1 <|
    zrR r1 h
  else
    znO h 19 [.int 0, .null] fun r2 h3 =>
    if ¬ r2 = none then
      zcV (f_J13_init r2 v0 0 h3) zX fun h4 =>
      zpF h4 [12, 13] 1 v0 (va_rf r2) fun h5 =>
      zrR r2 h5
    else none
def f_J2_values (v0 : Option Nat) (h : zH) : zO :=
  if ztg h v0 = some 13 then
    zcR (f_J2_sequencedValues v0 h) zX fun r1 h2 =>
    zrR r1 h2
  else
  none
def f_J20_init_30  (a0 : Option Nat) (a1 : Option Nat) (s0 : Option Nat) (s1 : Option Nat) (h : zH) : zO :=
  zpF h [24, 25] 0 s1 (va_rf s0) fun h5 =>
  zgI h5 [12, 13] 5 a1 fun x6 =>
  zpF h5 [24, 25] 2 a0 (.int x6) fun h7 =>
  zpF h7 [24, 25] 1 a0 (va_rf none) fun h8 =>
  zrV h8
def f_J20_init (v0 : Option Nat) (v1 : Option Nat) (v2 : Int32) (h : zH) : zO :=
  zpF h [24, 25] 4 v0 (va_rf v1) fun h1 =>
  if ¬ v0 = none then
    zpN h1 [24, 25] 3 v0 .boolean (.int v2) fun h2 =>
    if v2 = 0 then
      zgR h2 [13] 8 v1 fun r3 =>
      f_J20_init_30 v0 v1 r3 v0 h2
    else
      zgR h2 [13] 9 v1 fun r4 =>
      f_J20_init_30 v0 v1 r4 v0 h2
  else none
def f_J22_init (v0 : Option Nat) (v1 : Option Nat) (v2 : Int32) (h : zH) : zO :=
  if ¬ v0 = none then
    zcV (f_J20_init v0 v1 v2 h) zX fun h1 =>
    zrV h1
  else none
def f_J13_iterator (v0 : Option Nat) (h : zH) : zO :=
  znO h 25 [.null, .null, .int 0, .int 0, .null] fun r1 h2 =>
  zgR h2 [19] 1 v0 fun r3 =>
  zgI h2 [19] 0 v0 fun x4 =>
  if ¬ r1 = none then
    zcV (f_J22_init r1 r3 x4 h2) zX fun h5 =>
    zrR r1 h5
  else none
def f_X3_end (v0 : Option Nat) (h : zH) : zO :=
  zgI h [2] 0 v0 fun x1 =>
  zgI h [2] 1 v0 fun x2 =>
  zrI (x1 + x2) h
def f_X9_hasNext (v0 : Option Nat) (h : zH) : zO :=
  zgI h [8] 0 v0 fun x1 =>
  zgR h [8] 1 v0 fun r2 =>
  if ztg h r2 = some 2 then
    zcI (f_X3_end r2 h) zX fun x3 h4 =>
    if x3 ≤ x1 then
      zrN .boolean 0 h4
    else
      zrN .boolean 1 h4
  else
  none
def f_J15_hasNext (v0 : Option Nat) (h : zH) : zO :=
  zgI h [20] 0 v0 fun x1 =>
  zgR h [20] 3 v0 fun r2 =>
  zgI h [27] 2 r2 fun x3 =>
  if x1 = x3 then
    zrN .boolean 0 h
  else
    zrN .boolean 1 h
def f_J16_hasNext (v0 : Option Nat) (h : zH) : zO :=
  zgR h [21] 0 v0 fun r1 =>
  if r1 = none then
    zrN .boolean 0 h
  else
    zrN .boolean 1 h
def f_J20_hasNext (v0 : Option Nat) (h : zH) : zO :=
  zgR h [24, 25] 0 v0 fun r1 =>
  if r1 = none then
    zrN .boolean 0 h
  else
    zrN .boolean 1 h
def f_J23_init (v0 : Option Nat) (h : zH) : zO :=
  if ¬ v0 = none then
    zrV h
  else none
def f_J24_init (v0 : Option Nat) (v1 : Int32) (h : zH) : zO :=
  if ¬ v0 = none then
    zcV (f_J23_init v0 h) zX fun h1 =>
    zpF h1 [26] 0 v0 (.int v1) fun h2 =>
    zrV h2
  else none
def f_J24_valueOf_23  (a0 : Int32) (h : zH) : zO :=
  znO h 26 [.int 0] fun r2 h3 =>
  if ¬ r2 = none then
    zcV (f_J24_init r2 a0 h3) zX fun h4 =>
    zrR r2 h4
  else none
def f_J24_valueOf (v0 : Int32) (h : zH) : zO :=
  if v0 < (-128) then
    f_J24_valueOf_23 v0 h
  else
    if 127 < v0 then
      f_J24_valueOf_23 v0 h
    else
      zaR h zrefs (some (zG h 0)) (v0 + 128) fun r1 =>
      zrR r1 h
def f_X9_next_2 (v0 : Option Nat) (h : zH) : zO :=
  zgI h [8] 0 v0 fun x1 =>
  zpF h [8] 0 v0 (.int (x1 + 1)) fun h2 =>
  zgI h2 [8] 0 v0 fun x3 =>
  zcR (f_J24_valueOf (x3 - 1) h2) zX fun r4 h5 =>
  zrR r4 h5
def f_X9_next (v0 : Option Nat) (h : zH) : zO :=
  if ztg h v0 = some 8 then
    zcR (f_X9_next_2 v0 h) zX fun r1 h2 =>
    zrR r1 h2
  else
  none
def f_J15_checkForComodification (v0 : Option Nat) (h : zH) : zO :=
  zgR h [20] 3 v0 fun r1 =>
  zgI h [27] 0 r1 fun x2 =>
  zgI h [20] 2 v0 fun x3 =>
  if x2 = x3 then
    zrV h
  else
    none
def f_J25_init (v0 : Option Nat) (h : zH) : zO :=
  if ¬ v0 = none then
    zpF h [6, 11] 0 v0 (va_rf v0) fun h1 =>
    zpF h1 [6, 11] 1 v0 (va_rf (if zG h1 7 = 0 then none else some (zG h1 7 - 1))) fun h2 =>
    zpF h2 [6, 11] 2 v0 (va_rf (if zG h2 8 = 0 then none else some (zG h2 8 - 1))) fun h3 =>
    none
  else none
def f_J26_init (v0 : Option Nat) (h : zH) : zO :=
  if ¬ v0 = none then
    zcV (f_J25_init v0 h) zX fun h1 =>
    zrV h1
  else none
def f_J27_init (v0 : Option Nat) (h : zH) : zO :=
  if ¬ v0 = none then
    zcV (f_J26_init v0 h) zX fun h1 =>
    zrV h1
  else none
def f_J28_init (v0 : Option Nat) (h : zH) : zO :=
  if ¬ v0 = none then
    zcV (f_J27_init v0 h) zX fun h1 =>
    zrV h1
  else none
def f_J15_next (v0 : Option Nat) (h : zH) : zO :=
  if ztg h v0 = some 20 then
    zcV (f_J15_checkForComodification v0 h) zX fun h1 =>
    zgI h1 [20] 0 v0 fun x2 =>
    zgR h1 [20] 3 v0 fun r3 =>
    zgI h1 [27] 2 r3 fun x4 =>
    if x2 < x4 then
      zgR h1 [20] 3 v0 fun r5 =>
      zgR h1 [27] 1 r5 fun r6 =>
      zaN h1 zarrs r6 fun x7 =>
      if x2 < x7 then
        zpF h1 [20] 0 v0 (.int (x2 + 1)) fun h8 =>
        zpF h8 [20] 1 v0 (.int x2) fun h9 =>
        zaR h9 zrefs r6 x2 fun r10 =>
        zrR r10 h9
      else
        none
    else
      znE h1 30 fun r11 h12 =>
      zth h12 [30] r11 zX
  else
  none
def f_J16_nextNode_68  : Nat → Option Nat → Option Nat → Option Nat → zH → zO
  | 0, _, _, _, _ => none
  | n + 1, a0, a1, a2, h =>
    zgI h [21] 3 a0 fun x12 =>
    zaN h zarrs a1 fun x13 =>
    if x13 ≤ x12 then
      zrR a2 h
    else
      zgI h [21] 3 a0 fun x14 =>
      zpF h [21] 3 a0 (.int (x14 + 1)) fun h15 =>
      zaR h15 zrefs a1 x14 fun r16 =>
      zpF h15 [21] 0 a0 (va_rf r16) fun h17 =>
      if r16 = none then
        f_J16_nextNode_68 n a0 a1 a2 h17
      else
        zrR a2 h17
def f_J16_nextNode (v0 : Option Nat) (h : zH) : zO :=
  zgR h [21] 0 v0 fun r1 =>
  zgR h [21] 4 v0 fun r2 =>
  zgI h [12, 13] 5 r2 fun x3 =>
  zgI h [21] 2 v0 fun x4 =>
  if x3 = x4 then
    if ¬ r1 = none then
      zpF h [21] 1 v0 (va_rf r1) fun h5 =>
      zgR h5 [28, 29] 3 r1 fun r6 =>
      zpF h5 [21] 0 v0 (va_rf r6) fun h7 =>
      if ¬ r6 = none then
        zrR r1 h7
      else
        zgR h7 [21] 4 v0 fun r8 =>
        zgR h7 [12, 13] 2 r8 fun r9 =>
        if r9 = none then
          zrR r1 h7
        else
          f_J16_nextNode_68 zfuel v0 r9 r1 h7
    else
      znE h 30 fun r10 h11 =>
      zth h11 [30] r10 zX
  else
    none
def f_J17_next (v0 : Option Nat) (h : zH) : zO :=
  if ztg h v0 = some 21 then
    zcR (f_J16_nextNode v0 h) zX fun r1 h2 =>
    zgR h2 [28, 29] 1 r1 fun r3 =>
    zrR r3 h2
  else
  none
def f_J20_nextNode (v0 : Option Nat) (h : zH) : zO :=
  zgR h [24, 25] 0 v0 fun r1 =>
  zgR h [24, 25] 4 v0 fun r2 =>
  zgI h [12, 13] 5 r2 fun x3 =>
  zgI h [24, 25] 2 v0 fun x4 =>
  if x3 = x4 then
    if ¬ r1 = none then
      zpF h [24, 25] 1 v0 (va_rf r1) fun h5 =>
      zgI h5 [24, 25] 3 v0 fun x6 =>
      if x6 = 0 then
        zgR h5 [29] 5 r1 fun r7 =>
        zpF h5 [24, 25] 0 v0 (va_rf r7) fun h8 =>
        zrR r1 h8
      else
        zgR h5 [29] 4 r1 fun r9 =>
        zpF h5 [24, 25] 0 v0 (va_rf r9) fun h10 =>
        zrR r1 h10
    else
      znE h 30 fun r11 h12 =>
      zth h12 [30] r11 zX
  else
    none
def f_J40_getKey (v0 : Option Nat) (h : zH) : zO :=
  zgR h [28, 29] 1 v0 fun r1 =>
  zrR r1 h
def f_J21_next (v0 : Option Nat) (h : zH) : zO :=
  if ztg h v0 = some 24 then
    zcR (f_J20_nextNode v0 h) zX fun r1 h2 =>
    if ztg h2 r1 = some 29 then
      zcR (f_J40_getKey r1 h2) zX fun r3 h4 =>
      zrR r3 h4
    else
    none
  else
  none
def f_J22_next (v0 : Option Nat) (h : zH) : zO :=
  if ztg h v0 = some 25 then
    zcR (f_J20_nextNode v0 h) zX fun r1 h2 =>
    zgR h2 [28, 29] 2 r1 fun r3 =>
    zrR r3 h2
  else
  none
def f_X6_init_2 (v0 : Option Nat) (v1 : Int32) (v2 : Int32) (v3 : Int32) (v4 : Int32) (h : zH) : zO :=
  if ¬ v0 = none then
    zpF h [5] 0 v0 (.int v1) fun h1 =>
    zpF h1 [5] 1 v0 (.int v2) fun h2 =>
    zpF h2 [5] 2 v0 (.int v3) fun h3 =>
    zpF h3 [5] 3 v0 (.int v4) fun h4 =>
    zrV h4
  else none
def f_X6_init (v0 : Option Nat) (v1 : Option Nat) (h : zH) : zO :=
  zgI h [5] 0 v1 fun x1 =>
  zgI h [5] 1 v1 fun x2 =>
  zgI h [5] 2 v1 fun x3 =>
  zgI h [5] 3 v1 fun x4 =>
  if ¬ v0 = none then
    zcV (f_X6_init_2 v0 x1 x2 x3 x4 h) zX fun h5 =>
    zgI h5 [5] 4 v1 fun x6 =>
    zpF h5 [5] 4 v0 (.int x6) fun h7 =>
    zgI h7 [5] 5 v1 fun x8 =>
    zpF h7 [5] 5 v0 (.int x8) fun h9 =>
    zgI h9 [5] 6 v1 fun x10 =>
    zpF h9 [5] 6 v0 (.int x10) fun h11 =>
    zgI h11 [5] 7 v1 fun x12 =>
    zpN h11 [5] 7 v0 .boolean (.int x12) fun h13 =>
    zgR h13 [5] 8 v1 fun r14 =>
    zpF h13 [5] 8 v0 (va_rf r14) fun h15 =>
    zrV h15
  else none
def f_X8_hashCode (v0 : Option Nat) (h : zH) : zO :=
  zgI h [7] 0 v0 fun x1 =>
  zrI x1 h
def f_J24_hashCode_2 (v0 : Int32) (h : zH) : zO :=
  zrI v0 h
def f_J24_hashCode (v0 : Option Nat) (h : zH) : zO :=
  zgI h [26] 0 v0 fun x1 =>
  zcI (f_J24_hashCode_2 x1 h) zX fun x2 h3 =>
  zrI x2 h3
def f_J1_hash (v0 : Option Nat) (h : zH) : zO :=
  if ¬ v0 = none then
    if ztg h v0 = some 7 then
      zcI (f_X8_hashCode v0 h) zX fun x1 h2 =>
      zrI (x1 ^^^ ((x1.toUInt32 >>> ((16 : Int32).toUInt32 &&& Int32.toUInt32 31)).toInt32)) h2
    else
    if ztg h v0 = some 26 then
      zcI (f_J24_hashCode v0 h) zX fun x1 h2 =>
      zrI (x1 ^^^ ((x1.toUInt32 >>> ((16 : Int32).toUInt32 &&& Int32.toUInt32 31)).toInt32)) h2
    else
    none
  else
    zrI 0 h
def f_J1_resize_347 (K151 : Option Nat → Option Nat → Int32 → Int32 → Option Nat → Int32 → zH → zO) (a0 : Option Nat) (a1 : Option Nat) (a2 : Int32) (a4 : Int32) (a6 : Option Nat) (a7 : Int32) (h : zH) : zO :=
  znm (a7 + 1) fun x28 =>
  K151 a0 a1 a2 a4 a6 x28 h
def f_J1_resize_327 (K151 : Option Nat → Option Nat → Int32 → Int32 → Option Nat → Int32 → zH → zO) (a0 : Option Nat) (a1 : Option Nat) (a2 : Int32) (a4 : Int32) (a6 : Option Nat) (a7 : Int32) (a11 : Option Nat) (a12 : Option Nat) (h : zH) : zO :=
  if a12 = none then
    f_J1_resize_347 K151 a0 a1 a2 a4 a6 a7 h
  else
    zpF h [28, 29] 3 a12 (va_rf none) fun h26 =>
    zaQ h26 [206] [28, 29] a6 (a7 + a2) a11 fun h27 =>
    f_J1_resize_347 K151 a0 a1 a2 a4 a6 a7 h27
def f_J1_resize_309 (K151 : Option Nat → Option Nat → Int32 → Int32 → Option Nat → Int32 → zH → zO) (a0 : Option Nat) (a1 : Option Nat) (a2 : Int32) (a4 : Int32) (a6 : Option Nat) (a7 : Int32) (a9 : Option Nat) (a10 : Option Nat) (a11 : Option Nat) (a12 : Option Nat) (h : zH) : zO :=
  if a10 = none then
    f_J1_resize_327 K151 a0 a1 a2 a4 a6 a7 a11 a12 h
  else
    zpF h [28, 29] 3 a10 (va_rf none) fun h24 =>
    zaQ h24 [206] [28, 29] a6 a7 a9 fun h25 =>
    f_J1_resize_327 K151 a0 a1 a2 a4 a6 a7 a11 a12 h25
def f_J1_resize_301 (K151 : Option Nat → Option Nat → Int32 → Int32 → Option Nat → Int32 → zH → zO) (K235 : Option Nat → Option Nat → Int32 → Int32 → Option Nat → Int32 → Option Nat → Option Nat → Option Nat → Option Nat → Option Nat → zH → zO) (a0 : Option Nat) (a1 : Option Nat) (a2 : Int32) (a4 : Int32) (a6 : Option Nat) (a7 : Int32) (a9 : Option Nat) (a10 : Option Nat) (a11 : Option Nat) (a12 : Option Nat) (a13 : Option Nat) (h : zH) : zO :=
  if ¬ a13 = none then
    K235 a0 a1 a2 a4 a6 a7 a13 a9 a10 a11 a12 h
  else
    f_J1_resize_309 K151 a0 a1 a2 a4 a6 a7 a9 a10 a11 a12 h
def f_J1_resize_271 (K151 : Option Nat → Option Nat → Int32 → Int32 → Option Nat → Int32 → zH → zO) (K235 : Option Nat → Option Nat → Int32 → Int32 → Option Nat → Int32 → Option Nat → Option Nat → Option Nat → Option Nat → Option Nat → zH → zO) (a0 : Option Nat) (a1 : Option Nat) (a2 : Int32) (a4 : Int32) (a6 : Option Nat) (a7 : Int32) (a8 : Option Nat) (a9 : Option Nat) (a11 : Option Nat) (a12 : Option Nat) (a13 : Option Nat) (h : zH) : zO :=
  f_J1_resize_301 K151 K235 a0 a1 a2 a4 a6 a7 a9 a8 a11 a12 a13 h
def f_J1_resize_297 (K151 : Option Nat → Option Nat → Int32 → Int32 → Option Nat → Int32 → zH → zO) (K235 : Option Nat → Option Nat → Int32 → Int32 → Option Nat → Int32 → Option Nat → Option Nat → Option Nat → Option Nat → Option Nat → zH → zO) (a0 : Option Nat) (a1 : Option Nat) (a2 : Int32) (a4 : Int32) (a6 : Option Nat) (a7 : Int32) (a8 : Option Nat) (a9 : Option Nat) (a10 : Option Nat) (a11 : Option Nat) (a13 : Option Nat) (h : zH) : zO :=
  f_J1_resize_301 K151 K235 a0 a1 a2 a4 a6 a7 a9 a10 a11 a8 a13 h
def f_J1_resize_235 (K151 : Option Nat → Option Nat → Int32 → Int32 → Option Nat → Int32 → zH → zO) : Nat → Option Nat → Option Nat → Int32 → Int32 → Option Nat → Int32 → Option Nat → Option Nat → Option Nat → Option Nat → Option Nat → zH → zO
  | 0, _, _, _, _, _, _, _, _, _, _, _, _ => none
  | n + 1, a0, a1, a2, a4, a6, a7, a8, a9, a10, a11, a12, h =>
    zgR h [28, 29] 3 a8 fun r20 =>
    zgI h [28, 29] 0 a8 fun x21 =>
    if ¬ (x21 &&& a2) = 0 then
      if ¬ a12 = none then
        zpF h [28, 29] 3 a12 (va_rf a8) fun h22 =>
        f_J1_resize_297 K151 (f_J1_resize_235 K151 n) a0 a1 a2 a4 a6 a7 a8 a9 a10 a11 r20 h22
      else
        f_J1_resize_297 K151 (f_J1_resize_235 K151 n) a0 a1 a2 a4 a6 a7 a8 a9 a10 a8 r20 h
    else
      if ¬ a10 = none then
        zpF h [28, 29] 3 a10 (va_rf a8) fun h23 =>
        f_J1_resize_271 K151 (f_J1_resize_235 K151 n) a0 a1 a2 a4 a6 a7 a8 a9 a11 a12 r20 h23
      else
        f_J1_resize_271 K151 (f_J1_resize_235 K151 n) a0 a1 a2 a4 a6 a7 a8 a8 a11 a12 r20 h
def f_J1_resize_151  : Nat → Option Nat → Option Nat → Int32 → Int32 → Option Nat → Int32 → zH → zO
  | 0, _, _, _, _, _, _, _ => none
  | n + 1, a0, a1, a2, a4, a6, a7, h =>
    if a2 ≤ a7 then
      zrR a6 h
    else
      zaR h zrefs a1 a7 fun r13 =>
      if r13 = none then
        f_J1_resize_347 (f_J1_resize_151 n) a0 a1 a2 a4 a6 a7 h
      else
        zaQ h [206] [28, 29] a1 a7 none fun h14 =>
        zgR h14 [28, 29] 3 r13 fun r15 =>
        if ¬ r15 = none then
          zinst h14 [] [28, 29] r13 fun x16 =>
          if x16 = 0 then
            f_J1_resize_235 (f_J1_resize_151 n) zfuel a0 a1 a2 a4 a6 a7 r13 none none none none h14
          else
            zcast h14 [] r13 <|
            none
        else
          zgI h14 [28, 29] 0 r13 fun x18 =>
          zaQ h14 [206] [28, 29] a6 (x18 &&& (a4 - 1)) r13 fun h19 =>
          f_J1_resize_347 (f_J1_resize_151 n) a0 a1 a2 a4 a6 a7 h19
def f_J1_resize_125  (a0 : Option Nat) (a1 : Option Nat) (a2 : Int32) (a4 : Int32) (a5 : Int32) (h : zH) : zO :=
  zpF h [12, 13] 6 a0 (.int a5) fun h9 =>
  znA h9 206 4 .null a4 fun r10 h11 =>
  zpF h11 [12, 13] 2 a0 (va_rf r10) fun h12 =>
  if a1 = none then
    zrR r10 h12
  else
    f_J1_resize_151 zfuel a0 a1 a2 a4 r10 0 h12
def f_J1_resize_123  (a0 : Option Nat) (a1 : Option Nat) (a2 : Int32) (a4 : Int32) (s0 : Int32) (h : zH) : zO :=
  f_J1_resize_125 a0 a1 a2 a4 s0 h
def f_J1_resize_121  (a0 : Option Nat) (a1 : Option Nat) (a2 : Int32) (a4 : Int32) (h : zH) : zO :=
  f_J1_resize_123 a0 a1 a2 a4 2147483647 h
def f_J1_resize_85  (a0 : Option Nat) (a1 : Option Nat) (a2 : Int32) (a4 : Int32) (a5 : Int32) (h : zH) : zO :=
  if ¬ a5 = 0 then
    f_J1_resize_125 a0 a1 a2 a4 a5 h
  else
    zgF h [12, 13] 7 a0 fun x7 =>
    if (FP.fmul (FP.i2f a4) x7) &&& 0x7fffffff ≤ 0x7f800000 then
      znm (FP.fmul (FP.i2f a4) x7) fun x8 =>
      if 1073741824 ≤ a4 then
        f_J1_resize_121 a0 a1 a2 a4 h
      else
        if 0 ≤ (Op.cmpValue (FP.fcmp x8 1317011456) .g) then
          f_J1_resize_121 a0 a1 a2 a4 h
        else
          f_J1_resize_123 a0 a1 a2 a4 (FP.f2i x8) h
    else none
def f_J1_resize_15  (a0 : Option Nat) (a1 : Option Nat) (s0 : Int32) (h : zH) : zO :=
  zgI h [12, 13] 6 a0 fun x3 =>
  if s0 ≤ 0 then
    if x3 ≤ 0 then
      f_J1_resize_85 a0 a1 s0 16 12 h
    else
      f_J1_resize_85 a0 a1 s0 x3 0 h
  else
    if s0 < 1073741824 then
      znm (s0 <<< (1 &&& 31)) fun x4 =>
      if 1073741824 ≤ x4 then
        f_J1_resize_85 a0 a1 s0 x4 0 h
      else
        if s0 < 16 then
          f_J1_resize_85 a0 a1 s0 x4 0 h
        else
          znm (x3 <<< (1 &&& 31)) fun x5 =>
          f_J1_resize_85 a0 a1 s0 x4 x5 h
    else
      zpF h [12, 13] 6 a0 (.int 2147483647) fun h6 =>
      zrR a1 h6
def f_J1_resize (v0 : Option Nat) (h : zH) : zO :=
  zgR h [12, 13] 2 v0 fun r1 =>
  if ¬ r1 = none then
    zaN h zarrs r1 fun x2 =>
    f_J1_resize_15 v0 r1 x2 h
  else
    f_J1_resize_15 v0 r1 0 h
def f_J40_init (v0 : Option Nat) (v1 : Int32) (v2 : Option Nat) (v3 : Option Nat) (v4 : Option Nat) (h : zH) : zO :=
  if ¬ v0 = none then
    zpF h [28, 29] 0 v0 (.int v1) fun h1 =>
    zpF h1 [28, 29] 1 v0 (va_rf v2) fun h2 =>
    zpF h2 [28, 29] 2 v0 (va_rf v3) fun h3 =>
    zpF h3 [28, 29] 3 v0 (va_rf v4) fun h4 =>
    zrV h4
  else none
def f_J1_newNode (v0 : Option Nat) (v1 : Int32) (v2 : Option Nat) (v3 : Option Nat) (v4 : Option Nat) (h : zH) : zO :=
  znO h 28 [.int 0, .null, .null, .null] fun r1 h2 =>
  if ¬ r1 = none then
    zcV (f_J40_init r1 v1 v2 v3 v4 h2) zX fun h3 =>
    zrR r1 h3
  else none
def f_J41_init (v0 : Option Nat) (v1 : Int32) (v2 : Option Nat) (v3 : Option Nat) (v4 : Option Nat) (h : zH) : zO :=
  if ¬ v0 = none then
    zcV (f_J40_init v0 v1 v2 v3 v4 h) zX fun h1 =>
    zrV h1
  else none
def f_J2_linkNodeAtEnd (v0 : Option Nat) (v1 : Option Nat) (h : zH) : zO :=
  zgI h [13] 11 v0 fun x1 =>
  if ¬ x1 = 1 then
    zgR h [13] 9 v0 fun r2 =>
    zpF h [13] 9 v0 (va_rf v1) fun h3 =>
    if ¬ r2 = none then
      zpF h3 [29] 4 v1 (va_rf r2) fun h4 =>
      zpF h4 [29] 5 r2 (va_rf v1) fun h5 =>
      zrV h5
    else
      zpF h3 [13] 8 v0 (va_rf v1) fun h6 =>
      zrV h6
  else
    zgR h [13] 8 v0 fun r7 =>
    zpF h [13] 8 v0 (va_rf v1) fun h8 =>
    if ¬ r7 = none then
      zpF h8 [29] 5 v1 (va_rf r7) fun h9 =>
      zpF h9 [29] 4 r7 (va_rf v1) fun h10 =>
      zrV h10
    else
      zpF h8 [13] 9 v0 (va_rf v1) fun h11 =>
      zrV h11
def f_J2_newNode (v0 : Option Nat) (v1 : Int32) (v2 : Option Nat) (v3 : Option Nat) (v4 : Option Nat) (h : zH) : zO :=
  znO h 29 [.int 0, .null, .null, .null, .null, .null] fun r1 h2 =>
  if ¬ r1 = none then
    zcV (f_J41_init r1 v1 v2 v3 v4 h2) zX fun h3 =>
    if ztg h3 v0 = some 13 then
      zcV (f_J2_linkNodeAtEnd v0 r1 h3) zX fun h4 =>
      zrR r1 h4
    else
    none
  else none
def f_X8_equals (v0 : Option Nat) (v1 : Option Nat) (h : zH) : zO :=
  zinst h [7] [] v1 fun x1 =>
  if x1 = 0 then
    zrN .boolean 0 h
  else
    zcast h [7] v1 <|
    zgI h [7] 0 v1 fun x2 =>
    zgI h [7] 0 v0 fun x3 =>
    if ¬ x2 = x3 then
      zrN .boolean 0 h
    else
      zrN .boolean 1 h
def f_J24_intValue (v0 : Option Nat) (h : zH) : zO :=
  zgI h [26] 0 v0 fun x1 =>
  zrI x1 h
def f_J24_equals (v0 : Option Nat) (v1 : Option Nat) (h : zH) : zO :=
  zinst h [26] [] v1 fun x1 =>
  if x1 = 0 then
    zrN .boolean 0 h
  else
    zgI h [26] 0 v0 fun x2 =>
    zcast h [26] v1 <|
    if ztg h v1 = some 26 then
      zcI (f_J24_intValue v1 h) zX fun x3 h4 =>
      if ¬ x2 = x3 then
        zrN .boolean 0 h4
      else
        zrN .boolean 1 h4
    else
    none
def f_J1_afterNodeAccess (v0 : Option Nat) (v1 : Option Nat) (h : zH) : zO :=
  zrV h
def f_J2_afterNodeAccess_122  (a0 : Option Nat) (a4 : Option Nat) (h : zH) : zO :=
  zpF h [13] 9 a0 (va_rf a4) fun h28 =>
  zgI h28 [12, 13] 5 a0 fun x29 =>
  zpF h28 [12, 13] 5 a0 (.int (x29 + 1)) fun h30 =>
  zrV h30
def f_J2_afterNodeAccess_97  (a0 : Option Nat) (a2 : Option Nat) (a4 : Option Nat) (h : zH) : zO :=
  if ¬ a2 = none then
    zpF h [29] 4 a4 (va_rf a2) fun h25 =>
    zpF h25 [29] 5 a2 (va_rf a4) fun h26 =>
    f_J2_afterNodeAccess_122 a0 a4 h26
  else
    zpF h [13] 8 a0 (va_rf a4) fun h27 =>
    f_J2_afterNodeAccess_122 a0 a4 h27
def f_J2_afterNodeAccess_79  (a0 : Option Nat) (a2 : Option Nat) (a4 : Option Nat) (a5 : Option Nat) (a6 : Option Nat) (h : zH) : zO :=
  if a6 = none then
    f_J2_afterNodeAccess_97 a0 a5 a4 h
  else
    zpF h [29] 4 a6 (va_rf a5) fun h24 =>
    f_J2_afterNodeAccess_97 a0 a2 a4 h24
def f_J2_afterNodeAccess_249  (a0 : Option Nat) (a4 : Option Nat) (h : zH) : zO :=
  zpF h [13] 8 a0 (va_rf a4) fun h15 =>
  zgI h15 [12, 13] 5 a0 fun x16 =>
  zpF h15 [12, 13] 5 a0 (.int (x16 + 1)) fun h17 =>
  zrV h17
def f_J2_afterNodeAccess_224  (a0 : Option Nat) (a3 : Option Nat) (a4 : Option Nat) (h : zH) : zO :=
  if ¬ a3 = none then
    zpF h [29] 5 a4 (va_rf a3) fun h12 =>
    zpF h12 [29] 4 a3 (va_rf a4) fun h13 =>
    f_J2_afterNodeAccess_249 a0 a4 h13
  else
    zpF h [13] 9 a0 (va_rf a4) fun h14 =>
    f_J2_afterNodeAccess_249 a0 a4 h14
def f_J2_afterNodeAccess_206  (a0 : Option Nat) (a3 : Option Nat) (a4 : Option Nat) (a5 : Option Nat) (a6 : Option Nat) (h : zH) : zO :=
  if a5 = none then
    f_J2_afterNodeAccess_224 a0 a6 a4 h
  else
    zpF h [29] 5 a5 (va_rf a6) fun h11 =>
    f_J2_afterNodeAccess_224 a0 a3 a4 h11
def f_J2_afterNodeAccess_141  (a0 : Option Nat) (a1 : Option Nat) (h : zH) : zO :=
  zgI h [13] 11 a0 fun x4 =>
  if ¬ x4 = 1 then
    zrV h
  else
    zgR h [13] 8 a0 fun r5 =>
    if r5 = a1 then
      zrV h
    else
      zcast h [29] a1 <|
      zgR h [29] 4 a1 fun r6 =>
      zgR h [29] 5 a1 fun r7 =>
      zpF h [29] 4 a1 (va_rf none) fun h8 =>
      if ¬ r7 = none then
        zpF h8 [29] 4 r7 (va_rf r6) fun h9 =>
        f_J2_afterNodeAccess_206 a0 r5 a1 r6 r7 h9
      else
        zpF h8 [13] 9 a0 (va_rf r6) fun h10 =>
        f_J2_afterNodeAccess_206 a0 r5 a1 r6 r7 h10
def f_J2_afterNodeAccess_22  (a0 : Option Nat) (a1 : Option Nat) (h : zH) : zO :=
  zgR h [13] 9 a0 fun r18 =>
  if r18 = a1 then
    f_J2_afterNodeAccess_141 a0 a1 h
  else
    zcast h [29] a1 <|
    zgR h [29] 4 a1 fun r19 =>
    zgR h [29] 5 a1 fun r20 =>
    zpF h [29] 5 a1 (va_rf none) fun h21 =>
    if ¬ r19 = none then
      zpF h21 [29] 5 r19 (va_rf r20) fun h22 =>
      f_J2_afterNodeAccess_79 a0 r18 a1 r19 r20 h22
    else
      zpF h21 [13] 8 a0 (va_rf r20) fun h23 =>
      f_J2_afterNodeAccess_79 a0 r18 a1 r19 r20 h23
def f_J2_afterNodeAccess (v0 : Option Nat) (v1 : Option Nat) (h : zH) : zO :=
  zgI h [13] 11 v0 fun x1 =>
  if x1 = 2 then
    f_J2_afterNodeAccess_22 v0 v1 h
  else
    zgI h [13] 11 v0 fun x2 =>
    if ¬ x2 = 0 then
      f_J2_afterNodeAccess_141 v0 v1 h
    else
      zgI h [13] 10 v0 fun x3 =>
      if x3 = 0 then
        f_J2_afterNodeAccess_141 v0 v1 h
      else
        f_J2_afterNodeAccess_22 v0 v1 h
def f_J1_afterNodeInsertion (v0 : Option Nat) (v1 : Int32) (h : zH) : zO :=
  zrV h
def f_J2_removeEldestEntry (v0 : Option Nat) (v1 : Option Nat) (h : zH) : zO :=
  zrN .boolean 0 h
def f_J2_afterNodeInsertion (v0 : Option Nat) (v1 : Int32) (h : zH) : zO :=
  if v1 = 0 then
    zrV h
  else
    zgR h [13] 8 v0 fun r1 =>
    if r1 = none then
      zrV h
    else
      if ztg h v0 = some 13 then
        zcI (f_J2_removeEldestEntry v0 r1 h) zX fun x2 h3 =>
        if x2 = 0 then
          zrV h3
        else
          zgR h3 [28, 29] 1 r1 fun r4 =>
          none
      else
      none
def f_J1_putVal_250  (a0 : Option Nat) (a10 : Option Nat) (a12 : Option Nat) (h : zH) : zO :=
  if ztg h a0 = some 12 then
    zcV (f_J1_afterNodeAccess a0 a10 h) zX fun h23 =>
    zrR a12 h23
  else
  if ztg h a0 = some 13 then
    zcV (f_J2_afterNodeAccess a0 a10 h) zX fun h23 =>
    zrR a12 h23
  else
  none
def f_J1_putVal_244  (a0 : Option Nat) (a3 : Option Nat) (a10 : Option Nat) (a12 : Option Nat) (h : zH) : zO :=
  zpF h [28, 29] 2 a10 (va_rf a3) fun h24 =>
  f_J1_putVal_250 a0 a10 a12 h24
def f_J1_putVal_292  (a0 : Option Nat) (a5 : Int32) (h : zH) : zO :=
  if ztg h a0 = some 12 then
    zcV (f_J1_afterNodeInsertion a0 a5 h) zX fun h21 =>
    zrR none h21
  else
  if ztg h a0 = some 13 then
    zcV (f_J2_afterNodeInsertion a0 a5 h) zX fun h21 =>
    zrR none h21
  else
  none
def f_J1_putVal_259  (a0 : Option Nat) (a5 : Int32) (h : zH) : zO :=
  zgI h [12, 13] 5 a0 fun x13 =>
  zpF h [12, 13] 5 a0 (.int (x13 + 1)) fun h14 =>
  zgI h14 [12, 13] 4 a0 fun x15 =>
  znm (x15 + 1) fun x16 =>
  zpF h14 [12, 13] 4 a0 (.int x16) fun h17 =>
  zgI h17 [12, 13] 6 a0 fun x18 =>
  if x16 ≤ x18 then
    f_J1_putVal_292 a0 a5 h17
  else
    if ztg h17 a0 = some 12 then
      zcR (f_J1_resize a0 h17) zX fun r19 h20 =>
      f_J1_putVal_292 a0 a5 h20
    else
    if ztg h17 a0 = some 13 then
      zcR (f_J1_resize a0 h17) zX fun r19 h20 =>
      f_J1_putVal_292 a0 a5 h20
    else
    none
def f_J1_putVal_222  (a0 : Option Nat) (a3 : Option Nat) (a4 : Int32) (a5 : Int32) (a10 : Option Nat) (h : zH) : zO :=
  if a10 = none then
    f_J1_putVal_259 a0 a5 h
  else
    zgR h [28, 29] 2 a10 fun r22 =>
    if a4 = 0 then
      f_J1_putVal_244 a0 a3 a10 r22 h
    else
      if ¬ r22 = none then
        f_J1_putVal_250 a0 a10 r22 h
      else
        f_J1_putVal_244 a0 a3 a10 r22 h
def f_J1_putVal_97  (a0 : Option Nat) (a3 : Option Nat) (a4 : Int32) (a5 : Int32) (a7 : Option Nat) (h : zH) : zO :=
  f_J1_putVal_222 a0 a3 a4 a5 a7 h
def f_J1_putVal_145  (a0 : Option Nat) (a1 : Int32) (a2 : Option Nat) (a3 : Option Nat) (a4 : Int32) (a5 : Int32) (a6 : Option Nat) (a7 : Option Nat) (a10 : Option Nat) (a12 : Int32) (h : zH) : zO :=
  if ztg h a0 = some 12 then
    zcR (f_J1_newNode a0 a1 a2 a3 none h) zX fun r33 h34 =>
    zpF h34 [28, 29] 3 a7 (va_rf r33) fun h35 =>
    if a12 < 7 then
      f_J1_putVal_222 a0 a3 a4 a5 a10 h35
    else
      none
  else
  if ztg h a0 = some 13 then
    zcR (f_J2_newNode a0 a1 a2 a3 none h) zX fun r33 h34 =>
    zpF h34 [28, 29] 3 a7 (va_rf r33) fun h37 =>
    if a12 < 7 then
      f_J1_putVal_222 a0 a3 a4 a5 a10 h37
    else
      none
  else
  none
def f_J1_putVal_209  (a0 : Option Nat) (a3 : Option Nat) (a4 : Int32) (a5 : Int32) (a10 : Option Nat) (h : zH) : zO :=
  f_J1_putVal_222 a0 a3 a4 a5 a10 h
def f_J1_putVal_212 (K134 : Option Nat → Int32 → Option Nat → Option Nat → Int32 → Int32 → Option Nat → Option Nat → Int32 → zH → zO) (a0 : Option Nat) (a1 : Int32) (a2 : Option Nat) (a3 : Option Nat) (a4 : Int32) (a5 : Int32) (a6 : Option Nat) (a10 : Option Nat) (a12 : Int32) (h : zH) : zO :=
  znm (a12 + 1) fun x39 =>
  K134 a0 a1 a2 a3 a4 a5 a6 a10 x39 h
def f_J1_putVal_134  : Nat → Option Nat → Int32 → Option Nat → Option Nat → Int32 → Int32 → Option Nat → Option Nat → Int32 → zH → zO
  | 0, _, _, _, _, _, _, _, _, _, _ => none
  | n + 1, a0, a1, a2, a3, a4, a5, a6, a7, a12, h =>
    zgR h [28, 29] 3 a7 fun r28 =>
    if ¬ r28 = none then
      zgI h [28, 29] 0 r28 fun x29 =>
      if ¬ x29 = a1 then
        f_J1_putVal_212 (f_J1_putVal_134 n) a0 a1 a2 a3 a4 a5 a6 r28 a12 h
      else
        zgR h [28, 29] 1 r28 fun r30 =>
        if r30 = a2 then
          f_J1_putVal_222 a0 a3 a4 a5 r28 h
        else
          if a2 = none then
            f_J1_putVal_212 (f_J1_putVal_134 n) a0 a1 a2 a3 a4 a5 a6 r28 a12 h
          else
            if ztg h a2 = some 7 then
              zcI (f_X8_equals a2 r30 h) zX fun x31 h32 =>
              if x31 = 0 then
                f_J1_putVal_212 (f_J1_putVal_134 n) a0 a1 a2 a3 a4 a5 a6 r28 a12 h32
              else
                f_J1_putVal_209 a0 a3 a4 a5 r28 h32
            else
            if ztg h a2 = some 26 then
              zcI (f_J24_equals a2 r30 h) zX fun x31 h32 =>
              if x31 = 0 then
                f_J1_putVal_212 (f_J1_putVal_134 n) a0 a1 a2 a3 a4 a5 a6 r28 a12 h32
              else
                f_J1_putVal_209 a0 a3 a4 a5 r28 h32
            else
            none
    else
      f_J1_putVal_145 a0 a1 a2 a3 a4 a5 a6 a7 r28 a12 h
def f_J1_putVal_104  (a0 : Option Nat) (a1 : Int32) (a2 : Option Nat) (a3 : Option Nat) (a4 : Int32) (a5 : Int32) (a6 : Option Nat) (a7 : Option Nat) (h : zH) : zO :=
  zinst h [] [28, 29] a7 fun x25 =>
  if x25 = 0 then
    f_J1_putVal_134 zfuel a0 a1 a2 a3 a4 a5 a6 a7 0 h
  else
    zcast h [] a7 <|
    none
def f_J1_putVal_29  (a0 : Option Nat) (a1 : Int32) (a2 : Option Nat) (a3 : Option Nat) (a4 : Int32) (a5 : Int32) (a6 : Option Nat) (a8 : Int32) (h : zH) : zO :=
  znm ((a8 - 1) &&& a1) fun x3 =>
  zaR h zrefs a6 x3 fun r4 =>
  if ¬ r4 = none then
    zgI h [28, 29] 0 r4 fun x5 =>
    if ¬ x5 = a1 then
      f_J1_putVal_104 a0 a1 a2 a3 a4 a5 a6 r4 h
    else
      zgR h [28, 29] 1 r4 fun r6 =>
      if r6 = a2 then
        f_J1_putVal_97 a0 a3 a4 a5 r4 h
      else
        if a2 = none then
          f_J1_putVal_104 a0 a1 a2 a3 a4 a5 a6 r4 h
        else
          if ztg h a2 = some 7 then
            zcI (f_X8_equals a2 r6 h) zX fun x7 h8 =>
            if x7 = 0 then
              f_J1_putVal_104 a0 a1 a2 a3 a4 a5 a6 r4 h8
            else
              f_J1_putVal_97 a0 a3 a4 a5 r4 h8
          else
          if ztg h a2 = some 26 then
            zcI (f_J24_equals a2 r6 h) zX fun x7 h8 =>
            if x7 = 0 then
              f_J1_putVal_104 a0 a1 a2 a3 a4 a5 a6 r4 h8
            else
              f_J1_putVal_97 a0 a3 a4 a5 r4 h8
          else
          none
  else
    if ztg h a0 = some 12 then
      zcR (f_J1_newNode a0 a1 a2 a3 none h) zX fun r9 h10 =>
      zaQ h10 [206] [28, 29] a6 x3 r9 fun h11 =>
      f_J1_putVal_259 a0 a5 h11
    else
    if ztg h a0 = some 13 then
      zcR (f_J2_newNode a0 a1 a2 a3 none h) zX fun r9 h10 =>
      zaQ h10 [206] [28, 29] a6 x3 r9 fun h12 =>
      f_J1_putVal_259 a0 a5 h12
    else
    none
def f_J1_putVal_19  (a0 : Option Nat) (a1 : Int32) (a2 : Option Nat) (a3 : Option Nat) (a4 : Int32) (a5 : Int32) (h : zH) : zO :=
  if ztg h a0 = some 12 then
    zcR (f_J1_resize a0 h) zX fun r40 h41 =>
    zaN h41 zarrs r40 fun x42 =>
    f_J1_putVal_29 a0 a1 a2 a3 a4 a5 r40 x42 h41
  else
  if ztg h a0 = some 13 then
    zcR (f_J1_resize a0 h) zX fun r40 h41 =>
    zaN h41 zarrs r40 fun x43 =>
    f_J1_putVal_29 a0 a1 a2 a3 a4 a5 r40 x43 h41
  else
  none
def f_J1_putVal (v0 : Option Nat) (v1 : Int32) (v2 : Option Nat) (v3 : Option Nat) (v4 : Int32) (v5 : Int32) (h : zH) : zO :=
  zgR h [12, 13] 2 v0 fun r1 =>
  if r1 = none then
    f_J1_putVal_19 v0 v1 v2 v3 v4 v5 h
  else
    zaN h zarrs r1 fun x2 =>
    if ¬ x2 = 0 then
      f_J1_putVal_29 v0 v1 v2 v3 v4 v5 r1 x2 h
    else
      f_J1_putVal_19 v0 v1 v2 v3 v4 v5 h
def f_J1_put (v0 : Option Nat) (v1 : Option Nat) (v2 : Option Nat) (h : zH) : zO :=
  zcI (f_J1_hash v1 h) zX fun x1 h2 =>
  if ztg h2 v0 = some 12 then
    zcR (f_J1_putVal v0 x1 v1 v2 0 1 h2) zX fun r3 h4 =>
    zrR r3 h4
  else
  if ztg h2 v0 = some 13 then
    zcR (f_J1_putVal v0 x1 v1 v2 0 1 h2) zX fun r3 h4 =>
    zrR r3 h4
  else
  none
def f_J18_init (v0 : Option Nat) (v1 : Option Nat) (h : zH) : zO :=
  zpF h [22] 0 v0 (va_rf v1) fun h1 =>
  if ¬ v0 = none then
    zcV (f_J4_init v0 h1) zX fun h2 =>
    zrV h2
  else none
def f_J1_keySet (v0 : Option Nat) (h : zH) : zO :=
  zgR h [12, 13] 0 v0 fun r1 =>
  if ¬ r1 = none then
    zrR r1 h
  else
    znO h 22 [.null] fun r2 h3 =>
    if ¬ r2 = none then
      zcV (f_J18_init r2 v0 h3) zX fun h4 =>
      zpF h4 [12, 13] 0 v0 (va_rf r2) fun h5 =>
      zrR r2 h5
    else none
def f_J19_init (v0 : Option Nat) (v1 : Option Nat) (v2 : Int32) (h : zH) : zO :=
  zpF h [23] 1 v0 (va_rf v1) fun h1 =>
  if ¬ v0 = none then
    zcV (f_J4_init v0 h1) zX fun h2 =>
    zpN h2 [23] 0 v0 .boolean (.int v2) fun h3 =>
    zrV h3
  else none
def f_J2_sequencedKeySet (v0 : Option Nat) (h : zH) : zO :=
  zgR h [12, 13] 0 v0 fun r1 =>
  if ¬ r1 = none then
    zcast h [23] r1 <|
    zrR r1 h
  else
    znO h 23 [.int 0, .null] fun r2 h3 =>
    if ¬ r2 = none then
      zcV (f_J19_init r2 v0 0 h3) zX fun h4 =>
      zpF h4 [12, 13] 0 v0 (va_rf r2) fun h5 =>
      zrR r2 h5
    else none
def f_J2_keySet (v0 : Option Nat) (h : zH) : zO :=
  if ztg h v0 = some 13 then
    zcR (f_J2_sequencedKeySet v0 h) zX fun r1 h2 =>
    zrR r1 h2
  else
  none
def f_J16_init_48  : Nat → Option Nat → Option Nat → zH → zO
  | 0, _, _, _ => none
  | n + 1, a0, a2, h =>
    zgI h [21] 3 a0 fun x9 =>
    zaN h zarrs a2 fun x10 =>
    if x10 ≤ x9 then
      zrV h
    else
      zgI h [21] 3 a0 fun x11 =>
      zpF h [21] 3 a0 (.int (x11 + 1)) fun h12 =>
      zaR h12 zrefs a2 x11 fun r13 =>
      zpF h12 [21] 0 a0 (va_rf r13) fun h14 =>
      if r13 = none then
        f_J16_init_48 n a0 a2 h14
      else
        zrV h14
def f_J16_init (v0 : Option Nat) (v1 : Option Nat) (h : zH) : zO :=
  zpF h [21] 4 v0 (va_rf v1) fun h1 =>
  if ¬ v0 = none then
    zgI h1 [12, 13] 5 v1 fun x2 =>
    zpF h1 [21] 2 v0 (.int x2) fun h3 =>
    zgR h3 [12, 13] 2 v1 fun r4 =>
    zpF h3 [21] 0 v0 (va_rf none) fun h5 =>
    zpF h5 [21] 1 v0 (va_rf none) fun h6 =>
    zpF h6 [21] 3 v0 (.int 0) fun h7 =>
    if r4 = none then
      zrV h7
    else
      zgI h7 [12, 13] 4 v1 fun x8 =>
      if x8 ≤ 0 then
        zrV h7
      else
        f_J16_init_48 zfuel v0 r4 h7
  else none
def f_J17_init (v0 : Option Nat) (v1 : Option Nat) (h : zH) : zO :=
  if ¬ v0 = none then
    zcV (f_J16_init v0 v1 h) zX fun h1 =>
    zrV h1
  else none
def f_J18_iterator (v0 : Option Nat) (h : zH) : zO :=
  znO h 21 [.null, .null, .int 0, .int 0, .null] fun r1 h2 =>
  zgR h2 [22] 0 v0 fun r3 =>
  if ¬ r1 = none then
    zcV (f_J17_init r1 r3 h2) zX fun h4 =>
    zrR r1 h4
  else none
def f_J21_init (v0 : Option Nat) (v1 : Option Nat) (v2 : Int32) (h : zH) : zO :=
  if ¬ v0 = none then
    zcV (f_J20_init v0 v1 v2 h) zX fun h1 =>
    zrV h1
  else none
def f_J19_iterator (v0 : Option Nat) (h : zH) : zO :=
  znO h 24 [.null, .null, .int 0, .int 0, .null] fun r1 h2 =>
  zgR h2 [23] 1 v0 fun r3 =>
  zgI h2 [23] 0 v0 fun x4 =>
  if ¬ r1 = none then
    zcV (f_J21_init r1 r3 x4 h2) zX fun h5 =>
    zrR r1 h5
  else none
def f_J5_iterator (v0 : Option Nat) (h : zH) : zO :=
  zgR h [14] 0 v0 fun r1 =>
  if ztg h r1 = some 12 then
    zcR (f_J1_keySet r1 h) zX fun r2 h3 =>
    if ztg h3 r2 = some 22 then
      zcR (f_J18_iterator r2 h3) zX fun r4 h5 =>
      zrR r4 h5
    else
    if ztg h3 r2 = some 23 then
      zcR (f_J19_iterator r2 h3) zX fun r4 h5 =>
      zrR r4 h5
    else
    none
  else
  if ztg h r1 = some 13 then
    zcR (f_J2_keySet r1 h) zX fun r2 h3 =>
    if ztg h3 r2 = some 22 then
      zcR (f_J18_iterator r2 h3) zX fun r6 h7 =>
      zrR r6 h7
    else
    if ztg h3 r2 = some 23 then
      zcR (f_J19_iterator r2 h3) zX fun r6 h7 =>
      zrR r6 h7
    else
    none
  else
  none
def f_J5_add (v0 : Option Nat) (v1 : Option Nat) (h : zH) : zO :=
  zgR h [14] 0 v0 fun r1 =>
  if ztg h r1 = some 12 then
    zcR (f_J1_put r1 v1 (some (zG h 5)) h) zX fun r2 h3 =>
    if ¬ r2 = none then
      zrN .boolean 0 h3
    else
      zrN .boolean 1 h3
  else
  if ztg h r1 = some 13 then
    zcR (f_J1_put r1 v1 (some (zG h 5)) h) zX fun r2 h3 =>
    if ¬ r2 = none then
      zrN .boolean 0 h3
    else
      zrN .boolean 1 h3
  else
  none
def f_X2_init_2_144  (a0 : Option Nat) (a1 : Option Nat) (h : zH) : zO :=
  zgI h [1] 2 a1 fun x344 =>
  zpF h [1] 2 a0 (.int x344) fun h345 =>
  zgI h345 [1] 3 a1 fun x346 =>
  zpF h345 [1] 3 a0 (.int x346) fun h347 =>
  zgI h347 [1] 4 a1 fun x348 =>
  zpF h347 [1] 4 a0 (.int x348) fun h349 =>
  zgI h349 [1] 5 a1 fun x350 =>
  zpF h349 [1] 5 a0 (.int x350) fun h351 =>
  zgI h351 [1] 6 a1 fun x352 =>
  zpN h351 [1] 6 a0 .boolean (.int x352) fun h353 =>
  zgI h353 [1] 7 a1 fun x354 =>
  zpF h353 [1] 7 a0 (.int x354) fun h355 =>
  zgI h355 [1] 8 a1 fun x356 =>
  zpF h355 [1] 8 a0 (.int x356) fun h357 =>
  zgI h357 [1] 9 a1 fun x358 =>
  zpF h357 [1] 9 a0 (.int x358) fun h359 =>
  zrV h359
def f_X2_init_2_112  : Nat → Option Nat → Option Nat → Option Nat → zH → zO
  | 0, _, _, _, _ => none
  | n + 1, a0, a1, a2, h =>
    if ztg h a2 = some 8 then
      zcI (f_X9_hasNext a2 h) zX fun x257 h258 =>
      if x257 = 0 then
        f_X2_init_2_144 a0 a1 h258
      else
        if ztg h258 a2 = some 8 then
          zcR (f_X9_next a2 h258) zX fun r259 h260 =>
          zcast h260 [7] r259 <|
          zgR h260 [1] 1 a0 fun r261 =>
          if ztg h260 r261 = some 14 then
            zcI (f_J5_add r261 r259 h260) zX fun x262 h263 =>
            f_X2_init_2_112 n a0 a1 a2 h263
          else
          none
        else
        if ztg h258 a2 = some 20 then
          zcR (f_J15_next a2 h258) zX fun r259 h260 =>
          zcast h260 [7] r259 <|
          zgR h260 [1] 1 a0 fun r264 =>
          if ztg h260 r264 = some 14 then
            zcI (f_J5_add r264 r259 h260) zX fun x265 h266 =>
            f_X2_init_2_112 n a0 a1 a2 h266
          else
          none
        else
        if ztg h258 a2 = some 21 then
          zcR (f_J17_next a2 h258) zX fun r259 h260 =>
          zcast h260 [7] r259 <|
          zgR h260 [1] 1 a0 fun r267 =>
          if ztg h260 r267 = some 14 then
            zcI (f_J5_add r267 r259 h260) zX fun x268 h269 =>
            f_X2_init_2_112 n a0 a1 a2 h269
          else
          none
        else
        if ztg h258 a2 = some 24 then
          zcR (f_J21_next a2 h258) zX fun r259 h260 =>
          zcast h260 [7] r259 <|
          zgR h260 [1] 1 a0 fun r270 =>
          if ztg h260 r270 = some 14 then
            zcI (f_J5_add r270 r259 h260) zX fun x271 h272 =>
            f_X2_init_2_112 n a0 a1 a2 h272
          else
          none
        else
        if ztg h258 a2 = some 25 then
          zcR (f_J22_next a2 h258) zX fun r259 h260 =>
          zcast h260 [7] r259 <|
          zgR h260 [1] 1 a0 fun r273 =>
          if ztg h260 r273 = some 14 then
            zcI (f_J5_add r273 r259 h260) zX fun x274 h275 =>
            f_X2_init_2_112 n a0 a1 a2 h275
          else
          none
        else
        none
    else
    if ztg h a2 = some 20 then
      zcI (f_J15_hasNext a2 h) zX fun x257 h258 =>
      if x257 = 0 then
        f_X2_init_2_144 a0 a1 h258
      else
        if ztg h258 a2 = some 8 then
          zcR (f_X9_next a2 h258) zX fun r276 h277 =>
          zcast h277 [7] r276 <|
          zgR h277 [1] 1 a0 fun r278 =>
          if ztg h277 r278 = some 14 then
            zcI (f_J5_add r278 r276 h277) zX fun x279 h280 =>
            f_X2_init_2_112 n a0 a1 a2 h280
          else
          none
        else
        if ztg h258 a2 = some 20 then
          zcR (f_J15_next a2 h258) zX fun r276 h277 =>
          zcast h277 [7] r276 <|
          zgR h277 [1] 1 a0 fun r281 =>
          if ztg h277 r281 = some 14 then
            zcI (f_J5_add r281 r276 h277) zX fun x282 h283 =>
            f_X2_init_2_112 n a0 a1 a2 h283
          else
          none
        else
        if ztg h258 a2 = some 21 then
          zcR (f_J17_next a2 h258) zX fun r276 h277 =>
          zcast h277 [7] r276 <|
          zgR h277 [1] 1 a0 fun r284 =>
          if ztg h277 r284 = some 14 then
            zcI (f_J5_add r284 r276 h277) zX fun x285 h286 =>
            f_X2_init_2_112 n a0 a1 a2 h286
          else
          none
        else
        if ztg h258 a2 = some 24 then
          zcR (f_J21_next a2 h258) zX fun r276 h277 =>
          zcast h277 [7] r276 <|
          zgR h277 [1] 1 a0 fun r287 =>
          if ztg h277 r287 = some 14 then
            zcI (f_J5_add r287 r276 h277) zX fun x288 h289 =>
            f_X2_init_2_112 n a0 a1 a2 h289
          else
          none
        else
        if ztg h258 a2 = some 25 then
          zcR (f_J22_next a2 h258) zX fun r276 h277 =>
          zcast h277 [7] r276 <|
          zgR h277 [1] 1 a0 fun r290 =>
          if ztg h277 r290 = some 14 then
            zcI (f_J5_add r290 r276 h277) zX fun x291 h292 =>
            f_X2_init_2_112 n a0 a1 a2 h292
          else
          none
        else
        none
    else
    if ztg h a2 = some 21 then
      zcI (f_J16_hasNext a2 h) zX fun x257 h258 =>
      if x257 = 0 then
        f_X2_init_2_144 a0 a1 h258
      else
        if ztg h258 a2 = some 8 then
          zcR (f_X9_next a2 h258) zX fun r293 h294 =>
          zcast h294 [7] r293 <|
          zgR h294 [1] 1 a0 fun r295 =>
          if ztg h294 r295 = some 14 then
            zcI (f_J5_add r295 r293 h294) zX fun x296 h297 =>
            f_X2_init_2_112 n a0 a1 a2 h297
          else
          none
        else
        if ztg h258 a2 = some 20 then
          zcR (f_J15_next a2 h258) zX fun r293 h294 =>
          zcast h294 [7] r293 <|
          zgR h294 [1] 1 a0 fun r298 =>
          if ztg h294 r298 = some 14 then
            zcI (f_J5_add r298 r293 h294) zX fun x299 h300 =>
            f_X2_init_2_112 n a0 a1 a2 h300
          else
          none
        else
        if ztg h258 a2 = some 21 then
          zcR (f_J17_next a2 h258) zX fun r293 h294 =>
          zcast h294 [7] r293 <|
          zgR h294 [1] 1 a0 fun r301 =>
          if ztg h294 r301 = some 14 then
            zcI (f_J5_add r301 r293 h294) zX fun x302 h303 =>
            f_X2_init_2_112 n a0 a1 a2 h303
          else
          none
        else
        if ztg h258 a2 = some 24 then
          zcR (f_J21_next a2 h258) zX fun r293 h294 =>
          zcast h294 [7] r293 <|
          zgR h294 [1] 1 a0 fun r304 =>
          if ztg h294 r304 = some 14 then
            zcI (f_J5_add r304 r293 h294) zX fun x305 h306 =>
            f_X2_init_2_112 n a0 a1 a2 h306
          else
          none
        else
        if ztg h258 a2 = some 25 then
          zcR (f_J22_next a2 h258) zX fun r293 h294 =>
          zcast h294 [7] r293 <|
          zgR h294 [1] 1 a0 fun r307 =>
          if ztg h294 r307 = some 14 then
            zcI (f_J5_add r307 r293 h294) zX fun x308 h309 =>
            f_X2_init_2_112 n a0 a1 a2 h309
          else
          none
        else
        none
    else
    if ztg h a2 = some 24 then
      zcI (f_J20_hasNext a2 h) zX fun x257 h258 =>
      if x257 = 0 then
        f_X2_init_2_144 a0 a1 h258
      else
        if ztg h258 a2 = some 8 then
          zcR (f_X9_next a2 h258) zX fun r310 h311 =>
          zcast h311 [7] r310 <|
          zgR h311 [1] 1 a0 fun r312 =>
          if ztg h311 r312 = some 14 then
            zcI (f_J5_add r312 r310 h311) zX fun x313 h314 =>
            f_X2_init_2_112 n a0 a1 a2 h314
          else
          none
        else
        if ztg h258 a2 = some 20 then
          zcR (f_J15_next a2 h258) zX fun r310 h311 =>
          zcast h311 [7] r310 <|
          zgR h311 [1] 1 a0 fun r315 =>
          if ztg h311 r315 = some 14 then
            zcI (f_J5_add r315 r310 h311) zX fun x316 h317 =>
            f_X2_init_2_112 n a0 a1 a2 h317
          else
          none
        else
        if ztg h258 a2 = some 21 then
          zcR (f_J17_next a2 h258) zX fun r310 h311 =>
          zcast h311 [7] r310 <|
          zgR h311 [1] 1 a0 fun r318 =>
          if ztg h311 r318 = some 14 then
            zcI (f_J5_add r318 r310 h311) zX fun x319 h320 =>
            f_X2_init_2_112 n a0 a1 a2 h320
          else
          none
        else
        if ztg h258 a2 = some 24 then
          zcR (f_J21_next a2 h258) zX fun r310 h311 =>
          zcast h311 [7] r310 <|
          zgR h311 [1] 1 a0 fun r321 =>
          if ztg h311 r321 = some 14 then
            zcI (f_J5_add r321 r310 h311) zX fun x322 h323 =>
            f_X2_init_2_112 n a0 a1 a2 h323
          else
          none
        else
        if ztg h258 a2 = some 25 then
          zcR (f_J22_next a2 h258) zX fun r310 h311 =>
          zcast h311 [7] r310 <|
          zgR h311 [1] 1 a0 fun r324 =>
          if ztg h311 r324 = some 14 then
            zcI (f_J5_add r324 r310 h311) zX fun x325 h326 =>
            f_X2_init_2_112 n a0 a1 a2 h326
          else
          none
        else
        none
    else
    if ztg h a2 = some 25 then
      zcI (f_J20_hasNext a2 h) zX fun x257 h258 =>
      if x257 = 0 then
        f_X2_init_2_144 a0 a1 h258
      else
        if ztg h258 a2 = some 8 then
          zcR (f_X9_next a2 h258) zX fun r327 h328 =>
          zcast h328 [7] r327 <|
          zgR h328 [1] 1 a0 fun r329 =>
          if ztg h328 r329 = some 14 then
            zcI (f_J5_add r329 r327 h328) zX fun x330 h331 =>
            f_X2_init_2_112 n a0 a1 a2 h331
          else
          none
        else
        if ztg h258 a2 = some 20 then
          zcR (f_J15_next a2 h258) zX fun r327 h328 =>
          zcast h328 [7] r327 <|
          zgR h328 [1] 1 a0 fun r332 =>
          if ztg h328 r332 = some 14 then
            zcI (f_J5_add r332 r327 h328) zX fun x333 h334 =>
            f_X2_init_2_112 n a0 a1 a2 h334
          else
          none
        else
        if ztg h258 a2 = some 21 then
          zcR (f_J17_next a2 h258) zX fun r327 h328 =>
          zcast h328 [7] r327 <|
          zgR h328 [1] 1 a0 fun r335 =>
          if ztg h328 r335 = some 14 then
            zcI (f_J5_add r335 r327 h328) zX fun x336 h337 =>
            f_X2_init_2_112 n a0 a1 a2 h337
          else
          none
        else
        if ztg h258 a2 = some 24 then
          zcR (f_J21_next a2 h258) zX fun r327 h328 =>
          zcast h328 [7] r327 <|
          zgR h328 [1] 1 a0 fun r338 =>
          if ztg h328 r338 = some 14 then
            zcI (f_J5_add r338 r327 h328) zX fun x339 h340 =>
            f_X2_init_2_112 n a0 a1 a2 h340
          else
          none
        else
        if ztg h258 a2 = some 25 then
          zcR (f_J22_next a2 h258) zX fun r327 h328 =>
          zcast h328 [7] r327 <|
          zgR h328 [1] 1 a0 fun r341 =>
          if ztg h328 r341 = some 14 then
            zcI (f_J5_add r341 r327 h328) zX fun x342 h343 =>
            f_X2_init_2_112 n a0 a1 a2 h343
          else
          none
        else
        none
    else
    none
def f_X2_init_2_104  (a0 : Option Nat) (a1 : Option Nat) (h : zH) : zO :=
  zgR h [1] 1 a1 fun r254 =>
  if ztg h r254 = some 14 then
    zcR (f_J5_iterator r254 h) zX fun r255 h256 =>
    f_X2_init_2_112 zfuel a0 a1 r255 h256
  else
  none
def f_X2_init_2_55  : Nat → Option Nat → Option Nat → Option Nat → zH → zO
  | 0, _, _, _, _ => none
  | n + 1, a0, a1, a2, h =>
    if ztg h a2 = some 8 then
      zcI (f_X9_hasNext a2 h) zX fun x17 h18 =>
      if x17 = 0 then
        f_X2_init_2_104 a0 a1 h18
      else
        if ztg h18 a2 = some 8 then
          zcR (f_X9_next a2 h18) zX fun r19 h20 =>
          zcast h20 [5] r19 <|
          zgR h20 [1] 0 a0 fun r21 =>
          zgI h20 [5] 0 r19 fun x22 =>
          zcR (f_J24_valueOf x22 h20) zX fun r23 h24 =>
          znO h24 5 [.int 0, .int 0, .int 0, .int 0, .int 0, .int 0, .int 0, .int 0, .null] fun r25 h26 =>
          if ¬ r25 = none then
            zcV (f_X6_init r25 r19 h26) zX fun h27 =>
            if ztg h27 r21 = some 13 then
              zcR (f_J1_put r21 r23 r25 h27) zX fun r28 h29 =>
              zcast h29 [5] r28 <|
              f_X2_init_2_55 n a0 a1 a2 h29
            else
            none
          else none
        else
        if ztg h18 a2 = some 20 then
          zcR (f_J15_next a2 h18) zX fun r19 h20 =>
          zcast h20 [5] r19 <|
          zgR h20 [1] 0 a0 fun r30 =>
          zgI h20 [5] 0 r19 fun x31 =>
          zcR (f_J24_valueOf x31 h20) zX fun r32 h33 =>
          znO h33 5 [.int 0, .int 0, .int 0, .int 0, .int 0, .int 0, .int 0, .int 0, .null] fun r34 h35 =>
          if ¬ r34 = none then
            zcV (f_X6_init r34 r19 h35) zX fun h36 =>
            if ztg h36 r30 = some 13 then
              zcR (f_J1_put r30 r32 r34 h36) zX fun r37 h38 =>
              zcast h38 [5] r37 <|
              f_X2_init_2_55 n a0 a1 a2 h38
            else
            none
          else none
        else
        if ztg h18 a2 = some 21 then
          zcR (f_J17_next a2 h18) zX fun r19 h20 =>
          zcast h20 [5] r19 <|
          zgR h20 [1] 0 a0 fun r39 =>
          zgI h20 [5] 0 r19 fun x40 =>
          zcR (f_J24_valueOf x40 h20) zX fun r41 h42 =>
          znO h42 5 [.int 0, .int 0, .int 0, .int 0, .int 0, .int 0, .int 0, .int 0, .null] fun r43 h44 =>
          if ¬ r43 = none then
            zcV (f_X6_init r43 r19 h44) zX fun h45 =>
            if ztg h45 r39 = some 13 then
              zcR (f_J1_put r39 r41 r43 h45) zX fun r46 h47 =>
              zcast h47 [5] r46 <|
              f_X2_init_2_55 n a0 a1 a2 h47
            else
            none
          else none
        else
        if ztg h18 a2 = some 24 then
          zcR (f_J21_next a2 h18) zX fun r19 h20 =>
          zcast h20 [5] r19 <|
          zgR h20 [1] 0 a0 fun r48 =>
          zgI h20 [5] 0 r19 fun x49 =>
          zcR (f_J24_valueOf x49 h20) zX fun r50 h51 =>
          znO h51 5 [.int 0, .int 0, .int 0, .int 0, .int 0, .int 0, .int 0, .int 0, .null] fun r52 h53 =>
          if ¬ r52 = none then
            zcV (f_X6_init r52 r19 h53) zX fun h54 =>
            if ztg h54 r48 = some 13 then
              zcR (f_J1_put r48 r50 r52 h54) zX fun r55 h56 =>
              zcast h56 [5] r55 <|
              f_X2_init_2_55 n a0 a1 a2 h56
            else
            none
          else none
        else
        if ztg h18 a2 = some 25 then
          zcR (f_J22_next a2 h18) zX fun r19 h20 =>
          zcast h20 [5] r19 <|
          zgR h20 [1] 0 a0 fun r57 =>
          zgI h20 [5] 0 r19 fun x58 =>
          zcR (f_J24_valueOf x58 h20) zX fun r59 h60 =>
          znO h60 5 [.int 0, .int 0, .int 0, .int 0, .int 0, .int 0, .int 0, .int 0, .null] fun r61 h62 =>
          if ¬ r61 = none then
            zcV (f_X6_init r61 r19 h62) zX fun h63 =>
            if ztg h63 r57 = some 13 then
              zcR (f_J1_put r57 r59 r61 h63) zX fun r64 h65 =>
              zcast h65 [5] r64 <|
              f_X2_init_2_55 n a0 a1 a2 h65
            else
            none
          else none
        else
        none
    else
    if ztg h a2 = some 20 then
      zcI (f_J15_hasNext a2 h) zX fun x17 h18 =>
      if x17 = 0 then
        f_X2_init_2_104 a0 a1 h18
      else
        if ztg h18 a2 = some 8 then
          zcR (f_X9_next a2 h18) zX fun r66 h67 =>
          zcast h67 [5] r66 <|
          zgR h67 [1] 0 a0 fun r68 =>
          zgI h67 [5] 0 r66 fun x69 =>
          zcR (f_J24_valueOf x69 h67) zX fun r70 h71 =>
          znO h71 5 [.int 0, .int 0, .int 0, .int 0, .int 0, .int 0, .int 0, .int 0, .null] fun r72 h73 =>
          if ¬ r72 = none then
            zcV (f_X6_init r72 r66 h73) zX fun h74 =>
            if ztg h74 r68 = some 13 then
              zcR (f_J1_put r68 r70 r72 h74) zX fun r75 h76 =>
              zcast h76 [5] r75 <|
              f_X2_init_2_55 n a0 a1 a2 h76
            else
            none
          else none
        else
        if ztg h18 a2 = some 20 then
          zcR (f_J15_next a2 h18) zX fun r66 h67 =>
          zcast h67 [5] r66 <|
          zgR h67 [1] 0 a0 fun r77 =>
          zgI h67 [5] 0 r66 fun x78 =>
          zcR (f_J24_valueOf x78 h67) zX fun r79 h80 =>
          znO h80 5 [.int 0, .int 0, .int 0, .int 0, .int 0, .int 0, .int 0, .int 0, .null] fun r81 h82 =>
          if ¬ r81 = none then
            zcV (f_X6_init r81 r66 h82) zX fun h83 =>
            if ztg h83 r77 = some 13 then
              zcR (f_J1_put r77 r79 r81 h83) zX fun r84 h85 =>
              zcast h85 [5] r84 <|
              f_X2_init_2_55 n a0 a1 a2 h85
            else
            none
          else none
        else
        if ztg h18 a2 = some 21 then
          zcR (f_J17_next a2 h18) zX fun r66 h67 =>
          zcast h67 [5] r66 <|
          zgR h67 [1] 0 a0 fun r86 =>
          zgI h67 [5] 0 r66 fun x87 =>
          zcR (f_J24_valueOf x87 h67) zX fun r88 h89 =>
          znO h89 5 [.int 0, .int 0, .int 0, .int 0, .int 0, .int 0, .int 0, .int 0, .null] fun r90 h91 =>
          if ¬ r90 = none then
            zcV (f_X6_init r90 r66 h91) zX fun h92 =>
            if ztg h92 r86 = some 13 then
              zcR (f_J1_put r86 r88 r90 h92) zX fun r93 h94 =>
              zcast h94 [5] r93 <|
              f_X2_init_2_55 n a0 a1 a2 h94
            else
            none
          else none
        else
        if ztg h18 a2 = some 24 then
          zcR (f_J21_next a2 h18) zX fun r66 h67 =>
          zcast h67 [5] r66 <|
          zgR h67 [1] 0 a0 fun r95 =>
          zgI h67 [5] 0 r66 fun x96 =>
          zcR (f_J24_valueOf x96 h67) zX fun r97 h98 =>
          znO h98 5 [.int 0, .int 0, .int 0, .int 0, .int 0, .int 0, .int 0, .int 0, .null] fun r99 h100 =>
          if ¬ r99 = none then
            zcV (f_X6_init r99 r66 h100) zX fun h101 =>
            if ztg h101 r95 = some 13 then
              zcR (f_J1_put r95 r97 r99 h101) zX fun r102 h103 =>
              zcast h103 [5] r102 <|
              f_X2_init_2_55 n a0 a1 a2 h103
            else
            none
          else none
        else
        if ztg h18 a2 = some 25 then
          zcR (f_J22_next a2 h18) zX fun r66 h67 =>
          zcast h67 [5] r66 <|
          zgR h67 [1] 0 a0 fun r104 =>
          zgI h67 [5] 0 r66 fun x105 =>
          zcR (f_J24_valueOf x105 h67) zX fun r106 h107 =>
          znO h107 5 [.int 0, .int 0, .int 0, .int 0, .int 0, .int 0, .int 0, .int 0, .null] fun r108 h109 =>
          if ¬ r108 = none then
            zcV (f_X6_init r108 r66 h109) zX fun h110 =>
            if ztg h110 r104 = some 13 then
              zcR (f_J1_put r104 r106 r108 h110) zX fun r111 h112 =>
              zcast h112 [5] r111 <|
              f_X2_init_2_55 n a0 a1 a2 h112
            else
            none
          else none
        else
        none
    else
    if ztg h a2 = some 21 then
      zcI (f_J16_hasNext a2 h) zX fun x17 h18 =>
      if x17 = 0 then
        f_X2_init_2_104 a0 a1 h18
      else
        if ztg h18 a2 = some 8 then
          zcR (f_X9_next a2 h18) zX fun r113 h114 =>
          zcast h114 [5] r113 <|
          zgR h114 [1] 0 a0 fun r115 =>
          zgI h114 [5] 0 r113 fun x116 =>
          zcR (f_J24_valueOf x116 h114) zX fun r117 h118 =>
          znO h118 5 [.int 0, .int 0, .int 0, .int 0, .int 0, .int 0, .int 0, .int 0, .null] fun r119 h120 =>
          if ¬ r119 = none then
            zcV (f_X6_init r119 r113 h120) zX fun h121 =>
            if ztg h121 r115 = some 13 then
              zcR (f_J1_put r115 r117 r119 h121) zX fun r122 h123 =>
              zcast h123 [5] r122 <|
              f_X2_init_2_55 n a0 a1 a2 h123
            else
            none
          else none
        else
        if ztg h18 a2 = some 20 then
          zcR (f_J15_next a2 h18) zX fun r113 h114 =>
          zcast h114 [5] r113 <|
          zgR h114 [1] 0 a0 fun r124 =>
          zgI h114 [5] 0 r113 fun x125 =>
          zcR (f_J24_valueOf x125 h114) zX fun r126 h127 =>
          znO h127 5 [.int 0, .int 0, .int 0, .int 0, .int 0, .int 0, .int 0, .int 0, .null] fun r128 h129 =>
          if ¬ r128 = none then
            zcV (f_X6_init r128 r113 h129) zX fun h130 =>
            if ztg h130 r124 = some 13 then
              zcR (f_J1_put r124 r126 r128 h130) zX fun r131 h132 =>
              zcast h132 [5] r131 <|
              f_X2_init_2_55 n a0 a1 a2 h132
            else
            none
          else none
        else
        if ztg h18 a2 = some 21 then
          zcR (f_J17_next a2 h18) zX fun r113 h114 =>
          zcast h114 [5] r113 <|
          zgR h114 [1] 0 a0 fun r133 =>
          zgI h114 [5] 0 r113 fun x134 =>
          zcR (f_J24_valueOf x134 h114) zX fun r135 h136 =>
          znO h136 5 [.int 0, .int 0, .int 0, .int 0, .int 0, .int 0, .int 0, .int 0, .null] fun r137 h138 =>
          if ¬ r137 = none then
            zcV (f_X6_init r137 r113 h138) zX fun h139 =>
            if ztg h139 r133 = some 13 then
              zcR (f_J1_put r133 r135 r137 h139) zX fun r140 h141 =>
              zcast h141 [5] r140 <|
              f_X2_init_2_55 n a0 a1 a2 h141
            else
            none
          else none
        else
        if ztg h18 a2 = some 24 then
          zcR (f_J21_next a2 h18) zX fun r113 h114 =>
          zcast h114 [5] r113 <|
          zgR h114 [1] 0 a0 fun r142 =>
          zgI h114 [5] 0 r113 fun x143 =>
          zcR (f_J24_valueOf x143 h114) zX fun r144 h145 =>
          znO h145 5 [.int 0, .int 0, .int 0, .int 0, .int 0, .int 0, .int 0, .int 0, .null] fun r146 h147 =>
          if ¬ r146 = none then
            zcV (f_X6_init r146 r113 h147) zX fun h148 =>
            if ztg h148 r142 = some 13 then
              zcR (f_J1_put r142 r144 r146 h148) zX fun r149 h150 =>
              zcast h150 [5] r149 <|
              f_X2_init_2_55 n a0 a1 a2 h150
            else
            none
          else none
        else
        if ztg h18 a2 = some 25 then
          zcR (f_J22_next a2 h18) zX fun r113 h114 =>
          zcast h114 [5] r113 <|
          zgR h114 [1] 0 a0 fun r151 =>
          zgI h114 [5] 0 r113 fun x152 =>
          zcR (f_J24_valueOf x152 h114) zX fun r153 h154 =>
          znO h154 5 [.int 0, .int 0, .int 0, .int 0, .int 0, .int 0, .int 0, .int 0, .null] fun r155 h156 =>
          if ¬ r155 = none then
            zcV (f_X6_init r155 r113 h156) zX fun h157 =>
            if ztg h157 r151 = some 13 then
              zcR (f_J1_put r151 r153 r155 h157) zX fun r158 h159 =>
              zcast h159 [5] r158 <|
              f_X2_init_2_55 n a0 a1 a2 h159
            else
            none
          else none
        else
        none
    else
    if ztg h a2 = some 24 then
      zcI (f_J20_hasNext a2 h) zX fun x17 h18 =>
      if x17 = 0 then
        f_X2_init_2_104 a0 a1 h18
      else
        if ztg h18 a2 = some 8 then
          zcR (f_X9_next a2 h18) zX fun r160 h161 =>
          zcast h161 [5] r160 <|
          zgR h161 [1] 0 a0 fun r162 =>
          zgI h161 [5] 0 r160 fun x163 =>
          zcR (f_J24_valueOf x163 h161) zX fun r164 h165 =>
          znO h165 5 [.int 0, .int 0, .int 0, .int 0, .int 0, .int 0, .int 0, .int 0, .null] fun r166 h167 =>
          if ¬ r166 = none then
            zcV (f_X6_init r166 r160 h167) zX fun h168 =>
            if ztg h168 r162 = some 13 then
              zcR (f_J1_put r162 r164 r166 h168) zX fun r169 h170 =>
              zcast h170 [5] r169 <|
              f_X2_init_2_55 n a0 a1 a2 h170
            else
            none
          else none
        else
        if ztg h18 a2 = some 20 then
          zcR (f_J15_next a2 h18) zX fun r160 h161 =>
          zcast h161 [5] r160 <|
          zgR h161 [1] 0 a0 fun r171 =>
          zgI h161 [5] 0 r160 fun x172 =>
          zcR (f_J24_valueOf x172 h161) zX fun r173 h174 =>
          znO h174 5 [.int 0, .int 0, .int 0, .int 0, .int 0, .int 0, .int 0, .int 0, .null] fun r175 h176 =>
          if ¬ r175 = none then
            zcV (f_X6_init r175 r160 h176) zX fun h177 =>
            if ztg h177 r171 = some 13 then
              zcR (f_J1_put r171 r173 r175 h177) zX fun r178 h179 =>
              zcast h179 [5] r178 <|
              f_X2_init_2_55 n a0 a1 a2 h179
            else
            none
          else none
        else
        if ztg h18 a2 = some 21 then
          zcR (f_J17_next a2 h18) zX fun r160 h161 =>
          zcast h161 [5] r160 <|
          zgR h161 [1] 0 a0 fun r180 =>
          zgI h161 [5] 0 r160 fun x181 =>
          zcR (f_J24_valueOf x181 h161) zX fun r182 h183 =>
          znO h183 5 [.int 0, .int 0, .int 0, .int 0, .int 0, .int 0, .int 0, .int 0, .null] fun r184 h185 =>
          if ¬ r184 = none then
            zcV (f_X6_init r184 r160 h185) zX fun h186 =>
            if ztg h186 r180 = some 13 then
              zcR (f_J1_put r180 r182 r184 h186) zX fun r187 h188 =>
              zcast h188 [5] r187 <|
              f_X2_init_2_55 n a0 a1 a2 h188
            else
            none
          else none
        else
        if ztg h18 a2 = some 24 then
          zcR (f_J21_next a2 h18) zX fun r160 h161 =>
          zcast h161 [5] r160 <|
          zgR h161 [1] 0 a0 fun r189 =>
          zgI h161 [5] 0 r160 fun x190 =>
          zcR (f_J24_valueOf x190 h161) zX fun r191 h192 =>
          znO h192 5 [.int 0, .int 0, .int 0, .int 0, .int 0, .int 0, .int 0, .int 0, .null] fun r193 h194 =>
          if ¬ r193 = none then
            zcV (f_X6_init r193 r160 h194) zX fun h195 =>
            if ztg h195 r189 = some 13 then
              zcR (f_J1_put r189 r191 r193 h195) zX fun r196 h197 =>
              zcast h197 [5] r196 <|
              f_X2_init_2_55 n a0 a1 a2 h197
            else
            none
          else none
        else
        if ztg h18 a2 = some 25 then
          zcR (f_J22_next a2 h18) zX fun r160 h161 =>
          zcast h161 [5] r160 <|
          zgR h161 [1] 0 a0 fun r198 =>
          zgI h161 [5] 0 r160 fun x199 =>
          zcR (f_J24_valueOf x199 h161) zX fun r200 h201 =>
          znO h201 5 [.int 0, .int 0, .int 0, .int 0, .int 0, .int 0, .int 0, .int 0, .null] fun r202 h203 =>
          if ¬ r202 = none then
            zcV (f_X6_init r202 r160 h203) zX fun h204 =>
            if ztg h204 r198 = some 13 then
              zcR (f_J1_put r198 r200 r202 h204) zX fun r205 h206 =>
              zcast h206 [5] r205 <|
              f_X2_init_2_55 n a0 a1 a2 h206
            else
            none
          else none
        else
        none
    else
    if ztg h a2 = some 25 then
      zcI (f_J20_hasNext a2 h) zX fun x17 h18 =>
      if x17 = 0 then
        f_X2_init_2_104 a0 a1 h18
      else
        if ztg h18 a2 = some 8 then
          zcR (f_X9_next a2 h18) zX fun r207 h208 =>
          zcast h208 [5] r207 <|
          zgR h208 [1] 0 a0 fun r209 =>
          zgI h208 [5] 0 r207 fun x210 =>
          zcR (f_J24_valueOf x210 h208) zX fun r211 h212 =>
          znO h212 5 [.int 0, .int 0, .int 0, .int 0, .int 0, .int 0, .int 0, .int 0, .null] fun r213 h214 =>
          if ¬ r213 = none then
            zcV (f_X6_init r213 r207 h214) zX fun h215 =>
            if ztg h215 r209 = some 13 then
              zcR (f_J1_put r209 r211 r213 h215) zX fun r216 h217 =>
              zcast h217 [5] r216 <|
              f_X2_init_2_55 n a0 a1 a2 h217
            else
            none
          else none
        else
        if ztg h18 a2 = some 20 then
          zcR (f_J15_next a2 h18) zX fun r207 h208 =>
          zcast h208 [5] r207 <|
          zgR h208 [1] 0 a0 fun r218 =>
          zgI h208 [5] 0 r207 fun x219 =>
          zcR (f_J24_valueOf x219 h208) zX fun r220 h221 =>
          znO h221 5 [.int 0, .int 0, .int 0, .int 0, .int 0, .int 0, .int 0, .int 0, .null] fun r222 h223 =>
          if ¬ r222 = none then
            zcV (f_X6_init r222 r207 h223) zX fun h224 =>
            if ztg h224 r218 = some 13 then
              zcR (f_J1_put r218 r220 r222 h224) zX fun r225 h226 =>
              zcast h226 [5] r225 <|
              f_X2_init_2_55 n a0 a1 a2 h226
            else
            none
          else none
        else
        if ztg h18 a2 = some 21 then
          zcR (f_J17_next a2 h18) zX fun r207 h208 =>
          zcast h208 [5] r207 <|
          zgR h208 [1] 0 a0 fun r227 =>
          zgI h208 [5] 0 r207 fun x228 =>
          zcR (f_J24_valueOf x228 h208) zX fun r229 h230 =>
          znO h230 5 [.int 0, .int 0, .int 0, .int 0, .int 0, .int 0, .int 0, .int 0, .null] fun r231 h232 =>
          if ¬ r231 = none then
            zcV (f_X6_init r231 r207 h232) zX fun h233 =>
            if ztg h233 r227 = some 13 then
              zcR (f_J1_put r227 r229 r231 h233) zX fun r234 h235 =>
              zcast h235 [5] r234 <|
              f_X2_init_2_55 n a0 a1 a2 h235
            else
            none
          else none
        else
        if ztg h18 a2 = some 24 then
          zcR (f_J21_next a2 h18) zX fun r207 h208 =>
          zcast h208 [5] r207 <|
          zgR h208 [1] 0 a0 fun r236 =>
          zgI h208 [5] 0 r207 fun x237 =>
          zcR (f_J24_valueOf x237 h208) zX fun r238 h239 =>
          znO h239 5 [.int 0, .int 0, .int 0, .int 0, .int 0, .int 0, .int 0, .int 0, .null] fun r240 h241 =>
          if ¬ r240 = none then
            zcV (f_X6_init r240 r207 h241) zX fun h242 =>
            if ztg h242 r236 = some 13 then
              zcR (f_J1_put r236 r238 r240 h242) zX fun r243 h244 =>
              zcast h244 [5] r243 <|
              f_X2_init_2_55 n a0 a1 a2 h244
            else
            none
          else none
        else
        if ztg h18 a2 = some 25 then
          zcR (f_J22_next a2 h18) zX fun r207 h208 =>
          zcast h208 [5] r207 <|
          zgR h208 [1] 0 a0 fun r245 =>
          zgI h208 [5] 0 r207 fun x246 =>
          zcR (f_J24_valueOf x246 h208) zX fun r247 h248 =>
          znO h248 5 [.int 0, .int 0, .int 0, .int 0, .int 0, .int 0, .int 0, .int 0, .null] fun r249 h250 =>
          if ¬ r249 = none then
            zcV (f_X6_init r249 r207 h250) zX fun h251 =>
            if ztg h251 r245 = some 13 then
              zcR (f_J1_put r245 r247 r249 h251) zX fun r252 h253 =>
              zcast h253 [5] r252 <|
              f_X2_init_2_55 n a0 a1 a2 h253
            else
            none
          else none
        else
        none
    else
    none
def f_X2_init_2 (v0 : Option Nat) (v1 : Option Nat) (h : zH) : zO :=
  if ¬ v0 = none then
    znO h 13 [.null, .null, .null, .null, .int 0, .int 0, .int 0, .float 0, .null, .null, .int 0, .int 0] fun r1 h2 =>
    if ¬ r1 = none then
      zcV (f_J2_init r1 h2) zX fun h3 =>
      zpF h3 [1] 0 v0 (va_rf r1) fun h4 =>
      znO h4 14 [.null] fun r5 h6 =>
      if ¬ r5 = none then
        zcV (f_J5_init r5 h6) zX fun h7 =>
        zpF h7 [1] 1 v0 (va_rf r5) fun h8 =>
        zpF h8 [1] 3 v0 (.int 100) fun h9 =>
        zpF h9 [1] 4 v0 (.int 3) fun h10 =>
        zpN h10 [1] 6 v0 .boolean (.int 1) fun h11 =>
        zgR h11 [1] 0 v1 fun r12 =>
        if ztg h11 r12 = some 13 then
          zcR (f_J2_values r12 h11) zX fun r13 h14 =>
          if ztg h14 r13 = some 19 then
            zcR (f_J13_iterator r13 h14) zX fun r15 h16 =>
            f_X2_init_2_55 zfuel v0 v1 r15 h16
          else
          none
        else
        none
      else none
    else none
  else none
def f_X1_isBetween (v0 : Int32) (v1 : Int32) (v2 : Int32) (h : zH) : zO :=
  if v0 < v1 then
    zrN .boolean 0 h
  else
    if v2 < v0 then
      zrN .boolean 0 h
    else
      zrN .boolean 1 h
def f_J34_init_2 (v0 : Option Nat) (h : zH) : zO :=
  if ¬ v0 = none then
    zcV (f_J27_init v0 h) zX fun h1 =>
    zrV h1
  else none
def f_X1_checkArgument (v0 : Int32) (h : zH) : zO :=
  if ¬ v0 = 0 then
    zrV h
  else
    znE h 32 fun r1 h2 =>
    zth h2 [32] r1 zX
def f_J1_size (v0 : Option Nat) (h : zH) : zO :=
  zgI h [12, 13] 4 v0 fun x1 =>
  zrI x1 h
def f_J39_init (v0 : Option Nat) (h : zH) : zO :=
  if ¬ v0 = none then
    zcV (f_J27_init v0 h) zX fun h1 =>
    zrV h1
  else none
def f_X1_checkState (v0 : Int32) (h : zH) : zO :=
  if ¬ v0 = 0 then
    zrV h
  else
    znE h 33 fun r1 h2 =>
    zth h2 [33] r1 zX
def f_X2_addShip_55  (a0 : Option Nat) (a1 : Int32) (a2 : Int32) (a3 : Int32) (s0 : Int32) (h : zH) : zO :=
  zcV (f_X1_checkState s0 h) zX fun h11 =>
  zgR h11 [1] 0 a0 fun r12 =>
  zgI h11 [1] 2 a0 fun x13 =>
  zcR (f_J24_valueOf x13 h11) zX fun r14 h15 =>
  znO h15 5 [.int 0, .int 0, .int 0, .int 0, .int 0, .int 0, .int 0, .int 0, .null] fun r16 h17 =>
  zgI h17 [1] 2 a0 fun x18 =>
  if ¬ r16 = none then
    zcV (f_X6_init_2 r16 x18 a1 a2 a3 h17) zX fun h19 =>
    if ztg h19 r12 = some 13 then
      zcR (f_J1_put r12 r14 r16 h19) zX fun r20 h21 =>
      zcast h21 [5] r20 <|
      zgI h21 [1] 2 a0 fun x22 =>
      zpF h21 [1] 2 a0 (.int (x22 + 1)) fun h23 =>
      zgI h23 [1] 2 a0 fun x24 =>
      zrI (x24 - 1) h23
    else
    none
  else none
def f_X2_addShip_35  (a0 : Option Nat) (a1 : Int32) (a2 : Int32) (a3 : Int32) (s0 : Int32) (h : zH) : zO :=
  zcV (f_X1_checkArgument s0 h) zX fun h7 =>
  zgR h7 [1] 0 a0 fun r8 =>
  if ztg h7 r8 = some 13 then
    zcI (f_J1_size r8 h7) zX fun x9 h10 =>
    if 8 ≤ x9 then
      f_X2_addShip_55 a0 a1 a2 a3 0 h10
    else
      f_X2_addShip_55 a0 a1 a2 a3 1 h10
  else
  none
def f_X2_addShip_34  (a0 : Option Nat) (a1 : Int32) (a2 : Int32) (a3 : Int32) (h : zH) : zO :=
  f_X2_addShip_35 a0 a1 a2 a3 0 h
def f_X2_addShip (v0 : Option Nat) (v1 : Int32) (v2 : Int32) (v3 : Int32) (h : zH) : zO :=
  zcI (f_X1_isBetween v1 5 30 h) zX fun x1 h2 =>
  if x1 = 0 then
    f_X2_addShip_34 v0 v1 v2 v3 h2
  else
    zcI (f_X1_isBetween v2 5 80 h2) zX fun x3 h4 =>
    if x3 = 0 then
      f_X2_addShip_34 v0 v1 v2 v3 h4
    else
      zcI (f_X1_isBetween v3 0 99 h4) zX fun x5 h6 =>
      if x5 = 0 then
        f_X2_addShip_34 v0 v1 v2 v3 h6
      else
        f_X2_addShip_35 v0 v1 v2 v3 1 h6
def f_X1_lambda_addShip_7 (v0 : Int32) (v1 : Int32) (v2 : Int32) (v3 : Option Nat) (h : zH) : zO :=
  if ztg h v3 = some 1 then
    zcI (f_X2_addShip v3 v0 v1 v2 h) zX fun x1 h2 =>
    zrI x1 h2
  else
  none
def f_J1_getNode_137 (K99 : Option Nat → Option Nat → Int32 → zH → zO) (a1 : Option Nat) (a4 : Option Nat) (a6 : Int32) (h : zH) : zO :=
  zgR h [28, 29] 3 a4 fun r18 =>
  if ¬ r18 = none then
    K99 a1 r18 a6 h
  else
    zrR none h
def f_J1_getNode_99  : Nat → Option Nat → Option Nat → Int32 → zH → zO
  | 0, _, _, _, _ => none
  | n + 1, a1, a4, a6, h =>
    zgI h [28, 29] 0 a4 fun x14 =>
    if ¬ x14 = a6 then
      f_J1_getNode_137 (f_J1_getNode_99 n) a1 a4 a6 h
    else
      zgR h [28, 29] 1 a4 fun r15 =>
      if r15 = a1 then
        zrR a4 h
      else
        if a1 = none then
          f_J1_getNode_137 (f_J1_getNode_99 n) a1 a4 a6 h
        else
          if ztg h a1 = some 7 then
            zcI (f_X8_equals a1 r15 h) zX fun x16 h17 =>
            if x16 = 0 then
              f_J1_getNode_137 (f_J1_getNode_99 n) a1 a4 a6 h17
            else
              zrR a4 h17
          else
          if ztg h a1 = some 26 then
            zcI (f_J24_equals a1 r15 h) zX fun x16 h17 =>
            if x16 = 0 then
              f_J1_getNode_137 (f_J1_getNode_99 n) a1 a4 a6 h17
            else
              zrR a4 h17
          else
          none
def f_J1_getNode_71  (a1 : Option Nat) (a3 : Option Nat) (a6 : Int32) (h : zH) : zO :=
  zgR h [28, 29] 3 a3 fun r10 =>
  if r10 = none then
    zrR none h
  else
    zinst h [] [28, 29] a3 fun x11 =>
    if x11 = 0 then
      f_J1_getNode_99 zfuel a1 r10 a6 h
    else
      zcast h [] a3 <|
      none
def f_J1_getNode (v0 : Option Nat) (v1 : Option Nat) (h : zH) : zO :=
  zgR h [12, 13] 2 v0 fun r1 =>
  if r1 = none then
    zrR none h
  else
    zaN h zarrs r1 fun x2 =>
    if x2 ≤ 0 then
      zrR none h
    else
      zcI (f_J1_hash v1 h) zX fun x3 h4 =>
      zaR h4 zrefs r1 ((x2 - 1) &&& x3) fun r5 =>
      if r5 = none then
        zrR none h4
      else
        zgI h4 [28, 29] 0 r5 fun x6 =>
        if ¬ x6 = x3 then
          f_J1_getNode_71 v1 r5 x3 h4
        else
          zgR h4 [28, 29] 1 r5 fun r7 =>
          if r7 = v1 then
            zrR r5 h4
          else
            if v1 = none then
              f_J1_getNode_71 v1 r5 x3 h4
            else
              if ztg h4 v1 = some 7 then
                zcI (f_X8_equals v1 r7 h4) zX fun x8 h9 =>
                if x8 = 0 then
                  f_J1_getNode_71 v1 r5 x3 h9
                else
                  zrR r5 h9
              else
              if ztg h4 v1 = some 26 then
                zcI (f_J24_equals v1 r7 h4) zX fun x8 h9 =>
                if x8 = 0 then
                  f_J1_getNode_71 v1 r5 x3 h9
                else
                  zrR r5 h9
              else
              none
def f_J1_containsKey (v0 : Option Nat) (v1 : Option Nat) (h : zH) : zO :=
  if ztg h v0 = some 12 then
    zcR (f_J1_getNode v0 v1 h) zX fun r1 h2 =>
    if r1 = none then
      zrN .boolean 0 h2
    else
      zrN .boolean 1 h2
  else
  if ztg h v0 = some 13 then
    zcR (f_J1_getNode v0 v1 h) zX fun r1 h2 =>
    if r1 = none then
      zrN .boolean 0 h2
    else
      zrN .boolean 1 h2
  else
  none
def f_X1_checkElement (v0 : Int32) (h : zH) : zO :=
  if ¬ v0 = 0 then
    zrV h
  else
    znE h 30 fun r1 h2 =>
    zth h2 [30] r1 zX
def f_J2_get (v0 : Option Nat) (v1 : Option Nat) (h : zH) : zO :=
  if ztg h v0 = some 13 then
    zcR (f_J1_getNode v0 v1 h) zX fun r1 h2 =>
    if ¬ r1 = none then
      zgI h2 [13] 10 v0 fun x3 =>
      if x3 = 0 then
        zgR h2 [28, 29] 2 r1 fun r4 =>
        zrR r4 h2
      else
        if ztg h2 v0 = some 13 then
          zcV (f_J2_afterNodeAccess v0 r1 h2) zX fun h5 =>
          zgR h5 [28, 29] 2 r1 fun r6 =>
          zrR r6 h5
        else
        none
    else
      zrR none h2
  else
  none
def f_X2_ship (v0 : Option Nat) (v1 : Int32) (h : zH) : zO :=
  zgR h [1] 0 v0 fun r1 =>
  zcR (f_J24_valueOf v1 h) zX fun r2 h3 =>
  if ztg h3 r1 = some 13 then
    zcI (f_J1_containsKey r1 r2 h3) zX fun x4 h5 =>
    zcV (f_X1_checkElement x4 h5) zX fun h6 =>
    zgR h6 [1] 0 v0 fun r7 =>
    zcR (f_J24_valueOf v1 h6) zX fun r8 h9 =>
    if ztg h9 r7 = some 13 then
      zcR (f_J2_get r7 r8 h9) zX fun r10 h11 =>
      zcast h11 [5] r10 <|
      zrR r10 h11
    else
    none
  else
  none
def f_X6_isInDock (v0 : Option Nat) (h : zH) : zO :=
  zgR h [5] 8 v0 fun r1 =>
  if r1 = none then
    zrN .boolean 0 h
  else
    zrN .boolean 1 h
def f_J1_afterNodeRemoval (v0 : Option Nat) (v1 : Option Nat) (h : zH) : zO :=
  zrV h
def f_J2_afterNodeRemoval_45  (a0 : Option Nat) (a3 : Option Nat) (a4 : Option Nat) (h : zH) : zO :=
  if ¬ a4 = none then
    zpF h [29] 4 a4 (va_rf a3) fun h7 =>
    zrV h7
  else
    zpF h [13] 9 a0 (va_rf a3) fun h8 =>
    zrV h8
def f_J2_afterNodeRemoval (v0 : Option Nat) (v1 : Option Nat) (h : zH) : zO :=
  zcast h [29] v1 <|
  zgR h [29] 4 v1 fun r1 =>
  zgR h [29] 5 v1 fun r2 =>
  zpF h [29] 5 v1 (va_rf none) fun h3 =>
  zpF h3 [29] 4 v1 (va_rf none) fun h4 =>
  if ¬ r1 = none then
    zpF h4 [29] 5 r1 (va_rf r2) fun h5 =>
    f_J2_afterNodeRemoval_45 v0 r1 r2 h5
  else
    zpF h4 [13] 8 v0 (va_rf r2) fun h6 =>
    f_J2_afterNodeRemoval_45 v0 r1 r2 h6
def f_J1_removeNode_260  (a0 : Option Nat) (a10 : Option Nat) (h : zH) : zO :=
  zgI h [12, 13] 5 a0 fun x18 =>
  zpF h [12, 13] 5 a0 (.int (x18 + 1)) fun h19 =>
  zgI h19 [12, 13] 4 a0 fun x20 =>
  zpF h19 [12, 13] 4 a0 (.int (x20 - 1)) fun h21 =>
  if ztg h21 a0 = some 12 then
    zcV (f_J1_afterNodeRemoval a0 a10 h21) zX fun h22 =>
    zrR a10 h22
  else
  if ztg h21 a0 = some 13 then
    zcV (f_J2_afterNodeRemoval a0 a10 h21) zX fun h22 =>
    zrR a10 h22
  else
  none
def f_J1_removeNode_206  (a0 : Option Nat) (a5 : Int32) (a6 : Option Nat) (a7 : Option Nat) (a9 : Int32) (a10 : Option Nat) (h : zH) : zO :=
  zinst h [] [28, 29] a10 fun x12 =>
  if x12 = 0 then
    if ¬ a10 = a7 then
      zgR h [28, 29] 3 a10 fun r13 =>
      zpF h [28, 29] 3 a7 (va_rf r13) fun h14 =>
      f_J1_removeNode_260 a0 a10 h14
    else
      zgR h [28, 29] 3 a10 fun r15 =>
      zaQ h [206] [28, 29] a6 a9 r15 fun h16 =>
      f_J1_removeNode_260 a0 a10 h16
  else
    zcast h [] a10 <|
    none
def f_J1_removeNode_171  (a0 : Option Nat) (a3 : Option Nat) (a4 : Int32) (a5 : Int32) (a6 : Option Nat) (a7 : Option Nat) (a9 : Int32) (a10 : Option Nat) (h : zH) : zO :=
  if a10 = none then
    zrR none h
  else
    if a4 = 0 then
      f_J1_removeNode_206 a0 a5 a6 a7 a9 a10 h
    else
      zgR h [28, 29] 2 a10 fun r9 =>
      if r9 = a3 then
        f_J1_removeNode_206 a0 a5 a6 a7 a9 a10 h
      else
        if a3 = none then
          zrR none h
        else
          if ztg h a3 = some 7 then
            zcI (f_X8_equals a3 r9 h) zX fun x10 h11 =>
            if x10 = 0 then
              zrR none h11
            else
              f_J1_removeNode_206 a0 a5 a6 a7 a9 a10 h11
          else
          if ztg h a3 = some 26 then
            zcI (f_J24_equals a3 r9 h) zX fun x10 h11 =>
            if x10 = 0 then
              zrR none h11
            else
              f_J1_removeNode_206 a0 a5 a6 a7 a9 a10 h11
          else
          none
def f_J1_removeNode_74  (a0 : Option Nat) (a3 : Option Nat) (a4 : Int32) (a5 : Int32) (a6 : Option Nat) (a7 : Option Nat) (a9 : Int32) (h : zH) : zO :=
  f_J1_removeNode_171 a0 a3 a4 a5 a6 a7 a9 a7 h
def f_J1_removeNode_149  (a0 : Option Nat) (a3 : Option Nat) (a4 : Int32) (a5 : Int32) (a6 : Option Nat) (a7 : Option Nat) (a9 : Int32) (a11 : Option Nat) (h : zH) : zO :=
  f_J1_removeNode_171 a0 a3 a4 a5 a6 a7 a9 a11 h
def f_J1_removeNode_156 (K115 : Option Nat → Int32 → Option Nat → Option Nat → Int32 → Int32 → Option Nat → Option Nat → Int32 → Option Nat → Option Nat → zH → zO) (a0 : Option Nat) (a1 : Int32) (a2 : Option Nat) (a3 : Option Nat) (a4 : Int32) (a5 : Int32) (a6 : Option Nat) (a9 : Int32) (a10 : Option Nat) (a11 : Option Nat) (h : zH) : zO :=
  zgR h [28, 29] 3 a11 fun r31 =>
  if ¬ r31 = none then
    K115 a0 a1 a2 a3 a4 a5 a6 a11 a9 a10 r31 h
  else
    f_J1_removeNode_171 a0 a3 a4 a5 a6 a11 a9 a10 h
def f_J1_removeNode_115  : Nat → Option Nat → Int32 → Option Nat → Option Nat → Int32 → Int32 → Option Nat → Option Nat → Int32 → Option Nat → Option Nat → zH → zO
  | 0, _, _, _, _, _, _, _, _, _, _, _, _ => none
  | n + 1, a0, a1, a2, a3, a4, a5, a6, a7, a9, a10, a11, h =>
    zgI h [28, 29] 0 a11 fun x27 =>
    if ¬ x27 = a1 then
      f_J1_removeNode_156 (f_J1_removeNode_115 n) a0 a1 a2 a3 a4 a5 a6 a9 a10 a11 h
    else
      zgR h [28, 29] 1 a11 fun r28 =>
      if r28 = a2 then
        f_J1_removeNode_149 a0 a3 a4 a5 a6 a7 a9 a11 h
      else
        if a2 = none then
          f_J1_removeNode_156 (f_J1_removeNode_115 n) a0 a1 a2 a3 a4 a5 a6 a9 a10 a11 h
        else
          if ztg h a2 = some 7 then
            zcI (f_X8_equals a2 r28 h) zX fun x29 h30 =>
            if x29 = 0 then
              f_J1_removeNode_156 (f_J1_removeNode_115 n) a0 a1 a2 a3 a4 a5 a6 a9 a10 a11 h30
            else
              f_J1_removeNode_149 a0 a3 a4 a5 a6 a7 a9 a11 h30
          else
          if ztg h a2 = some 26 then
            zcI (f_J24_equals a2 r28 h) zX fun x29 h30 =>
            if x29 = 0 then
              f_J1_removeNode_156 (f_J1_removeNode_115 n) a0 a1 a2 a3 a4 a5 a6 a9 a10 a11 h30
            else
              f_J1_removeNode_149 a0 a3 a4 a5 a6 a7 a9 a11 h30
          else
          none
def f_J1_removeNode_81  (a0 : Option Nat) (a1 : Int32) (a2 : Option Nat) (a3 : Option Nat) (a4 : Int32) (a5 : Int32) (a6 : Option Nat) (a7 : Option Nat) (a9 : Int32) (a10 : Option Nat) (h : zH) : zO :=
  zgR h [28, 29] 3 a7 fun r23 =>
  if r23 = none then
    f_J1_removeNode_171 a0 a3 a4 a5 a6 a7 a9 a10 h
  else
    zinst h [] [28, 29] a7 fun x24 =>
    if x24 = 0 then
      f_J1_removeNode_115 zfuel a0 a1 a2 a3 a4 a5 a6 a7 a9 a10 r23 h
    else
      zcast h [] a7 <|
      none
def f_J1_removeNode (v0 : Option Nat) (v1 : Int32) (v2 : Option Nat) (v3 : Option Nat) (v4 : Int32) (v5 : Int32) (h : zH) : zO :=
  zgR h [12, 13] 2 v0 fun r1 =>
  if r1 = none then
    zrR none h
  else
    zaN h zarrs r1 fun x2 =>
    if x2 ≤ 0 then
      zrR none h
    else
      znm ((x2 - 1) &&& v1) fun x3 =>
      zaR h zrefs r1 x3 fun r4 =>
      if r4 = none then
        zrR none h
      else
        zgI h [28, 29] 0 r4 fun x5 =>
        if ¬ x5 = v1 then
          f_J1_removeNode_81 v0 v1 v2 v3 v4 v5 r1 r4 x3 none h
        else
          zgR h [28, 29] 1 r4 fun r6 =>
          if r6 = v2 then
            f_J1_removeNode_74 v0 v3 v4 v5 r1 r4 x3 h
          else
            if v2 = none then
              f_J1_removeNode_81 v0 v1 v2 v3 v4 v5 r1 r4 x3 none h
            else
              if ztg h v2 = some 7 then
                zcI (f_X8_equals v2 r6 h) zX fun x7 h8 =>
                if x7 = 0 then
                  f_J1_removeNode_81 v0 v1 v2 v3 v4 v5 r1 r4 x3 none h8
                else
                  f_J1_removeNode_74 v0 v3 v4 v5 r1 r4 x3 h8
              else
              if ztg h v2 = some 26 then
                zcI (f_J24_equals v2 r6 h) zX fun x7 h8 =>
                if x7 = 0 then
                  f_J1_removeNode_81 v0 v1 v2 v3 v4 v5 r1 r4 x3 none h8
                else
                  f_J1_removeNode_74 v0 v3 v4 v5 r1 r4 x3 h8
              else
              none
def f_J1_remove (v0 : Option Nat) (v1 : Option Nat) (h : zH) : zO :=
  zcI (f_J1_hash v1 h) zX fun x1 h2 =>
  if ztg h2 v0 = some 12 then
    zcR (f_J1_removeNode v0 x1 v1 none 0 1 h2) zX fun r3 h4 =>
    if ¬ r3 = none then
      zgR h4 [28, 29] 2 r3 fun r5 =>
      zrR r5 h4
    else
      zrR none h4
  else
  if ztg h2 v0 = some 13 then
    zcR (f_J1_removeNode v0 x1 v1 none 0 1 h2) zX fun r3 h4 =>
    if ¬ r3 = none then
      zgR h4 [28, 29] 2 r3 fun r6 =>
      zrR r6 h4
    else
      zrR none h4
  else
  none
def f_X2_removeShip_25  (a0 : Option Nat) (a1 : Int32) (s0 : Int32) (h : zH) : zO :=
  zcV (f_X1_checkState s0 h) zX fun h6 =>
  zgR h6 [1] 0 a0 fun r7 =>
  zcR (f_J24_valueOf a1 h6) zX fun r8 h9 =>
  if ztg h9 r7 = some 13 then
    zcR (f_J1_remove r7 r8 h9) zX fun r10 h11 =>
    zcast h11 [5] r10 <|
    zgI h11 [5] 3 r10 fun x12 =>
    zrI x12 h11
  else
  none
def f_X2_removeShip_24  (a0 : Option Nat) (a1 : Int32) (h : zH) : zO :=
  f_X2_removeShip_25 a0 a1 0 h
def f_X2_removeShip (v0 : Option Nat) (v1 : Int32) (h : zH) : zO :=
  if ztg h v0 = some 1 then
    zcR (f_X2_ship v0 v1 h) zX fun r1 h2 =>
    if ztg h2 r1 = some 5 then
      zcI (f_X6_isInDock r1 h2) zX fun x3 h4 =>
      if ¬ x3 = 0 then
        f_X2_removeShip_24 v0 v1 h4
      else
        zgI h4 [5] 5 r1 fun x5 =>
        if ¬ x5 = 0 then
          f_X2_removeShip_24 v0 v1 h4
        else
          f_X2_removeShip_25 v0 v1 1 h4
    else
    none
  else
  none
def f_X1_lambda_removeShip_8 (v0 : Int32) (v1 : Option Nat) (h : zH) : zO :=
  if ztg h v1 = some 1 then
    zcI (f_X2_removeShip v1 v0 h) zX fun x1 h2 =>
    zrI x1 h2
  else
  none
def f_X3_init (v0 : Option Nat) (v1 : Int32) (v2 : Int32) (h : zH) : zO :=
  if ¬ v0 = none then
    zpF h [2] 0 v0 (.int v1) fun h1 =>
    zpF h1 [2] 1 v0 (.int v2) fun h2 =>
    zrV h2
  else none
def f_X6_isDeepEnough (v0 : Option Nat) (v1 : Int32) (h : zH) : zO :=
  zgI h [5] 2 v0 fun x1 =>
  if v1 < (x1 + 2) then
    zrN .boolean 0 h
  else
    zrN .boolean 1 h
def f_J25_init_3_41  (a0 : Option Nat) (a1 : Option Nat) (a2 : Option Nat) (a3 : Int32) (h : zH) : zO :=
  zpF h [6, 11] 3 a0 (va_rf a1) fun h7 =>
  zpF h7 [6, 11] 0 a0 (va_rf a2) fun h8 =>
  if ¬ a3 = 0 then
    zrV h8
  else
    zpF h8 [6, 11] 2 a0 (va_rf none) fun h9 =>
    zrV h9
def f_J25_init_3 (v0 : Option Nat) (v1 : Option Nat) (v2 : Option Nat) (v3 : Int32) (v4 : Int32) (h : zH) : zO :=
  if ¬ v0 = none then
    zpF h [6, 11] 0 v0 (va_rf v0) fun h1 =>
    zpF h1 [6, 11] 1 v0 (va_rf (if zG h1 7 = 0 then none else some (zG h1 7 - 1))) fun h2 =>
    zpF h2 [6, 11] 2 v0 (va_rf (if zG h2 8 = 0 then none else some (zG h2 8 - 1))) fun h3 =>
    if v4 = 0 then
      zpF h3 [6, 11] 1 v0 (va_rf none) fun h4 =>
      f_J25_init_3_41 v0 v1 v2 v3 h4
    else
      none
  else none
def f_J26_init_3 (v0 : Option Nat) (v1 : Option Nat) (v2 : Option Nat) (v3 : Int32) (v4 : Int32) (h : zH) : zO :=
  if ¬ v0 = none then
    zcV (f_J25_init_3 v0 v1 v2 v3 v4 h) zX fun h1 =>
    zrV h1
  else none
def f_X7_init (v0 : Option Nat) (v1 : Int32) (h : zH) : zO :=
  if ¬ v0 = none then
    zcV (f_J26_init_3 v0 none none 0 0 h) zX fun h1 =>
    zpF h1 [6] 6 v0 (.int v1) fun h2 =>
    zrV h2
  else none
def f_X1_refuseIf (v0 : Int32) (v1 : Int32) (h : zH) : zO :=
  if v0 = 0 then
    zrV h
  else
    znO h 6 [.null, .null, .null, .null, .null, .int 0, .int 0] fun r1 h2 =>
    if ¬ r1 = none then
      zcV (f_X7_init r1 v1 h2) zX fun h3 =>
      zth h3 [6] r1 zX
    else none
def f_X3_overlaps (v0 : Option Nat) (v1 : Option Nat) (h : zH) : zO :=
  zgI h [2] 0 v0 fun x1 =>
  if ztg h v1 = some 2 then
    zcI (f_X3_end v1 h) zX fun x2 h3 =>
    if x2 ≤ x1 then
      zrN .boolean 0 h3
    else
      zgI h3 [2] 0 v1 fun x4 =>
      if ztg h3 v0 = some 2 then
        zcI (f_X3_end v0 h3) zX fun x5 h6 =>
        if x5 ≤ x4 then
          zrN .boolean 0 h6
        else
          zrN .boolean 1 h6
      else
      none
  else
  none
def f_X2_isFree_52 (K13 : Option Nat → Option Nat → zH → zO) (a1 : Option Nat) (a2 : Option Nat) (h : zH) : zO :=
  K13 a1 a2 h
def f_X2_isFree_13  : Nat → Option Nat → Option Nat → zH → zO
  | 0, _, _, _ => none
  | n + 1, a1, a2, h =>
    if ztg h a2 = some 8 then
      zcI (f_X9_hasNext a2 h) zX fun x6 h7 =>
      if x6 = 0 then
        zrN .boolean 1 h7
      else
        if ztg h7 a2 = some 8 then
          zcR (f_X9_next a2 h7) zX fun r8 h9 =>
          zcast h9 [5] r8 <|
          if ztg h9 r8 = some 5 then
            zcI (f_X6_isInDock r8 h9) zX fun x10 h11 =>
            if x10 = 0 then
              f_X2_isFree_52 (f_X2_isFree_13 n) a1 a2 h11
            else
              zgR h11 [5] 8 r8 fun r12 =>
              if ztg h11 r12 = some 2 then
                zcI (f_X3_overlaps r12 a1 h11) zX fun x13 h14 =>
                if x13 = 0 then
                  f_X2_isFree_52 (f_X2_isFree_13 n) a1 a2 h14
                else
                  zrN .boolean 0 h14
              else
              none
          else
          none
        else
        if ztg h7 a2 = some 20 then
          zcR (f_J15_next a2 h7) zX fun r8 h9 =>
          zcast h9 [5] r8 <|
          if ztg h9 r8 = some 5 then
            zcI (f_X6_isInDock r8 h9) zX fun x15 h16 =>
            if x15 = 0 then
              f_X2_isFree_52 (f_X2_isFree_13 n) a1 a2 h16
            else
              zgR h16 [5] 8 r8 fun r17 =>
              if ztg h16 r17 = some 2 then
                zcI (f_X3_overlaps r17 a1 h16) zX fun x18 h19 =>
                if x18 = 0 then
                  f_X2_isFree_52 (f_X2_isFree_13 n) a1 a2 h19
                else
                  zrN .boolean 0 h19
              else
              none
          else
          none
        else
        if ztg h7 a2 = some 21 then
          zcR (f_J17_next a2 h7) zX fun r8 h9 =>
          zcast h9 [5] r8 <|
          if ztg h9 r8 = some 5 then
            zcI (f_X6_isInDock r8 h9) zX fun x20 h21 =>
            if x20 = 0 then
              f_X2_isFree_52 (f_X2_isFree_13 n) a1 a2 h21
            else
              zgR h21 [5] 8 r8 fun r22 =>
              if ztg h21 r22 = some 2 then
                zcI (f_X3_overlaps r22 a1 h21) zX fun x23 h24 =>
                if x23 = 0 then
                  f_X2_isFree_52 (f_X2_isFree_13 n) a1 a2 h24
                else
                  zrN .boolean 0 h24
              else
              none
          else
          none
        else
        if ztg h7 a2 = some 24 then
          zcR (f_J21_next a2 h7) zX fun r8 h9 =>
          zcast h9 [5] r8 <|
          if ztg h9 r8 = some 5 then
            zcI (f_X6_isInDock r8 h9) zX fun x25 h26 =>
            if x25 = 0 then
              f_X2_isFree_52 (f_X2_isFree_13 n) a1 a2 h26
            else
              zgR h26 [5] 8 r8 fun r27 =>
              if ztg h26 r27 = some 2 then
                zcI (f_X3_overlaps r27 a1 h26) zX fun x28 h29 =>
                if x28 = 0 then
                  f_X2_isFree_52 (f_X2_isFree_13 n) a1 a2 h29
                else
                  zrN .boolean 0 h29
              else
              none
          else
          none
        else
        if ztg h7 a2 = some 25 then
          zcR (f_J22_next a2 h7) zX fun r8 h9 =>
          zcast h9 [5] r8 <|
          if ztg h9 r8 = some 5 then
            zcI (f_X6_isInDock r8 h9) zX fun x30 h31 =>
            if x30 = 0 then
              f_X2_isFree_52 (f_X2_isFree_13 n) a1 a2 h31
            else
              zgR h31 [5] 8 r8 fun r32 =>
              if ztg h31 r32 = some 2 then
                zcI (f_X3_overlaps r32 a1 h31) zX fun x33 h34 =>
                if x33 = 0 then
                  f_X2_isFree_52 (f_X2_isFree_13 n) a1 a2 h34
                else
                  zrN .boolean 0 h34
              else
              none
          else
          none
        else
        none
    else
    if ztg h a2 = some 20 then
      zcI (f_J15_hasNext a2 h) zX fun x6 h7 =>
      if x6 = 0 then
        zrN .boolean 1 h7
      else
        if ztg h7 a2 = some 8 then
          zcR (f_X9_next a2 h7) zX fun r35 h36 =>
          zcast h36 [5] r35 <|
          if ztg h36 r35 = some 5 then
            zcI (f_X6_isInDock r35 h36) zX fun x37 h38 =>
            if x37 = 0 then
              f_X2_isFree_52 (f_X2_isFree_13 n) a1 a2 h38
            else
              zgR h38 [5] 8 r35 fun r39 =>
              if ztg h38 r39 = some 2 then
                zcI (f_X3_overlaps r39 a1 h38) zX fun x40 h41 =>
                if x40 = 0 then
                  f_X2_isFree_52 (f_X2_isFree_13 n) a1 a2 h41
                else
                  zrN .boolean 0 h41
              else
              none
          else
          none
        else
        if ztg h7 a2 = some 20 then
          zcR (f_J15_next a2 h7) zX fun r35 h36 =>
          zcast h36 [5] r35 <|
          if ztg h36 r35 = some 5 then
            zcI (f_X6_isInDock r35 h36) zX fun x42 h43 =>
            if x42 = 0 then
              f_X2_isFree_52 (f_X2_isFree_13 n) a1 a2 h43
            else
              zgR h43 [5] 8 r35 fun r44 =>
              if ztg h43 r44 = some 2 then
                zcI (f_X3_overlaps r44 a1 h43) zX fun x45 h46 =>
                if x45 = 0 then
                  f_X2_isFree_52 (f_X2_isFree_13 n) a1 a2 h46
                else
                  zrN .boolean 0 h46
              else
              none
          else
          none
        else
        if ztg h7 a2 = some 21 then
          zcR (f_J17_next a2 h7) zX fun r35 h36 =>
          zcast h36 [5] r35 <|
          if ztg h36 r35 = some 5 then
            zcI (f_X6_isInDock r35 h36) zX fun x47 h48 =>
            if x47 = 0 then
              f_X2_isFree_52 (f_X2_isFree_13 n) a1 a2 h48
            else
              zgR h48 [5] 8 r35 fun r49 =>
              if ztg h48 r49 = some 2 then
                zcI (f_X3_overlaps r49 a1 h48) zX fun x50 h51 =>
                if x50 = 0 then
                  f_X2_isFree_52 (f_X2_isFree_13 n) a1 a2 h51
                else
                  zrN .boolean 0 h51
              else
              none
          else
          none
        else
        if ztg h7 a2 = some 24 then
          zcR (f_J21_next a2 h7) zX fun r35 h36 =>
          zcast h36 [5] r35 <|
          if ztg h36 r35 = some 5 then
            zcI (f_X6_isInDock r35 h36) zX fun x52 h53 =>
            if x52 = 0 then
              f_X2_isFree_52 (f_X2_isFree_13 n) a1 a2 h53
            else
              zgR h53 [5] 8 r35 fun r54 =>
              if ztg h53 r54 = some 2 then
                zcI (f_X3_overlaps r54 a1 h53) zX fun x55 h56 =>
                if x55 = 0 then
                  f_X2_isFree_52 (f_X2_isFree_13 n) a1 a2 h56
                else
                  zrN .boolean 0 h56
              else
              none
          else
          none
        else
        if ztg h7 a2 = some 25 then
          zcR (f_J22_next a2 h7) zX fun r35 h36 =>
          zcast h36 [5] r35 <|
          if ztg h36 r35 = some 5 then
            zcI (f_X6_isInDock r35 h36) zX fun x57 h58 =>
            if x57 = 0 then
              f_X2_isFree_52 (f_X2_isFree_13 n) a1 a2 h58
            else
              zgR h58 [5] 8 r35 fun r59 =>
              if ztg h58 r59 = some 2 then
                zcI (f_X3_overlaps r59 a1 h58) zX fun x60 h61 =>
                if x60 = 0 then
                  f_X2_isFree_52 (f_X2_isFree_13 n) a1 a2 h61
                else
                  zrN .boolean 0 h61
              else
              none
          else
          none
        else
        none
    else
    if ztg h a2 = some 21 then
      zcI (f_J16_hasNext a2 h) zX fun x6 h7 =>
      if x6 = 0 then
        zrN .boolean 1 h7
      else
        if ztg h7 a2 = some 8 then
          zcR (f_X9_next a2 h7) zX fun r62 h63 =>
          zcast h63 [5] r62 <|
          if ztg h63 r62 = some 5 then
            zcI (f_X6_isInDock r62 h63) zX fun x64 h65 =>
            if x64 = 0 then
              f_X2_isFree_52 (f_X2_isFree_13 n) a1 a2 h65
            else
              zgR h65 [5] 8 r62 fun r66 =>
              if ztg h65 r66 = some 2 then
                zcI (f_X3_overlaps r66 a1 h65) zX fun x67 h68 =>
                if x67 = 0 then
                  f_X2_isFree_52 (f_X2_isFree_13 n) a1 a2 h68
                else
                  zrN .boolean 0 h68
              else
              none
          else
          none
        else
        if ztg h7 a2 = some 20 then
          zcR (f_J15_next a2 h7) zX fun r62 h63 =>
          zcast h63 [5] r62 <|
          if ztg h63 r62 = some 5 then
            zcI (f_X6_isInDock r62 h63) zX fun x69 h70 =>
            if x69 = 0 then
              f_X2_isFree_52 (f_X2_isFree_13 n) a1 a2 h70
            else
              zgR h70 [5] 8 r62 fun r71 =>
              if ztg h70 r71 = some 2 then
                zcI (f_X3_overlaps r71 a1 h70) zX fun x72 h73 =>
                if x72 = 0 then
                  f_X2_isFree_52 (f_X2_isFree_13 n) a1 a2 h73
                else
                  zrN .boolean 0 h73
              else
              none
          else
          none
        else
        if ztg h7 a2 = some 21 then
          zcR (f_J17_next a2 h7) zX fun r62 h63 =>
          zcast h63 [5] r62 <|
          if ztg h63 r62 = some 5 then
            zcI (f_X6_isInDock r62 h63) zX fun x74 h75 =>
            if x74 = 0 then
              f_X2_isFree_52 (f_X2_isFree_13 n) a1 a2 h75
            else
              zgR h75 [5] 8 r62 fun r76 =>
              if ztg h75 r76 = some 2 then
                zcI (f_X3_overlaps r76 a1 h75) zX fun x77 h78 =>
                if x77 = 0 then
                  f_X2_isFree_52 (f_X2_isFree_13 n) a1 a2 h78
                else
                  zrN .boolean 0 h78
              else
              none
          else
          none
        else
        if ztg h7 a2 = some 24 then
          zcR (f_J21_next a2 h7) zX fun r62 h63 =>
          zcast h63 [5] r62 <|
          if ztg h63 r62 = some 5 then
            zcI (f_X6_isInDock r62 h63) zX fun x79 h80 =>
            if x79 = 0 then
              f_X2_isFree_52 (f_X2_isFree_13 n) a1 a2 h80
            else
              zgR h80 [5] 8 r62 fun r81 =>
              if ztg h80 r81 = some 2 then
                zcI (f_X3_overlaps r81 a1 h80) zX fun x82 h83 =>
                if x82 = 0 then
                  f_X2_isFree_52 (f_X2_isFree_13 n) a1 a2 h83
                else
                  zrN .boolean 0 h83
              else
              none
          else
          none
        else
        if ztg h7 a2 = some 25 then
          zcR (f_J22_next a2 h7) zX fun r62 h63 =>
          zcast h63 [5] r62 <|
          if ztg h63 r62 = some 5 then
            zcI (f_X6_isInDock r62 h63) zX fun x84 h85 =>
            if x84 = 0 then
              f_X2_isFree_52 (f_X2_isFree_13 n) a1 a2 h85
            else
              zgR h85 [5] 8 r62 fun r86 =>
              if ztg h85 r86 = some 2 then
                zcI (f_X3_overlaps r86 a1 h85) zX fun x87 h88 =>
                if x87 = 0 then
                  f_X2_isFree_52 (f_X2_isFree_13 n) a1 a2 h88
                else
                  zrN .boolean 0 h88
              else
              none
          else
          none
        else
        none
    else
    if ztg h a2 = some 24 then
      zcI (f_J20_hasNext a2 h) zX fun x6 h7 =>
      if x6 = 0 then
        zrN .boolean 1 h7
      else
        if ztg h7 a2 = some 8 then
          zcR (f_X9_next a2 h7) zX fun r89 h90 =>
          zcast h90 [5] r89 <|
          if ztg h90 r89 = some 5 then
            zcI (f_X6_isInDock r89 h90) zX fun x91 h92 =>
            if x91 = 0 then
              f_X2_isFree_52 (f_X2_isFree_13 n) a1 a2 h92
            else
              zgR h92 [5] 8 r89 fun r93 =>
              if ztg h92 r93 = some 2 then
                zcI (f_X3_overlaps r93 a1 h92) zX fun x94 h95 =>
                if x94 = 0 then
                  f_X2_isFree_52 (f_X2_isFree_13 n) a1 a2 h95
                else
                  zrN .boolean 0 h95
              else
              none
          else
          none
        else
        if ztg h7 a2 = some 20 then
          zcR (f_J15_next a2 h7) zX fun r89 h90 =>
          zcast h90 [5] r89 <|
          if ztg h90 r89 = some 5 then
            zcI (f_X6_isInDock r89 h90) zX fun x96 h97 =>
            if x96 = 0 then
              f_X2_isFree_52 (f_X2_isFree_13 n) a1 a2 h97
            else
              zgR h97 [5] 8 r89 fun r98 =>
              if ztg h97 r98 = some 2 then
                zcI (f_X3_overlaps r98 a1 h97) zX fun x99 h100 =>
                if x99 = 0 then
                  f_X2_isFree_52 (f_X2_isFree_13 n) a1 a2 h100
                else
                  zrN .boolean 0 h100
              else
              none
          else
          none
        else
        if ztg h7 a2 = some 21 then
          zcR (f_J17_next a2 h7) zX fun r89 h90 =>
          zcast h90 [5] r89 <|
          if ztg h90 r89 = some 5 then
            zcI (f_X6_isInDock r89 h90) zX fun x101 h102 =>
            if x101 = 0 then
              f_X2_isFree_52 (f_X2_isFree_13 n) a1 a2 h102
            else
              zgR h102 [5] 8 r89 fun r103 =>
              if ztg h102 r103 = some 2 then
                zcI (f_X3_overlaps r103 a1 h102) zX fun x104 h105 =>
                if x104 = 0 then
                  f_X2_isFree_52 (f_X2_isFree_13 n) a1 a2 h105
                else
                  zrN .boolean 0 h105
              else
              none
          else
          none
        else
        if ztg h7 a2 = some 24 then
          zcR (f_J21_next a2 h7) zX fun r89 h90 =>
          zcast h90 [5] r89 <|
          if ztg h90 r89 = some 5 then
            zcI (f_X6_isInDock r89 h90) zX fun x106 h107 =>
            if x106 = 0 then
              f_X2_isFree_52 (f_X2_isFree_13 n) a1 a2 h107
            else
              zgR h107 [5] 8 r89 fun r108 =>
              if ztg h107 r108 = some 2 then
                zcI (f_X3_overlaps r108 a1 h107) zX fun x109 h110 =>
                if x109 = 0 then
                  f_X2_isFree_52 (f_X2_isFree_13 n) a1 a2 h110
                else
                  zrN .boolean 0 h110
              else
              none
          else
          none
        else
        if ztg h7 a2 = some 25 then
          zcR (f_J22_next a2 h7) zX fun r89 h90 =>
          zcast h90 [5] r89 <|
          if ztg h90 r89 = some 5 then
            zcI (f_X6_isInDock r89 h90) zX fun x111 h112 =>
            if x111 = 0 then
              f_X2_isFree_52 (f_X2_isFree_13 n) a1 a2 h112
            else
              zgR h112 [5] 8 r89 fun r113 =>
              if ztg h112 r113 = some 2 then
                zcI (f_X3_overlaps r113 a1 h112) zX fun x114 h115 =>
                if x114 = 0 then
                  f_X2_isFree_52 (f_X2_isFree_13 n) a1 a2 h115
                else
                  zrN .boolean 0 h115
              else
              none
          else
          none
        else
        none
    else
    if ztg h a2 = some 25 then
      zcI (f_J20_hasNext a2 h) zX fun x6 h7 =>
      if x6 = 0 then
        zrN .boolean 1 h7
      else
        if ztg h7 a2 = some 8 then
          zcR (f_X9_next a2 h7) zX fun r116 h117 =>
          zcast h117 [5] r116 <|
          if ztg h117 r116 = some 5 then
            zcI (f_X6_isInDock r116 h117) zX fun x118 h119 =>
            if x118 = 0 then
              f_X2_isFree_52 (f_X2_isFree_13 n) a1 a2 h119
            else
              zgR h119 [5] 8 r116 fun r120 =>
              if ztg h119 r120 = some 2 then
                zcI (f_X3_overlaps r120 a1 h119) zX fun x121 h122 =>
                if x121 = 0 then
                  f_X2_isFree_52 (f_X2_isFree_13 n) a1 a2 h122
                else
                  zrN .boolean 0 h122
              else
              none
          else
          none
        else
        if ztg h7 a2 = some 20 then
          zcR (f_J15_next a2 h7) zX fun r116 h117 =>
          zcast h117 [5] r116 <|
          if ztg h117 r116 = some 5 then
            zcI (f_X6_isInDock r116 h117) zX fun x123 h124 =>
            if x123 = 0 then
              f_X2_isFree_52 (f_X2_isFree_13 n) a1 a2 h124
            else
              zgR h124 [5] 8 r116 fun r125 =>
              if ztg h124 r125 = some 2 then
                zcI (f_X3_overlaps r125 a1 h124) zX fun x126 h127 =>
                if x126 = 0 then
                  f_X2_isFree_52 (f_X2_isFree_13 n) a1 a2 h127
                else
                  zrN .boolean 0 h127
              else
              none
          else
          none
        else
        if ztg h7 a2 = some 21 then
          zcR (f_J17_next a2 h7) zX fun r116 h117 =>
          zcast h117 [5] r116 <|
          if ztg h117 r116 = some 5 then
            zcI (f_X6_isInDock r116 h117) zX fun x128 h129 =>
            if x128 = 0 then
              f_X2_isFree_52 (f_X2_isFree_13 n) a1 a2 h129
            else
              zgR h129 [5] 8 r116 fun r130 =>
              if ztg h129 r130 = some 2 then
                zcI (f_X3_overlaps r130 a1 h129) zX fun x131 h132 =>
                if x131 = 0 then
                  f_X2_isFree_52 (f_X2_isFree_13 n) a1 a2 h132
                else
                  zrN .boolean 0 h132
              else
              none
          else
          none
        else
        if ztg h7 a2 = some 24 then
          zcR (f_J21_next a2 h7) zX fun r116 h117 =>
          zcast h117 [5] r116 <|
          if ztg h117 r116 = some 5 then
            zcI (f_X6_isInDock r116 h117) zX fun x133 h134 =>
            if x133 = 0 then
              f_X2_isFree_52 (f_X2_isFree_13 n) a1 a2 h134
            else
              zgR h134 [5] 8 r116 fun r135 =>
              if ztg h134 r135 = some 2 then
                zcI (f_X3_overlaps r135 a1 h134) zX fun x136 h137 =>
                if x136 = 0 then
                  f_X2_isFree_52 (f_X2_isFree_13 n) a1 a2 h137
                else
                  zrN .boolean 0 h137
              else
              none
          else
          none
        else
        if ztg h7 a2 = some 25 then
          zcR (f_J22_next a2 h7) zX fun r116 h117 =>
          zcast h117 [5] r116 <|
          if ztg h117 r116 = some 5 then
            zcI (f_X6_isInDock r116 h117) zX fun x138 h139 =>
            if x138 = 0 then
              f_X2_isFree_52 (f_X2_isFree_13 n) a1 a2 h139
            else
              zgR h139 [5] 8 r116 fun r140 =>
              if ztg h139 r140 = some 2 then
                zcI (f_X3_overlaps r140 a1 h139) zX fun x141 h142 =>
                if x141 = 0 then
                  f_X2_isFree_52 (f_X2_isFree_13 n) a1 a2 h142
                else
                  zrN .boolean 0 h142
              else
              none
          else
          none
        else
        none
    else
    none
def f_X2_isFree (v0 : Option Nat) (v1 : Option Nat) (h : zH) : zO :=
  zgR h [1] 0 v0 fun r1 =>
  if ztg h r1 = some 13 then
    zcR (f_J2_values r1 h) zX fun r2 h3 =>
    if ztg h3 r2 = some 19 then
      zcR (f_J13_iterator r2 h3) zX fun r4 h5 =>
      f_X2_isFree_13 zfuel v1 r4 h5
    else
    none
  else
  none
def f_X2_countInDock_47 (K15 : Int32 → Option Nat → zH → zO) (a2 : Option Nat) (s0 : Int32) (s1 : Int32) (h : zH) : zO :=
  znm (s1 + s0) fun x68 =>
  K15 x68 a2 h
def f_X2_countInDock_15  : Nat → Int32 → Option Nat → zH → zO
  | 0, _, _, _ => none
  | n + 1, a1, a2, h =>
    if ztg h a2 = some 8 then
      zcI (f_X9_hasNext a2 h) zX fun x6 h7 =>
      if x6 = 0 then
        zrI a1 h7
      else
        if ztg h7 a2 = some 8 then
          zcR (f_X9_next a2 h7) zX fun r8 h9 =>
          zcast h9 [5] r8 <|
          if ztg h9 r8 = some 5 then
            zcI (f_X6_isInDock r8 h9) zX fun x10 h11 =>
            if x10 = 0 then
              f_X2_countInDock_47 (f_X2_countInDock_15 n) a2 0 a1 h11
            else
              f_X2_countInDock_47 (f_X2_countInDock_15 n) a2 1 a1 h11
          else
          none
        else
        if ztg h7 a2 = some 20 then
          zcR (f_J15_next a2 h7) zX fun r8 h9 =>
          zcast h9 [5] r8 <|
          if ztg h9 r8 = some 5 then
            zcI (f_X6_isInDock r8 h9) zX fun x12 h13 =>
            if x12 = 0 then
              f_X2_countInDock_47 (f_X2_countInDock_15 n) a2 0 a1 h13
            else
              f_X2_countInDock_47 (f_X2_countInDock_15 n) a2 1 a1 h13
          else
          none
        else
        if ztg h7 a2 = some 21 then
          zcR (f_J17_next a2 h7) zX fun r8 h9 =>
          zcast h9 [5] r8 <|
          if ztg h9 r8 = some 5 then
            zcI (f_X6_isInDock r8 h9) zX fun x14 h15 =>
            if x14 = 0 then
              f_X2_countInDock_47 (f_X2_countInDock_15 n) a2 0 a1 h15
            else
              f_X2_countInDock_47 (f_X2_countInDock_15 n) a2 1 a1 h15
          else
          none
        else
        if ztg h7 a2 = some 24 then
          zcR (f_J21_next a2 h7) zX fun r8 h9 =>
          zcast h9 [5] r8 <|
          if ztg h9 r8 = some 5 then
            zcI (f_X6_isInDock r8 h9) zX fun x16 h17 =>
            if x16 = 0 then
              f_X2_countInDock_47 (f_X2_countInDock_15 n) a2 0 a1 h17
            else
              f_X2_countInDock_47 (f_X2_countInDock_15 n) a2 1 a1 h17
          else
          none
        else
        if ztg h7 a2 = some 25 then
          zcR (f_J22_next a2 h7) zX fun r8 h9 =>
          zcast h9 [5] r8 <|
          if ztg h9 r8 = some 5 then
            zcI (f_X6_isInDock r8 h9) zX fun x18 h19 =>
            if x18 = 0 then
              f_X2_countInDock_47 (f_X2_countInDock_15 n) a2 0 a1 h19
            else
              f_X2_countInDock_47 (f_X2_countInDock_15 n) a2 1 a1 h19
          else
          none
        else
        none
    else
    if ztg h a2 = some 20 then
      zcI (f_J15_hasNext a2 h) zX fun x6 h7 =>
      if x6 = 0 then
        zrI a1 h7
      else
        if ztg h7 a2 = some 8 then
          zcR (f_X9_next a2 h7) zX fun r20 h21 =>
          zcast h21 [5] r20 <|
          if ztg h21 r20 = some 5 then
            zcI (f_X6_isInDock r20 h21) zX fun x22 h23 =>
            if x22 = 0 then
              f_X2_countInDock_47 (f_X2_countInDock_15 n) a2 0 a1 h23
            else
              f_X2_countInDock_47 (f_X2_countInDock_15 n) a2 1 a1 h23
          else
          none
        else
        if ztg h7 a2 = some 20 then
          zcR (f_J15_next a2 h7) zX fun r20 h21 =>
          zcast h21 [5] r20 <|
          if ztg h21 r20 = some 5 then
            zcI (f_X6_isInDock r20 h21) zX fun x24 h25 =>
            if x24 = 0 then
              f_X2_countInDock_47 (f_X2_countInDock_15 n) a2 0 a1 h25
            else
              f_X2_countInDock_47 (f_X2_countInDock_15 n) a2 1 a1 h25
          else
          none
        else
        if ztg h7 a2 = some 21 then
          zcR (f_J17_next a2 h7) zX fun r20 h21 =>
          zcast h21 [5] r20 <|
          if ztg h21 r20 = some 5 then
            zcI (f_X6_isInDock r20 h21) zX fun x26 h27 =>
            if x26 = 0 then
              f_X2_countInDock_47 (f_X2_countInDock_15 n) a2 0 a1 h27
            else
              f_X2_countInDock_47 (f_X2_countInDock_15 n) a2 1 a1 h27
          else
          none
        else
        if ztg h7 a2 = some 24 then
          zcR (f_J21_next a2 h7) zX fun r20 h21 =>
          zcast h21 [5] r20 <|
          if ztg h21 r20 = some 5 then
            zcI (f_X6_isInDock r20 h21) zX fun x28 h29 =>
            if x28 = 0 then
              f_X2_countInDock_47 (f_X2_countInDock_15 n) a2 0 a1 h29
            else
              f_X2_countInDock_47 (f_X2_countInDock_15 n) a2 1 a1 h29
          else
          none
        else
        if ztg h7 a2 = some 25 then
          zcR (f_J22_next a2 h7) zX fun r20 h21 =>
          zcast h21 [5] r20 <|
          if ztg h21 r20 = some 5 then
            zcI (f_X6_isInDock r20 h21) zX fun x30 h31 =>
            if x30 = 0 then
              f_X2_countInDock_47 (f_X2_countInDock_15 n) a2 0 a1 h31
            else
              f_X2_countInDock_47 (f_X2_countInDock_15 n) a2 1 a1 h31
          else
          none
        else
        none
    else
    if ztg h a2 = some 21 then
      zcI (f_J16_hasNext a2 h) zX fun x6 h7 =>
      if x6 = 0 then
        zrI a1 h7
      else
        if ztg h7 a2 = some 8 then
          zcR (f_X9_next a2 h7) zX fun r32 h33 =>
          zcast h33 [5] r32 <|
          if ztg h33 r32 = some 5 then
            zcI (f_X6_isInDock r32 h33) zX fun x34 h35 =>
            if x34 = 0 then
              f_X2_countInDock_47 (f_X2_countInDock_15 n) a2 0 a1 h35
            else
              f_X2_countInDock_47 (f_X2_countInDock_15 n) a2 1 a1 h35
          else
          none
        else
        if ztg h7 a2 = some 20 then
          zcR (f_J15_next a2 h7) zX fun r32 h33 =>
          zcast h33 [5] r32 <|
          if ztg h33 r32 = some 5 then
            zcI (f_X6_isInDock r32 h33) zX fun x36 h37 =>
            if x36 = 0 then
              f_X2_countInDock_47 (f_X2_countInDock_15 n) a2 0 a1 h37
            else
              f_X2_countInDock_47 (f_X2_countInDock_15 n) a2 1 a1 h37
          else
          none
        else
        if ztg h7 a2 = some 21 then
          zcR (f_J17_next a2 h7) zX fun r32 h33 =>
          zcast h33 [5] r32 <|
          if ztg h33 r32 = some 5 then
            zcI (f_X6_isInDock r32 h33) zX fun x38 h39 =>
            if x38 = 0 then
              f_X2_countInDock_47 (f_X2_countInDock_15 n) a2 0 a1 h39
            else
              f_X2_countInDock_47 (f_X2_countInDock_15 n) a2 1 a1 h39
          else
          none
        else
        if ztg h7 a2 = some 24 then
          zcR (f_J21_next a2 h7) zX fun r32 h33 =>
          zcast h33 [5] r32 <|
          if ztg h33 r32 = some 5 then
            zcI (f_X6_isInDock r32 h33) zX fun x40 h41 =>
            if x40 = 0 then
              f_X2_countInDock_47 (f_X2_countInDock_15 n) a2 0 a1 h41
            else
              f_X2_countInDock_47 (f_X2_countInDock_15 n) a2 1 a1 h41
          else
          none
        else
        if ztg h7 a2 = some 25 then
          zcR (f_J22_next a2 h7) zX fun r32 h33 =>
          zcast h33 [5] r32 <|
          if ztg h33 r32 = some 5 then
            zcI (f_X6_isInDock r32 h33) zX fun x42 h43 =>
            if x42 = 0 then
              f_X2_countInDock_47 (f_X2_countInDock_15 n) a2 0 a1 h43
            else
              f_X2_countInDock_47 (f_X2_countInDock_15 n) a2 1 a1 h43
          else
          none
        else
        none
    else
    if ztg h a2 = some 24 then
      zcI (f_J20_hasNext a2 h) zX fun x6 h7 =>
      if x6 = 0 then
        zrI a1 h7
      else
        if ztg h7 a2 = some 8 then
          zcR (f_X9_next a2 h7) zX fun r44 h45 =>
          zcast h45 [5] r44 <|
          if ztg h45 r44 = some 5 then
            zcI (f_X6_isInDock r44 h45) zX fun x46 h47 =>
            if x46 = 0 then
              f_X2_countInDock_47 (f_X2_countInDock_15 n) a2 0 a1 h47
            else
              f_X2_countInDock_47 (f_X2_countInDock_15 n) a2 1 a1 h47
          else
          none
        else
        if ztg h7 a2 = some 20 then
          zcR (f_J15_next a2 h7) zX fun r44 h45 =>
          zcast h45 [5] r44 <|
          if ztg h45 r44 = some 5 then
            zcI (f_X6_isInDock r44 h45) zX fun x48 h49 =>
            if x48 = 0 then
              f_X2_countInDock_47 (f_X2_countInDock_15 n) a2 0 a1 h49
            else
              f_X2_countInDock_47 (f_X2_countInDock_15 n) a2 1 a1 h49
          else
          none
        else
        if ztg h7 a2 = some 21 then
          zcR (f_J17_next a2 h7) zX fun r44 h45 =>
          zcast h45 [5] r44 <|
          if ztg h45 r44 = some 5 then
            zcI (f_X6_isInDock r44 h45) zX fun x50 h51 =>
            if x50 = 0 then
              f_X2_countInDock_47 (f_X2_countInDock_15 n) a2 0 a1 h51
            else
              f_X2_countInDock_47 (f_X2_countInDock_15 n) a2 1 a1 h51
          else
          none
        else
        if ztg h7 a2 = some 24 then
          zcR (f_J21_next a2 h7) zX fun r44 h45 =>
          zcast h45 [5] r44 <|
          if ztg h45 r44 = some 5 then
            zcI (f_X6_isInDock r44 h45) zX fun x52 h53 =>
            if x52 = 0 then
              f_X2_countInDock_47 (f_X2_countInDock_15 n) a2 0 a1 h53
            else
              f_X2_countInDock_47 (f_X2_countInDock_15 n) a2 1 a1 h53
          else
          none
        else
        if ztg h7 a2 = some 25 then
          zcR (f_J22_next a2 h7) zX fun r44 h45 =>
          zcast h45 [5] r44 <|
          if ztg h45 r44 = some 5 then
            zcI (f_X6_isInDock r44 h45) zX fun x54 h55 =>
            if x54 = 0 then
              f_X2_countInDock_47 (f_X2_countInDock_15 n) a2 0 a1 h55
            else
              f_X2_countInDock_47 (f_X2_countInDock_15 n) a2 1 a1 h55
          else
          none
        else
        none
    else
    if ztg h a2 = some 25 then
      zcI (f_J20_hasNext a2 h) zX fun x6 h7 =>
      if x6 = 0 then
        zrI a1 h7
      else
        if ztg h7 a2 = some 8 then
          zcR (f_X9_next a2 h7) zX fun r56 h57 =>
          zcast h57 [5] r56 <|
          if ztg h57 r56 = some 5 then
            zcI (f_X6_isInDock r56 h57) zX fun x58 h59 =>
            if x58 = 0 then
              f_X2_countInDock_47 (f_X2_countInDock_15 n) a2 0 a1 h59
            else
              f_X2_countInDock_47 (f_X2_countInDock_15 n) a2 1 a1 h59
          else
          none
        else
        if ztg h7 a2 = some 20 then
          zcR (f_J15_next a2 h7) zX fun r56 h57 =>
          zcast h57 [5] r56 <|
          if ztg h57 r56 = some 5 then
            zcI (f_X6_isInDock r56 h57) zX fun x60 h61 =>
            if x60 = 0 then
              f_X2_countInDock_47 (f_X2_countInDock_15 n) a2 0 a1 h61
            else
              f_X2_countInDock_47 (f_X2_countInDock_15 n) a2 1 a1 h61
          else
          none
        else
        if ztg h7 a2 = some 21 then
          zcR (f_J17_next a2 h7) zX fun r56 h57 =>
          zcast h57 [5] r56 <|
          if ztg h57 r56 = some 5 then
            zcI (f_X6_isInDock r56 h57) zX fun x62 h63 =>
            if x62 = 0 then
              f_X2_countInDock_47 (f_X2_countInDock_15 n) a2 0 a1 h63
            else
              f_X2_countInDock_47 (f_X2_countInDock_15 n) a2 1 a1 h63
          else
          none
        else
        if ztg h7 a2 = some 24 then
          zcR (f_J21_next a2 h7) zX fun r56 h57 =>
          zcast h57 [5] r56 <|
          if ztg h57 r56 = some 5 then
            zcI (f_X6_isInDock r56 h57) zX fun x64 h65 =>
            if x64 = 0 then
              f_X2_countInDock_47 (f_X2_countInDock_15 n) a2 0 a1 h65
            else
              f_X2_countInDock_47 (f_X2_countInDock_15 n) a2 1 a1 h65
          else
          none
        else
        if ztg h7 a2 = some 25 then
          zcR (f_J22_next a2 h7) zX fun r56 h57 =>
          zcast h57 [5] r56 <|
          if ztg h57 r56 = some 5 then
            zcI (f_X6_isInDock r56 h57) zX fun x66 h67 =>
            if x66 = 0 then
              f_X2_countInDock_47 (f_X2_countInDock_15 n) a2 0 a1 h67
            else
              f_X2_countInDock_47 (f_X2_countInDock_15 n) a2 1 a1 h67
          else
          none
        else
        none
    else
    none
def f_X2_countInDock (v0 : Option Nat) (h : zH) : zO :=
  zgR h [1] 0 v0 fun r1 =>
  if ztg h r1 = some 13 then
    zcR (f_J2_values r1 h) zX fun r2 h3 =>
    if ztg h3 r2 = some 19 then
      zcR (f_J13_iterator r2 h3) zX fun r4 h5 =>
      f_X2_countInDock_15 zfuel 0 r4 h5
    else
    none
  else
  none
def f_X2_enter_99  (a0 : Option Nat) (a3 : Option Nat) (a4 : Option Nat) (s0 : Int32) (h : zH) : zO :=
  zcV (f_X1_refuseIf s0 2 h) zX fun h19 =>
  zpF h19 [5] 8 a3 (va_rf a4) fun h20 =>
  if ztg h20 a0 = some 1 then
    zcI (f_X2_countInDock a0 h20) zX fun x21 h22 =>
    zrI x21 h22
  else
  none
def f_X2_enter_81  (a0 : Option Nat) (a3 : Option Nat) (a4 : Option Nat) (s0 : Int32) (h : zH) : zO :=
  zcV (f_X1_refuseIf s0 1 h) zX fun h16 =>
  if ztg h16 a0 = some 1 then
    zcI (f_X2_isFree a0 a4 h16) zX fun x17 h18 =>
    if ¬ x17 = 0 then
      f_X2_enter_99 a0 a3 a4 0 h18
    else
      f_X2_enter_99 a0 a3 a4 1 h18
  else
  none
def f_X2_enter_48  (a0 : Option Nat) (a2 : Int32) (a3 : Option Nat) (s0 : Int32) (h : zH) : zO :=
  zcV (f_X1_checkState s0 h) zX fun h8 =>
  znO h8 2 [.int 0, .int 0] fun r9 h10 =>
  zgI h10 [5] 1 a3 fun x11 =>
  if ¬ r9 = none then
    zcV (f_X3_init r9 a2 x11 h10) zX fun h12 =>
    zgI h12 [1] 3 a0 fun x13 =>
    if ztg h12 a3 = some 5 then
      zcI (f_X6_isDeepEnough a3 x13 h12) zX fun x14 h15 =>
      if ¬ x14 = 0 then
        f_X2_enter_81 a0 a3 r9 0 h15
      else
        f_X2_enter_81 a0 a3 r9 1 h15
    else
    none
  else none
def f_X2_enter_47  (a0 : Option Nat) (a2 : Int32) (a3 : Option Nat) (h : zH) : zO :=
  f_X2_enter_48 a0 a2 a3 0 h
def f_X2_enter_26  (a0 : Option Nat) (a2 : Int32) (a3 : Option Nat) (s0 : Int32) (h : zH) : zO :=
  zcV (f_X1_checkArgument s0 h) zX fun h4 =>
  if ztg h4 a3 = some 5 then
    zcI (f_X6_isInDock a3 h4) zX fun x5 h6 =>
    if ¬ x5 = 0 then
      f_X2_enter_47 a0 a2 a3 h6
    else
      zgI h6 [1] 6 a0 fun x7 =>
      if x7 = 0 then
        f_X2_enter_47 a0 a2 a3 h6
      else
        f_X2_enter_48 a0 a2 a3 1 h6
  else
  none
def f_X2_enter_25  (a0 : Option Nat) (a2 : Int32) (a3 : Option Nat) (h : zH) : zO :=
  f_X2_enter_26 a0 a2 a3 0 h
def f_X2_enter (v0 : Option Nat) (v1 : Int32) (v2 : Int32) (h : zH) : zO :=
  if ztg h v0 = some 1 then
    zcR (f_X2_ship v0 v1 h) zX fun r1 h2 =>
    if v2 < 0 then
      f_X2_enter_25 v0 v2 r1 h2
    else
      zgI h2 [5] 1 r1 fun x3 =>
      if ((60 : Int32) - x3) < v2 then
        f_X2_enter_25 v0 v2 r1 h2
      else
        f_X2_enter_26 v0 v2 r1 1 h2
  else
  none
def f_X1_lambda_enter_9 (v0 : Int32) (v1 : Int32) (v2 : Option Nat) (h : zH) : zO :=
  if ztg h v2 = some 1 then
    zcI (f_X2_enter v2 v0 v1 h) zX fun x1 h2 =>
    zrI x1 h2
  else
  none
def f_X2_shipInDock (v0 : Option Nat) (v1 : Int32) (h : zH) : zO :=
  if ztg h v0 = some 1 then
    zcR (f_X2_ship v0 v1 h) zX fun r1 h2 =>
    if ztg h2 r1 = some 5 then
      zcI (f_X6_isInDock r1 h2) zX fun x3 h4 =>
      zcV (f_X1_checkState x3 h4) zX fun h5 =>
      zrR r1 h5
    else
    none
  else
  none
def f_X6_rests (v0 : Option Nat) (v1 : Int32) (h : zH) : zO :=
  if ztg h v0 = some 5 then
    zcI (f_X6_isInDock v0 h) zX fun x1 h2 =>
    if x1 = 0 then
      zrN .boolean 0 h2
    else
      zgI h2 [5] 2 v0 fun x3 =>
      if x3 ≤ v1 then
        zrN .boolean 0 h2
      else
        zrN .boolean 1 h2
  else
  none
def f_X2_leave_37  (a0 : Option Nat) (a2 : Option Nat) (s0 : Int32) (h : zH) : zO :=
  zcV (f_X1_refuseIf s0 4 h) zX fun h10 =>
  zpF h10 [5] 8 a2 (va_rf none) fun h11 =>
  zpN h11 [5] 7 a2 .boolean (.int 0) fun h12 =>
  if ztg h12 a0 = some 1 then
    zcI (f_X2_countInDock a0 h12) zX fun x13 h14 =>
    zrI x13 h14
  else
  none
def f_X2_leave (v0 : Option Nat) (v1 : Int32) (h : zH) : zO :=
  if ztg h v0 = some 1 then
    zcR (f_X2_shipInDock v0 v1 h) zX fun r1 h2 =>
    zgI h2 [1] 6 v0 fun x3 =>
    zcV (f_X1_checkState x3 h2) zX fun h4 =>
    zgI h4 [1] 3 v0 fun x5 =>
    if ztg h4 r1 = some 5 then
      zcI (f_X6_rests r1 x5 h4) zX fun x6 h7 =>
      zcV (f_X1_refuseIf x6 3 h7) zX fun h8 =>
      zgI h8 [5] 5 r1 fun x9 =>
      if x9 ≤ 0 then
        f_X2_leave_37 v0 r1 0 h8
      else
        f_X2_leave_37 v0 r1 1 h8
    else
    none
  else
  none
def f_X1_lambda_leave_10 (v0 : Int32) (v1 : Option Nat) (h : zH) : zO :=
  if ztg h v1 = some 1 then
    zcI (f_X2_leave v1 v0 h) zX fun x1 h2 =>
    zrI x1 h2
  else
  none
def f_X2_setCleaning (v0 : Option Nat) (v1 : Int32) (v2 : Int32) (h : zH) : zO :=
  if ztg h v0 = some 1 then
    zcR (f_X2_shipInDock v0 v1 h) zX fun r1 h2 =>
    zgI h2 [5] 7 r1 fun x3 =>
    zpN h2 [5] 7 r1 .boolean (.int v2) fun h4 =>
    if x3 = 0 then
      zrI 0 h4
    else
      zrI 1 h4
  else
  none
def f_X1_lambda_setCleaning_11 (v0 : Int32) (v1 : Int32) (v2 : Option Nat) (h : zH) : zO :=
  if ztg h v2 = some 1 then
    zcI (f_X2_setCleaning v2 v0 v1 h) zX fun x1 h2 =>
    zrI x1 h2
  else
  none
def f_X1_seaLevelOf (v0 : Int32) (h : zH) : zO :=
  if ¬ 12 = 0 then
    znm (v0 - v0 / 12 * 12) fun x1 =>
    if 6 < x1 then
      zrI ((160 : Int32) - ((20 : Int32) * (x1 - 6))) h
    else
      zrI ((40 : Int32) + ((20 : Int32) * x1)) h
  else none
def f_J11_abs (v0 : Int32) (h : zH) : zO :=
  if 0 ≤ v0 then
    zrI v0 h
  else
    zrI (-v0) h
def f_J44_init (v0 : Option Nat) (h : zH) : zO :=
  if ¬ v0 = none then
    zcV (f_J27_init v0 h) zX fun h1 =>
    zrV h1
  else none
def f_X1_checkSupported (v0 : Int32) (h : zH) : zO :=
  if ¬ v0 = 0 then
    zrV h
  else
    znE h 34 fun r1 h2 =>
    zth h2 [34] r1 zX
def f_X2_setGate_29  (a0 : Option Nat) (a1 : Int32) (s0 : Int32) (h : zH) : zO :=
  zcV (f_X1_checkSupported s0 h) zX fun h7 =>
  zgI h7 [1] 6 a0 fun x8 =>
  zpN h7 [1] 6 a0 .boolean (.int a1) fun h9 =>
  if x8 = 0 then
    zrI 0 h9
  else
    zrI 1 h9
def f_X2_setGate_24  (a0 : Option Nat) (a1 : Int32) (h : zH) : zO :=
  f_X2_setGate_29 a0 a1 1 h
def f_X2_setGate (v0 : Option Nat) (v1 : Int32) (h : zH) : zO :=
  if v1 = 0 then
    f_X2_setGate_24 v0 v1 h
  else
    zgI h [1] 3 v0 fun x1 =>
    zgI h [1] 4 v0 fun x2 =>
    zcI (f_X1_seaLevelOf x2 h) zX fun x3 h4 =>
    zcI (f_J11_abs (x1 - x3) h4) zX fun x5 h6 =>
    if 20 < x5 then
      f_X2_setGate_29 v0 v1 0 h6
    else
      f_X2_setGate_24 v0 v1 h6
def f_X1_lambda_setGate_12 (v0 : Int32) (v1 : Option Nat) (h : zH) : zO :=
  if ztg h v1 = some 1 then
    zcI (f_X2_setGate v1 v0 h) zX fun x1 h2 =>
    zrI x1 h2
  else
  none
def f_X2_setPump (v0 : Option Nat) (v1 : Int32) (h : zH) : zO :=
  zcI (f_X1_isBetween v1 (-30) 30 h) zX fun x1 h2 =>
  zcV (f_X1_checkArgument x1 h2) zX fun h3 =>
  zgI h3 [1] 5 v0 fun x4 =>
  zpF h3 [1] 5 v0 (.int v1) fun h5 =>
  zrI x4 h5
def f_X1_lambda_setPump_13 (v0 : Int32) (v1 : Option Nat) (h : zH) : zO :=
  if ztg h v1 = some 1 then
    zcI (f_X2_setPump v1 v0 h) zX fun x1 h2 =>
    zrI x1 h2
  else
  none
def f_J11_min (v0 : Int32) (v1 : Int32) (h : zH) : zO :=
  if v1 < v0 then
    zrI v1 h
  else
    zrI v0 h
def f_J11_max (v0 : Int32) (v1 : Int32) (h : zH) : zO :=
  if v0 < v1 then
    zrI v1 h
  else
    zrI v0 h
def f_X2_limited (v0 : Int32) (v1 : Int32) (v2 : Int32) (h : zH) : zO :=
  zcI (f_J11_min v2 v0 h) zX fun x1 h2 =>
  zcI (f_J11_max v1 x1 h2) zX fun x3 h4 =>
  zrI x3 h4
def f_X2_changeLevel (v0 : Option Nat) (h : zH) : zO :=
  zgI h [1] 6 v0 fun x1 =>
  if x1 = 0 then
    zgI h [1] 3 v0 fun x2 =>
    zgI h [1] 5 v0 fun x3 =>
    zcI (f_X2_limited (x2 + x3) 0 200 h) zX fun x4 h5 =>
    zpF h5 [1] 3 v0 (.int x4) fun h6 =>
    zrV h6
  else
    zgI h [1] 3 v0 fun x7 =>
    zgI h [1] 4 v0 fun x8 =>
    zcI (f_X1_seaLevelOf x8 h) zX fun x9 h10 =>
    zgI h10 [1] 3 v0 fun x11 =>
    zcI (f_X2_limited (x9 - x11) (-20) 20 h10) zX fun x12 h13 =>
    zpF h13 [1] 3 v0 (.int (x7 + x12)) fun h14 =>
    zrV h14
def f_X3_contains (v0 : Option Nat) (v1 : Int32) (h : zH) : zO :=
  zgI h [2] 0 v0 fun x1 =>
  if ztg h v0 = some 2 then
    zcI (f_X3_end v0 h) zX fun x2 h3 =>
    zcI (f_X1_isBetween v1 x1 (x2 - 1) h3) zX fun x4 h5 =>
    zrN .boolean x4 h5
  else
  none
def f_X6_isAt (v0 : Option Nat) (v1 : Int32) (h : zH) : zO :=
  if ztg h v0 = some 5 then
    zcI (f_X6_isInDock v0 h) zX fun x1 h2 =>
    if x1 = 0 then
      zrN .boolean 0 h2
    else
      zgR h2 [5] 8 v0 fun r3 =>
      if ztg h2 r3 = some 2 then
        zcI (f_X3_contains r3 v1 h2) zX fun x4 h5 =>
        if x4 = 0 then
          zrN .boolean 0 h5
        else
          zrN .boolean 1 h5
      else
      none
  else
  none
def f_X2_blocksBeneath_48 (K10 : Option Nat → Int32 → Option Nat → zH → zO) (a1 : Option Nat) (a3 : Option Nat) (s0 : Int32) (s1 : Int32) (h : zH) : zO :=
  znm (s1 + s0) fun x91 =>
  K10 a1 x91 a3 h
def f_X2_blocksBeneath_10  : Nat → Option Nat → Int32 → Option Nat → zH → zO
  | 0, _, _, _, _ => none
  | n + 1, a1, a2, a3, h =>
    if ztg h a3 = some 8 then
      zcI (f_X9_hasNext a3 h) zX fun x4 h5 =>
      if x4 = 0 then
        zrI a2 h5
      else
        if ztg h5 a3 = some 8 then
          zcR (f_X9_next a3 h5) zX fun r6 h7 =>
          zcast h7 [7] r6 <|
          zgI h7 [7] 0 r6 fun x8 =>
          if ztg h7 a1 = some 5 then
            zcI (f_X6_isAt a1 x8 h7) zX fun x9 h10 =>
            if x9 = 0 then
              f_X2_blocksBeneath_48 (f_X2_blocksBeneath_10 n) a1 a3 0 a2 h10
            else
              f_X2_blocksBeneath_48 (f_X2_blocksBeneath_10 n) a1 a3 1 a2 h10
          else
          none
        else
        if ztg h5 a3 = some 20 then
          zcR (f_J15_next a3 h5) zX fun r6 h7 =>
          zcast h7 [7] r6 <|
          zgI h7 [7] 0 r6 fun x11 =>
          if ztg h7 a1 = some 5 then
            zcI (f_X6_isAt a1 x11 h7) zX fun x12 h13 =>
            if x12 = 0 then
              f_X2_blocksBeneath_48 (f_X2_blocksBeneath_10 n) a1 a3 0 a2 h13
            else
              f_X2_blocksBeneath_48 (f_X2_blocksBeneath_10 n) a1 a3 1 a2 h13
          else
          none
        else
        if ztg h5 a3 = some 21 then
          zcR (f_J17_next a3 h5) zX fun r6 h7 =>
          zcast h7 [7] r6 <|
          zgI h7 [7] 0 r6 fun x14 =>
          if ztg h7 a1 = some 5 then
            zcI (f_X6_isAt a1 x14 h7) zX fun x15 h16 =>
            if x15 = 0 then
              f_X2_blocksBeneath_48 (f_X2_blocksBeneath_10 n) a1 a3 0 a2 h16
            else
              f_X2_blocksBeneath_48 (f_X2_blocksBeneath_10 n) a1 a3 1 a2 h16
          else
          none
        else
        if ztg h5 a3 = some 24 then
          zcR (f_J21_next a3 h5) zX fun r6 h7 =>
          zcast h7 [7] r6 <|
          zgI h7 [7] 0 r6 fun x17 =>
          if ztg h7 a1 = some 5 then
            zcI (f_X6_isAt a1 x17 h7) zX fun x18 h19 =>
            if x18 = 0 then
              f_X2_blocksBeneath_48 (f_X2_blocksBeneath_10 n) a1 a3 0 a2 h19
            else
              f_X2_blocksBeneath_48 (f_X2_blocksBeneath_10 n) a1 a3 1 a2 h19
          else
          none
        else
        if ztg h5 a3 = some 25 then
          zcR (f_J22_next a3 h5) zX fun r6 h7 =>
          zcast h7 [7] r6 <|
          zgI h7 [7] 0 r6 fun x20 =>
          if ztg h7 a1 = some 5 then
            zcI (f_X6_isAt a1 x20 h7) zX fun x21 h22 =>
            if x21 = 0 then
              f_X2_blocksBeneath_48 (f_X2_blocksBeneath_10 n) a1 a3 0 a2 h22
            else
              f_X2_blocksBeneath_48 (f_X2_blocksBeneath_10 n) a1 a3 1 a2 h22
          else
          none
        else
        none
    else
    if ztg h a3 = some 20 then
      zcI (f_J15_hasNext a3 h) zX fun x4 h5 =>
      if x4 = 0 then
        zrI a2 h5
      else
        if ztg h5 a3 = some 8 then
          zcR (f_X9_next a3 h5) zX fun r23 h24 =>
          zcast h24 [7] r23 <|
          zgI h24 [7] 0 r23 fun x25 =>
          if ztg h24 a1 = some 5 then
            zcI (f_X6_isAt a1 x25 h24) zX fun x26 h27 =>
            if x26 = 0 then
              f_X2_blocksBeneath_48 (f_X2_blocksBeneath_10 n) a1 a3 0 a2 h27
            else
              f_X2_blocksBeneath_48 (f_X2_blocksBeneath_10 n) a1 a3 1 a2 h27
          else
          none
        else
        if ztg h5 a3 = some 20 then
          zcR (f_J15_next a3 h5) zX fun r23 h24 =>
          zcast h24 [7] r23 <|
          zgI h24 [7] 0 r23 fun x28 =>
          if ztg h24 a1 = some 5 then
            zcI (f_X6_isAt a1 x28 h24) zX fun x29 h30 =>
            if x29 = 0 then
              f_X2_blocksBeneath_48 (f_X2_blocksBeneath_10 n) a1 a3 0 a2 h30
            else
              f_X2_blocksBeneath_48 (f_X2_blocksBeneath_10 n) a1 a3 1 a2 h30
          else
          none
        else
        if ztg h5 a3 = some 21 then
          zcR (f_J17_next a3 h5) zX fun r23 h24 =>
          zcast h24 [7] r23 <|
          zgI h24 [7] 0 r23 fun x31 =>
          if ztg h24 a1 = some 5 then
            zcI (f_X6_isAt a1 x31 h24) zX fun x32 h33 =>
            if x32 = 0 then
              f_X2_blocksBeneath_48 (f_X2_blocksBeneath_10 n) a1 a3 0 a2 h33
            else
              f_X2_blocksBeneath_48 (f_X2_blocksBeneath_10 n) a1 a3 1 a2 h33
          else
          none
        else
        if ztg h5 a3 = some 24 then
          zcR (f_J21_next a3 h5) zX fun r23 h24 =>
          zcast h24 [7] r23 <|
          zgI h24 [7] 0 r23 fun x34 =>
          if ztg h24 a1 = some 5 then
            zcI (f_X6_isAt a1 x34 h24) zX fun x35 h36 =>
            if x35 = 0 then
              f_X2_blocksBeneath_48 (f_X2_blocksBeneath_10 n) a1 a3 0 a2 h36
            else
              f_X2_blocksBeneath_48 (f_X2_blocksBeneath_10 n) a1 a3 1 a2 h36
          else
          none
        else
        if ztg h5 a3 = some 25 then
          zcR (f_J22_next a3 h5) zX fun r23 h24 =>
          zcast h24 [7] r23 <|
          zgI h24 [7] 0 r23 fun x37 =>
          if ztg h24 a1 = some 5 then
            zcI (f_X6_isAt a1 x37 h24) zX fun x38 h39 =>
            if x38 = 0 then
              f_X2_blocksBeneath_48 (f_X2_blocksBeneath_10 n) a1 a3 0 a2 h39
            else
              f_X2_blocksBeneath_48 (f_X2_blocksBeneath_10 n) a1 a3 1 a2 h39
          else
          none
        else
        none
    else
    if ztg h a3 = some 21 then
      zcI (f_J16_hasNext a3 h) zX fun x4 h5 =>
      if x4 = 0 then
        zrI a2 h5
      else
        if ztg h5 a3 = some 8 then
          zcR (f_X9_next a3 h5) zX fun r40 h41 =>
          zcast h41 [7] r40 <|
          zgI h41 [7] 0 r40 fun x42 =>
          if ztg h41 a1 = some 5 then
            zcI (f_X6_isAt a1 x42 h41) zX fun x43 h44 =>
            if x43 = 0 then
              f_X2_blocksBeneath_48 (f_X2_blocksBeneath_10 n) a1 a3 0 a2 h44
            else
              f_X2_blocksBeneath_48 (f_X2_blocksBeneath_10 n) a1 a3 1 a2 h44
          else
          none
        else
        if ztg h5 a3 = some 20 then
          zcR (f_J15_next a3 h5) zX fun r40 h41 =>
          zcast h41 [7] r40 <|
          zgI h41 [7] 0 r40 fun x45 =>
          if ztg h41 a1 = some 5 then
            zcI (f_X6_isAt a1 x45 h41) zX fun x46 h47 =>
            if x46 = 0 then
              f_X2_blocksBeneath_48 (f_X2_blocksBeneath_10 n) a1 a3 0 a2 h47
            else
              f_X2_blocksBeneath_48 (f_X2_blocksBeneath_10 n) a1 a3 1 a2 h47
          else
          none
        else
        if ztg h5 a3 = some 21 then
          zcR (f_J17_next a3 h5) zX fun r40 h41 =>
          zcast h41 [7] r40 <|
          zgI h41 [7] 0 r40 fun x48 =>
          if ztg h41 a1 = some 5 then
            zcI (f_X6_isAt a1 x48 h41) zX fun x49 h50 =>
            if x49 = 0 then
              f_X2_blocksBeneath_48 (f_X2_blocksBeneath_10 n) a1 a3 0 a2 h50
            else
              f_X2_blocksBeneath_48 (f_X2_blocksBeneath_10 n) a1 a3 1 a2 h50
          else
          none
        else
        if ztg h5 a3 = some 24 then
          zcR (f_J21_next a3 h5) zX fun r40 h41 =>
          zcast h41 [7] r40 <|
          zgI h41 [7] 0 r40 fun x51 =>
          if ztg h41 a1 = some 5 then
            zcI (f_X6_isAt a1 x51 h41) zX fun x52 h53 =>
            if x52 = 0 then
              f_X2_blocksBeneath_48 (f_X2_blocksBeneath_10 n) a1 a3 0 a2 h53
            else
              f_X2_blocksBeneath_48 (f_X2_blocksBeneath_10 n) a1 a3 1 a2 h53
          else
          none
        else
        if ztg h5 a3 = some 25 then
          zcR (f_J22_next a3 h5) zX fun r40 h41 =>
          zcast h41 [7] r40 <|
          zgI h41 [7] 0 r40 fun x54 =>
          if ztg h41 a1 = some 5 then
            zcI (f_X6_isAt a1 x54 h41) zX fun x55 h56 =>
            if x55 = 0 then
              f_X2_blocksBeneath_48 (f_X2_blocksBeneath_10 n) a1 a3 0 a2 h56
            else
              f_X2_blocksBeneath_48 (f_X2_blocksBeneath_10 n) a1 a3 1 a2 h56
          else
          none
        else
        none
    else
    if ztg h a3 = some 24 then
      zcI (f_J20_hasNext a3 h) zX fun x4 h5 =>
      if x4 = 0 then
        zrI a2 h5
      else
        if ztg h5 a3 = some 8 then
          zcR (f_X9_next a3 h5) zX fun r57 h58 =>
          zcast h58 [7] r57 <|
          zgI h58 [7] 0 r57 fun x59 =>
          if ztg h58 a1 = some 5 then
            zcI (f_X6_isAt a1 x59 h58) zX fun x60 h61 =>
            if x60 = 0 then
              f_X2_blocksBeneath_48 (f_X2_blocksBeneath_10 n) a1 a3 0 a2 h61
            else
              f_X2_blocksBeneath_48 (f_X2_blocksBeneath_10 n) a1 a3 1 a2 h61
          else
          none
        else
        if ztg h5 a3 = some 20 then
          zcR (f_J15_next a3 h5) zX fun r57 h58 =>
          zcast h58 [7] r57 <|
          zgI h58 [7] 0 r57 fun x62 =>
          if ztg h58 a1 = some 5 then
            zcI (f_X6_isAt a1 x62 h58) zX fun x63 h64 =>
            if x63 = 0 then
              f_X2_blocksBeneath_48 (f_X2_blocksBeneath_10 n) a1 a3 0 a2 h64
            else
              f_X2_blocksBeneath_48 (f_X2_blocksBeneath_10 n) a1 a3 1 a2 h64
          else
          none
        else
        if ztg h5 a3 = some 21 then
          zcR (f_J17_next a3 h5) zX fun r57 h58 =>
          zcast h58 [7] r57 <|
          zgI h58 [7] 0 r57 fun x65 =>
          if ztg h58 a1 = some 5 then
            zcI (f_X6_isAt a1 x65 h58) zX fun x66 h67 =>
            if x66 = 0 then
              f_X2_blocksBeneath_48 (f_X2_blocksBeneath_10 n) a1 a3 0 a2 h67
            else
              f_X2_blocksBeneath_48 (f_X2_blocksBeneath_10 n) a1 a3 1 a2 h67
          else
          none
        else
        if ztg h5 a3 = some 24 then
          zcR (f_J21_next a3 h5) zX fun r57 h58 =>
          zcast h58 [7] r57 <|
          zgI h58 [7] 0 r57 fun x68 =>
          if ztg h58 a1 = some 5 then
            zcI (f_X6_isAt a1 x68 h58) zX fun x69 h70 =>
            if x69 = 0 then
              f_X2_blocksBeneath_48 (f_X2_blocksBeneath_10 n) a1 a3 0 a2 h70
            else
              f_X2_blocksBeneath_48 (f_X2_blocksBeneath_10 n) a1 a3 1 a2 h70
          else
          none
        else
        if ztg h5 a3 = some 25 then
          zcR (f_J22_next a3 h5) zX fun r57 h58 =>
          zcast h58 [7] r57 <|
          zgI h58 [7] 0 r57 fun x71 =>
          if ztg h58 a1 = some 5 then
            zcI (f_X6_isAt a1 x71 h58) zX fun x72 h73 =>
            if x72 = 0 then
              f_X2_blocksBeneath_48 (f_X2_blocksBeneath_10 n) a1 a3 0 a2 h73
            else
              f_X2_blocksBeneath_48 (f_X2_blocksBeneath_10 n) a1 a3 1 a2 h73
          else
          none
        else
        none
    else
    if ztg h a3 = some 25 then
      zcI (f_J20_hasNext a3 h) zX fun x4 h5 =>
      if x4 = 0 then
        zrI a2 h5
      else
        if ztg h5 a3 = some 8 then
          zcR (f_X9_next a3 h5) zX fun r74 h75 =>
          zcast h75 [7] r74 <|
          zgI h75 [7] 0 r74 fun x76 =>
          if ztg h75 a1 = some 5 then
            zcI (f_X6_isAt a1 x76 h75) zX fun x77 h78 =>
            if x77 = 0 then
              f_X2_blocksBeneath_48 (f_X2_blocksBeneath_10 n) a1 a3 0 a2 h78
            else
              f_X2_blocksBeneath_48 (f_X2_blocksBeneath_10 n) a1 a3 1 a2 h78
          else
          none
        else
        if ztg h5 a3 = some 20 then
          zcR (f_J15_next a3 h5) zX fun r74 h75 =>
          zcast h75 [7] r74 <|
          zgI h75 [7] 0 r74 fun x79 =>
          if ztg h75 a1 = some 5 then
            zcI (f_X6_isAt a1 x79 h75) zX fun x80 h81 =>
            if x80 = 0 then
              f_X2_blocksBeneath_48 (f_X2_blocksBeneath_10 n) a1 a3 0 a2 h81
            else
              f_X2_blocksBeneath_48 (f_X2_blocksBeneath_10 n) a1 a3 1 a2 h81
          else
          none
        else
        if ztg h5 a3 = some 21 then
          zcR (f_J17_next a3 h5) zX fun r74 h75 =>
          zcast h75 [7] r74 <|
          zgI h75 [7] 0 r74 fun x82 =>
          if ztg h75 a1 = some 5 then
            zcI (f_X6_isAt a1 x82 h75) zX fun x83 h84 =>
            if x83 = 0 then
              f_X2_blocksBeneath_48 (f_X2_blocksBeneath_10 n) a1 a3 0 a2 h84
            else
              f_X2_blocksBeneath_48 (f_X2_blocksBeneath_10 n) a1 a3 1 a2 h84
          else
          none
        else
        if ztg h5 a3 = some 24 then
          zcR (f_J21_next a3 h5) zX fun r74 h75 =>
          zcast h75 [7] r74 <|
          zgI h75 [7] 0 r74 fun x85 =>
          if ztg h75 a1 = some 5 then
            zcI (f_X6_isAt a1 x85 h75) zX fun x86 h87 =>
            if x86 = 0 then
              f_X2_blocksBeneath_48 (f_X2_blocksBeneath_10 n) a1 a3 0 a2 h87
            else
              f_X2_blocksBeneath_48 (f_X2_blocksBeneath_10 n) a1 a3 1 a2 h87
          else
          none
        else
        if ztg h5 a3 = some 25 then
          zcR (f_J22_next a3 h5) zX fun r74 h75 =>
          zcast h75 [7] r74 <|
          zgI h75 [7] 0 r74 fun x88 =>
          if ztg h75 a1 = some 5 then
            zcI (f_X6_isAt a1 x88 h75) zX fun x89 h90 =>
            if x89 = 0 then
              f_X2_blocksBeneath_48 (f_X2_blocksBeneath_10 n) a1 a3 0 a2 h90
            else
              f_X2_blocksBeneath_48 (f_X2_blocksBeneath_10 n) a1 a3 1 a2 h90
          else
          none
        else
        none
    else
    none
def f_X2_blocksBeneath (v0 : Option Nat) (v1 : Option Nat) (h : zH) : zO :=
  zgR h [1] 1 v0 fun r1 =>
  if ztg h r1 = some 14 then
    zcR (f_J5_iterator r1 h) zX fun r2 h3 =>
    f_X2_blocksBeneath_10 zfuel v1 0 r2 h3
  else
  none
def f_X1_lambda_new_0 (v0 : Int32) (v1 : Option Nat) (v2 : Int32) (v3 : Int32) (h : zH) : zO :=
  zrI v0 h
def f_X1_lambda_new_1 (v0 : Int32) (v1 : Option Nat) (v2 : Int32) (v3 : Int32) (h : zH) : zO :=
  if ztg h v1 = some 5 then
    zcI (f_X6_rests v1 v3 h) zX fun x1 h2 =>
    if x1 = 0 then
      zrI 0 h2
    else
      if v2 < v0 then
        zrI 0 h2
      else
        zrI v2 h2
  else
  none
def f_X6_clean_19  (a0 : Option Nat) (s0 : Int32) (h : zH) : zO :=
  zgI h [5] 3 a0 fun x5 =>
  zpF h [5] 3 a0 (.int (x5 - s0)) fun h6 =>
  zrI s0 h6
def f_X6_clean (v0 : Option Nat) (v1 : Int32) (h : zH) : zO :=
  zgI h [5] 7 v0 fun x1 =>
  if x1 = 0 then
    f_X6_clean_19 v0 0 h
  else
    zgI h [5] 3 v0 fun x2 =>
    zcI (f_J11_min x2 v1 h) zX fun x3 h4 =>
    f_X6_clean_19 v0 x3 h4
def f_X1_lambda_new_2 (v0 : Int32) (v1 : Int32) (v2 : Int32) (v3 : Option Nat) (v4 : Int32) (v5 : Int32) (h : zH) : zO :=
  if ztg h v3 = some 5 then
    zcI (f_X6_rests v3 v5 h) zX fun x1 h2 =>
    if x1 = 0 then
      zrI 0 h2
    else
      if v4 < v0 then
        zrI 0 h2
      else
        if ztg h2 v3 = some 5 then
          zcI (f_X6_clean v3 v2 h2) zX fun x3 h4 =>
          zrI (v1 * x3) h4
        else
        none
  else
  none
def f_ch_coins (v0 : Option Nat) (v1 : Option Nat) (v2 : Int32) (v3 : Int32) (h : zH) : zO :=
  if ztg h v0 = some 300 then zlv1 h v0 (fun c0 => zcI (f_X1_lambda_new_0 c0 v1 v2 v3 h) zX fun x h1 => zrI x h1) else
  if ztg h v0 = some 301 then zlv1 h v0 (fun c0 => zcI (f_X1_lambda_new_1 c0 v1 v2 v3 h) zX fun x h1 => zrI x h1) else
  if ztg h v0 = some 302 then zlv3 h v0 (fun c0 c1 c2 => zcI (f_X1_lambda_new_2 c0 c1 c2 v1 v2 v3 h) zX fun x h1 => zrI x h1) else
  none
def f_X2_spendHour_62  : Nat → Option Nat → Option Nat → Int32 → Int32 → Option Nat → Int32 → Int32 → zH → zO
  | 0, _, _, _, _, _, _, _, _ => none
  | n + 1, a0, a1, a3, a4, a5, a6, a7, h =>
    if a6 ≤ a7 then
      zgI h [1] 7 a0 fun x12 =>
      zgI h [5] 3 a1 fun x13 =>
      zpF h [1] 7 a0 (.int (x12 + (a4 - x13))) fun h14 =>
      zrV h14
    else
      zaR h zrefs a5 a7 fun r15 =>
      zgI h [1] 3 a0 fun x16 =>
      zcI (f_ch_coins r15 a1 a3 x16 h) zX fun x17 h18 =>
      zgI h18 [5] 5 a1 fun x19 =>
      zpF h18 [5] 5 a1 (.int (x19 + x17)) fun h20 =>
      zgI h20 [1] 8 a0 fun x21 =>
      zpF h20 [1] 8 a0 (.int (x21 + x17)) fun h22 =>
      znm (a7 + 1) fun x23 =>
      f_X2_spendHour_62 n a0 a1 a3 a4 a5 a6 x23 h22
def f_X2_spendHour_51  (a0 : Option Nat) (a1 : Option Nat) (a2 : Option Nat) (a3 : Int32) (a4 : Int32) (h : zH) : zO :=
  zaN h zarrs a2 fun x11 =>
  f_X2_spendHour_62 zfuel a0 a1 a3 a4 a2 x11 0 h
def f_X2_spendHour (v0 : Option Nat) (v1 : Option Nat) (v2 : Option Nat) (h : zH) : zO :=
  if ztg h v0 = some 1 then
    zcI (f_X2_blocksBeneath v0 v1 h) zX fun x1 h2 =>
    zgI h2 [5] 3 v1 fun x3 =>
    zgI h2 [1] 3 v0 fun x4 =>
    if ztg h2 v1 = some 5 then
      zcI (f_X6_rests v1 x4 h2) zX fun x5 h6 =>
      if ¬ x5 = 0 then
        if 2 ≤ x1 then
          f_X2_spendHour_51 v0 v1 v2 x1 x3 h6
        else
          zgI h6 [5] 4 v1 fun x7 =>
          zpF h6 [5] 4 v1 (.int (x7 + 1)) fun h8 =>
          f_X2_spendHour_51 v0 v1 v2 x1 x3 h8
      else
        zgI h6 [5] 6 v1 fun x9 =>
        zpF h6 [5] 6 v1 (.int (x9 + 1)) fun h10 =>
        f_X2_spendHour_51 v0 v1 v2 x1 x3 h10
    else
    none
  else
  none
def f_X2_passHour_59 (K27 : Option Nat → Option Nat → Option Nat → zH → zO) (a0 : Option Nat) (a1 : Option Nat) (a2 : Option Nat) (h : zH) : zO :=
  K27 a0 a1 a2 h
def f_X2_passHour_27  : Nat → Option Nat → Option Nat → Option Nat → zH → zO
  | 0, _, _, _, _ => none
  | n + 1, a0, a1, a2, h =>
    if ztg h a2 = some 8 then
      zcI (f_X9_hasNext a2 h) zX fun x9 h10 =>
      if x9 = 0 then
        zrV h10
      else
        if ztg h10 a2 = some 8 then
          zcR (f_X9_next a2 h10) zX fun r11 h12 =>
          zcast h12 [5] r11 <|
          if ztg h12 r11 = some 5 then
            zcI (f_X6_isInDock r11 h12) zX fun x13 h14 =>
            if x13 = 0 then
              f_X2_passHour_59 (f_X2_passHour_27 n) a0 a1 a2 h14
            else
              if ztg h14 a0 = some 1 then
                zcV (f_X2_spendHour a0 r11 a1 h14) zX fun h15 =>
                f_X2_passHour_59 (f_X2_passHour_27 n) a0 a1 a2 h15
              else
              none
          else
          none
        else
        if ztg h10 a2 = some 20 then
          zcR (f_J15_next a2 h10) zX fun r11 h12 =>
          zcast h12 [5] r11 <|
          if ztg h12 r11 = some 5 then
            zcI (f_X6_isInDock r11 h12) zX fun x16 h17 =>
            if x16 = 0 then
              f_X2_passHour_59 (f_X2_passHour_27 n) a0 a1 a2 h17
            else
              if ztg h17 a0 = some 1 then
                zcV (f_X2_spendHour a0 r11 a1 h17) zX fun h18 =>
                f_X2_passHour_59 (f_X2_passHour_27 n) a0 a1 a2 h18
              else
              none
          else
          none
        else
        if ztg h10 a2 = some 21 then
          zcR (f_J17_next a2 h10) zX fun r11 h12 =>
          zcast h12 [5] r11 <|
          if ztg h12 r11 = some 5 then
            zcI (f_X6_isInDock r11 h12) zX fun x19 h20 =>
            if x19 = 0 then
              f_X2_passHour_59 (f_X2_passHour_27 n) a0 a1 a2 h20
            else
              if ztg h20 a0 = some 1 then
                zcV (f_X2_spendHour a0 r11 a1 h20) zX fun h21 =>
                f_X2_passHour_59 (f_X2_passHour_27 n) a0 a1 a2 h21
              else
              none
          else
          none
        else
        if ztg h10 a2 = some 24 then
          zcR (f_J21_next a2 h10) zX fun r11 h12 =>
          zcast h12 [5] r11 <|
          if ztg h12 r11 = some 5 then
            zcI (f_X6_isInDock r11 h12) zX fun x22 h23 =>
            if x22 = 0 then
              f_X2_passHour_59 (f_X2_passHour_27 n) a0 a1 a2 h23
            else
              if ztg h23 a0 = some 1 then
                zcV (f_X2_spendHour a0 r11 a1 h23) zX fun h24 =>
                f_X2_passHour_59 (f_X2_passHour_27 n) a0 a1 a2 h24
              else
              none
          else
          none
        else
        if ztg h10 a2 = some 25 then
          zcR (f_J22_next a2 h10) zX fun r11 h12 =>
          zcast h12 [5] r11 <|
          if ztg h12 r11 = some 5 then
            zcI (f_X6_isInDock r11 h12) zX fun x25 h26 =>
            if x25 = 0 then
              f_X2_passHour_59 (f_X2_passHour_27 n) a0 a1 a2 h26
            else
              if ztg h26 a0 = some 1 then
                zcV (f_X2_spendHour a0 r11 a1 h26) zX fun h27 =>
                f_X2_passHour_59 (f_X2_passHour_27 n) a0 a1 a2 h27
              else
              none
          else
          none
        else
        none
    else
    if ztg h a2 = some 20 then
      zcI (f_J15_hasNext a2 h) zX fun x9 h10 =>
      if x9 = 0 then
        zrV h10
      else
        if ztg h10 a2 = some 8 then
          zcR (f_X9_next a2 h10) zX fun r28 h29 =>
          zcast h29 [5] r28 <|
          if ztg h29 r28 = some 5 then
            zcI (f_X6_isInDock r28 h29) zX fun x30 h31 =>
            if x30 = 0 then
              f_X2_passHour_59 (f_X2_passHour_27 n) a0 a1 a2 h31
            else
              if ztg h31 a0 = some 1 then
                zcV (f_X2_spendHour a0 r28 a1 h31) zX fun h32 =>
                f_X2_passHour_59 (f_X2_passHour_27 n) a0 a1 a2 h32
              else
              none
          else
          none
        else
        if ztg h10 a2 = some 20 then
          zcR (f_J15_next a2 h10) zX fun r28 h29 =>
          zcast h29 [5] r28 <|
          if ztg h29 r28 = some 5 then
            zcI (f_X6_isInDock r28 h29) zX fun x33 h34 =>
            if x33 = 0 then
              f_X2_passHour_59 (f_X2_passHour_27 n) a0 a1 a2 h34
            else
              if ztg h34 a0 = some 1 then
                zcV (f_X2_spendHour a0 r28 a1 h34) zX fun h35 =>
                f_X2_passHour_59 (f_X2_passHour_27 n) a0 a1 a2 h35
              else
              none
          else
          none
        else
        if ztg h10 a2 = some 21 then
          zcR (f_J17_next a2 h10) zX fun r28 h29 =>
          zcast h29 [5] r28 <|
          if ztg h29 r28 = some 5 then
            zcI (f_X6_isInDock r28 h29) zX fun x36 h37 =>
            if x36 = 0 then
              f_X2_passHour_59 (f_X2_passHour_27 n) a0 a1 a2 h37
            else
              if ztg h37 a0 = some 1 then
                zcV (f_X2_spendHour a0 r28 a1 h37) zX fun h38 =>
                f_X2_passHour_59 (f_X2_passHour_27 n) a0 a1 a2 h38
              else
              none
          else
          none
        else
        if ztg h10 a2 = some 24 then
          zcR (f_J21_next a2 h10) zX fun r28 h29 =>
          zcast h29 [5] r28 <|
          if ztg h29 r28 = some 5 then
            zcI (f_X6_isInDock r28 h29) zX fun x39 h40 =>
            if x39 = 0 then
              f_X2_passHour_59 (f_X2_passHour_27 n) a0 a1 a2 h40
            else
              if ztg h40 a0 = some 1 then
                zcV (f_X2_spendHour a0 r28 a1 h40) zX fun h41 =>
                f_X2_passHour_59 (f_X2_passHour_27 n) a0 a1 a2 h41
              else
              none
          else
          none
        else
        if ztg h10 a2 = some 25 then
          zcR (f_J22_next a2 h10) zX fun r28 h29 =>
          zcast h29 [5] r28 <|
          if ztg h29 r28 = some 5 then
            zcI (f_X6_isInDock r28 h29) zX fun x42 h43 =>
            if x42 = 0 then
              f_X2_passHour_59 (f_X2_passHour_27 n) a0 a1 a2 h43
            else
              if ztg h43 a0 = some 1 then
                zcV (f_X2_spendHour a0 r28 a1 h43) zX fun h44 =>
                f_X2_passHour_59 (f_X2_passHour_27 n) a0 a1 a2 h44
              else
              none
          else
          none
        else
        none
    else
    if ztg h a2 = some 21 then
      zcI (f_J16_hasNext a2 h) zX fun x9 h10 =>
      if x9 = 0 then
        zrV h10
      else
        if ztg h10 a2 = some 8 then
          zcR (f_X9_next a2 h10) zX fun r45 h46 =>
          zcast h46 [5] r45 <|
          if ztg h46 r45 = some 5 then
            zcI (f_X6_isInDock r45 h46) zX fun x47 h48 =>
            if x47 = 0 then
              f_X2_passHour_59 (f_X2_passHour_27 n) a0 a1 a2 h48
            else
              if ztg h48 a0 = some 1 then
                zcV (f_X2_spendHour a0 r45 a1 h48) zX fun h49 =>
                f_X2_passHour_59 (f_X2_passHour_27 n) a0 a1 a2 h49
              else
              none
          else
          none
        else
        if ztg h10 a2 = some 20 then
          zcR (f_J15_next a2 h10) zX fun r45 h46 =>
          zcast h46 [5] r45 <|
          if ztg h46 r45 = some 5 then
            zcI (f_X6_isInDock r45 h46) zX fun x50 h51 =>
            if x50 = 0 then
              f_X2_passHour_59 (f_X2_passHour_27 n) a0 a1 a2 h51
            else
              if ztg h51 a0 = some 1 then
                zcV (f_X2_spendHour a0 r45 a1 h51) zX fun h52 =>
                f_X2_passHour_59 (f_X2_passHour_27 n) a0 a1 a2 h52
              else
              none
          else
          none
        else
        if ztg h10 a2 = some 21 then
          zcR (f_J17_next a2 h10) zX fun r45 h46 =>
          zcast h46 [5] r45 <|
          if ztg h46 r45 = some 5 then
            zcI (f_X6_isInDock r45 h46) zX fun x53 h54 =>
            if x53 = 0 then
              f_X2_passHour_59 (f_X2_passHour_27 n) a0 a1 a2 h54
            else
              if ztg h54 a0 = some 1 then
                zcV (f_X2_spendHour a0 r45 a1 h54) zX fun h55 =>
                f_X2_passHour_59 (f_X2_passHour_27 n) a0 a1 a2 h55
              else
              none
          else
          none
        else
        if ztg h10 a2 = some 24 then
          zcR (f_J21_next a2 h10) zX fun r45 h46 =>
          zcast h46 [5] r45 <|
          if ztg h46 r45 = some 5 then
            zcI (f_X6_isInDock r45 h46) zX fun x56 h57 =>
            if x56 = 0 then
              f_X2_passHour_59 (f_X2_passHour_27 n) a0 a1 a2 h57
            else
              if ztg h57 a0 = some 1 then
                zcV (f_X2_spendHour a0 r45 a1 h57) zX fun h58 =>
                f_X2_passHour_59 (f_X2_passHour_27 n) a0 a1 a2 h58
              else
              none
          else
          none
        else
        if ztg h10 a2 = some 25 then
          zcR (f_J22_next a2 h10) zX fun r45 h46 =>
          zcast h46 [5] r45 <|
          if ztg h46 r45 = some 5 then
            zcI (f_X6_isInDock r45 h46) zX fun x59 h60 =>
            if x59 = 0 then
              f_X2_passHour_59 (f_X2_passHour_27 n) a0 a1 a2 h60
            else
              if ztg h60 a0 = some 1 then
                zcV (f_X2_spendHour a0 r45 a1 h60) zX fun h61 =>
                f_X2_passHour_59 (f_X2_passHour_27 n) a0 a1 a2 h61
              else
              none
          else
          none
        else
        none
    else
    if ztg h a2 = some 24 then
      zcI (f_J20_hasNext a2 h) zX fun x9 h10 =>
      if x9 = 0 then
        zrV h10
      else
        if ztg h10 a2 = some 8 then
          zcR (f_X9_next a2 h10) zX fun r62 h63 =>
          zcast h63 [5] r62 <|
          if ztg h63 r62 = some 5 then
            zcI (f_X6_isInDock r62 h63) zX fun x64 h65 =>
            if x64 = 0 then
              f_X2_passHour_59 (f_X2_passHour_27 n) a0 a1 a2 h65
            else
              if ztg h65 a0 = some 1 then
                zcV (f_X2_spendHour a0 r62 a1 h65) zX fun h66 =>
                f_X2_passHour_59 (f_X2_passHour_27 n) a0 a1 a2 h66
              else
              none
          else
          none
        else
        if ztg h10 a2 = some 20 then
          zcR (f_J15_next a2 h10) zX fun r62 h63 =>
          zcast h63 [5] r62 <|
          if ztg h63 r62 = some 5 then
            zcI (f_X6_isInDock r62 h63) zX fun x67 h68 =>
            if x67 = 0 then
              f_X2_passHour_59 (f_X2_passHour_27 n) a0 a1 a2 h68
            else
              if ztg h68 a0 = some 1 then
                zcV (f_X2_spendHour a0 r62 a1 h68) zX fun h69 =>
                f_X2_passHour_59 (f_X2_passHour_27 n) a0 a1 a2 h69
              else
              none
          else
          none
        else
        if ztg h10 a2 = some 21 then
          zcR (f_J17_next a2 h10) zX fun r62 h63 =>
          zcast h63 [5] r62 <|
          if ztg h63 r62 = some 5 then
            zcI (f_X6_isInDock r62 h63) zX fun x70 h71 =>
            if x70 = 0 then
              f_X2_passHour_59 (f_X2_passHour_27 n) a0 a1 a2 h71
            else
              if ztg h71 a0 = some 1 then
                zcV (f_X2_spendHour a0 r62 a1 h71) zX fun h72 =>
                f_X2_passHour_59 (f_X2_passHour_27 n) a0 a1 a2 h72
              else
              none
          else
          none
        else
        if ztg h10 a2 = some 24 then
          zcR (f_J21_next a2 h10) zX fun r62 h63 =>
          zcast h63 [5] r62 <|
          if ztg h63 r62 = some 5 then
            zcI (f_X6_isInDock r62 h63) zX fun x73 h74 =>
            if x73 = 0 then
              f_X2_passHour_59 (f_X2_passHour_27 n) a0 a1 a2 h74
            else
              if ztg h74 a0 = some 1 then
                zcV (f_X2_spendHour a0 r62 a1 h74) zX fun h75 =>
                f_X2_passHour_59 (f_X2_passHour_27 n) a0 a1 a2 h75
              else
              none
          else
          none
        else
        if ztg h10 a2 = some 25 then
          zcR (f_J22_next a2 h10) zX fun r62 h63 =>
          zcast h63 [5] r62 <|
          if ztg h63 r62 = some 5 then
            zcI (f_X6_isInDock r62 h63) zX fun x76 h77 =>
            if x76 = 0 then
              f_X2_passHour_59 (f_X2_passHour_27 n) a0 a1 a2 h77
            else
              if ztg h77 a0 = some 1 then
                zcV (f_X2_spendHour a0 r62 a1 h77) zX fun h78 =>
                f_X2_passHour_59 (f_X2_passHour_27 n) a0 a1 a2 h78
              else
              none
          else
          none
        else
        none
    else
    if ztg h a2 = some 25 then
      zcI (f_J20_hasNext a2 h) zX fun x9 h10 =>
      if x9 = 0 then
        zrV h10
      else
        if ztg h10 a2 = some 8 then
          zcR (f_X9_next a2 h10) zX fun r79 h80 =>
          zcast h80 [5] r79 <|
          if ztg h80 r79 = some 5 then
            zcI (f_X6_isInDock r79 h80) zX fun x81 h82 =>
            if x81 = 0 then
              f_X2_passHour_59 (f_X2_passHour_27 n) a0 a1 a2 h82
            else
              if ztg h82 a0 = some 1 then
                zcV (f_X2_spendHour a0 r79 a1 h82) zX fun h83 =>
                f_X2_passHour_59 (f_X2_passHour_27 n) a0 a1 a2 h83
              else
              none
          else
          none
        else
        if ztg h10 a2 = some 20 then
          zcR (f_J15_next a2 h10) zX fun r79 h80 =>
          zcast h80 [5] r79 <|
          if ztg h80 r79 = some 5 then
            zcI (f_X6_isInDock r79 h80) zX fun x84 h85 =>
            if x84 = 0 then
              f_X2_passHour_59 (f_X2_passHour_27 n) a0 a1 a2 h85
            else
              if ztg h85 a0 = some 1 then
                zcV (f_X2_spendHour a0 r79 a1 h85) zX fun h86 =>
                f_X2_passHour_59 (f_X2_passHour_27 n) a0 a1 a2 h86
              else
              none
          else
          none
        else
        if ztg h10 a2 = some 21 then
          zcR (f_J17_next a2 h10) zX fun r79 h80 =>
          zcast h80 [5] r79 <|
          if ztg h80 r79 = some 5 then
            zcI (f_X6_isInDock r79 h80) zX fun x87 h88 =>
            if x87 = 0 then
              f_X2_passHour_59 (f_X2_passHour_27 n) a0 a1 a2 h88
            else
              if ztg h88 a0 = some 1 then
                zcV (f_X2_spendHour a0 r79 a1 h88) zX fun h89 =>
                f_X2_passHour_59 (f_X2_passHour_27 n) a0 a1 a2 h89
              else
              none
          else
          none
        else
        if ztg h10 a2 = some 24 then
          zcR (f_J21_next a2 h10) zX fun r79 h80 =>
          zcast h80 [5] r79 <|
          if ztg h80 r79 = some 5 then
            zcI (f_X6_isInDock r79 h80) zX fun x90 h91 =>
            if x90 = 0 then
              f_X2_passHour_59 (f_X2_passHour_27 n) a0 a1 a2 h91
            else
              if ztg h91 a0 = some 1 then
                zcV (f_X2_spendHour a0 r79 a1 h91) zX fun h92 =>
                f_X2_passHour_59 (f_X2_passHour_27 n) a0 a1 a2 h92
              else
              none
          else
          none
        else
        if ztg h10 a2 = some 25 then
          zcR (f_J22_next a2 h10) zX fun r79 h80 =>
          zcast h80 [5] r79 <|
          if ztg h80 r79 = some 5 then
            zcI (f_X6_isInDock r79 h80) zX fun x93 h94 =>
            if x93 = 0 then
              f_X2_passHour_59 (f_X2_passHour_27 n) a0 a1 a2 h94
            else
              if ztg h94 a0 = some 1 then
                zcV (f_X2_spendHour a0 r79 a1 h94) zX fun h95 =>
                f_X2_passHour_59 (f_X2_passHour_27 n) a0 a1 a2 h95
              else
              none
          else
          none
        else
        none
    else
    none
def f_X2_passHour (v0 : Option Nat) (v1 : Option Nat) (h : zH) : zO :=
  zgI h [1] 4 v0 fun x1 =>
  zpF h [1] 4 v0 (.int (x1 + 1)) fun h2 =>
  if ztg h2 v0 = some 1 then
    zcV (f_X2_changeLevel v0 h2) zX fun h3 =>
    zgR h3 [1] 0 v0 fun r4 =>
    if ztg h3 r4 = some 13 then
      zcR (f_J2_values r4 h3) zX fun r5 h6 =>
      if ztg h6 r5 = some 19 then
        zcR (f_J13_iterator r5 h6) zX fun r7 h8 =>
        f_X2_passHour_27 zfuel v0 v1 r7 h8
      else
      none
    else
    none
  else
  none
def f_X2_pass_18  : Nat → Option Nat → Int32 → Option Nat → Int32 → Int32 → zH → zO
  | 0, _, _, _, _, _, _ => none
  | n + 1, a0, a1, a2, a3, a4, h =>
    if a1 ≤ a4 then
      zgI h [1] 7 a0 fun x5 =>
      zrI (x5 - a3) h
    else
      if ztg h a0 = some 1 then
        zcV (f_X2_passHour a0 a2 h) zX fun h6 =>
        znm (a4 + 1) fun x7 =>
        f_X2_pass_18 n a0 a1 a2 a3 x7 h6
      else
      none
def f_X2_pass (v0 : Option Nat) (v1 : Int32) (v2 : Option Nat) (h : zH) : zO :=
  zcI (f_X1_isBetween v1 1 48 h) zX fun x1 h2 =>
  zcV (f_X1_checkArgument x1 h2) zX fun h3 =>
  zgI h3 [1] 7 v0 fun x4 =>
  f_X2_pass_18 zfuel v0 v1 v2 x4 0 h3
def f_X1_lambda_pass_14 (v0 : Option Nat) (v1 : Int32) (v2 : Option Nat) (h : zH) : zO :=
  zgR h [0] 0 v0 fun r1 =>
  if ztg h v2 = some 1 then
    zcI (f_X2_pass v2 v1 r1 h) zX fun x2 h3 =>
    zrI x2 h3
  else
  none
def f_X1_isPosition (v0 : Int32) (h : zH) : zO :=
  zcI (f_X1_isBetween v0 0 59 h) zX fun x1 h2 =>
  zrN .boolean x1 h2
def f_J5_size (v0 : Option Nat) (h : zH) : zO :=
  zgR h [14] 0 v0 fun r1 =>
  if ztg h r1 = some 12 then
    zcI (f_J1_size r1 h) zX fun x2 h3 =>
    zrI x2 h3
  else
  if ztg h r1 = some 13 then
    zcI (f_J1_size r1 h) zX fun x2 h3 =>
    zrI x2 h3
  else
  none
def f_X8_init (v0 : Option Nat) (v1 : Int32) (h : zH) : zO :=
  if ¬ v0 = none then
    zpF h [7] 0 v0 (.int v1) fun h1 =>
    zrV h1
  else none
def f_J5_contains (v0 : Option Nat) (v1 : Option Nat) (h : zH) : zO :=
  zgR h [14] 0 v0 fun r1 =>
  if ztg h r1 = some 12 then
    zcI (f_J1_containsKey r1 v1 h) zX fun x2 h3 =>
    zrN .boolean x2 h3
  else
  if ztg h r1 = some 13 then
    zcI (f_J1_containsKey r1 v1 h) zX fun x2 h3 =>
    zrN .boolean x2 h3
  else
  none
def f_X2_hasBlock (v0 : Option Nat) (v1 : Int32) (h : zH) : zO :=
  zgR h [1] 1 v0 fun r1 =>
  znO h 7 [.int 0] fun r2 h3 =>
  if ¬ r2 = none then
    zcV (f_X8_init r2 v1 h3) zX fun h4 =>
    if ztg h4 r1 = some 14 then
      zcI (f_J5_contains r1 r2 h4) zX fun x5 h6 =>
      zrN .boolean x5 h6
    else
    none
  else none
def f_X2_shipAtPosition_13  : Nat → Int32 → Option Nat → zH → zO
  | 0, _, _, _ => none
  | n + 1, a1, a2, h =>
    if ztg h a2 = some 8 then
      zcI (f_X9_hasNext a2 h) zX fun x6 h7 =>
      if x6 = 0 then
        zrR none h7
      else
        if ztg h7 a2 = some 8 then
          zcR (f_X9_next a2 h7) zX fun r8 h9 =>
          zcast h9 [5] r8 <|
          if ztg h9 r8 = some 5 then
            zcI (f_X6_isAt r8 a1 h9) zX fun x10 h11 =>
            if x10 = 0 then
              f_X2_shipAtPosition_13 n a1 a2 h11
            else
              zrR r8 h11
          else
          none
        else
        if ztg h7 a2 = some 20 then
          zcR (f_J15_next a2 h7) zX fun r8 h9 =>
          zcast h9 [5] r8 <|
          if ztg h9 r8 = some 5 then
            zcI (f_X6_isAt r8 a1 h9) zX fun x12 h13 =>
            if x12 = 0 then
              f_X2_shipAtPosition_13 n a1 a2 h13
            else
              zrR r8 h13
          else
          none
        else
        if ztg h7 a2 = some 21 then
          zcR (f_J17_next a2 h7) zX fun r8 h9 =>
          zcast h9 [5] r8 <|
          if ztg h9 r8 = some 5 then
            zcI (f_X6_isAt r8 a1 h9) zX fun x14 h15 =>
            if x14 = 0 then
              f_X2_shipAtPosition_13 n a1 a2 h15
            else
              zrR r8 h15
          else
          none
        else
        if ztg h7 a2 = some 24 then
          zcR (f_J21_next a2 h7) zX fun r8 h9 =>
          zcast h9 [5] r8 <|
          if ztg h9 r8 = some 5 then
            zcI (f_X6_isAt r8 a1 h9) zX fun x16 h17 =>
            if x16 = 0 then
              f_X2_shipAtPosition_13 n a1 a2 h17
            else
              zrR r8 h17
          else
          none
        else
        if ztg h7 a2 = some 25 then
          zcR (f_J22_next a2 h7) zX fun r8 h9 =>
          zcast h9 [5] r8 <|
          if ztg h9 r8 = some 5 then
            zcI (f_X6_isAt r8 a1 h9) zX fun x18 h19 =>
            if x18 = 0 then
              f_X2_shipAtPosition_13 n a1 a2 h19
            else
              zrR r8 h19
          else
          none
        else
        none
    else
    if ztg h a2 = some 20 then
      zcI (f_J15_hasNext a2 h) zX fun x6 h7 =>
      if x6 = 0 then
        zrR none h7
      else
        if ztg h7 a2 = some 8 then
          zcR (f_X9_next a2 h7) zX fun r20 h21 =>
          zcast h21 [5] r20 <|
          if ztg h21 r20 = some 5 then
            zcI (f_X6_isAt r20 a1 h21) zX fun x22 h23 =>
            if x22 = 0 then
              f_X2_shipAtPosition_13 n a1 a2 h23
            else
              zrR r20 h23
          else
          none
        else
        if ztg h7 a2 = some 20 then
          zcR (f_J15_next a2 h7) zX fun r20 h21 =>
          zcast h21 [5] r20 <|
          if ztg h21 r20 = some 5 then
            zcI (f_X6_isAt r20 a1 h21) zX fun x24 h25 =>
            if x24 = 0 then
              f_X2_shipAtPosition_13 n a1 a2 h25
            else
              zrR r20 h25
          else
          none
        else
        if ztg h7 a2 = some 21 then
          zcR (f_J17_next a2 h7) zX fun r20 h21 =>
          zcast h21 [5] r20 <|
          if ztg h21 r20 = some 5 then
            zcI (f_X6_isAt r20 a1 h21) zX fun x26 h27 =>
            if x26 = 0 then
              f_X2_shipAtPosition_13 n a1 a2 h27
            else
              zrR r20 h27
          else
          none
        else
        if ztg h7 a2 = some 24 then
          zcR (f_J21_next a2 h7) zX fun r20 h21 =>
          zcast h21 [5] r20 <|
          if ztg h21 r20 = some 5 then
            zcI (f_X6_isAt r20 a1 h21) zX fun x28 h29 =>
            if x28 = 0 then
              f_X2_shipAtPosition_13 n a1 a2 h29
            else
              zrR r20 h29
          else
          none
        else
        if ztg h7 a2 = some 25 then
          zcR (f_J22_next a2 h7) zX fun r20 h21 =>
          zcast h21 [5] r20 <|
          if ztg h21 r20 = some 5 then
            zcI (f_X6_isAt r20 a1 h21) zX fun x30 h31 =>
            if x30 = 0 then
              f_X2_shipAtPosition_13 n a1 a2 h31
            else
              zrR r20 h31
          else
          none
        else
        none
    else
    if ztg h a2 = some 21 then
      zcI (f_J16_hasNext a2 h) zX fun x6 h7 =>
      if x6 = 0 then
        zrR none h7
      else
        if ztg h7 a2 = some 8 then
          zcR (f_X9_next a2 h7) zX fun r32 h33 =>
          zcast h33 [5] r32 <|
          if ztg h33 r32 = some 5 then
            zcI (f_X6_isAt r32 a1 h33) zX fun x34 h35 =>
            if x34 = 0 then
              f_X2_shipAtPosition_13 n a1 a2 h35
            else
              zrR r32 h35
          else
          none
        else
        if ztg h7 a2 = some 20 then
          zcR (f_J15_next a2 h7) zX fun r32 h33 =>
          zcast h33 [5] r32 <|
          if ztg h33 r32 = some 5 then
            zcI (f_X6_isAt r32 a1 h33) zX fun x36 h37 =>
            if x36 = 0 then
              f_X2_shipAtPosition_13 n a1 a2 h37
            else
              zrR r32 h37
          else
          none
        else
        if ztg h7 a2 = some 21 then
          zcR (f_J17_next a2 h7) zX fun r32 h33 =>
          zcast h33 [5] r32 <|
          if ztg h33 r32 = some 5 then
            zcI (f_X6_isAt r32 a1 h33) zX fun x38 h39 =>
            if x38 = 0 then
              f_X2_shipAtPosition_13 n a1 a2 h39
            else
              zrR r32 h39
          else
          none
        else
        if ztg h7 a2 = some 24 then
          zcR (f_J21_next a2 h7) zX fun r32 h33 =>
          zcast h33 [5] r32 <|
          if ztg h33 r32 = some 5 then
            zcI (f_X6_isAt r32 a1 h33) zX fun x40 h41 =>
            if x40 = 0 then
              f_X2_shipAtPosition_13 n a1 a2 h41
            else
              zrR r32 h41
          else
          none
        else
        if ztg h7 a2 = some 25 then
          zcR (f_J22_next a2 h7) zX fun r32 h33 =>
          zcast h33 [5] r32 <|
          if ztg h33 r32 = some 5 then
            zcI (f_X6_isAt r32 a1 h33) zX fun x42 h43 =>
            if x42 = 0 then
              f_X2_shipAtPosition_13 n a1 a2 h43
            else
              zrR r32 h43
          else
          none
        else
        none
    else
    if ztg h a2 = some 24 then
      zcI (f_J20_hasNext a2 h) zX fun x6 h7 =>
      if x6 = 0 then
        zrR none h7
      else
        if ztg h7 a2 = some 8 then
          zcR (f_X9_next a2 h7) zX fun r44 h45 =>
          zcast h45 [5] r44 <|
          if ztg h45 r44 = some 5 then
            zcI (f_X6_isAt r44 a1 h45) zX fun x46 h47 =>
            if x46 = 0 then
              f_X2_shipAtPosition_13 n a1 a2 h47
            else
              zrR r44 h47
          else
          none
        else
        if ztg h7 a2 = some 20 then
          zcR (f_J15_next a2 h7) zX fun r44 h45 =>
          zcast h45 [5] r44 <|
          if ztg h45 r44 = some 5 then
            zcI (f_X6_isAt r44 a1 h45) zX fun x48 h49 =>
            if x48 = 0 then
              f_X2_shipAtPosition_13 n a1 a2 h49
            else
              zrR r44 h49
          else
          none
        else
        if ztg h7 a2 = some 21 then
          zcR (f_J17_next a2 h7) zX fun r44 h45 =>
          zcast h45 [5] r44 <|
          if ztg h45 r44 = some 5 then
            zcI (f_X6_isAt r44 a1 h45) zX fun x50 h51 =>
            if x50 = 0 then
              f_X2_shipAtPosition_13 n a1 a2 h51
            else
              zrR r44 h51
          else
          none
        else
        if ztg h7 a2 = some 24 then
          zcR (f_J21_next a2 h7) zX fun r44 h45 =>
          zcast h45 [5] r44 <|
          if ztg h45 r44 = some 5 then
            zcI (f_X6_isAt r44 a1 h45) zX fun x52 h53 =>
            if x52 = 0 then
              f_X2_shipAtPosition_13 n a1 a2 h53
            else
              zrR r44 h53
          else
          none
        else
        if ztg h7 a2 = some 25 then
          zcR (f_J22_next a2 h7) zX fun r44 h45 =>
          zcast h45 [5] r44 <|
          if ztg h45 r44 = some 5 then
            zcI (f_X6_isAt r44 a1 h45) zX fun x54 h55 =>
            if x54 = 0 then
              f_X2_shipAtPosition_13 n a1 a2 h55
            else
              zrR r44 h55
          else
          none
        else
        none
    else
    if ztg h a2 = some 25 then
      zcI (f_J20_hasNext a2 h) zX fun x6 h7 =>
      if x6 = 0 then
        zrR none h7
      else
        if ztg h7 a2 = some 8 then
          zcR (f_X9_next a2 h7) zX fun r56 h57 =>
          zcast h57 [5] r56 <|
          if ztg h57 r56 = some 5 then
            zcI (f_X6_isAt r56 a1 h57) zX fun x58 h59 =>
            if x58 = 0 then
              f_X2_shipAtPosition_13 n a1 a2 h59
            else
              zrR r56 h59
          else
          none
        else
        if ztg h7 a2 = some 20 then
          zcR (f_J15_next a2 h7) zX fun r56 h57 =>
          zcast h57 [5] r56 <|
          if ztg h57 r56 = some 5 then
            zcI (f_X6_isAt r56 a1 h57) zX fun x60 h61 =>
            if x60 = 0 then
              f_X2_shipAtPosition_13 n a1 a2 h61
            else
              zrR r56 h61
          else
          none
        else
        if ztg h7 a2 = some 21 then
          zcR (f_J17_next a2 h7) zX fun r56 h57 =>
          zcast h57 [5] r56 <|
          if ztg h57 r56 = some 5 then
            zcI (f_X6_isAt r56 a1 h57) zX fun x62 h63 =>
            if x62 = 0 then
              f_X2_shipAtPosition_13 n a1 a2 h63
            else
              zrR r56 h63
          else
          none
        else
        if ztg h7 a2 = some 24 then
          zcR (f_J21_next a2 h7) zX fun r56 h57 =>
          zcast h57 [5] r56 <|
          if ztg h57 r56 = some 5 then
            zcI (f_X6_isAt r56 a1 h57) zX fun x64 h65 =>
            if x64 = 0 then
              f_X2_shipAtPosition_13 n a1 a2 h65
            else
              zrR r56 h65
          else
          none
        else
        if ztg h7 a2 = some 25 then
          zcR (f_J22_next a2 h7) zX fun r56 h57 =>
          zcast h57 [5] r56 <|
          if ztg h57 r56 = some 5 then
            zcI (f_X6_isAt r56 a1 h57) zX fun x66 h67 =>
            if x66 = 0 then
              f_X2_shipAtPosition_13 n a1 a2 h67
            else
              zrR r56 h67
          else
          none
        else
        none
    else
    none
def f_X2_shipAtPosition (v0 : Option Nat) (v1 : Int32) (h : zH) : zO :=
  zgR h [1] 0 v0 fun r1 =>
  if ztg h r1 = some 13 then
    zcR (f_J2_values r1 h) zX fun r2 h3 =>
    if ztg h3 r2 = some 19 then
      zcR (f_J13_iterator r2 h3) zX fun r4 h5 =>
      f_X2_shipAtPosition_13 zfuel v1 r4 h5
    else
    none
  else
  none
def f_X2_isWorkable (v0 : Option Nat) (v1 : Int32) (h : zH) : zO :=
  zgI h [1] 3 v0 fun x1 =>
  if 30 < x1 then
    zrN .boolean 0 h
  else
    if ztg h v0 = some 1 then
      zcR (f_X2_shipAtPosition v0 v1 h) zX fun r2 h3 =>
      if ¬ r2 = none then
        zrN .boolean 0 h3
      else
        zrN .boolean 1 h3
    else
    none
def f_X2_placeBlock_32  (a0 : Option Nat) (a1 : Int32) (s0 : Int32) (h : zH) : zO :=
  zcV (f_X1_checkState s0 h) zX fun h9 =>
  if ztg h9 a0 = some 1 then
    zcI (f_X2_isWorkable a0 a1 h9) zX fun x10 h11 =>
    zcV (f_X1_checkSupported x10 h11) zX fun h12 =>
    zgR h12 [1] 1 a0 fun r13 =>
    znO h12 7 [.int 0] fun r14 h15 =>
    if ¬ r14 = none then
      zcV (f_X8_init r14 a1 h15) zX fun h16 =>
      if ztg h16 r13 = some 14 then
        zcI (f_J5_add r13 r14 h16) zX fun x17 h18 =>
        zgR h18 [1] 1 a0 fun r19 =>
        if ztg h18 r19 = some 14 then
          zcI (f_J5_size r19 h18) zX fun x20 h21 =>
          zrI x20 h21
        else
        none
      else
      none
    else none
  else
  none
def f_X2_placeBlock_31  (a0 : Option Nat) (a1 : Int32) (h : zH) : zO :=
  f_X2_placeBlock_32 a0 a1 0 h
def f_X2_placeBlock (v0 : Option Nat) (v1 : Int32) (h : zH) : zO :=
  zcI (f_X1_isPosition v1 h) zX fun x1 h2 =>
  zcV (f_X1_checkArgument x1 h2) zX fun h3 =>
  zgR h3 [1] 1 v0 fun r4 =>
  if ztg h3 r4 = some 14 then
    zcI (f_J5_size r4 h3) zX fun x5 h6 =>
    if 20 ≤ x5 then
      f_X2_placeBlock_31 v0 v1 h6
    else
      if ztg h6 v0 = some 1 then
        zcI (f_X2_hasBlock v0 v1 h6) zX fun x7 h8 =>
        if ¬ x7 = 0 then
          f_X2_placeBlock_31 v0 v1 h8
        else
          f_X2_placeBlock_32 v0 v1 1 h8
      else
      none
  else
  none
def f_X1_lambda_placeBlock_15 (v0 : Int32) (v1 : Option Nat) (h : zH) : zO :=
  if ztg h v1 = some 1 then
    zcI (f_X2_placeBlock v1 v0 h) zX fun x1 h2 =>
    zrI x1 h2
  else
  none
def f_J5_remove (v0 : Option Nat) (v1 : Option Nat) (h : zH) : zO :=
  zgR h [14] 0 v0 fun r1 =>
  if ztg h r1 = some 12 then
    zcR (f_J1_remove r1 v1 h) zX fun r2 h3 =>
    if ¬ r2 = (some (zG h3 5)) then
      zrN .boolean 0 h3
    else
      zrN .boolean 1 h3
  else
  if ztg h r1 = some 13 then
    zcR (f_J1_remove r1 v1 h) zX fun r2 h3 =>
    if ¬ r2 = (some (zG h3 5)) then
      zrN .boolean 0 h3
    else
      zrN .boolean 1 h3
  else
  none
def f_X2_removeBlock (v0 : Option Nat) (v1 : Int32) (h : zH) : zO :=
  zcI (f_X1_isPosition v1 h) zX fun x1 h2 =>
  zcV (f_X1_checkArgument x1 h2) zX fun h3 =>
  if ztg h3 v0 = some 1 then
    zcI (f_X2_hasBlock v0 v1 h3) zX fun x4 h5 =>
    zcV (f_X1_checkElement x4 h5) zX fun h6 =>
    if ztg h6 v0 = some 1 then
      zcI (f_X2_isWorkable v0 v1 h6) zX fun x7 h8 =>
      zcV (f_X1_checkSupported x7 h8) zX fun h9 =>
      zgR h9 [1] 1 v0 fun r10 =>
      znO h9 7 [.int 0] fun r11 h12 =>
      if ¬ r11 = none then
        zcV (f_X8_init r11 v1 h12) zX fun h13 =>
        if ztg h13 r10 = some 14 then
          zcI (f_J5_remove r10 r11 h13) zX fun x14 h15 =>
          zgR h15 [1] 1 v0 fun r16 =>
          if ztg h15 r16 = some 14 then
            zcI (f_J5_size r16 h15) zX fun x17 h18 =>
            zrI x17 h18
          else
          none
        else
        none
      else none
    else
    none
  else
  none
def f_X1_lambda_removeBlock_16 (v0 : Int32) (v1 : Option Nat) (h : zH) : zO :=
  if ztg h v1 = some 1 then
    zcI (f_X2_removeBlock v1 v0 h) zX fun x1 h2 =>
    zrI x1 h2
  else
  none
def f_X2_pay_30  (a0 : Option Nat) (a2 : Int32) (a3 : Option Nat) (s0 : Int32) (h : zH) : zO :=
  zcV (f_X1_checkState s0 h) zX fun h7 =>
  zgI h7 [5] 5 a3 fun x8 =>
  zpF h7 [5] 5 a3 (.int (x8 - a2)) fun h9 =>
  zgI h9 [1] 9 a0 fun x10 =>
  zpF h9 [1] 9 a0 (.int (x10 + a2)) fun h11 =>
  zgI h11 [5] 5 a3 fun x12 =>
  zrI x12 h11
def f_X2_pay (v0 : Option Nat) (v1 : Int32) (v2 : Int32) (h : zH) : zO :=
  if ztg h v0 = some 1 then
    zcR (f_X2_ship v0 v1 h) zX fun r1 h2 =>
    zcI (f_X1_isBetween v2 1 999 h2) zX fun x3 h4 =>
    zcV (f_X1_checkArgument x3 h4) zX fun h5 =>
    zgI h5 [5] 5 r1 fun x6 =>
    if x6 < v2 then
      f_X2_pay_30 v0 v2 r1 0 h5
    else
      f_X2_pay_30 v0 v2 r1 1 h5
  else
  none
def f_X1_lambda_pay_17 (v0 : Int32) (v1 : Int32) (v2 : Option Nat) (h : zH) : zO :=
  if ztg h v2 = some 1 then
    zcI (f_X2_pay v2 v0 v1 h) zX fun x1 h2 =>
    zrI x1 h2
  else
  none
def f_X10_lambda_shipOperation_0 (v0 : Int32) (v1 : Int32) (v2 : Int32) (v3 : Option Nat) (h : zH) : zO :=
  if ztg h v3 = some 1 then
    zcI (f_X2_addShip v3 v0 v1 v2 h) zX fun x1 h2 =>
    zrI x1 h2
  else
  none
def f_X10_lambda_enterOperation_1 (v0 : Int32) (v1 : Int32) (v2 : Option Nat) (h : zH) : zO :=
  if ztg h v2 = some 1 then
    zcI (f_X2_enter v2 v0 v1 h) zX fun x1 h2 =>
    zrI x1 h2
  else
  none
def f_X10_lambda_payOperation_2 (v0 : Int32) (v1 : Int32) (v2 : Option Nat) (h : zH) : zO :=
  if ztg h v2 = some 1 then
    zcI (f_X2_pay v2 v0 v1 h) zX fun x1 h2 =>
    zrI x1 h2
  else
  none
def f_X10_lambda_pumpOperation_3 (v0 : Int32) (v1 : Option Nat) (h : zH) : zO :=
  if ztg h v1 = some 1 then
    zcI (f_X2_setPump v1 v0 h) zX fun x1 h2 =>
    zrI x1 h2
  else
  none
def f_X10_lambda_operation_10 (v0 : Option Nat) (h : zH) : zO :=
  if ztg h v0 = some 1 then
    zcI (f_X2_setGate v0 1 h) zX fun x1 h2 =>
    zrI x1 h2
  else
  none
def f_X10_lambda_operation_11 (v0 : Option Nat) (h : zH) : zO :=
  if ztg h v0 = some 1 then
    zcI (f_X2_setGate v0 0 h) zX fun x1 h2 =>
    zrI x1 h2
  else
  none
def f_X10_lambda_numberOperation_4 (v0 : Int32) (v1 : Option Nat) (h : zH) : zO :=
  if ztg h v1 = some 1 then
    zcI (f_X2_leave v1 v0 h) zX fun x1 h2 =>
    zrI x1 h2
  else
  none
def f_X10_lambda_numberOperation_5 (v0 : Int32) (v1 : Option Nat) (h : zH) : zO :=
  if ztg h v1 = some 1 then
    zcI (f_X2_setCleaning v1 v0 1 h) zX fun x1 h2 =>
    zrI x1 h2
  else
  none
def f_X10_lambda_numberOperation_6 (v0 : Int32) (v1 : Option Nat) (h : zH) : zO :=
  if ztg h v1 = some 1 then
    zcI (f_X2_setCleaning v1 v0 0 h) zX fun x1 h2 =>
    zrI x1 h2
  else
  none
def f_X10_lambda_numberOperation_7 (v0 : Option Nat) (v1 : Int32) (v2 : Option Nat) (h : zH) : zO :=
  zgR h [9] 1 v0 fun r1 =>
  zgR h [0] 0 r1 fun r2 =>
  if ztg h v2 = some 1 then
    zcI (f_X2_pass v2 v1 r2 h) zX fun x3 h4 =>
    zrI x3 h4
  else
  none
def f_X10_lambda_numberOperation_8 (v0 : Int32) (v1 : Option Nat) (h : zH) : zO :=
  if ztg h v1 = some 1 then
    zcI (f_X2_placeBlock v1 v0 h) zX fun x1 h2 =>
    zrI x1 h2
  else
  none
def f_X10_lambda_numberOperation_9 (v0 : Int32) (v1 : Option Nat) (h : zH) : zO :=
  if ztg h v1 = some 1 then
    zcI (f_X2_removeBlock v1 v0 h) zX fun x1 h2 =>
    zrI x1 h2
  else
  none
def f_op_apply (v0 : Option Nat) (v1 : Option Nat) (h : zH) : zO :=
  if ztg h v0 = some 307 then zlv3 h v0 (fun c0 c1 c2 => zcI (f_X1_lambda_addShip_7 c0 c1 c2 v1 h) zX fun x h1 => zrI x h1) else
  if ztg h v0 = some 308 then zlv1 h v0 (fun c0 => zcI (f_X1_lambda_removeShip_8 c0 v1 h) zX fun x h1 => zrI x h1) else
  if ztg h v0 = some 309 then zlv2 h v0 (fun c0 c1 => zcI (f_X1_lambda_enter_9 c0 c1 v1 h) zX fun x h1 => zrI x h1) else
  if ztg h v0 = some 310 then zlv1 h v0 (fun c0 => zcI (f_X1_lambda_leave_10 c0 v1 h) zX fun x h1 => zrI x h1) else
  if ztg h v0 = some 311 then zlv2 h v0 (fun c0 c1 => zcI (f_X1_lambda_setCleaning_11 c0 c1 v1 h) zX fun x h1 => zrI x h1) else
  if ztg h v0 = some 312 then zlv1 h v0 (fun c0 => zcI (f_X1_lambda_setGate_12 c0 v1 h) zX fun x h1 => zrI x h1) else
  if ztg h v0 = some 313 then zlv1 h v0 (fun c0 => zcI (f_X1_lambda_setPump_13 c0 v1 h) zX fun x h1 => zrI x h1) else
  if ztg h v0 = some 314 then zlvR h v0 (fun b c1 => zcI (f_X1_lambda_pass_14 (some b) c1 v1 h) zX fun x h1 => zrI x h1) else
  if ztg h v0 = some 315 then zlv1 h v0 (fun c0 => zcI (f_X1_lambda_placeBlock_15 c0 v1 h) zX fun x h1 => zrI x h1) else
  if ztg h v0 = some 316 then zlv1 h v0 (fun c0 => zcI (f_X1_lambda_removeBlock_16 c0 v1 h) zX fun x h1 => zrI x h1) else
  if ztg h v0 = some 317 then zlv2 h v0 (fun c0 c1 => zcI (f_X1_lambda_pay_17 c0 c1 v1 h) zX fun x h1 => zrI x h1) else
  if ztg h v0 = some 318 then zlv3 h v0 (fun c0 c1 c2 => zcI (f_X10_lambda_shipOperation_0 c0 c1 c2 v1 h) zX fun x h1 => zrI x h1) else
  if ztg h v0 = some 319 then zlv2 h v0 (fun c0 c1 => zcI (f_X10_lambda_enterOperation_1 c0 c1 v1 h) zX fun x h1 => zrI x h1) else
  if ztg h v0 = some 320 then zlv2 h v0 (fun c0 c1 => zcI (f_X10_lambda_payOperation_2 c0 c1 v1 h) zX fun x h1 => zrI x h1) else
  if ztg h v0 = some 321 then zlv1 h v0 (fun c0 => zcI (f_X10_lambda_pumpOperation_3 c0 v1 h) zX fun x h1 => zrI x h1) else
  if ztg h v0 = some 322 then zlv0 h v0 (zcI (f_X10_lambda_operation_10 v1 h) zX fun x h1 => zrI x h1) else
  if ztg h v0 = some 323 then zlv0 h v0 (zcI (f_X10_lambda_operation_11 v1 h) zX fun x h1 => zrI x h1) else
  if ztg h v0 = some 324 then zlv1 h v0 (fun c0 => zcI (f_X10_lambda_numberOperation_4 c0 v1 h) zX fun x h1 => zrI x h1) else
  if ztg h v0 = some 325 then zlv1 h v0 (fun c0 => zcI (f_X10_lambda_numberOperation_5 c0 v1 h) zX fun x h1 => zrI x h1) else
  if ztg h v0 = some 326 then zlv1 h v0 (fun c0 => zcI (f_X10_lambda_numberOperation_6 c0 v1 h) zX fun x h1 => zrI x h1) else
  if ztg h v0 = some 327 then zlvR h v0 (fun b c1 => zcI (f_X10_lambda_numberOperation_7 (some b) c1 v1 h) zX fun x h1 => zrI x h1) else
  if ztg h v0 = some 328 then zlv1 h v0 (fun c0 => zcI (f_X10_lambda_numberOperation_8 c0 v1 h) zX fun x h1 => zrI x h1) else
  if ztg h v0 = some 329 then zlv1 h v0 (fun c0 => zcI (f_X10_lambda_numberOperation_9 c0 v1 h) zX fun x h1 => zrI x h1) else
  none
def f_J6_inc (v0 : Int32) (v1 : Int32) (h : zH) : zO :=
  znm (v0 + 1) fun x1 =>
  if x1 < v1 then
    zrI x1 h
  else
    zrI 0 h
def f_J6_addLast (v0 : Option Nat) (v1 : Option Nat) (h : zH) : zO :=
  if ¬ v1 = none then
    zgR h [15] 0 v0 fun r1 =>
    zgI h [15] 2 v0 fun x2 =>
    zaQ h [205] [0, 1, 2, 3, 4, 5, 6, 7, 8, 9, 10, 11, 12, 13, 14, 15, 16, 17, 18, 19, 20, 21, 22, 23, 24, 25, 26, 27, 28, 29, 30, 31, 32, 33, 34, 35] r1 x2 v1 fun h3 =>
    zgI h3 [15] 1 v0 fun x4 =>
    zgI h3 [15] 2 v0 fun x5 =>
    zaN h3 zarrs r1 fun x6 =>
    zcI (f_J6_inc x5 x6 h3) zX fun x7 h8 =>
    zpF h8 [15] 2 v0 (.int x7) fun h9 =>
    if ¬ x4 = x7 then
      zrV h9
    else
      none
  else
    none
def f_J6_sub (v0 : Int32) (v1 : Int32) (v2 : Int32) (h : zH) : zO :=
  znm (v0 - v1) fun x1 =>
  if 0 ≤ x1 then
    zrI x1 h
  else
    znm (x1 + v2) fun x2 =>
    zrI x2 h
def f_J6_size (v0 : Option Nat) (h : zH) : zO :=
  zgI h [15] 2 v0 fun x1 =>
  zgI h [15] 1 v0 fun x2 =>
  zgR h [15] 0 v0 fun r3 =>
  zaN h zarrs r3 fun x4 =>
  zcI (f_J6_sub x1 x2 x4 h) zX fun x5 h6 =>
  zrI x5 h6
def f_J6_elementAt (v0 : Option Nat) (v1 : Int32) (h : zH) : zO :=
  zaR h zrefs v0 v1 fun r1 =>
  zrR r1 h
def f_J6_pollFirst (v0 : Option Nat) (h : zH) : zO :=
  zgR h [15] 0 v0 fun r1 =>
  zgI h [15] 1 v0 fun x2 =>
  zcR (f_J6_elementAt r1 x2 h) zX fun r3 h4 =>
  if r3 = none then
    zrR r3 h4
  else
    zaQ h4 [205] [0, 1, 2, 3, 4, 5, 6, 7, 8, 9, 10, 11, 12, 13, 14, 15, 16, 17, 18, 19, 20, 21, 22, 23, 24, 25, 26, 27, 28, 29, 30, 31, 32, 33, 34, 35] r1 x2 none fun h5 =>
    zaN h5 zarrs r1 fun x6 =>
    zcI (f_J6_inc x2 x6 h5) zX fun x7 h8 =>
    zpF h8 [15] 1 v0 (.int x7) fun h9 =>
    zrR r3 h9
def f_J6_removeFirst (v0 : Option Nat) (h : zH) : zO :=
  if ztg h v0 = some 15 then
    zcR (f_J6_pollFirst v0 h) zX fun r1 h2 =>
    if ¬ r1 = none then
      zrR r1 h2
    else
      znE h2 30 fun r3 h4 =>
      zth h4 [30] r3 zX
  else
  none
def f_X1_finish_34  (a0 : Option Nat) (a1 : Option Nat) (a2 : Int32) (h : zH) : zO :=
  zpF h [0] 3 a0 (va_rf a1) fun h10 =>
  zrI a2 h10
def f_X1_finish (v0 : Option Nat) (v1 : Option Nat) (v2 : Int32) (h : zH) : zO :=
  zgR h [0] 5 v0 fun r1 =>
  zgR h [0] 3 v0 fun r2 =>
  if ztg h r1 = some 15 then
    zcV (f_J6_addLast r1 r2 h) zX fun h3 =>
    zgR h3 [0] 5 v0 fun r4 =>
    if ztg h3 r4 = some 15 then
      zcI (f_J6_size r4 h3) zX fun x5 h6 =>
      if x5 ≤ 8 then
        f_X1_finish_34 v0 v1 v2 h6
      else
        zgR h6 [0] 5 v0 fun r7 =>
        if ztg h6 r7 = some 15 then
          zcR (f_J6_removeFirst r7 h6) zX fun r8 h9 =>
          zcast h9 [1] r8 <|
          f_X1_finish_34 v0 v1 v2 h9
        else
        none
    else
    none
  else
  none
def f_X1_change_25  (a0 : Option Nat) (s0 : Option Nat) (h : zH) : zO :=
  zgI h [6] 6 s0 fun x13 =>
  zpF h [0] 10 a0 (.int x13) fun h14 =>
  znE h14 34 fun r15 h16 =>
  zth h16 [34] r15 zX
def f_X1_change (v0 : Option Nat) (v1 : Option Nat) (h : zH) : zO :=
  znO h 1 [.null, .null, .int 0, .int 0, .int 0, .int 0, .int 0, .int 0, .int 0, .int 0] fun r1 h2 =>
  zgR h2 [0] 3 v0 fun r3 =>
  if ¬ r1 = none then
    zcV (f_X2_init_2 r1 r3 h2) zX fun h4 =>
    zcI (f_op_apply v1 r1 h4) (fun e6 h5 => if e6.1 = 32 then zX e6 h5 else if e6.1 = 33 then zX e6 h5 else if e6.1 = 30 then zX e6 h5 else if e6.1 = 34 then zX e6 h5 else if e6.1 = 31 then zX e6 h5 else if e6.1 = 35 then zX e6 h5 else if e6.1 = 6 then f_X1_change_25 v0 (some e6.2) h5 else if e6.1 = 11 then zX e6 h5 else none) fun x7 h8 =>
    if ztg h8 v0 = some 0 then
      zcI (f_X1_finish v0 r1 x7 h8) (fun e10 h9 => if e10.1 = 32 then zX e10 h9 else if e10.1 = 33 then zX e10 h9 else if e10.1 = 30 then zX e10 h9 else if e10.1 = 34 then zX e10 h9 else if e10.1 = 31 then zX e10 h9 else if e10.1 = 35 then zX e10 h9 else if e10.1 = 6 then f_X1_change_25 v0 (some e10.2) h9 else if e10.1 = 11 then zX e10 h9 else none) fun x11 h12 =>
      zrI x11 h12
    else
    none
  else none
def f_X1_addShip (v0 : Option Nat) (v1 : Int32) (v2 : Int32) (v3 : Int32) (h : zH) : zO :=
  znO h 307 [.int v1, .int v2, .int v3] fun r1 h2 =>
  if ztg h2 v0 = some 0 then
    zcI (f_X1_change v0 r1 h2) zX fun x3 h4 =>
    zrI x3 h4
  else
  none
def f_X0_addShip_15  (s0 : Option Nat) (h : zH) : zO :=
  zrI 1 h
def f_X0_addShip_19  (s0 : Option Nat) (h : zH) : zO :=
  zrI 2 h
def f_X0_addShip (v0 : Option Nat) (v1 : Int32) (v2 : Int32) (v3 : Int32) (v4 : Option Nat) (h : zH) : zO :=
  if ztg h v0 = some 0 then
    zcI (f_X1_addShip v0 v1 v2 v3 h) (fun e2 h1 => if e2.1 = 32 then f_X0_addShip_15 (some e2.2) h1 else if e2.1 = 33 then f_X0_addShip_19 (some e2.2) h1 else if e2.1 = 30 then zX e2 h1 else if e2.1 = 34 then zX e2 h1 else if e2.1 = 31 then zX e2 h1 else if e2.1 = 35 then zX e2 h1 else if e2.1 = 6 then zX e2 h1 else if e2.1 = 11 then zX e2 h1 else none) fun x3 h4 =>
    zaS h4 [202] v4 0 (.long (x3.toInt64)) fun h5 =>
    zrI 0 h5
  else
  none
def f_X1_removeShip (v0 : Option Nat) (v1 : Int32) (h : zH) : zO :=
  znO h 308 [.int v1] fun r1 h2 =>
  if ztg h2 v0 = some 0 then
    zcI (f_X1_change v0 r1 h2) zX fun x3 h4 =>
    zrI x3 h4
  else
  none
def f_X0_removeShip_12  (s0 : Option Nat) (h : zH) : zO :=
  zrI 1 h
def f_X0_removeShip_15  (s0 : Option Nat) (h : zH) : zO :=
  zrI 2 h
def f_X0_removeShip (v0 : Option Nat) (v1 : Int32) (v2 : Option Nat) (h : zH) : zO :=
  if ztg h v0 = some 0 then
    zcI (f_X1_removeShip v0 v1 h) (fun e2 h1 => if e2.1 = 32 then zX e2 h1 else if e2.1 = 33 then f_X0_removeShip_15 (some e2.2) h1 else if e2.1 = 30 then f_X0_removeShip_12 (some e2.2) h1 else if e2.1 = 34 then zX e2 h1 else if e2.1 = 31 then zX e2 h1 else if e2.1 = 35 then zX e2 h1 else if e2.1 = 6 then zX e2 h1 else if e2.1 = 11 then zX e2 h1 else none) fun x3 h4 =>
    zaS h4 [202] v2 0 (.long (x3.toInt64)) fun h5 =>
    zrI 0 h5
  else
  none
def f_X1_enter (v0 : Option Nat) (v1 : Int32) (v2 : Int32) (h : zH) : zO :=
  znO h 309 [.int v1, .int v2] fun r1 h2 =>
  if ztg h2 v0 = some 0 then
    zcI (f_X1_change v0 r1 h2) zX fun x3 h4 =>
    zrI x3 h4
  else
  none
def f_X0_enter_13  (s0 : Option Nat) (h : zH) : zO :=
  zrI 1 h
def f_X0_enter_17  (s0 : Option Nat) (h : zH) : zO :=
  zrI 2 h
def f_X0_enter_21  (s0 : Option Nat) (h : zH) : zO :=
  zrI 3 h
def f_X0_enter_25  (s0 : Option Nat) (h : zH) : zO :=
  zrI 4 h
def f_X0_enter (v0 : Option Nat) (v1 : Int32) (v2 : Int32) (v3 : Option Nat) (h : zH) : zO :=
  if ztg h v0 = some 0 then
    zcI (f_X1_enter v0 v1 v2 h) (fun e2 h1 => if e2.1 = 32 then f_X0_enter_17 (some e2.2) h1 else if e2.1 = 33 then f_X0_enter_21 (some e2.2) h1 else if e2.1 = 30 then f_X0_enter_13 (some e2.2) h1 else if e2.1 = 34 then f_X0_enter_25 (some e2.2) h1 else if e2.1 = 31 then zX e2 h1 else if e2.1 = 35 then zX e2 h1 else if e2.1 = 6 then zX e2 h1 else if e2.1 = 11 then zX e2 h1 else none) fun x3 h4 =>
    zaS h4 [202] v3 0 (.long (x3.toInt64)) fun h5 =>
    zrI 0 h5
  else
  none
def f_X1_leave (v0 : Option Nat) (v1 : Int32) (h : zH) : zO :=
  znO h 310 [.int v1] fun r1 h2 =>
  if ztg h2 v0 = some 0 then
    zcI (f_X1_change v0 r1 h2) zX fun x3 h4 =>
    zrI x3 h4
  else
  none
def f_X0_leave_12  (s0 : Option Nat) (h : zH) : zO :=
  zrI 1 h
def f_X0_leave_15  (s0 : Option Nat) (h : zH) : zO :=
  zrI 2 h
def f_X0_leave_18  (s0 : Option Nat) (h : zH) : zO :=
  zrI 3 h
def f_X0_leave (v0 : Option Nat) (v1 : Int32) (v2 : Option Nat) (h : zH) : zO :=
  if ztg h v0 = some 0 then
    zcI (f_X1_leave v0 v1 h) (fun e2 h1 => if e2.1 = 32 then zX e2 h1 else if e2.1 = 33 then f_X0_leave_15 (some e2.2) h1 else if e2.1 = 30 then f_X0_leave_12 (some e2.2) h1 else if e2.1 = 34 then f_X0_leave_18 (some e2.2) h1 else if e2.1 = 31 then zX e2 h1 else if e2.1 = 35 then zX e2 h1 else if e2.1 = 6 then zX e2 h1 else if e2.1 = 11 then zX e2 h1 else none) fun x3 h4 =>
    zaS h4 [202] v2 0 (.long (x3.toInt64)) fun h5 =>
    zrI 0 h5
  else
  none
def f_X1_setCleaning (v0 : Option Nat) (v1 : Int32) (v2 : Int32) (h : zH) : zO :=
  if zok .boolean (.int v2) = true then
    znO h 311 [.int v1, .int v2] fun r1 h2 =>
    if ztg h2 v0 = some 0 then
      zcI (f_X1_change v0 r1 h2) zX fun x3 h4 =>
      if ¬ x3 = 1 then
        zrN .boolean 0 h4
      else
        zrN .boolean 1 h4
    else
    none
  else none
def f_X0_setCleaning_20  (s0 : Option Nat) (h : zH) : zO :=
  zrI 1 h
def f_X0_setCleaning_24  (s0 : Option Nat) (h : zH) : zO :=
  zrI 2 h
def f_X0_setCleaning (v0 : Option Nat) (v1 : Int32) (v2 : Int32) (v3 : Option Nat) (h : zH) : zO :=
  if ztg h v0 = some 0 then
    zcI (f_X1_setCleaning v0 v1 v2 h) (fun e2 h1 => if e2.1 = 32 then zX e2 h1 else if e2.1 = 33 then f_X0_setCleaning_24 (some e2.2) h1 else if e2.1 = 30 then f_X0_setCleaning_20 (some e2.2) h1 else if e2.1 = 34 then zX e2 h1 else if e2.1 = 31 then zX e2 h1 else if e2.1 = 35 then zX e2 h1 else if e2.1 = 6 then zX e2 h1 else if e2.1 = 11 then zX e2 h1 else none) fun x3 h4 =>
    if x3 = 0 then
      zaS h4 [202] v3 0 (.long 0) fun h5 =>
      zrI 0 h5
    else
      zaS h4 [202] v3 0 (.long 1) fun h6 =>
      zrI 0 h6
  else
  none
def f_J29_init_2 (v0 : Option Nat) (h : zH) : zO :=
  if ¬ v0 = none then
    zcV (f_J27_init v0 h) zX fun h1 =>
    zrV h1
  else none
def f_X1_checkIndex (v0 : Int32) (v1 : Int32) (h : zH) : zO :=
  zcI (f_X1_isBetween v0 0 (v1 - 1) h) zX fun x1 h2 =>
  if ¬ x1 = 0 then
    zrV h2
  else
    znE h2 31 fun r3 h4 =>
    zth h4 [31] r3 zX
def f_X2_shipAt_26  : Nat → Int32 → Int32 → Option Nat → zH → zO
  | 0, _, _, _, _ => none
  | n + 1, a1, a2, a3, h =>
    if ztg h a3 = some 8 then
      zcI (f_X9_hasNext a3 h) zX fun x10 h11 =>
      if x10 = 0 then
        zrI (-1) h11
      else
        if ztg h11 a3 = some 8 then
          zcR (f_X9_next a3 h11) zX fun r12 h13 =>
          zcast h13 [26] r12 <|
          if ztg h13 r12 = some 26 then
            zcI (f_J24_intValue r12 h13) zX fun x14 h15 =>
            if ¬ a2 = a1 then
              znm (a2 + 1) fun x16 =>
              f_X2_shipAt_26 n a1 x16 a3 h15
            else
              zrI x14 h15
          else
          none
        else
        if ztg h11 a3 = some 20 then
          zcR (f_J15_next a3 h11) zX fun r12 h13 =>
          zcast h13 [26] r12 <|
          if ztg h13 r12 = some 26 then
            zcI (f_J24_intValue r12 h13) zX fun x17 h18 =>
            if ¬ a2 = a1 then
              znm (a2 + 1) fun x19 =>
              f_X2_shipAt_26 n a1 x19 a3 h18
            else
              zrI x17 h18
          else
          none
        else
        if ztg h11 a3 = some 21 then
          zcR (f_J17_next a3 h11) zX fun r12 h13 =>
          zcast h13 [26] r12 <|
          if ztg h13 r12 = some 26 then
            zcI (f_J24_intValue r12 h13) zX fun x20 h21 =>
            if ¬ a2 = a1 then
              znm (a2 + 1) fun x22 =>
              f_X2_shipAt_26 n a1 x22 a3 h21
            else
              zrI x20 h21
          else
          none
        else
        if ztg h11 a3 = some 24 then
          zcR (f_J21_next a3 h11) zX fun r12 h13 =>
          zcast h13 [26] r12 <|
          if ztg h13 r12 = some 26 then
            zcI (f_J24_intValue r12 h13) zX fun x23 h24 =>
            if ¬ a2 = a1 then
              znm (a2 + 1) fun x25 =>
              f_X2_shipAt_26 n a1 x25 a3 h24
            else
              zrI x23 h24
          else
          none
        else
        if ztg h11 a3 = some 25 then
          zcR (f_J22_next a3 h11) zX fun r12 h13 =>
          zcast h13 [26] r12 <|
          if ztg h13 r12 = some 26 then
            zcI (f_J24_intValue r12 h13) zX fun x26 h27 =>
            if ¬ a2 = a1 then
              znm (a2 + 1) fun x28 =>
              f_X2_shipAt_26 n a1 x28 a3 h27
            else
              zrI x26 h27
          else
          none
        else
        none
    else
    if ztg h a3 = some 20 then
      zcI (f_J15_hasNext a3 h) zX fun x10 h11 =>
      if x10 = 0 then
        zrI (-1) h11
      else
        if ztg h11 a3 = some 8 then
          zcR (f_X9_next a3 h11) zX fun r29 h30 =>
          zcast h30 [26] r29 <|
          if ztg h30 r29 = some 26 then
            zcI (f_J24_intValue r29 h30) zX fun x31 h32 =>
            if ¬ a2 = a1 then
              znm (a2 + 1) fun x33 =>
              f_X2_shipAt_26 n a1 x33 a3 h32
            else
              zrI x31 h32
          else
          none
        else
        if ztg h11 a3 = some 20 then
          zcR (f_J15_next a3 h11) zX fun r29 h30 =>
          zcast h30 [26] r29 <|
          if ztg h30 r29 = some 26 then
            zcI (f_J24_intValue r29 h30) zX fun x34 h35 =>
            if ¬ a2 = a1 then
              znm (a2 + 1) fun x36 =>
              f_X2_shipAt_26 n a1 x36 a3 h35
            else
              zrI x34 h35
          else
          none
        else
        if ztg h11 a3 = some 21 then
          zcR (f_J17_next a3 h11) zX fun r29 h30 =>
          zcast h30 [26] r29 <|
          if ztg h30 r29 = some 26 then
            zcI (f_J24_intValue r29 h30) zX fun x37 h38 =>
            if ¬ a2 = a1 then
              znm (a2 + 1) fun x39 =>
              f_X2_shipAt_26 n a1 x39 a3 h38
            else
              zrI x37 h38
          else
          none
        else
        if ztg h11 a3 = some 24 then
          zcR (f_J21_next a3 h11) zX fun r29 h30 =>
          zcast h30 [26] r29 <|
          if ztg h30 r29 = some 26 then
            zcI (f_J24_intValue r29 h30) zX fun x40 h41 =>
            if ¬ a2 = a1 then
              znm (a2 + 1) fun x42 =>
              f_X2_shipAt_26 n a1 x42 a3 h41
            else
              zrI x40 h41
          else
          none
        else
        if ztg h11 a3 = some 25 then
          zcR (f_J22_next a3 h11) zX fun r29 h30 =>
          zcast h30 [26] r29 <|
          if ztg h30 r29 = some 26 then
            zcI (f_J24_intValue r29 h30) zX fun x43 h44 =>
            if ¬ a2 = a1 then
              znm (a2 + 1) fun x45 =>
              f_X2_shipAt_26 n a1 x45 a3 h44
            else
              zrI x43 h44
          else
          none
        else
        none
    else
    if ztg h a3 = some 21 then
      zcI (f_J16_hasNext a3 h) zX fun x10 h11 =>
      if x10 = 0 then
        zrI (-1) h11
      else
        if ztg h11 a3 = some 8 then
          zcR (f_X9_next a3 h11) zX fun r46 h47 =>
          zcast h47 [26] r46 <|
          if ztg h47 r46 = some 26 then
            zcI (f_J24_intValue r46 h47) zX fun x48 h49 =>
            if ¬ a2 = a1 then
              znm (a2 + 1) fun x50 =>
              f_X2_shipAt_26 n a1 x50 a3 h49
            else
              zrI x48 h49
          else
          none
        else
        if ztg h11 a3 = some 20 then
          zcR (f_J15_next a3 h11) zX fun r46 h47 =>
          zcast h47 [26] r46 <|
          if ztg h47 r46 = some 26 then
            zcI (f_J24_intValue r46 h47) zX fun x51 h52 =>
            if ¬ a2 = a1 then
              znm (a2 + 1) fun x53 =>
              f_X2_shipAt_26 n a1 x53 a3 h52
            else
              zrI x51 h52
          else
          none
        else
        if ztg h11 a3 = some 21 then
          zcR (f_J17_next a3 h11) zX fun r46 h47 =>
          zcast h47 [26] r46 <|
          if ztg h47 r46 = some 26 then
            zcI (f_J24_intValue r46 h47) zX fun x54 h55 =>
            if ¬ a2 = a1 then
              znm (a2 + 1) fun x56 =>
              f_X2_shipAt_26 n a1 x56 a3 h55
            else
              zrI x54 h55
          else
          none
        else
        if ztg h11 a3 = some 24 then
          zcR (f_J21_next a3 h11) zX fun r46 h47 =>
          zcast h47 [26] r46 <|
          if ztg h47 r46 = some 26 then
            zcI (f_J24_intValue r46 h47) zX fun x57 h58 =>
            if ¬ a2 = a1 then
              znm (a2 + 1) fun x59 =>
              f_X2_shipAt_26 n a1 x59 a3 h58
            else
              zrI x57 h58
          else
          none
        else
        if ztg h11 a3 = some 25 then
          zcR (f_J22_next a3 h11) zX fun r46 h47 =>
          zcast h47 [26] r46 <|
          if ztg h47 r46 = some 26 then
            zcI (f_J24_intValue r46 h47) zX fun x60 h61 =>
            if ¬ a2 = a1 then
              znm (a2 + 1) fun x62 =>
              f_X2_shipAt_26 n a1 x62 a3 h61
            else
              zrI x60 h61
          else
          none
        else
        none
    else
    if ztg h a3 = some 24 then
      zcI (f_J20_hasNext a3 h) zX fun x10 h11 =>
      if x10 = 0 then
        zrI (-1) h11
      else
        if ztg h11 a3 = some 8 then
          zcR (f_X9_next a3 h11) zX fun r63 h64 =>
          zcast h64 [26] r63 <|
          if ztg h64 r63 = some 26 then
            zcI (f_J24_intValue r63 h64) zX fun x65 h66 =>
            if ¬ a2 = a1 then
              znm (a2 + 1) fun x67 =>
              f_X2_shipAt_26 n a1 x67 a3 h66
            else
              zrI x65 h66
          else
          none
        else
        if ztg h11 a3 = some 20 then
          zcR (f_J15_next a3 h11) zX fun r63 h64 =>
          zcast h64 [26] r63 <|
          if ztg h64 r63 = some 26 then
            zcI (f_J24_intValue r63 h64) zX fun x68 h69 =>
            if ¬ a2 = a1 then
              znm (a2 + 1) fun x70 =>
              f_X2_shipAt_26 n a1 x70 a3 h69
            else
              zrI x68 h69
          else
          none
        else
        if ztg h11 a3 = some 21 then
          zcR (f_J17_next a3 h11) zX fun r63 h64 =>
          zcast h64 [26] r63 <|
          if ztg h64 r63 = some 26 then
            zcI (f_J24_intValue r63 h64) zX fun x71 h72 =>
            if ¬ a2 = a1 then
              znm (a2 + 1) fun x73 =>
              f_X2_shipAt_26 n a1 x73 a3 h72
            else
              zrI x71 h72
          else
          none
        else
        if ztg h11 a3 = some 24 then
          zcR (f_J21_next a3 h11) zX fun r63 h64 =>
          zcast h64 [26] r63 <|
          if ztg h64 r63 = some 26 then
            zcI (f_J24_intValue r63 h64) zX fun x74 h75 =>
            if ¬ a2 = a1 then
              znm (a2 + 1) fun x76 =>
              f_X2_shipAt_26 n a1 x76 a3 h75
            else
              zrI x74 h75
          else
          none
        else
        if ztg h11 a3 = some 25 then
          zcR (f_J22_next a3 h11) zX fun r63 h64 =>
          zcast h64 [26] r63 <|
          if ztg h64 r63 = some 26 then
            zcI (f_J24_intValue r63 h64) zX fun x77 h78 =>
            if ¬ a2 = a1 then
              znm (a2 + 1) fun x79 =>
              f_X2_shipAt_26 n a1 x79 a3 h78
            else
              zrI x77 h78
          else
          none
        else
        none
    else
    if ztg h a3 = some 25 then
      zcI (f_J20_hasNext a3 h) zX fun x10 h11 =>
      if x10 = 0 then
        zrI (-1) h11
      else
        if ztg h11 a3 = some 8 then
          zcR (f_X9_next a3 h11) zX fun r80 h81 =>
          zcast h81 [26] r80 <|
          if ztg h81 r80 = some 26 then
            zcI (f_J24_intValue r80 h81) zX fun x82 h83 =>
            if ¬ a2 = a1 then
              znm (a2 + 1) fun x84 =>
              f_X2_shipAt_26 n a1 x84 a3 h83
            else
              zrI x82 h83
          else
          none
        else
        if ztg h11 a3 = some 20 then
          zcR (f_J15_next a3 h11) zX fun r80 h81 =>
          zcast h81 [26] r80 <|
          if ztg h81 r80 = some 26 then
            zcI (f_J24_intValue r80 h81) zX fun x85 h86 =>
            if ¬ a2 = a1 then
              znm (a2 + 1) fun x87 =>
              f_X2_shipAt_26 n a1 x87 a3 h86
            else
              zrI x85 h86
          else
          none
        else
        if ztg h11 a3 = some 21 then
          zcR (f_J17_next a3 h11) zX fun r80 h81 =>
          zcast h81 [26] r80 <|
          if ztg h81 r80 = some 26 then
            zcI (f_J24_intValue r80 h81) zX fun x88 h89 =>
            if ¬ a2 = a1 then
              znm (a2 + 1) fun x90 =>
              f_X2_shipAt_26 n a1 x90 a3 h89
            else
              zrI x88 h89
          else
          none
        else
        if ztg h11 a3 = some 24 then
          zcR (f_J21_next a3 h11) zX fun r80 h81 =>
          zcast h81 [26] r80 <|
          if ztg h81 r80 = some 26 then
            zcI (f_J24_intValue r80 h81) zX fun x91 h92 =>
            if ¬ a2 = a1 then
              znm (a2 + 1) fun x93 =>
              f_X2_shipAt_26 n a1 x93 a3 h92
            else
              zrI x91 h92
          else
          none
        else
        if ztg h11 a3 = some 25 then
          zcR (f_J22_next a3 h11) zX fun r80 h81 =>
          zcast h81 [26] r80 <|
          if ztg h81 r80 = some 26 then
            zcI (f_J24_intValue r80 h81) zX fun x94 h95 =>
            if ¬ a2 = a1 then
              znm (a2 + 1) fun x96 =>
              f_X2_shipAt_26 n a1 x96 a3 h95
            else
              zrI x94 h95
          else
          none
        else
        none
    else
    none
def f_X2_shipAt (v0 : Option Nat) (v1 : Int32) (h : zH) : zO :=
  zgR h [1] 0 v0 fun r1 =>
  if ztg h r1 = some 13 then
    zcI (f_J1_size r1 h) zX fun x2 h3 =>
    zcV (f_X1_checkIndex v1 x2 h3) zX fun h4 =>
    zgR h4 [1] 0 v0 fun r5 =>
    if ztg h4 r5 = some 13 then
      zcR (f_J2_keySet r5 h4) zX fun r6 h7 =>
      if ztg h7 r6 = some 22 then
        zcR (f_J18_iterator r6 h7) zX fun r8 h9 =>
        f_X2_shipAt_26 zfuel v1 0 r8 h9
      else
      if ztg h7 r6 = some 23 then
        zcR (f_J19_iterator r6 h7) zX fun r8 h9 =>
        f_X2_shipAt_26 zfuel v1 0 r8 h9
      else
      none
    else
    none
  else
  none
def f_X1_shipAt (v0 : Option Nat) (v1 : Int32) (h : zH) : zO :=
  zgR h [0] 3 v0 fun r1 =>
  if ztg h r1 = some 1 then
    zcI (f_X2_shipAt r1 v1 h) zX fun x2 h3 =>
    zrI x2 h3
  else
  none
def f_X0_shipAt_12  (s0 : Option Nat) (h : zH) : zO :=
  zrI 1 h
def f_X0_shipAt (v0 : Option Nat) (v1 : Int32) (v2 : Option Nat) (h : zH) : zO :=
  if ztg h v0 = some 0 then
    zcI (f_X1_shipAt v0 v1 h) (fun e2 h1 => if e2.1 = 32 then zX e2 h1 else if e2.1 = 33 then zX e2 h1 else if e2.1 = 30 then zX e2 h1 else if e2.1 = 34 then zX e2 h1 else if e2.1 = 31 then f_X0_shipAt_12 (some e2.2) h1 else if e2.1 = 35 then zX e2 h1 else if e2.1 = 6 then zX e2 h1 else if e2.1 = 11 then zX e2 h1 else none) fun x3 h4 =>
    zaS h4 [202] v2 0 (.long (x3.toInt64)) fun h5 =>
    zrI 0 h5
  else
  none
def f_X1_isInDock (v0 : Option Nat) (v1 : Int32) (h : zH) : zO :=
  zgR h [0] 3 v0 fun r1 =>
  if ztg h r1 = some 1 then
    zcR (f_X2_ship r1 v1 h) zX fun r2 h3 =>
    if ztg h3 r2 = some 5 then
      zcI (f_X6_isInDock r2 h3) zX fun x4 h5 =>
      zrN .boolean x4 h5
    else
    none
  else
  none
def f_X0_isInDock_19  (s0 : Option Nat) (h : zH) : zO :=
  zrI 1 h
def f_X0_isInDock (v0 : Option Nat) (v1 : Int32) (v2 : Option Nat) (h : zH) : zO :=
  if ztg h v0 = some 0 then
    zcI (f_X1_isInDock v0 v1 h) (fun e2 h1 => if e2.1 = 32 then zX e2 h1 else if e2.1 = 33 then zX e2 h1 else if e2.1 = 30 then f_X0_isInDock_19 (some e2.2) h1 else if e2.1 = 34 then zX e2 h1 else if e2.1 = 31 then zX e2 h1 else if e2.1 = 35 then zX e2 h1 else if e2.1 = 6 then zX e2 h1 else if e2.1 = 11 then zX e2 h1 else none) fun x3 h4 =>
    if x3 = 0 then
      zaS h4 [202] v2 0 (.long 0) fun h5 =>
      zrI 0 h5
    else
      zaS h4 [202] v2 0 (.long 1) fun h6 =>
      zrI 0 h6
  else
  none
def f_X2_positionOf (v0 : Option Nat) (v1 : Int32) (h : zH) : zO :=
  if ztg h v0 = some 1 then
    zcR (f_X2_shipInDock v0 v1 h) zX fun r1 h2 =>
    zgR h2 [5] 8 r1 fun r3 =>
    zgI h2 [2] 0 r3 fun x4 =>
    zrI x4 h2
  else
  none
def f_X1_positionOf (v0 : Option Nat) (v1 : Int32) (h : zH) : zO :=
  zgR h [0] 3 v0 fun r1 =>
  if ztg h r1 = some 1 then
    zcI (f_X2_positionOf r1 v1 h) zX fun x2 h3 =>
    zrI x2 h3
  else
  none
def f_X0_positionOf_12  (s0 : Option Nat) (h : zH) : zO :=
  zrI 1 h
def f_X0_positionOf_15  (s0 : Option Nat) (h : zH) : zO :=
  zrI 2 h
def f_X0_positionOf (v0 : Option Nat) (v1 : Int32) (v2 : Option Nat) (h : zH) : zO :=
  if ztg h v0 = some 0 then
    zcI (f_X1_positionOf v0 v1 h) (fun e2 h1 => if e2.1 = 32 then zX e2 h1 else if e2.1 = 33 then f_X0_positionOf_15 (some e2.2) h1 else if e2.1 = 30 then f_X0_positionOf_12 (some e2.2) h1 else if e2.1 = 34 then zX e2 h1 else if e2.1 = 31 then zX e2 h1 else if e2.1 = 35 then zX e2 h1 else if e2.1 = 6 then zX e2 h1 else if e2.1 = 11 then zX e2 h1 else none) fun x3 h4 =>
    zaS h4 [202] v2 0 (.long (x3.toInt64)) fun h5 =>
    zrI 0 h5
  else
  none
def f_X1_dirtOf (v0 : Option Nat) (v1 : Int32) (h : zH) : zO :=
  zgR h [0] 3 v0 fun r1 =>
  if ztg h r1 = some 1 then
    zcR (f_X2_ship r1 v1 h) zX fun r2 h3 =>
    zgI h3 [5] 3 r2 fun x4 =>
    zrI x4 h3
  else
  none
def f_X0_dirtOf_12  (s0 : Option Nat) (h : zH) : zO :=
  zrI 1 h
def f_X0_dirtOf (v0 : Option Nat) (v1 : Int32) (v2 : Option Nat) (h : zH) : zO :=
  if ztg h v0 = some 0 then
    zcI (f_X1_dirtOf v0 v1 h) (fun e2 h1 => if e2.1 = 32 then zX e2 h1 else if e2.1 = 33 then zX e2 h1 else if e2.1 = 30 then f_X0_dirtOf_12 (some e2.2) h1 else if e2.1 = 34 then zX e2 h1 else if e2.1 = 31 then zX e2 h1 else if e2.1 = 35 then zX e2 h1 else if e2.1 = 6 then zX e2 h1 else if e2.1 = 11 then zX e2 h1 else none) fun x3 h4 =>
    zaS h4 [202] v2 0 (.long (x3.toInt64)) fun h5 =>
    zrI 0 h5
  else
  none
def f_X1_damageOf (v0 : Option Nat) (v1 : Int32) (h : zH) : zO :=
  zgR h [0] 3 v0 fun r1 =>
  if ztg h r1 = some 1 then
    zcR (f_X2_ship r1 v1 h) zX fun r2 h3 =>
    zgI h3 [5] 4 r2 fun x4 =>
    zrI x4 h3
  else
  none
def f_X0_damageOf_12  (s0 : Option Nat) (h : zH) : zO :=
  zrI 1 h
def f_X0_damageOf (v0 : Option Nat) (v1 : Int32) (v2 : Option Nat) (h : zH) : zO :=
  if ztg h v0 = some 0 then
    zcI (f_X1_damageOf v0 v1 h) (fun e2 h1 => if e2.1 = 32 then zX e2 h1 else if e2.1 = 33 then zX e2 h1 else if e2.1 = 30 then f_X0_damageOf_12 (some e2.2) h1 else if e2.1 = 34 then zX e2 h1 else if e2.1 = 31 then zX e2 h1 else if e2.1 = 35 then zX e2 h1 else if e2.1 = 6 then zX e2 h1 else if e2.1 = 11 then zX e2 h1 else none) fun x3 h4 =>
    zaS h4 [202] v2 0 (.long (x3.toInt64)) fun h5 =>
    zrI 0 h5
  else
  none
def f_X1_hoursAfloat (v0 : Option Nat) (v1 : Int32) (h : zH) : zO :=
  zgR h [0] 3 v0 fun r1 =>
  if ztg h r1 = some 1 then
    zcR (f_X2_ship r1 v1 h) zX fun r2 h3 =>
    zgI h3 [5] 6 r2 fun x4 =>
    zrI x4 h3
  else
  none
def f_X0_hoursAfloat_12  (s0 : Option Nat) (h : zH) : zO :=
  zrI 1 h
def f_X0_hoursAfloat (v0 : Option Nat) (v1 : Int32) (v2 : Option Nat) (h : zH) : zO :=
  if ztg h v0 = some 0 then
    zcI (f_X1_hoursAfloat v0 v1 h) (fun e2 h1 => if e2.1 = 32 then zX e2 h1 else if e2.1 = 33 then zX e2 h1 else if e2.1 = 30 then f_X0_hoursAfloat_12 (some e2.2) h1 else if e2.1 = 34 then zX e2 h1 else if e2.1 = 31 then zX e2 h1 else if e2.1 = 35 then zX e2 h1 else if e2.1 = 6 then zX e2 h1 else if e2.1 = 11 then zX e2 h1 else none) fun x3 h4 =>
    zaS h4 [202] v2 0 (.long (x3.toInt64)) fun h5 =>
    zrI 0 h5
  else
  none
def f_X1_isAfloat (v0 : Option Nat) (v1 : Int32) (h : zH) : zO :=
  zgR h [0] 3 v0 fun r1 =>
  if ztg h r1 = some 1 then
    zcR (f_X2_ship r1 v1 h) zX fun r2 h3 =>
    zgR h3 [0] 3 v0 fun r4 =>
    zgI h3 [1] 3 r4 fun x5 =>
    if ztg h3 r2 = some 5 then
      zcI (f_X6_rests r2 x5 h3) zX fun x6 h7 =>
      if ¬ x6 = 0 then
        zrN .boolean 0 h7
      else
        zrN .boolean 1 h7
    else
    none
  else
  none
def f_X0_isAfloat_19  (s0 : Option Nat) (h : zH) : zO :=
  zrI 1 h
def f_X0_isAfloat (v0 : Option Nat) (v1 : Int32) (v2 : Option Nat) (h : zH) : zO :=
  if ztg h v0 = some 0 then
    zcI (f_X1_isAfloat v0 v1 h) (fun e2 h1 => if e2.1 = 32 then zX e2 h1 else if e2.1 = 33 then zX e2 h1 else if e2.1 = 30 then f_X0_isAfloat_19 (some e2.2) h1 else if e2.1 = 34 then zX e2 h1 else if e2.1 = 31 then zX e2 h1 else if e2.1 = 35 then zX e2 h1 else if e2.1 = 6 then zX e2 h1 else if e2.1 = 11 then zX e2 h1 else none) fun x3 h4 =>
    if x3 = 0 then
      zaS h4 [202] v2 0 (.long 0) fun h5 =>
      zrI 0 h5
    else
      zaS h4 [202] v2 0 (.long 1) fun h6 =>
      zrI 0 h6
  else
  none
def f_X1_refusalReason_12  (a0 : Option Nat) (s0 : Int32) (h : zH) : zO :=
  zcV (f_X1_checkElement s0 h) zX fun h2 =>
  zgI h2 [0] 10 a0 fun x3 =>
  zrI x3 h2
def f_X1_refusalReason (v0 : Option Nat) (h : zH) : zO :=
  zgI h [0] 10 v0 fun x1 =>
  if x1 ≤ 0 then
    f_X1_refusalReason_12 v0 0 h
  else
    f_X1_refusalReason_12 v0 1 h
def f_X0_refusalReason_11  (s0 : Option Nat) (h : zH) : zO :=
  zrI 1 h
def f_X0_refusalReason (v0 : Option Nat) (v1 : Option Nat) (h : zH) : zO :=
  if ztg h v0 = some 0 then
    zcI (f_X1_refusalReason v0 h) (fun e2 h1 => if e2.1 = 32 then zX e2 h1 else if e2.1 = 33 then zX e2 h1 else if e2.1 = 30 then f_X0_refusalReason_11 (some e2.2) h1 else if e2.1 = 34 then zX e2 h1 else if e2.1 = 31 then zX e2 h1 else if e2.1 = 35 then zX e2 h1 else if e2.1 = 6 then zX e2 h1 else if e2.1 = 11 then zX e2 h1 else none) fun x3 h4 =>
    zaS h4 [202] v1 0 (.long (x3.toInt64)) fun h5 =>
    zrI 0 h5
  else
  none
def f_X1_setGate (v0 : Option Nat) (v1 : Int32) (h : zH) : zO :=
  if zok .boolean (.int v1) = true then
    znO h 312 [.int v1] fun r1 h2 =>
    if ztg h2 v0 = some 0 then
      zcI (f_X1_change v0 r1 h2) zX fun x3 h4 =>
      if ¬ x3 = 1 then
        zrN .boolean 0 h4
      else
        zrN .boolean 1 h4
    else
    none
  else none
def f_X0_setGate_19  (s0 : Option Nat) (h : zH) : zO :=
  zrI 1 h
def f_X0_setGate (v0 : Option Nat) (v1 : Int32) (v2 : Option Nat) (h : zH) : zO :=
  if ztg h v0 = some 0 then
    zcI (f_X1_setGate v0 v1 h) (fun e2 h1 => if e2.1 = 32 then zX e2 h1 else if e2.1 = 33 then zX e2 h1 else if e2.1 = 30 then zX e2 h1 else if e2.1 = 34 then f_X0_setGate_19 (some e2.2) h1 else if e2.1 = 31 then zX e2 h1 else if e2.1 = 35 then zX e2 h1 else if e2.1 = 6 then zX e2 h1 else if e2.1 = 11 then zX e2 h1 else none) fun x3 h4 =>
    if x3 = 0 then
      zaS h4 [202] v2 0 (.long 0) fun h5 =>
      zrI 0 h5
    else
      zaS h4 [202] v2 0 (.long 1) fun h6 =>
      zrI 0 h6
  else
  none
def f_X1_setPump (v0 : Option Nat) (v1 : Int32) (h : zH) : zO :=
  znO h 313 [.int v1] fun r1 h2 =>
  if ztg h2 v0 = some 0 then
    zcI (f_X1_change v0 r1 h2) zX fun x3 h4 =>
    zrI x3 h4
  else
  none
def f_X0_setPump_12  (s0 : Option Nat) (h : zH) : zO :=
  zrI 1 h
def f_X0_setPump (v0 : Option Nat) (v1 : Int32) (v2 : Option Nat) (h : zH) : zO :=
  if ztg h v0 = some 0 then
    zcI (f_X1_setPump v0 v1 h) (fun e2 h1 => if e2.1 = 32 then f_X0_setPump_12 (some e2.2) h1 else if e2.1 = 33 then zX e2 h1 else if e2.1 = 30 then zX e2 h1 else if e2.1 = 34 then zX e2 h1 else if e2.1 = 31 then zX e2 h1 else if e2.1 = 35 then zX e2 h1 else if e2.1 = 6 then zX e2 h1 else if e2.1 = 11 then zX e2 h1 else none) fun x3 h4 =>
    zaS h4 [202] v2 0 (.long (x3.toInt64)) fun h5 =>
    zrI 0 h5
  else
  none
def f_X1_seaLevel (v0 : Option Nat) (v1 : Int32) (h : zH) : zO :=
  zcI (f_X1_isBetween v1 0 9999 h) zX fun x1 h2 =>
  zcV (f_X1_checkArgument x1 h2) zX fun h3 =>
  zcI (f_X1_seaLevelOf v1 h3) zX fun x4 h5 =>
  zrI x4 h5
def f_X0_seaLevel_12  (s0 : Option Nat) (h : zH) : zO :=
  zrI 1 h
def f_X0_seaLevel (v0 : Option Nat) (v1 : Int32) (v2 : Option Nat) (h : zH) : zO :=
  if ztg h v0 = some 0 then
    zcI (f_X1_seaLevel v0 v1 h) (fun e2 h1 => if e2.1 = 32 then f_X0_seaLevel_12 (some e2.2) h1 else if e2.1 = 33 then zX e2 h1 else if e2.1 = 30 then zX e2 h1 else if e2.1 = 34 then zX e2 h1 else if e2.1 = 31 then zX e2 h1 else if e2.1 = 35 then zX e2 h1 else if e2.1 = 6 then zX e2 h1 else if e2.1 = 11 then zX e2 h1 else none) fun x3 h4 =>
    zaS h4 [202] v2 0 (.long (x3.toInt64)) fun h5 =>
    zrI 0 h5
  else
  none
def f_X1_seaLevelSteps_41 (K8 : Int32 → Int32 → Int32 → Int32 → zH → zO) (a0 : Int32) (a1 : Int32) (a3 : Int32) (s0 : Int32) (h : zH) : zO :=
  znm (a3 + 1) fun x2 =>
  K8 a0 a1 s0 x2 h
def f_X1_seaLevelSteps_8  : Nat → Int32 → Int32 → Int32 → Int32 → zH → zO
  | 0, _, _, _, _, _ => none
  | n + 1, a0, a1, a2, a3, h =>
    if a0 ≤ a3 then
      zrI a1 h
    else
      znm (a1 + a2) fun x1 =>
      if ¬ x1 = 160 then
        if ¬ x1 = 40 then
          f_X1_seaLevelSteps_41 (f_X1_seaLevelSteps_8 n) a0 x1 a3 a2 h
        else
          f_X1_seaLevelSteps_41 (f_X1_seaLevelSteps_8 n) a0 x1 a3 20 h
      else
        f_X1_seaLevelSteps_41 (f_X1_seaLevelSteps_8 n) a0 x1 a3 (-20) h
def f_X1_seaLevelSteps (v0 : Int32) (h : zH) : zO :=
  f_X1_seaLevelSteps_8 zfuel v0 40 20 0 h
def f_X1_seaLevelByHours (v0 : Option Nat) (v1 : Int32) (h : zH) : zO :=
  zcI (f_X1_isBetween v1 0 9999 h) zX fun x1 h2 =>
  zcV (f_X1_checkArgument x1 h2) zX fun h3 =>
  zcI (f_X1_seaLevelSteps v1 h3) zX fun x4 h5 =>
  zrI x4 h5
def f_X0_seaLevelByHours_12  (s0 : Option Nat) (h : zH) : zO :=
  zrI 1 h
def f_X0_seaLevelByHours (v0 : Option Nat) (v1 : Int32) (v2 : Option Nat) (h : zH) : zO :=
  if ztg h v0 = some 0 then
    zcI (f_X1_seaLevelByHours v0 v1 h) (fun e2 h1 => if e2.1 = 32 then f_X0_seaLevelByHours_12 (some e2.2) h1 else if e2.1 = 33 then zX e2 h1 else if e2.1 = 30 then zX e2 h1 else if e2.1 = 34 then zX e2 h1 else if e2.1 = 31 then zX e2 h1 else if e2.1 = 35 then zX e2 h1 else if e2.1 = 6 then zX e2 h1 else if e2.1 = 11 then zX e2 h1 else none) fun x3 h4 =>
    zaS h4 [202] v2 0 (.long (x3.toInt64)) fun h5 =>
    zrI 0 h5
  else
  none
def f_X1_pass (v0 : Option Nat) (v1 : Int32) (h : zH) : zO :=
  znO h 314 [va_rf v0, .int v1] fun r1 h2 =>
  if ztg h2 v0 = some 0 then
    zcI (f_X1_change v0 r1 h2) zX fun x3 h4 =>
    zrI x3 h4
  else
  none
def f_X0_pass_12  (s0 : Option Nat) (h : zH) : zO :=
  zrI 1 h
def f_X0_pass (v0 : Option Nat) (v1 : Int32) (v2 : Option Nat) (h : zH) : zO :=
  if ztg h v0 = some 0 then
    zcI (f_X1_pass v0 v1 h) (fun e2 h1 => if e2.1 = 32 then f_X0_pass_12 (some e2.2) h1 else if e2.1 = 33 then zX e2 h1 else if e2.1 = 30 then zX e2 h1 else if e2.1 = 34 then zX e2 h1 else if e2.1 = 31 then zX e2 h1 else if e2.1 = 35 then zX e2 h1 else if e2.1 = 6 then zX e2 h1 else if e2.1 = 11 then zX e2 h1 else none) fun x3 h4 =>
    zaS h4 [202] v2 0 (.long (x3.toInt64)) fun h5 =>
    zrI 0 h5
  else
  none
def f_X2_levelAfter_22  : Nat → Int32 → Option Nat → Option Nat → Int32 → zH → zO
  | 0, _, _, _, _, _ => none
  | n + 1, a1, a2, a3, a4, h =>
    if a1 ≤ a4 then
      zgI h [1] 3 a3 fun x7 =>
      zrI x7 h
    else
      if ztg h a3 = some 1 then
        zcV (f_X2_passHour a3 a2 h) zX fun h8 =>
        znm (a4 + 1) fun x9 =>
        f_X2_levelAfter_22 n a1 a2 a3 x9 h8
      else
      none
def f_X2_levelAfter (v0 : Option Nat) (v1 : Int32) (v2 : Option Nat) (h : zH) : zO :=
  zcI (f_X1_isBetween v1 0 96 h) zX fun x1 h2 =>
  zcV (f_X1_checkArgument x1 h2) zX fun h3 =>
  znO h3 1 [.null, .null, .int 0, .int 0, .int 0, .int 0, .int 0, .int 0, .int 0, .int 0] fun r4 h5 =>
  if ¬ r4 = none then
    zcV (f_X2_init_2 r4 v0 h5) zX fun h6 =>
    f_X2_levelAfter_22 zfuel v1 v2 r4 0 h6
  else none
def f_X1_levelAfter (v0 : Option Nat) (v1 : Int32) (h : zH) : zO :=
  zgR h [0] 3 v0 fun r1 =>
  zgR h [0] 0 v0 fun r2 =>
  if ztg h r1 = some 1 then
    zcI (f_X2_levelAfter r1 v1 r2 h) zX fun x3 h4 =>
    zrI x3 h4
  else
  none
def f_X0_levelAfter_12  (s0 : Option Nat) (h : zH) : zO :=
  zrI 1 h
def f_X0_levelAfter (v0 : Option Nat) (v1 : Int32) (v2 : Option Nat) (h : zH) : zO :=
  if ztg h v0 = some 0 then
    zcI (f_X1_levelAfter v0 v1 h) (fun e2 h1 => if e2.1 = 32 then f_X0_levelAfter_12 (some e2.2) h1 else if e2.1 = 33 then zX e2 h1 else if e2.1 = 30 then zX e2 h1 else if e2.1 = 34 then zX e2 h1 else if e2.1 = 31 then zX e2 h1 else if e2.1 = 35 then zX e2 h1 else if e2.1 = 6 then zX e2 h1 else if e2.1 = 11 then zX e2 h1 else none) fun x3 h4 =>
    zaS h4 [202] v2 0 (.long (x3.toInt64)) fun h5 =>
    zrI 0 h5
  else
  none
def f_X2_hoursUntilAfloat_52   (h : zH) : zO :=
  znE h 33 fun r11 h12 =>
  zth h12 [33] r11 zX
def f_X2_hoursUntilAfloat_19  : Nat → Option Nat → Option Nat → Option Nat → Int32 → zH → zO
  | 0, _, _, _, _, _ => none
  | n + 1, a2, a3, a4, a5, h =>
    if 96 < a5 then
      f_X2_hoursUntilAfloat_52 h
    else
      zgI h [1] 3 a3 fun x6 =>
      if ztg h a4 = some 5 then
        zcI (f_X6_rests a4 x6 h) zX fun x7 h8 =>
        if ¬ x7 = 0 then
          if ztg h8 a3 = some 1 then
            zcV (f_X2_passHour a3 a2 h8) zX fun h9 =>
            znm (a5 + 1) fun x10 =>
            f_X2_hoursUntilAfloat_19 n a2 a3 a4 x10 h9
          else
          none
        else
          zrI a5 h8
      else
      none
def f_X2_hoursUntilAfloat (v0 : Option Nat) (v1 : Int32) (v2 : Option Nat) (h : zH) : zO :=
  znO h 1 [.null, .null, .int 0, .int 0, .int 0, .int 0, .int 0, .int 0, .int 0, .int 0] fun r1 h2 =>
  if ¬ r1 = none then
    zcV (f_X2_init_2 r1 v0 h2) zX fun h3 =>
    if ztg h3 r1 = some 1 then
      zcR (f_X2_ship r1 v1 h3) zX fun r4 h5 =>
      f_X2_hoursUntilAfloat_19 zfuel v2 r1 r4 0 h5
    else
    none
  else none
def f_X1_hoursUntilAfloat (v0 : Option Nat) (v1 : Int32) (h : zH) : zO :=
  zgR h [0] 3 v0 fun r1 =>
  zgR h [0] 0 v0 fun r2 =>
  if ztg h r1 = some 1 then
    zcI (f_X2_hoursUntilAfloat r1 v1 r2 h) zX fun x3 h4 =>
    zrI x3 h4
  else
  none
def f_X0_hoursUntilAfloat_12  (s0 : Option Nat) (h : zH) : zO :=
  zrI 1 h
def f_X0_hoursUntilAfloat_15  (s0 : Option Nat) (h : zH) : zO :=
  zrI 2 h
def f_X0_hoursUntilAfloat (v0 : Option Nat) (v1 : Int32) (v2 : Option Nat) (h : zH) : zO :=
  if ztg h v0 = some 0 then
    zcI (f_X1_hoursUntilAfloat v0 v1 h) (fun e2 h1 => if e2.1 = 32 then zX e2 h1 else if e2.1 = 33 then f_X0_hoursUntilAfloat_15 (some e2.2) h1 else if e2.1 = 30 then f_X0_hoursUntilAfloat_12 (some e2.2) h1 else if e2.1 = 34 then zX e2 h1 else if e2.1 = 31 then zX e2 h1 else if e2.1 = 35 then zX e2 h1 else if e2.1 = 6 then zX e2 h1 else if e2.1 = 11 then zX e2 h1 else none) fun x3 h4 =>
    zaS h4 [202] v2 0 (.long (x3.toInt64)) fun h5 =>
    zrI 0 h5
  else
  none
def f_X1_placeBlock (v0 : Option Nat) (v1 : Int32) (h : zH) : zO :=
  znO h 315 [.int v1] fun r1 h2 =>
  if ztg h2 v0 = some 0 then
    zcI (f_X1_change v0 r1 h2) zX fun x3 h4 =>
    zrI x3 h4
  else
  none
def f_X0_placeBlock_12  (s0 : Option Nat) (h : zH) : zO :=
  zrI 1 h
def f_X0_placeBlock_15  (s0 : Option Nat) (h : zH) : zO :=
  zrI 2 h
def f_X0_placeBlock_18  (s0 : Option Nat) (h : zH) : zO :=
  zrI 3 h
def f_X0_placeBlock (v0 : Option Nat) (v1 : Int32) (v2 : Option Nat) (h : zH) : zO :=
  if ztg h v0 = some 0 then
    zcI (f_X1_placeBlock v0 v1 h) (fun e2 h1 => if e2.1 = 32 then f_X0_placeBlock_12 (some e2.2) h1 else if e2.1 = 33 then f_X0_placeBlock_15 (some e2.2) h1 else if e2.1 = 30 then zX e2 h1 else if e2.1 = 34 then f_X0_placeBlock_18 (some e2.2) h1 else if e2.1 = 31 then zX e2 h1 else if e2.1 = 35 then zX e2 h1 else if e2.1 = 6 then zX e2 h1 else if e2.1 = 11 then zX e2 h1 else none) fun x3 h4 =>
    zaS h4 [202] v2 0 (.long (x3.toInt64)) fun h5 =>
    zrI 0 h5
  else
  none
def f_X1_removeBlock (v0 : Option Nat) (v1 : Int32) (h : zH) : zO :=
  znO h 316 [.int v1] fun r1 h2 =>
  if ztg h2 v0 = some 0 then
    zcI (f_X1_change v0 r1 h2) zX fun x3 h4 =>
    zrI x3 h4
  else
  none
def f_X0_removeBlock_12  (s0 : Option Nat) (h : zH) : zO :=
  zrI 1 h
def f_X0_removeBlock_15  (s0 : Option Nat) (h : zH) : zO :=
  zrI 2 h
def f_X0_removeBlock_18  (s0 : Option Nat) (h : zH) : zO :=
  zrI 3 h
def f_X0_removeBlock (v0 : Option Nat) (v1 : Int32) (v2 : Option Nat) (h : zH) : zO :=
  if ztg h v0 = some 0 then
    zcI (f_X1_removeBlock v0 v1 h) (fun e2 h1 => if e2.1 = 32 then f_X0_removeBlock_12 (some e2.2) h1 else if e2.1 = 33 then zX e2 h1 else if e2.1 = 30 then f_X0_removeBlock_15 (some e2.2) h1 else if e2.1 = 34 then f_X0_removeBlock_18 (some e2.2) h1 else if e2.1 = 31 then zX e2 h1 else if e2.1 = 35 then zX e2 h1 else if e2.1 = 6 then zX e2 h1 else if e2.1 = 11 then zX e2 h1 else none) fun x3 h4 =>
    zaS h4 [202] v2 0 (.long (x3.toInt64)) fun h5 =>
    zrI 0 h5
  else
  none
def f_X1_hasBlock (v0 : Option Nat) (v1 : Int32) (h : zH) : zO :=
  zcI (f_X1_isPosition v1 h) zX fun x1 h2 =>
  zcV (f_X1_checkArgument x1 h2) zX fun h3 =>
  zgR h3 [0] 3 v0 fun r4 =>
  if ztg h3 r4 = some 1 then
    zcI (f_X2_hasBlock r4 v1 h3) zX fun x5 h6 =>
    zrN .boolean x5 h6
  else
  none
def f_X0_hasBlock_19  (s0 : Option Nat) (h : zH) : zO :=
  zrI 1 h
def f_X0_hasBlock (v0 : Option Nat) (v1 : Int32) (v2 : Option Nat) (h : zH) : zO :=
  if ztg h v0 = some 0 then
    zcI (f_X1_hasBlock v0 v1 h) (fun e2 h1 => if e2.1 = 32 then f_X0_hasBlock_19 (some e2.2) h1 else if e2.1 = 33 then zX e2 h1 else if e2.1 = 30 then zX e2 h1 else if e2.1 = 34 then zX e2 h1 else if e2.1 = 31 then zX e2 h1 else if e2.1 = 35 then zX e2 h1 else if e2.1 = 6 then zX e2 h1 else if e2.1 = 11 then zX e2 h1 else none) fun x3 h4 =>
    if x3 = 0 then
      zaS h4 [202] v2 0 (.long 0) fun h5 =>
      zrI 0 h5
    else
      zaS h4 [202] v2 0 (.long 1) fun h6 =>
      zrI 0 h6
  else
  none
def f_X9_init (v0 : Option Nat) (v1 : Option Nat) (h : zH) : zO :=
  zpF h [8] 1 v0 (va_rf v1) fun h1 =>
  if ¬ v0 = none then
    zgR h1 [8] 1 v0 fun r2 =>
    zgI h1 [2] 0 r2 fun x3 =>
    zpF h1 [8] 0 v0 (.int x3) fun h4 =>
    zrV h4
  else none
