set_option maxRecDepth 100000
def yL_law : MethodName := ⟨RX0, "law", "([I)Z"⟩
theorem nf_X0_8 : zFn RX0 8 0 [.null, .null, .null, .null, .null, .null, .null, .null, .int 0, .int 0, .int 0] := ⟨_, tyX1, rfl, q158, q159, q95, in_X1, tyX1_ok, rfl⟩
theorem nf_X0_152 : zFn RX0 152 4 [.null, .null, .null, .null, .int 0, .int 0, .int 0, .int 0, .int 0, .null, .int 0, .null, .int 0, .int 0, .null, .int 0, .int 0, .int 0, .int 0, .null] := ⟨_, tyX5, rfl, q3236, q3237, q140, in_X5, tyX5_ok, rfl⟩
def f_L_law_2811 (K28 : Option Nat → Option Nat → Option Nat → Option Nat → Option Nat → Int32 → zH → zO) (a0 : Option Nat) (a1 : Option Nat) (a2 : Option Nat) (a3 : Option Nat) (a4 : Option Nat) (a5 : Int32) (h : zH) : zO :=
  znm (a5 + 4) fun x425 =>
  K28 a0 a1 a2 a3 a4 x425 h
def f_L_law_357 (K28 : Option Nat → Option Nat → Option Nat → Option Nat → Option Nat → Int32 → zH → zO) (a0 : Option Nat) (a1 : Option Nat) (a2 : Option Nat) (a3 : Option Nat) (a4 : Option Nat) (a5 : Int32) (h : zH) : zO :=
  f_L_law_2811 K28 a0 a1 a2 a3 a4 a5 h
def f_L_law_413 (K28 : Option Nat → Option Nat → Option Nat → Option Nat → Option Nat → Int32 → zH → zO) (a0 : Option Nat) (a1 : Option Nat) (a2 : Option Nat) (a3 : Option Nat) (a4 : Option Nat) (a5 : Int32) (h : zH) : zO :=
  f_L_law_2811 K28 a0 a1 a2 a3 a4 a5 h
def f_L_law_481 (K28 : Option Nat → Option Nat → Option Nat → Option Nat → Option Nat → Int32 → zH → zO) (a0 : Option Nat) (a1 : Option Nat) (a2 : Option Nat) (a3 : Option Nat) (a4 : Option Nat) (a5 : Int32) (h : zH) : zO :=
  f_L_law_2811 K28 a0 a1 a2 a3 a4 a5 h
def f_L_law_537 (K28 : Option Nat → Option Nat → Option Nat → Option Nat → Option Nat → Int32 → zH → zO) (a0 : Option Nat) (a1 : Option Nat) (a2 : Option Nat) (a3 : Option Nat) (a4 : Option Nat) (a5 : Int32) (h : zH) : zO :=
  f_L_law_2811 K28 a0 a1 a2 a3 a4 a5 h
def f_L_law_628 (K28 : Option Nat → Option Nat → Option Nat → Option Nat → Option Nat → Int32 → zH → zO) (a0 : Option Nat) (a1 : Option Nat) (a2 : Option Nat) (a3 : Option Nat) (a4 : Option Nat) (a5 : Int32) (h : zH) : zO :=
  f_L_law_2811 K28 a0 a1 a2 a3 a4 a5 h
def f_L_law_622 (K28 : Option Nat → Option Nat → Option Nat → Option Nat → Option Nat → Int32 → zH → zO) (a0 : Option Nat) (a1 : Option Nat) (a2 : Option Nat) (a3 : Option Nat) (a4 : Option Nat) (a5 : Int32) (s0 : Int64) (s1 : Int64) (h : zH) : zO :=
  if (lg_cmp s1 s0) = 0 then
    f_L_law_628 K28 a0 a1 a2 a3 a4 a5 h
  else
    zrN .boolean 0 h
def f_L_law_588 (K28 : Option Nat → Option Nat → Option Nat → Option Nat → Option Nat → Int32 → zH → zO) (a0 : Option Nat) (a1 : Option Nat) (a2 : Option Nat) (a3 : Option Nat) (a4 : Option Nat) (a5 : Int32) (a6 : Int32) (s0 : Int32) (s1 : Int32) (s2 : Option Nat) (h : zH) : zO :=
  if ztg h s2 = some 4 then
    zcI (f_X5_setCleaning s2 s1 s0 h) zX fun x430 h431 =>
    if ztg h431 a2 = some 4 then
      zcI (f_X5_thrown a2 h431) zX fun x432 h433 =>
      if x432 = a6 then
        if ¬ a6 = 0 then
          f_L_law_628 K28 a0 a1 a2 a3 a4 a5 h433
        else
          zaL h433 [202] a3 0 fun x434 =>
          if x430 = 0 then
            f_L_law_622 K28 a0 a1 a2 a3 a4 a5 0 x434 h433
          else
            f_L_law_622 K28 a0 a1 a2 a3 a4 a5 1 x434 h433
      else
        zrN .boolean 0 h433
    else
    none
  else
  none
def f_L_law_561 (K28 : Option Nat → Option Nat → Option Nat → Option Nat → Option Nat → Int32 → zH → zO) (a0 : Option Nat) (a1 : Option Nat) (a2 : Option Nat) (a3 : Option Nat) (a4 : Option Nat) (a5 : Int32) (s0 : Int32) (s1 : Int32) (s2 : Option Nat) (h : zH) : zO :=
  zcI (f_X0_setCleaning s2 s1 s0 a3 h) zX fun x426 h427 =>
  zaI h427 [200] a0 (a5 + 1) fun x428 =>
  zaI h427 [200] a0 (a5 + 2) fun x429 =>
  if x429 = 0 then
    f_L_law_588 K28 a0 a1 a2 a3 a4 a5 x426 0 x428 a2 h427
  else
    f_L_law_588 K28 a0 a1 a2 a3 a4 a5 x426 1 x428 a2 h427
def f_L_law_697 (K28 : Option Nat → Option Nat → Option Nat → Option Nat → Option Nat → Int32 → zH → zO) (a0 : Option Nat) (a1 : Option Nat) (a2 : Option Nat) (a3 : Option Nat) (a4 : Option Nat) (a5 : Int32) (h : zH) : zO :=
  f_L_law_2811 K28 a0 a1 a2 a3 a4 a5 h
def f_L_law_760 (K28 : Option Nat → Option Nat → Option Nat → Option Nat → Option Nat → Int32 → zH → zO) (a0 : Option Nat) (a1 : Option Nat) (a2 : Option Nat) (a3 : Option Nat) (a4 : Option Nat) (a5 : Int32) (h : zH) : zO :=
  f_L_law_2811 K28 a0 a1 a2 a3 a4 a5 h
def f_L_law_754 (K28 : Option Nat → Option Nat → Option Nat → Option Nat → Option Nat → Int32 → zH → zO) (a0 : Option Nat) (a1 : Option Nat) (a2 : Option Nat) (a3 : Option Nat) (a4 : Option Nat) (a5 : Int32) (s0 : Int64) (s1 : Int64) (h : zH) : zO :=
  if (lg_cmp s1 s0) = 0 then
    f_L_law_760 K28 a0 a1 a2 a3 a4 a5 h
  else
    zrN .boolean 0 h
def f_L_law_816 (K28 : Option Nat → Option Nat → Option Nat → Option Nat → Option Nat → Int32 → zH → zO) (a0 : Option Nat) (a1 : Option Nat) (a2 : Option Nat) (a3 : Option Nat) (a4 : Option Nat) (a5 : Int32) (h : zH) : zO :=
  f_L_law_2811 K28 a0 a1 a2 a3 a4 a5 h
def f_L_law_872 (K28 : Option Nat → Option Nat → Option Nat → Option Nat → Option Nat → Int32 → zH → zO) (a0 : Option Nat) (a1 : Option Nat) (a2 : Option Nat) (a3 : Option Nat) (a4 : Option Nat) (a5 : Int32) (h : zH) : zO :=
  f_L_law_2811 K28 a0 a1 a2 a3 a4 a5 h
def f_L_law_928 (K28 : Option Nat → Option Nat → Option Nat → Option Nat → Option Nat → Int32 → zH → zO) (a0 : Option Nat) (a1 : Option Nat) (a2 : Option Nat) (a3 : Option Nat) (a4 : Option Nat) (a5 : Int32) (h : zH) : zO :=
  f_L_law_2811 K28 a0 a1 a2 a3 a4 a5 h
def f_L_law_984 (K28 : Option Nat → Option Nat → Option Nat → Option Nat → Option Nat → Int32 → zH → zO) (a0 : Option Nat) (a1 : Option Nat) (a2 : Option Nat) (a3 : Option Nat) (a4 : Option Nat) (a5 : Int32) (h : zH) : zO :=
  f_L_law_2811 K28 a0 a1 a2 a3 a4 a5 h
def f_L_law_1047 (K28 : Option Nat → Option Nat → Option Nat → Option Nat → Option Nat → Int32 → zH → zO) (a0 : Option Nat) (a1 : Option Nat) (a2 : Option Nat) (a3 : Option Nat) (a4 : Option Nat) (a5 : Int32) (h : zH) : zO :=
  f_L_law_2811 K28 a0 a1 a2 a3 a4 a5 h
def f_L_law_1041 (K28 : Option Nat → Option Nat → Option Nat → Option Nat → Option Nat → Int32 → zH → zO) (a0 : Option Nat) (a1 : Option Nat) (a2 : Option Nat) (a3 : Option Nat) (a4 : Option Nat) (a5 : Int32) (s0 : Int64) (s1 : Int64) (h : zH) : zO :=
  if (lg_cmp s1 s0) = 0 then
    f_L_law_1047 K28 a0 a1 a2 a3 a4 a5 h
  else
    zrN .boolean 0 h
def f_L_law_1091 (K28 : Option Nat → Option Nat → Option Nat → Option Nat → Option Nat → Int32 → zH → zO) (a0 : Option Nat) (a1 : Option Nat) (a2 : Option Nat) (a3 : Option Nat) (a4 : Option Nat) (a5 : Int32) (h : zH) : zO :=
  f_L_law_2811 K28 a0 a1 a2 a3 a4 a5 h
def f_L_law_1170 (K28 : Option Nat → Option Nat → Option Nat → Option Nat → Option Nat → Int32 → zH → zO) (a0 : Option Nat) (a1 : Option Nat) (a2 : Option Nat) (a3 : Option Nat) (a4 : Option Nat) (a5 : Int32) (h : zH) : zO :=
  f_L_law_2811 K28 a0 a1 a2 a3 a4 a5 h
def f_L_law_1164 (K28 : Option Nat → Option Nat → Option Nat → Option Nat → Option Nat → Int32 → zH → zO) (a0 : Option Nat) (a1 : Option Nat) (a2 : Option Nat) (a3 : Option Nat) (a4 : Option Nat) (a5 : Int32) (s0 : Int64) (s1 : Int64) (h : zH) : zO :=
  if (lg_cmp s1 s0) = 0 then
    f_L_law_1170 K28 a0 a1 a2 a3 a4 a5 h
  else
    zrN .boolean 0 h
def f_L_law_1130 (K28 : Option Nat → Option Nat → Option Nat → Option Nat → Option Nat → Int32 → zH → zO) (a0 : Option Nat) (a1 : Option Nat) (a2 : Option Nat) (a3 : Option Nat) (a4 : Option Nat) (a5 : Int32) (a6 : Int32) (s0 : Int32) (s1 : Option Nat) (h : zH) : zO :=
  if ztg h s1 = some 4 then
    zcI (f_X5_setGate s1 s0 h) zX fun x420 h421 =>
    if ztg h421 a2 = some 4 then
      zcI (f_X5_thrown a2 h421) zX fun x422 h423 =>
      if x422 = a6 then
        if ¬ a6 = 0 then
          f_L_law_1170 K28 a0 a1 a2 a3 a4 a5 h423
        else
          zaL h423 [202] a3 0 fun x424 =>
          if x420 = 0 then
            f_L_law_1164 K28 a0 a1 a2 a3 a4 a5 0 x424 h423
          else
            f_L_law_1164 K28 a0 a1 a2 a3 a4 a5 1 x424 h423
      else
        zrN .boolean 0 h423
    else
    none
  else
  none
def f_L_law_1109 (K28 : Option Nat → Option Nat → Option Nat → Option Nat → Option Nat → Int32 → zH → zO) (a0 : Option Nat) (a1 : Option Nat) (a2 : Option Nat) (a3 : Option Nat) (a4 : Option Nat) (a5 : Int32) (s0 : Int32) (s1 : Option Nat) (h : zH) : zO :=
  zcI (f_X0_setGate s1 s0 a3 h) zX fun x417 h418 =>
  zaI h418 [200] a0 (a5 + 1) fun x419 =>
  if x419 = 0 then
    f_L_law_1130 K28 a0 a1 a2 a3 a4 a5 x417 0 a2 h418
  else
    f_L_law_1130 K28 a0 a1 a2 a3 a4 a5 x417 1 a2 h418
def f_L_law_1239 (K28 : Option Nat → Option Nat → Option Nat → Option Nat → Option Nat → Int32 → zH → zO) (a0 : Option Nat) (a1 : Option Nat) (a2 : Option Nat) (a3 : Option Nat) (a4 : Option Nat) (a5 : Int32) (h : zH) : zO :=
  f_L_law_2811 K28 a0 a1 a2 a3 a4 a5 h
def f_L_law_1308 (K28 : Option Nat → Option Nat → Option Nat → Option Nat → Option Nat → Int32 → zH → zO) (a0 : Option Nat) (a1 : Option Nat) (a2 : Option Nat) (a3 : Option Nat) (a4 : Option Nat) (a5 : Int32) (h : zH) : zO :=
  f_L_law_2811 K28 a0 a1 a2 a3 a4 a5 h
def f_L_law_1364 (K28 : Option Nat → Option Nat → Option Nat → Option Nat → Option Nat → Int32 → zH → zO) (a0 : Option Nat) (a1 : Option Nat) (a2 : Option Nat) (a3 : Option Nat) (a4 : Option Nat) (a5 : Int32) (h : zH) : zO :=
  f_L_law_2811 K28 a0 a1 a2 a3 a4 a5 h
def f_L_law_1420 (K28 : Option Nat → Option Nat → Option Nat → Option Nat → Option Nat → Int32 → zH → zO) (a0 : Option Nat) (a1 : Option Nat) (a2 : Option Nat) (a3 : Option Nat) (a4 : Option Nat) (a5 : Int32) (h : zH) : zO :=
  f_L_law_2811 K28 a0 a1 a2 a3 a4 a5 h
def f_L_law_1489 (K28 : Option Nat → Option Nat → Option Nat → Option Nat → Option Nat → Int32 → zH → zO) (a0 : Option Nat) (a1 : Option Nat) (a2 : Option Nat) (a3 : Option Nat) (a4 : Option Nat) (a5 : Int32) (h : zH) : zO :=
  f_L_law_2811 K28 a0 a1 a2 a3 a4 a5 h
def f_L_law_1545 (K28 : Option Nat → Option Nat → Option Nat → Option Nat → Option Nat → Int32 → zH → zO) (a0 : Option Nat) (a1 : Option Nat) (a2 : Option Nat) (a3 : Option Nat) (a4 : Option Nat) (a5 : Int32) (h : zH) : zO :=
  f_L_law_2811 K28 a0 a1 a2 a3 a4 a5 h
def f_L_law_1601 (K28 : Option Nat → Option Nat → Option Nat → Option Nat → Option Nat → Int32 → zH → zO) (a0 : Option Nat) (a1 : Option Nat) (a2 : Option Nat) (a3 : Option Nat) (a4 : Option Nat) (a5 : Int32) (h : zH) : zO :=
  f_L_law_2811 K28 a0 a1 a2 a3 a4 a5 h
def f_L_law_1657 (K28 : Option Nat → Option Nat → Option Nat → Option Nat → Option Nat → Int32 → zH → zO) (a0 : Option Nat) (a1 : Option Nat) (a2 : Option Nat) (a3 : Option Nat) (a4 : Option Nat) (a5 : Int32) (h : zH) : zO :=
  f_L_law_2811 K28 a0 a1 a2 a3 a4 a5 h
def f_L_law_1720 (K28 : Option Nat → Option Nat → Option Nat → Option Nat → Option Nat → Int32 → zH → zO) (a0 : Option Nat) (a1 : Option Nat) (a2 : Option Nat) (a3 : Option Nat) (a4 : Option Nat) (a5 : Int32) (h : zH) : zO :=
  f_L_law_2811 K28 a0 a1 a2 a3 a4 a5 h
def f_L_law_1714 (K28 : Option Nat → Option Nat → Option Nat → Option Nat → Option Nat → Int32 → zH → zO) (a0 : Option Nat) (a1 : Option Nat) (a2 : Option Nat) (a3 : Option Nat) (a4 : Option Nat) (a5 : Int32) (s0 : Int64) (s1 : Int64) (h : zH) : zO :=
  if (lg_cmp s1 s0) = 0 then
    f_L_law_1720 K28 a0 a1 a2 a3 a4 a5 h
  else
    zrN .boolean 0 h
def f_L_law_1776 (K28 : Option Nat → Option Nat → Option Nat → Option Nat → Option Nat → Int32 → zH → zO) (a0 : Option Nat) (a1 : Option Nat) (a2 : Option Nat) (a3 : Option Nat) (a4 : Option Nat) (a5 : Int32) (h : zH) : zO :=
  f_L_law_2811 K28 a0 a1 a2 a3 a4 a5 h
def f_L_law_1832 (K28 : Option Nat → Option Nat → Option Nat → Option Nat → Option Nat → Int32 → zH → zO) (a0 : Option Nat) (a1 : Option Nat) (a2 : Option Nat) (a3 : Option Nat) (a4 : Option Nat) (a5 : Int32) (h : zH) : zO :=
  f_L_law_2811 K28 a0 a1 a2 a3 a4 a5 h
def f_L_law_1888 (K28 : Option Nat → Option Nat → Option Nat → Option Nat → Option Nat → Int32 → zH → zO) (a0 : Option Nat) (a1 : Option Nat) (a2 : Option Nat) (a3 : Option Nat) (a4 : Option Nat) (a5 : Int32) (h : zH) : zO :=
  f_L_law_2811 K28 a0 a1 a2 a3 a4 a5 h
def f_L_law_1944 (K28 : Option Nat → Option Nat → Option Nat → Option Nat → Option Nat → Int32 → zH → zO) (a0 : Option Nat) (a1 : Option Nat) (a2 : Option Nat) (a3 : Option Nat) (a4 : Option Nat) (a5 : Int32) (h : zH) : zO :=
  f_L_law_2811 K28 a0 a1 a2 a3 a4 a5 h
def f_L_law_2000 (K28 : Option Nat → Option Nat → Option Nat → Option Nat → Option Nat → Int32 → zH → zO) (a0 : Option Nat) (a1 : Option Nat) (a2 : Option Nat) (a3 : Option Nat) (a4 : Option Nat) (a5 : Int32) (h : zH) : zO :=
  f_L_law_2811 K28 a0 a1 a2 a3 a4 a5 h
def f_L_law_2108 (K28 : Option Nat → Option Nat → Option Nat → Option Nat → Option Nat → Int32 → zH → zO) (a0 : Option Nat) (a1 : Option Nat) (a2 : Option Nat) (a3 : Option Nat) (a4 : Option Nat) (a5 : Int32) (h : zH) : zO :=
  f_L_law_2811 K28 a0 a1 a2 a3 a4 a5 h
def f_L_law_2176 (K28 : Option Nat → Option Nat → Option Nat → Option Nat → Option Nat → Int32 → zH → zO) (a0 : Option Nat) (a1 : Option Nat) (a2 : Option Nat) (a3 : Option Nat) (a4 : Option Nat) (a5 : Int32) (h : zH) : zO :=
  f_L_law_2811 K28 a0 a1 a2 a3 a4 a5 h
def f_L_law_2271 (K28 : Option Nat → Option Nat → Option Nat → Option Nat → Option Nat → Int32 → zH → zO) (a0 : Option Nat) (a1 : Option Nat) (a2 : Option Nat) (a3 : Option Nat) (a4 : Option Nat) (a5 : Int32) (h : zH) : zO :=
  f_L_law_2811 K28 a0 a1 a2 a3 a4 a5 h
def f_L_law_2329 (K28 : Option Nat → Option Nat → Option Nat → Option Nat → Option Nat → Int32 → zH → zO) (a0 : Option Nat) (a1 : Option Nat) (a2 : Option Nat) (a3 : Option Nat) (a4 : Option Nat) (a5 : Int32) (h : zH) : zO :=
  f_L_law_2811 K28 a0 a1 a2 a3 a4 a5 h
def f_L_law_2373 (K28 : Option Nat → Option Nat → Option Nat → Option Nat → Option Nat → Int32 → zH → zO) (a0 : Option Nat) (a1 : Option Nat) (a2 : Option Nat) (a3 : Option Nat) (a4 : Option Nat) (a5 : Int32) (h : zH) : zO :=
  f_L_law_2811 K28 a0 a1 a2 a3 a4 a5 h
def f_L_law_2417 (K28 : Option Nat → Option Nat → Option Nat → Option Nat → Option Nat → Int32 → zH → zO) (a0 : Option Nat) (a1 : Option Nat) (a2 : Option Nat) (a3 : Option Nat) (a4 : Option Nat) (a5 : Int32) (h : zH) : zO :=
  f_L_law_2811 K28 a0 a1 a2 a3 a4 a5 h
def f_L_law_2461 (K28 : Option Nat → Option Nat → Option Nat → Option Nat → Option Nat → Int32 → zH → zO) (a0 : Option Nat) (a1 : Option Nat) (a2 : Option Nat) (a3 : Option Nat) (a4 : Option Nat) (a5 : Int32) (h : zH) : zO :=
  f_L_law_2811 K28 a0 a1 a2 a3 a4 a5 h
def f_L_law_2530 (K28 : Option Nat → Option Nat → Option Nat → Option Nat → Option Nat → Int32 → zH → zO) (a0 : Option Nat) (a1 : Option Nat) (a2 : Option Nat) (a3 : Option Nat) (a4 : Option Nat) (a5 : Int32) (h : zH) : zO :=
  f_L_law_2811 K28 a0 a1 a2 a3 a4 a5 h
def f_L_law_2586 (K28 : Option Nat → Option Nat → Option Nat → Option Nat → Option Nat → Int32 → zH → zO) (a0 : Option Nat) (a1 : Option Nat) (a2 : Option Nat) (a3 : Option Nat) (a4 : Option Nat) (a5 : Int32) (h : zH) : zO :=
  f_L_law_2811 K28 a0 a1 a2 a3 a4 a5 h
def f_L_law_2651 (K28 : Option Nat → Option Nat → Option Nat → Option Nat → Option Nat → Int32 → zH → zO) (a0 : Option Nat) (a1 : Option Nat) (a2 : Option Nat) (a3 : Option Nat) (a4 : Option Nat) (a5 : Int32) (h : zH) : zO :=
  f_L_law_2811 K28 a0 a1 a2 a3 a4 a5 h
def f_L_law_2694 (K28 : Option Nat → Option Nat → Option Nat → Option Nat → Option Nat → Int32 → zH → zO) (a0 : Option Nat) (a1 : Option Nat) (a2 : Option Nat) (a3 : Option Nat) (a4 : Option Nat) (a5 : Int32) (h : zH) : zO :=
  f_L_law_2811 K28 a0 a1 a2 a3 a4 a5 h
def f_L_law_2751 (K28 : Option Nat → Option Nat → Option Nat → Option Nat → Option Nat → Int32 → zH → zO) (a0 : Option Nat) (a1 : Option Nat) (a2 : Option Nat) (a3 : Option Nat) (a4 : Option Nat) (a5 : Int32) (h : zH) : zO :=
  f_L_law_2811 K28 a0 a1 a2 a3 a4 a5 h
def f_L_law_2808 (K28 : Option Nat → Option Nat → Option Nat → Option Nat → Option Nat → Int32 → zH → zO) (a0 : Option Nat) (a1 : Option Nat) (a2 : Option Nat) (a3 : Option Nat) (a4 : Option Nat) (a5 : Int32) (h : zH) : zO :=
  f_L_law_2811 K28 a0 a1 a2 a3 a4 a5 h
def f_L_law_28  : Nat → Option Nat → Option Nat → Option Nat → Option Nat → Option Nat → Int32 → zH → zO
  | 0, _, _, _, _, _, _, _ => none
  | n + 1, a0, a1, a2, a3, a4, a5, h =>
    zaN h zarrs a0 fun x11 =>
    if (x11 - 4) < a5 then
      zrN .boolean 1 h
    else
      zaI h [200] a0 a5 fun x12 =>
      znm (x12 &&& 63) fun x13 =>
      if x13 = 0 then
        zaI h [200] a0 (a5 + 1) fun x14 =>
        zaI h [200] a0 (a5 + 2) fun x15 =>
        zaI h [200] a0 (a5 + 3) fun x16 =>
        zcI (f_X0_addShip a1 x14 x15 x16 a3 h) zX fun x17 h18 =>
        zaI h18 [200] a0 (a5 + 1) fun x19 =>
        zaI h18 [200] a0 (a5 + 2) fun x20 =>
        zaI h18 [200] a0 (a5 + 3) fun x21 =>
        if ztg h18 a2 = some 4 then
          zcI (f_X5_addShip a2 x19 x20 x21 h18) zX fun x22 h23 =>
          if ztg h23 a2 = some 4 then
            zcI (f_X5_thrown a2 h23) zX fun x24 h25 =>
            if x24 = x17 then
              if ¬ x17 = 0 then
                f_L_law_357 (f_L_law_28 n) a0 a1 a2 a3 a4 a5 h25
              else
                zaL h25 [202] a3 0 fun x26 =>
                if (lg_cmp x26 (x22.toInt64)) = 0 then
                  f_L_law_357 (f_L_law_28 n) a0 a1 a2 a3 a4 a5 h25
                else
                  zrN .boolean 0 h25
            else
              zrN .boolean 0 h25
          else
          none
        else
        none
      else
      if x13 = 1 then
        zaI h [200] a0 (a5 + 1) fun x27 =>
        zcI (f_X0_removeShip a1 x27 a3 h) zX fun x28 h29 =>
        zaI h29 [200] a0 (a5 + 1) fun x30 =>
        if ztg h29 a2 = some 4 then
          zcI (f_X5_removeShip a2 x30 h29) zX fun x31 h32 =>
          if ztg h32 a2 = some 4 then
            zcI (f_X5_thrown a2 h32) zX fun x33 h34 =>
            if x33 = x28 then
              if ¬ x28 = 0 then
                f_L_law_413 (f_L_law_28 n) a0 a1 a2 a3 a4 a5 h34
              else
                zaL h34 [202] a3 0 fun x35 =>
                if (lg_cmp x35 (x31.toInt64)) = 0 then
                  f_L_law_413 (f_L_law_28 n) a0 a1 a2 a3 a4 a5 h34
                else
                  zrN .boolean 0 h34
            else
              zrN .boolean 0 h34
          else
          none
        else
        none
      else
      if x13 = 2 then
        zaI h [200] a0 (a5 + 1) fun x36 =>
        zaI h [200] a0 (a5 + 2) fun x37 =>
        zcI (f_X0_enter a1 x36 x37 a3 h) zX fun x38 h39 =>
        zaI h39 [200] a0 (a5 + 1) fun x40 =>
        zaI h39 [200] a0 (a5 + 2) fun x41 =>
        if ztg h39 a2 = some 4 then
          zcI (f_X5_enter a2 x40 x41 h39) zX fun x42 h43 =>
          if ztg h43 a2 = some 4 then
            zcI (f_X5_thrown a2 h43) zX fun x44 h45 =>
            if x44 = x38 then
              if ¬ x38 = 0 then
                f_L_law_481 (f_L_law_28 n) a0 a1 a2 a3 a4 a5 h45
              else
                zaL h45 [202] a3 0 fun x46 =>
                if (lg_cmp x46 (x42.toInt64)) = 0 then
                  f_L_law_481 (f_L_law_28 n) a0 a1 a2 a3 a4 a5 h45
                else
                  zrN .boolean 0 h45
            else
              zrN .boolean 0 h45
          else
          none
        else
        none
      else
      if x13 = 3 then
        zaI h [200] a0 (a5 + 1) fun x47 =>
        zcI (f_X0_leave a1 x47 a3 h) zX fun x48 h49 =>
        zaI h49 [200] a0 (a5 + 1) fun x50 =>
        if ztg h49 a2 = some 4 then
          zcI (f_X5_leave a2 x50 h49) zX fun x51 h52 =>
          if ztg h52 a2 = some 4 then
            zcI (f_X5_thrown a2 h52) zX fun x53 h54 =>
            if x53 = x48 then
              if ¬ x48 = 0 then
                f_L_law_537 (f_L_law_28 n) a0 a1 a2 a3 a4 a5 h54
              else
                zaL h54 [202] a3 0 fun x55 =>
                if (lg_cmp x55 (x51.toInt64)) = 0 then
                  f_L_law_537 (f_L_law_28 n) a0 a1 a2 a3 a4 a5 h54
                else
                  zrN .boolean 0 h54
            else
              zrN .boolean 0 h54
          else
          none
        else
        none
      else
      if x13 = 4 then
        zaI h [200] a0 (a5 + 1) fun x56 =>
        zaI h [200] a0 (a5 + 2) fun x57 =>
        if x57 = 0 then
          f_L_law_561 (f_L_law_28 n) a0 a1 a2 a3 a4 a5 0 x56 a1 h
        else
          f_L_law_561 (f_L_law_28 n) a0 a1 a2 a3 a4 a5 1 x56 a1 h
      else
      if x13 = 5 then
        if ztg h a1 = some 0 then
          zcI (f_X1_shipCount a1 h) zX fun x58 h59 =>
          if ztg h59 a2 = some 4 then
            zcI (f_X5_shipCount a2 h59) zX fun x60 h61 =>
            if x58 = x60 then
              f_L_law_2811 (f_L_law_28 n) a0 a1 a2 a3 a4 a5 h61
            else
              zrN .boolean 0 h61
          else
          none
        else
        none
      else
      if x13 = 6 then
        zaI h [200] a0 (a5 + 1) fun x62 =>
        zcI (f_X0_shipAt a1 x62 a3 h) zX fun x63 h64 =>
        zaI h64 [200] a0 (a5 + 1) fun x65 =>
        if ztg h64 a2 = some 4 then
          zcI (f_X5_shipAt a2 x65 h64) zX fun x66 h67 =>
          if ztg h67 a2 = some 4 then
            zcI (f_X5_thrown a2 h67) zX fun x68 h69 =>
            if x68 = x63 then
              if ¬ x63 = 0 then
                f_L_law_697 (f_L_law_28 n) a0 a1 a2 a3 a4 a5 h69
              else
                zaL h69 [202] a3 0 fun x70 =>
                if (lg_cmp x70 (x66.toInt64)) = 0 then
                  f_L_law_697 (f_L_law_28 n) a0 a1 a2 a3 a4 a5 h69
                else
                  zrN .boolean 0 h69
            else
              zrN .boolean 0 h69
          else
          none
        else
        none
      else
      if x13 = 7 then
        zaI h [200] a0 (a5 + 1) fun x71 =>
        zcI (f_X0_isInDock a1 x71 a3 h) zX fun x72 h73 =>
        zaI h73 [200] a0 (a5 + 1) fun x74 =>
        if ztg h73 a2 = some 4 then
          zcI (f_X5_isInDock a2 x74 h73) zX fun x75 h76 =>
          if ztg h76 a2 = some 4 then
            zcI (f_X5_thrown a2 h76) zX fun x77 h78 =>
            if x77 = x72 then
              if ¬ x72 = 0 then
                f_L_law_760 (f_L_law_28 n) a0 a1 a2 a3 a4 a5 h78
              else
                zaL h78 [202] a3 0 fun x79 =>
                if x75 = 0 then
                  f_L_law_754 (f_L_law_28 n) a0 a1 a2 a3 a4 a5 0 x79 h78
                else
                  f_L_law_754 (f_L_law_28 n) a0 a1 a2 a3 a4 a5 1 x79 h78
            else
              zrN .boolean 0 h78
          else
          none
        else
        none
      else
      if x13 = 8 then
        zaI h [200] a0 (a5 + 1) fun x80 =>
        zcI (f_X0_positionOf a1 x80 a3 h) zX fun x81 h82 =>
        zaI h82 [200] a0 (a5 + 1) fun x83 =>
        if ztg h82 a2 = some 4 then
          zcI (f_X5_positionOf a2 x83 h82) zX fun x84 h85 =>
          if ztg h85 a2 = some 4 then
            zcI (f_X5_thrown a2 h85) zX fun x86 h87 =>
            if x86 = x81 then
              if ¬ x81 = 0 then
                f_L_law_816 (f_L_law_28 n) a0 a1 a2 a3 a4 a5 h87
              else
                zaL h87 [202] a3 0 fun x88 =>
                if (lg_cmp x88 (x84.toInt64)) = 0 then
                  f_L_law_816 (f_L_law_28 n) a0 a1 a2 a3 a4 a5 h87
                else
                  zrN .boolean 0 h87
            else
              zrN .boolean 0 h87
          else
          none
        else
        none
      else
      if x13 = 9 then
        zaI h [200] a0 (a5 + 1) fun x89 =>
        zcI (f_X0_dirtOf a1 x89 a3 h) zX fun x90 h91 =>
        zaI h91 [200] a0 (a5 + 1) fun x92 =>
        if ztg h91 a2 = some 4 then
          zcI (f_X5_dirtOf a2 x92 h91) zX fun x93 h94 =>
          if ztg h94 a2 = some 4 then
            zcI (f_X5_thrown a2 h94) zX fun x95 h96 =>
            if x95 = x90 then
              if ¬ x90 = 0 then
                f_L_law_872 (f_L_law_28 n) a0 a1 a2 a3 a4 a5 h96
              else
                zaL h96 [202] a3 0 fun x97 =>
                if (lg_cmp x97 (x93.toInt64)) = 0 then
                  f_L_law_872 (f_L_law_28 n) a0 a1 a2 a3 a4 a5 h96
                else
                  zrN .boolean 0 h96
            else
              zrN .boolean 0 h96
          else
          none
        else
        none
      else
      if x13 = 10 then
        zaI h [200] a0 (a5 + 1) fun x98 =>
        zcI (f_X0_damageOf a1 x98 a3 h) zX fun x99 h100 =>
        zaI h100 [200] a0 (a5 + 1) fun x101 =>
        if ztg h100 a2 = some 4 then
          zcI (f_X5_damageOf a2 x101 h100) zX fun x102 h103 =>
          if ztg h103 a2 = some 4 then
            zcI (f_X5_thrown a2 h103) zX fun x104 h105 =>
            if x104 = x99 then
              if ¬ x99 = 0 then
                f_L_law_928 (f_L_law_28 n) a0 a1 a2 a3 a4 a5 h105
              else
                zaL h105 [202] a3 0 fun x106 =>
                if (lg_cmp x106 (x102.toInt64)) = 0 then
                  f_L_law_928 (f_L_law_28 n) a0 a1 a2 a3 a4 a5 h105
                else
                  zrN .boolean 0 h105
            else
              zrN .boolean 0 h105
          else
          none
        else
        none
      else
      if x13 = 11 then
        zaI h [200] a0 (a5 + 1) fun x107 =>
        zcI (f_X0_hoursAfloat a1 x107 a3 h) zX fun x108 h109 =>
        zaI h109 [200] a0 (a5 + 1) fun x110 =>
        if ztg h109 a2 = some 4 then
          zcI (f_X5_hoursAfloat a2 x110 h109) zX fun x111 h112 =>
          if ztg h112 a2 = some 4 then
            zcI (f_X5_thrown a2 h112) zX fun x113 h114 =>
            if x113 = x108 then
              if ¬ x108 = 0 then
                f_L_law_984 (f_L_law_28 n) a0 a1 a2 a3 a4 a5 h114
              else
                zaL h114 [202] a3 0 fun x115 =>
                if (lg_cmp x115 (x111.toInt64)) = 0 then
                  f_L_law_984 (f_L_law_28 n) a0 a1 a2 a3 a4 a5 h114
                else
                  zrN .boolean 0 h114
            else
              zrN .boolean 0 h114
          else
          none
        else
        none
      else
      if x13 = 12 then
        zaI h [200] a0 (a5 + 1) fun x116 =>
        zcI (f_X0_isAfloat a1 x116 a3 h) zX fun x117 h118 =>
        zaI h118 [200] a0 (a5 + 1) fun x119 =>
        if ztg h118 a2 = some 4 then
          zcI (f_X5_isAfloat a2 x119 h118) zX fun x120 h121 =>
          if ztg h121 a2 = some 4 then
            zcI (f_X5_thrown a2 h121) zX fun x122 h123 =>
            if x122 = x117 then
              if ¬ x117 = 0 then
                f_L_law_1047 (f_L_law_28 n) a0 a1 a2 a3 a4 a5 h123
              else
                zaL h123 [202] a3 0 fun x124 =>
                if x120 = 0 then
                  f_L_law_1041 (f_L_law_28 n) a0 a1 a2 a3 a4 a5 0 x124 h123
                else
                  f_L_law_1041 (f_L_law_28 n) a0 a1 a2 a3 a4 a5 1 x124 h123
            else
              zrN .boolean 0 h123
          else
          none
        else
        none
      else
      if x13 = 13 then
        zcI (f_X0_refusalReason a1 a3 h) zX fun x125 h126 =>
        if ztg h126 a2 = some 4 then
          zcI (f_X5_refusalReason a2 h126) zX fun x127 h128 =>
          if ztg h128 a2 = some 4 then
            zcI (f_X5_thrown a2 h128) zX fun x129 h130 =>
            if x129 = x125 then
              if ¬ x125 = 0 then
                f_L_law_1091 (f_L_law_28 n) a0 a1 a2 a3 a4 a5 h130
              else
                zaL h130 [202] a3 0 fun x131 =>
                if (lg_cmp x131 (x127.toInt64)) = 0 then
                  f_L_law_1091 (f_L_law_28 n) a0 a1 a2 a3 a4 a5 h130
                else
                  zrN .boolean 0 h130
            else
              zrN .boolean 0 h130
          else
          none
        else
        none
      else
      if x13 = 14 then
        zaI h [200] a0 (a5 + 1) fun x132 =>
        if x132 = 0 then
          f_L_law_1109 (f_L_law_28 n) a0 a1 a2 a3 a4 a5 0 a1 h
        else
          f_L_law_1109 (f_L_law_28 n) a0 a1 a2 a3 a4 a5 1 a1 h
      else
      if x13 = 15 then
        if ztg h a1 = some 0 then
          zcI (f_X1_isGateOpen a1 h) zX fun x133 h134 =>
          if ztg h134 a2 = some 4 then
            zcI (f_X5_isGateOpen a2 h134) zX fun x135 h136 =>
            if x133 = x135 then
              f_L_law_2811 (f_L_law_28 n) a0 a1 a2 a3 a4 a5 h136
            else
              zrN .boolean 0 h136
          else
          none
        else
        none
      else
      if x13 = 16 then
        zaI h [200] a0 (a5 + 1) fun x137 =>
        zcI (f_X0_setPump a1 x137 a3 h) zX fun x138 h139 =>
        zaI h139 [200] a0 (a5 + 1) fun x140 =>
        if ztg h139 a2 = some 4 then
          zcI (f_X5_setPump a2 x140 h139) zX fun x141 h142 =>
          if ztg h142 a2 = some 4 then
            zcI (f_X5_thrown a2 h142) zX fun x143 h144 =>
            if x143 = x138 then
              if ¬ x138 = 0 then
                f_L_law_1239 (f_L_law_28 n) a0 a1 a2 a3 a4 a5 h144
              else
                zaL h144 [202] a3 0 fun x145 =>
                if (lg_cmp x145 (x141.toInt64)) = 0 then
                  f_L_law_1239 (f_L_law_28 n) a0 a1 a2 a3 a4 a5 h144
                else
                  zrN .boolean 0 h144
            else
              zrN .boolean 0 h144
          else
          none
        else
        none
      else
      if x13 = 17 then
        if ztg h a1 = some 0 then
          zcI (f_X1_level a1 h) zX fun x146 h147 =>
          if ztg h147 a2 = some 4 then
            zcI (f_X5_level a2 h147) zX fun x148 h149 =>
            if x146 = x148 then
              f_L_law_2811 (f_L_law_28 n) a0 a1 a2 a3 a4 a5 h149
            else
              zrN .boolean 0 h149
          else
          none
        else
        none
      else
      if x13 = 18 then
        zaI h [200] a0 (a5 + 1) fun x150 =>
        zcI (f_X0_seaLevel a1 x150 a3 h) zX fun x151 h152 =>
        zaI h152 [200] a0 (a5 + 1) fun x153 =>
        if ztg h152 a2 = some 4 then
          zcI (f_X5_seaLevel a2 x153 h152) zX fun x154 h155 =>
          if ztg h155 a2 = some 4 then
            zcI (f_X5_thrown a2 h155) zX fun x156 h157 =>
            if x156 = x151 then
              if ¬ x151 = 0 then
                f_L_law_1308 (f_L_law_28 n) a0 a1 a2 a3 a4 a5 h157
              else
                zaL h157 [202] a3 0 fun x158 =>
                if (lg_cmp x158 (x154.toInt64)) = 0 then
                  f_L_law_1308 (f_L_law_28 n) a0 a1 a2 a3 a4 a5 h157
                else
                  zrN .boolean 0 h157
            else
              zrN .boolean 0 h157
          else
          none
        else
        none
      else
      if x13 = 19 then
        zaI h [200] a0 (a5 + 1) fun x159 =>
        zcI (f_X0_seaLevelByHours a1 x159 a3 h) zX fun x160 h161 =>
        zaI h161 [200] a0 (a5 + 1) fun x162 =>
        if ztg h161 a2 = some 4 then
          zcI (f_X5_seaLevelByHours a2 x162 h161) zX fun x163 h164 =>
          if ztg h164 a2 = some 4 then
            zcI (f_X5_thrown a2 h164) zX fun x165 h166 =>
            if x165 = x160 then
              if ¬ x160 = 0 then
                f_L_law_1364 (f_L_law_28 n) a0 a1 a2 a3 a4 a5 h166
              else
                zaL h166 [202] a3 0 fun x167 =>
                if (lg_cmp x167 (x163.toInt64)) = 0 then
                  f_L_law_1364 (f_L_law_28 n) a0 a1 a2 a3 a4 a5 h166
                else
                  zrN .boolean 0 h166
            else
              zrN .boolean 0 h166
          else
          none
        else
        none
      else
      if x13 = 20 then
        zaI h [200] a0 (a5 + 1) fun x168 =>
        zcI (f_X0_pass a1 x168 a3 h) zX fun x169 h170 =>
        zaI h170 [200] a0 (a5 + 1) fun x171 =>
        if ztg h170 a2 = some 4 then
          zcI (f_X5_pass a2 x171 h170) zX fun x172 h173 =>
          if ztg h173 a2 = some 4 then
            zcI (f_X5_thrown a2 h173) zX fun x174 h175 =>
            if x174 = x169 then
              if ¬ x169 = 0 then
                f_L_law_1420 (f_L_law_28 n) a0 a1 a2 a3 a4 a5 h175
              else
                zaL h175 [202] a3 0 fun x176 =>
                if (lg_cmp x176 (x172.toInt64)) = 0 then
                  f_L_law_1420 (f_L_law_28 n) a0 a1 a2 a3 a4 a5 h175
                else
                  zrN .boolean 0 h175
            else
              zrN .boolean 0 h175
          else
          none
        else
        none
      else
      if x13 = 21 then
        if ztg h a1 = some 0 then
          zcI (f_X1_hour a1 h) zX fun x177 h178 =>
          if ztg h178 a2 = some 4 then
            zcI (f_X5_hour a2 h178) zX fun x179 h180 =>
            if x177 = x179 then
              f_L_law_2811 (f_L_law_28 n) a0 a1 a2 a3 a4 a5 h180
            else
              zrN .boolean 0 h180
          else
          none
        else
        none
      else
      if x13 = 22 then
        zaI h [200] a0 (a5 + 1) fun x181 =>
        zcI (f_X0_levelAfter a1 x181 a3 h) zX fun x182 h183 =>
        zaI h183 [200] a0 (a5 + 1) fun x184 =>
        if ztg h183 a2 = some 4 then
          zcI (f_X5_levelAfter a2 x184 h183) zX fun x185 h186 =>
          if ztg h186 a2 = some 4 then
            zcI (f_X5_thrown a2 h186) zX fun x187 h188 =>
            if x187 = x182 then
              if ¬ x182 = 0 then
                f_L_law_1489 (f_L_law_28 n) a0 a1 a2 a3 a4 a5 h188
              else
                zaL h188 [202] a3 0 fun x189 =>
                if (lg_cmp x189 (x185.toInt64)) = 0 then
                  f_L_law_1489 (f_L_law_28 n) a0 a1 a2 a3 a4 a5 h188
                else
                  zrN .boolean 0 h188
            else
              zrN .boolean 0 h188
          else
          none
        else
        none
      else
      if x13 = 23 then
        zaI h [200] a0 (a5 + 1) fun x190 =>
        zcI (f_X0_hoursUntilAfloat a1 x190 a3 h) zX fun x191 h192 =>
        zaI h192 [200] a0 (a5 + 1) fun x193 =>
        if ztg h192 a2 = some 4 then
          zcI (f_X5_hoursUntilAfloat a2 x193 h192) zX fun x194 h195 =>
          if ztg h195 a2 = some 4 then
            zcI (f_X5_thrown a2 h195) zX fun x196 h197 =>
            if x196 = x191 then
              if ¬ x191 = 0 then
                f_L_law_1545 (f_L_law_28 n) a0 a1 a2 a3 a4 a5 h197
              else
                zaL h197 [202] a3 0 fun x198 =>
                if (lg_cmp x198 (x194.toInt64)) = 0 then
                  f_L_law_1545 (f_L_law_28 n) a0 a1 a2 a3 a4 a5 h197
                else
                  zrN .boolean 0 h197
            else
              zrN .boolean 0 h197
          else
          none
        else
        none
      else
      if x13 = 24 then
        zaI h [200] a0 (a5 + 1) fun x199 =>
        zcI (f_X0_placeBlock a1 x199 a3 h) zX fun x200 h201 =>
        zaI h201 [200] a0 (a5 + 1) fun x202 =>
        if ztg h201 a2 = some 4 then
          zcI (f_X5_placeBlock a2 x202 h201) zX fun x203 h204 =>
          if ztg h204 a2 = some 4 then
            zcI (f_X5_thrown a2 h204) zX fun x205 h206 =>
            if x205 = x200 then
              if ¬ x200 = 0 then
                f_L_law_1601 (f_L_law_28 n) a0 a1 a2 a3 a4 a5 h206
              else
                zaL h206 [202] a3 0 fun x207 =>
                if (lg_cmp x207 (x203.toInt64)) = 0 then
                  f_L_law_1601 (f_L_law_28 n) a0 a1 a2 a3 a4 a5 h206
                else
                  zrN .boolean 0 h206
            else
              zrN .boolean 0 h206
          else
          none
        else
        none
      else
      if x13 = 25 then
        zaI h [200] a0 (a5 + 1) fun x208 =>
        zcI (f_X0_removeBlock a1 x208 a3 h) zX fun x209 h210 =>
        zaI h210 [200] a0 (a5 + 1) fun x211 =>
        if ztg h210 a2 = some 4 then
          zcI (f_X5_removeBlock a2 x211 h210) zX fun x212 h213 =>
          if ztg h213 a2 = some 4 then
            zcI (f_X5_thrown a2 h213) zX fun x214 h215 =>
            if x214 = x209 then
              if ¬ x209 = 0 then
                f_L_law_1657 (f_L_law_28 n) a0 a1 a2 a3 a4 a5 h215
              else
                zaL h215 [202] a3 0 fun x216 =>
                if (lg_cmp x216 (x212.toInt64)) = 0 then
                  f_L_law_1657 (f_L_law_28 n) a0 a1 a2 a3 a4 a5 h215
                else
                  zrN .boolean 0 h215
            else
              zrN .boolean 0 h215
          else
          none
        else
        none
      else
      if x13 = 26 then
        zaI h [200] a0 (a5 + 1) fun x217 =>
        zcI (f_X0_hasBlock a1 x217 a3 h) zX fun x218 h219 =>
        zaI h219 [200] a0 (a5 + 1) fun x220 =>
        if ztg h219 a2 = some 4 then
          zcI (f_X5_hasBlock a2 x220 h219) zX fun x221 h222 =>
          if ztg h222 a2 = some 4 then
            zcI (f_X5_thrown a2 h222) zX fun x223 h224 =>
            if x223 = x218 then
              if ¬ x218 = 0 then
                f_L_law_1720 (f_L_law_28 n) a0 a1 a2 a3 a4 a5 h224
              else
                zaL h224 [202] a3 0 fun x225 =>
                if x221 = 0 then
                  f_L_law_1714 (f_L_law_28 n) a0 a1 a2 a3 a4 a5 0 x225 h224
                else
                  f_L_law_1714 (f_L_law_28 n) a0 a1 a2 a3 a4 a5 1 x225 h224
            else
              zrN .boolean 0 h224
          else
          none
        else
        none
      else
      if x13 = 27 then
        zaI h [200] a0 (a5 + 1) fun x226 =>
        zcI (f_X0_blocksBeneath a1 x226 a3 h) zX fun x227 h228 =>
        zaI h228 [200] a0 (a5 + 1) fun x229 =>
        if ztg h228 a2 = some 4 then
          zcI (f_X5_blocksBeneath a2 x229 h228) zX fun x230 h231 =>
          if ztg h231 a2 = some 4 then
            zcI (f_X5_thrown a2 h231) zX fun x232 h233 =>
            if x232 = x227 then
              if ¬ x227 = 0 then
                f_L_law_1776 (f_L_law_28 n) a0 a1 a2 a3 a4 a5 h233
              else
                zaL h233 [202] a3 0 fun x234 =>
                if (lg_cmp x234 (x230.toInt64)) = 0 then
                  f_L_law_1776 (f_L_law_28 n) a0 a1 a2 a3 a4 a5 h233
                else
                  zrN .boolean 0 h233
            else
              zrN .boolean 0 h233
          else
          none
        else
        none
      else
      if x13 = 28 then
        zaI h [200] a0 (a5 + 1) fun x235 =>
        zcI (f_X0_blocksBeneathByBlocks a1 x235 a3 h) zX fun x236 h237 =>
        zaI h237 [200] a0 (a5 + 1) fun x238 =>
        if ztg h237 a2 = some 4 then
          zcI (f_X5_blocksBeneathByBlocks a2 x238 h237) zX fun x239 h240 =>
          if ztg h240 a2 = some 4 then
            zcI (f_X5_thrown a2 h240) zX fun x241 h242 =>
            if x241 = x236 then
              if ¬ x236 = 0 then
                f_L_law_1832 (f_L_law_28 n) a0 a1 a2 a3 a4 a5 h242
              else
                zaL h242 [202] a3 0 fun x243 =>
                if (lg_cmp x243 (x239.toInt64)) = 0 then
                  f_L_law_1832 (f_L_law_28 n) a0 a1 a2 a3 a4 a5 h242
                else
                  zrN .boolean 0 h242
            else
              zrN .boolean 0 h242
          else
          none
        else
        none
      else
      if x13 = 29 then
        zaI h [200] a0 (a5 + 1) fun x244 =>
        zcI (f_X0_shipAtPosition a1 x244 a3 h) zX fun x245 h246 =>
        zaI h246 [200] a0 (a5 + 1) fun x247 =>
        if ztg h246 a2 = some 4 then
          zcI (f_X5_shipAtPosition a2 x247 h246) zX fun x248 h249 =>
          if ztg h249 a2 = some 4 then
            zcI (f_X5_thrown a2 h249) zX fun x250 h251 =>
            if x250 = x245 then
              if ¬ x245 = 0 then
                f_L_law_1888 (f_L_law_28 n) a0 a1 a2 a3 a4 a5 h251
              else
                zaL h251 [202] a3 0 fun x252 =>
                if (lg_cmp x252 (x248.toInt64)) = 0 then
                  f_L_law_1888 (f_L_law_28 n) a0 a1 a2 a3 a4 a5 h251
                else
                  zrN .boolean 0 h251
            else
              zrN .boolean 0 h251
          else
          none
        else
        none
      else
      if x13 = 30 then
        zaI h [200] a0 (a5 + 1) fun x253 =>
        zcI (f_X0_firstGap a1 x253 a3 h) zX fun x254 h255 =>
        zaI h255 [200] a0 (a5 + 1) fun x256 =>
        if ztg h255 a2 = some 4 then
          zcI (f_X5_firstGap a2 x256 h255) zX fun x257 h258 =>
          if ztg h258 a2 = some 4 then
            zcI (f_X5_thrown a2 h258) zX fun x259 h260 =>
            if x259 = x254 then
              if ¬ x254 = 0 then
                f_L_law_1944 (f_L_law_28 n) a0 a1 a2 a3 a4 a5 h260
              else
                zaL h260 [202] a3 0 fun x261 =>
                if (lg_cmp x261 (x257.toInt64)) = 0 then
                  f_L_law_1944 (f_L_law_28 n) a0 a1 a2 a3 a4 a5 h260
                else
                  zrN .boolean 0 h260
            else
              zrN .boolean 0 h260
          else
          none
        else
        none
      else
      if x13 = 31 then
        zaI h [200] a0 (a5 + 1) fun x262 =>
        zcI (f_X0_firstGapByShips a1 x262 a3 h) zX fun x263 h264 =>
        zaI h264 [200] a0 (a5 + 1) fun x265 =>
        if ztg h264 a2 = some 4 then
          zcI (f_X5_firstGapByShips a2 x265 h264) zX fun x266 h267 =>
          if ztg h267 a2 = some 4 then
            zcI (f_X5_thrown a2 h267) zX fun x268 h269 =>
            if x268 = x263 then
              if ¬ x263 = 0 then
                f_L_law_2000 (f_L_law_28 n) a0 a1 a2 a3 a4 a5 h269
              else
                zaL h269 [202] a3 0 fun x270 =>
                if (lg_cmp x270 (x266.toInt64)) = 0 then
                  f_L_law_2000 (f_L_law_28 n) a0 a1 a2 a3 a4 a5 h269
                else
                  zrN .boolean 0 h269
            else
              zrN .boolean 0 h269
          else
          none
        else
        none
      else
      if x13 = 32 then
        if ztg h a1 = some 0 then
          zcI (f_X1_freeMetres a1 h) zX fun x271 h272 =>
          if ztg h272 a2 = some 4 then
            zcI (f_X5_freeMetres a2 h272) zX fun x273 h274 =>
            if x271 = x273 then
              f_L_law_2811 (f_L_law_28 n) a0 a1 a2 a3 a4 a5 h274
            else
              zrN .boolean 0 h274
          else
          none
        else
        none
      else
      if x13 = 33 then
        if ztg h a1 = some 0 then
          zcI (f_X1_mostFitting a1 h) zX fun x275 h276 =>
          if ztg h276 a2 = some 4 then
            zcI (f_X5_mostFitting a2 h276) zX fun x277 h278 =>
            if x275 = x277 then
              f_L_law_2811 (f_L_law_28 n) a0 a1 a2 a3 a4 a5 h278
            else
              zrN .boolean 0 h278
          else
          none
        else
        none
      else
      if x13 = 34 then
        if ztg h a1 = some 0 then
          zcI (f_X1_mostFittingByTable a1 h) zX fun x279 h280 =>
          if ztg h280 a2 = some 4 then
            zcI (f_X5_mostFittingByTable a2 h280) zX fun x281 h282 =>
            if x279 = x281 then
              f_L_law_2811 (f_L_law_28 n) a0 a1 a2 a3 a4 a5 h282
            else
              zrN .boolean 0 h282
          else
          none
        else
        none
      else
      if x13 = 35 then
        if ztg h a1 = some 0 then
          zcI (f_X1_mostFittingMetres a1 h) zX fun x283 h284 =>
          if ztg h284 a2 = some 4 then
            zcI (f_X5_mostFittingMetres a2 h284) zX fun x285 h286 =>
            if x283 = x285 then
              f_L_law_2811 (f_L_law_28 n) a0 a1 a2 a3 a4 a5 h286
            else
              zrN .boolean 0 h286
          else
          none
        else
        none
      else
      if x13 = 36 then
        zaI h [200] a0 (a5 + 1) fun x287 =>
        zcI (f_X0_billOf a1 x287 a3 h) zX fun x288 h289 =>
        zaI h289 [200] a0 (a5 + 1) fun x290 =>
        if ztg h289 a2 = some 4 then
          zcI (f_X5_billOf a2 x290 h289) zX fun x291 h292 =>
          if ztg h292 a2 = some 4 then
            zcI (f_X5_thrown a2 h292) zX fun x293 h294 =>
            if x293 = x288 then
              if ¬ x288 = 0 then
                f_L_law_2108 (f_L_law_28 n) a0 a1 a2 a3 a4 a5 h294
              else
                zaL h294 [202] a3 0 fun x295 =>
                if (lg_cmp x295 (x291.toInt64)) = 0 then
                  f_L_law_2108 (f_L_law_28 n) a0 a1 a2 a3 a4 a5 h294
                else
                  zrN .boolean 0 h294
            else
              zrN .boolean 0 h294
          else
          none
        else
        none
      else
      if x13 = 37 then
        zaI h [200] a0 (a5 + 1) fun x296 =>
        zaI h [200] a0 (a5 + 2) fun x297 =>
        zcI (f_X0_pay a1 x296 x297 a3 h) zX fun x298 h299 =>
        zaI h299 [200] a0 (a5 + 1) fun x300 =>
        zaI h299 [200] a0 (a5 + 2) fun x301 =>
        if ztg h299 a2 = some 4 then
          zcI (f_X5_pay a2 x300 x301 h299) zX fun x302 h303 =>
          if ztg h303 a2 = some 4 then
            zcI (f_X5_thrown a2 h303) zX fun x304 h305 =>
            if x304 = x298 then
              if ¬ x298 = 0 then
                f_L_law_2176 (f_L_law_28 n) a0 a1 a2 a3 a4 a5 h305
              else
                zaL h305 [202] a3 0 fun x306 =>
                if (lg_cmp x306 (x302.toInt64)) = 0 then
                  f_L_law_2176 (f_L_law_28 n) a0 a1 a2 a3 a4 a5 h305
                else
                  zrN .boolean 0 h305
            else
              zrN .boolean 0 h305
          else
          none
        else
        none
      else
      if x13 = 38 then
        if ztg h a1 = some 0 then
          zcI (f_X1_billTotal a1 h) zX fun x307 h308 =>
          if ztg h308 a2 = some 4 then
            zcI (f_X5_billTotal a2 h308) zX fun x309 h310 =>
            if x307 = x309 then
              f_L_law_2811 (f_L_law_28 n) a0 a1 a2 a3 a4 a5 h310
            else
              zrN .boolean 0 h310
          else
          none
        else
        none
      else
      if x13 = 39 then
        if ztg h a1 = some 0 then
          zcI (f_X1_billTotalByAccount a1 h) zX fun x311 h312 =>
          if ztg h312 a2 = some 4 then
            zcI (f_X5_billTotalByAccount a2 h312) zX fun x313 h314 =>
            if x311 = x313 then
              f_L_law_2811 (f_L_law_28 n) a0 a1 a2 a3 a4 a5 h314
            else
              zrN .boolean 0 h314
          else
          none
        else
        none
      else
      if x13 = 40 then
        if ztg h a1 = some 0 then
          zcI (f_X1_paidTotal a1 h) zX fun x315 h316 =>
          if ztg h316 a2 = some 4 then
            zcI (f_X5_paidTotal a2 h316) zX fun x317 h318 =>
            if x315 = x317 then
              f_L_law_2811 (f_L_law_28 n) a0 a1 a2 a3 a4 a5 h318
            else
              zrN .boolean 0 h318
          else
          none
        else
        none
      else
      if x13 = 41 then
        zaI h [200] a0 (a5 + 1) fun x319 =>
        zcI (f_X0_shipAtRank a1 x319 a3 h) zX fun x320 h321 =>
        zaI h321 [200] a0 (a5 + 1) fun x322 =>
        if ztg h321 a2 = some 4 then
          zcI (f_X5_shipAtRank a2 x322 h321) zX fun x323 h324 =>
          if ztg h324 a2 = some 4 then
            zcI (f_X5_thrown a2 h324) zX fun x325 h326 =>
            if x325 = x320 then
              if ¬ x320 = 0 then
                f_L_law_2271 (f_L_law_28 n) a0 a1 a2 a3 a4 a5 h326
              else
                zaL h326 [202] a3 0 fun x327 =>
                if (lg_cmp x327 (x323.toInt64)) = 0 then
                  f_L_law_2271 (f_L_law_28 n) a0 a1 a2 a3 a4 a5 h326
                else
                  zrN .boolean 0 h326
            else
              zrN .boolean 0 h326
          else
          none
        else
        none
      else
      if x13 = 42 then
        zaI h [200] a0 (a5 + 1) fun x328 =>
        zcI (f_X0_append a1 ((x328.toUInt32 % 65536).toInt32) a3 h) zX fun x329 h330 =>
        zaI h330 [200] a0 (a5 + 1) fun x331 =>
        if ztg h330 a2 = some 4 then
          zcI (f_X5_append a2 ((x331.toUInt32 % 65536).toInt32) h330) zX fun x332 h333 =>
          if ztg h333 a2 = some 4 then
            zcI (f_X5_thrown a2 h333) zX fun x334 h335 =>
            if x334 = x329 then
              if ¬ x329 = 0 then
                f_L_law_2329 (f_L_law_28 n) a0 a1 a2 a3 a4 a5 h335
              else
                zaL h335 [202] a3 0 fun x336 =>
                if (lg_cmp x336 (x332.toInt64)) = 0 then
                  f_L_law_2329 (f_L_law_28 n) a0 a1 a2 a3 a4 a5 h335
                else
                  zrN .boolean 0 h335
            else
              zrN .boolean 0 h335
          else
          none
        else
        none
      else
      if x13 = 43 then
        zcI (f_X0_run a1 a3 h) zX fun x337 h338 =>
        if ztg h338 a2 = some 4 then
          zcI (f_X5_run a2 h338) zX fun x339 h340 =>
          if ztg h340 a2 = some 4 then
            zcI (f_X5_thrown a2 h340) zX fun x341 h342 =>
            if x341 = x337 then
              if ¬ x337 = 0 then
                f_L_law_2373 (f_L_law_28 n) a0 a1 a2 a3 a4 a5 h342
              else
                zaL h342 [202] a3 0 fun x343 =>
                if (lg_cmp x343 (x339.toInt64)) = 0 then
                  f_L_law_2373 (f_L_law_28 n) a0 a1 a2 a3 a4 a5 h342
                else
                  zrN .boolean 0 h342
            else
              zrN .boolean 0 h342
          else
          none
        else
        none
      else
      if x13 = 44 then
        zcI (f_X0_errorPosition a1 a3 h) zX fun x344 h345 =>
        if ztg h345 a2 = some 4 then
          zcI (f_X5_errorPosition a2 h345) zX fun x346 h347 =>
          if ztg h347 a2 = some 4 then
            zcI (f_X5_thrown a2 h347) zX fun x348 h349 =>
            if x348 = x344 then
              if ¬ x344 = 0 then
                f_L_law_2417 (f_L_law_28 n) a0 a1 a2 a3 a4 a5 h349
              else
                zaL h349 [202] a3 0 fun x350 =>
                if (lg_cmp x350 (x346.toInt64)) = 0 then
                  f_L_law_2417 (f_L_law_28 n) a0 a1 a2 a3 a4 a5 h349
                else
                  zrN .boolean 0 h349
            else
              zrN .boolean 0 h349
          else
          none
        else
        none
      else
      if x13 = 45 then
        zcI (f_X0_failedCommand a1 a3 h) zX fun x351 h352 =>
        if ztg h352 a2 = some 4 then
          zcI (f_X5_failedCommand a2 h352) zX fun x353 h354 =>
          if ztg h354 a2 = some 4 then
            zcI (f_X5_thrown a2 h354) zX fun x355 h356 =>
            if x355 = x351 then
              if ¬ x351 = 0 then
                f_L_law_2461 (f_L_law_28 n) a0 a1 a2 a3 a4 a5 h356
              else
                zaL h356 [202] a3 0 fun x357 =>
                if (lg_cmp x357 (x353.toInt64)) = 0 then
                  f_L_law_2461 (f_L_law_28 n) a0 a1 a2 a3 a4 a5 h356
                else
                  zrN .boolean 0 h356
            else
              zrN .boolean 0 h356
          else
          none
        else
        none
      else
      if x13 = 46 then
        if ztg h a1 = some 0 then
          zcI (f_X1_describeDock a1 h) zX fun x358 h359 =>
          if ztg h359 a2 = some 4 then
            zcI (f_X5_describeDock a2 h359) zX fun x360 h361 =>
            if x358 = x360 then
              f_L_law_2811 (f_L_law_28 n) a0 a1 a2 a3 a4 a5 h361
            else
              zrN .boolean 0 h361
          else
          none
        else
        none
      else
      if x13 = 47 then
        zaI h [200] a0 (a5 + 1) fun x362 =>
        zcI (f_X0_describeBill a1 x362 a3 h) zX fun x363 h364 =>
        zaI h364 [200] a0 (a5 + 1) fun x365 =>
        if ztg h364 a2 = some 4 then
          zcI (f_X5_describeBill a2 x365 h364) zX fun x366 h367 =>
          if ztg h367 a2 = some 4 then
            zcI (f_X5_thrown a2 h367) zX fun x368 h369 =>
            if x368 = x363 then
              if ¬ x363 = 0 then
                f_L_law_2530 (f_L_law_28 n) a0 a1 a2 a3 a4 a5 h369
              else
                zaL h369 [202] a3 0 fun x370 =>
                if (lg_cmp x370 (x366.toInt64)) = 0 then
                  f_L_law_2530 (f_L_law_28 n) a0 a1 a2 a3 a4 a5 h369
                else
                  zrN .boolean 0 h369
            else
              zrN .boolean 0 h369
          else
          none
        else
        none
      else
      if x13 = 48 then
        zaI h [200] a0 (a5 + 1) fun x371 =>
        zcI (f_X0_lineAt a1 x371 a3 h) zX fun x372 h373 =>
        zaI h373 [200] a0 (a5 + 1) fun x374 =>
        if ztg h373 a2 = some 4 then
          zcI (f_X5_lineAt a2 x374 h373) zX fun x375 h376 =>
          if ztg h376 a2 = some 4 then
            zcI (f_X5_thrown a2 h376) zX fun x377 h378 =>
            if x377 = x372 then
              if ¬ x372 = 0 then
                f_L_law_2586 (f_L_law_28 n) a0 a1 a2 a3 a4 a5 h378
              else
                zaL h378 [202] a3 0 fun x379 =>
                if (lg_cmp x379 (x375.toInt64)) = 0 then
                  f_L_law_2586 (f_L_law_28 n) a0 a1 a2 a3 a4 a5 h378
                else
                  zrN .boolean 0 h378
            else
              zrN .boolean 0 h378
          else
          none
        else
        none
      else
      if x13 = 49 then
        zcI (f_X0_meanDirt a1 a4 h) zX fun x380 h381 =>
        if ztg h381 a2 = some 4 then
          zcD (f_X5_meanDirt a2 h381) zX fun x382 h383 =>
          if ztg h383 a2 = some 4 then
            zcI (f_X5_thrown a2 h383) zX fun x384 h385 =>
            if x384 = x380 then
              if ¬ x380 = 0 then
                f_L_law_2651 (f_L_law_28 n) a0 a1 a2 a3 a4 a5 h385
              else
                zaD h385 [203] a4 0 fun x386 =>
                if (Op.cmpValue (FP.dcmp x386 x382) .l) = 0 then
                  f_L_law_2651 (f_L_law_28 n) a0 a1 a2 a3 a4 a5 h385
                else
                  zaD h385 [203] a4 0 fun x387 =>
                  zaD h385 [203] a4 0 fun x388 =>
                  if (Op.cmpValue (FP.dcmp x387 x388) .l) = 0 then
                    zrN .boolean 0 h385
                  else
                    if ¬ (Op.cmpValue (FP.dcmp x382 x382) .l) = 0 then
                      f_L_law_2651 (f_L_law_28 n) a0 a1 a2 a3 a4 a5 h385
                    else
                      zrN .boolean 0 h385
            else
              zrN .boolean 0 h385
          else
          none
        else
        none
      else
      if x13 = 50 then
        if ztg h a1 = some 0 then
          zcF (f_X1_takenShare a1 h) zX fun x389 h390 =>
          if (FP.f2d x389) &&& 0x7fffffffffffffff ≤ 0x7ff0000000000000 then
            znm (FP.f2d x389) fun x391 =>
            if ztg h390 a2 = some 4 then
              zcF (f_X5_takenShare a2 h390) zX fun x392 h393 =>
              if (FP.f2d x392) &&& 0x7fffffffffffffff ≤ 0x7ff0000000000000 then
                znm (FP.f2d x392) fun x394 =>
                if (Op.cmpValue (FP.dcmp x391 x394) .l) = 0 then
                  f_L_law_2694 (f_L_law_28 n) a0 a1 a2 a3 a4 a5 h393
                else
                  if (Op.cmpValue (FP.dcmp x391 x391) .l) = 0 then
                    zrN .boolean 0 h393
                  else
                    if ¬ (Op.cmpValue (FP.dcmp x394 x394) .l) = 0 then
                      f_L_law_2694 (f_L_law_28 n) a0 a1 a2 a3 a4 a5 h393
                    else
                      zrN .boolean 0 h393
              else none
            else
            none
          else none
        else
        none
      else
      if x13 = 51 then
        if ztg h a1 = some 0 then
          zcI (f_X1_isConsistent a1 h) zX fun x395 h396 =>
          if ztg h396 a2 = some 4 then
            zcI (f_X5_isConsistent a2 h396) zX fun x397 h398 =>
            if x395 = x397 then
              f_L_law_2811 (f_L_law_28 n) a0 a1 a2 a3 a4 a5 h398
            else
              zrN .boolean 0 h398
          else
          none
        else
        none
      else
      if x13 = 52 then
        zcI (f_X0_undo a1 a3 h) zX fun x399 h400 =>
        if ztg h400 a2 = some 4 then
          zcI (f_X5_undo a2 h400) zX fun x401 h402 =>
          if ztg h402 a2 = some 4 then
            zcI (f_X5_thrown a2 h402) zX fun x403 h404 =>
            if x403 = x399 then
              if ¬ x399 = 0 then
                f_L_law_2751 (f_L_law_28 n) a0 a1 a2 a3 a4 a5 h404
              else
                zaL h404 [202] a3 0 fun x405 =>
                if (lg_cmp x405 (x401.toInt64)) = 0 then
                  f_L_law_2751 (f_L_law_28 n) a0 a1 a2 a3 a4 a5 h404
                else
                  zrN .boolean 0 h404
            else
              zrN .boolean 0 h404
          else
          none
        else
        none
      else
      if x13 = 53 then
        if ztg h a1 = some 0 then
          zcI (f_X1_save a1 h) zX fun x406 h407 =>
          if ztg h407 a2 = some 4 then
            zcI (f_X5_save a2 h407) zX fun x408 h409 =>
            if x406 = x408 then
              f_L_law_2811 (f_L_law_28 n) a0 a1 a2 a3 a4 a5 h409
            else
              zrN .boolean 0 h409
          else
          none
        else
        none
      else
      if x13 = 54 then
        zcI (f_X0_restore a1 a3 h) zX fun x410 h411 =>
        if ztg h411 a2 = some 4 then
          zcI (f_X5_restore a2 h411) zX fun x412 h413 =>
          if ztg h413 a2 = some 4 then
            zcI (f_X5_thrown a2 h413) zX fun x414 h415 =>
            if x414 = x410 then
              if ¬ x410 = 0 then
                f_L_law_2808 (f_L_law_28 n) a0 a1 a2 a3 a4 a5 h415
              else
                zaL h415 [202] a3 0 fun x416 =>
                if (lg_cmp x416 (x412.toInt64)) = 0 then
                  f_L_law_2808 (f_L_law_28 n) a0 a1 a2 a3 a4 a5 h415
                else
                  zrN .boolean 0 h415
            else
              zrN .boolean 0 h415
          else
          none
        else
        none
      else
      f_L_law_2811 (f_L_law_28 n) a0 a1 a2 a3 a4 a5 h
def f_L_law (v0 : Option Nat) (h : zH) : zO :=
  znO h 0 [.null, .null, .null, .null, .null, .null, .null, .null, .int 0, .int 0, .int 0] fun r1 h2 =>
  if ¬ r1 = none then
    zcV (f_X1_init r1 h2) zX fun h3 =>
    znO h3 4 [.null, .null, .null, .null, .int 0, .int 0, .int 0, .int 0, .int 0, .null, .int 0, .null, .int 0, .int 0, .null, .int 0, .int 0, .int 0, .int 0, .null] fun r4 h5 =>
    if ¬ r4 = none then
      zcV (f_X5_init r4 h5) zX fun h6 =>
      znA h6 202 8 (.long 0) 1 fun r7 h8 =>
      znA h8 203 8 (.double 0) 1 fun r9 h10 =>
      f_L_law_28 zfuel v0 r1 r4 r7 r9 0 h10
    else none
  else none
section WL
variable {D : va_G} {z : Nat}
set_option maxHeartbeats 4000000
theorem w_L_law_2811 (K28 : Option Nat → Option Nat → Option Nat → Option Nat → Option Nat → Int32 → zH → zO) (hK28 : ∀ (a0 : Option Nat) (a1 : Option Nat) (a2 : Option Nat) (a3 : Option Nat) (a4 : Option Nat) (a5 : Int32) (h : zH), zS D z yL_law cL_law 10 (some .boolean) [] 55 h 28 [(0, va_rf a0), (1, va_rf a1), (2, va_rf a2), (3, va_rf a3), (4, va_rf a4), (5, .int a5)] [] (K28 a0 a1 a2 a3 a4 a5 h)) (a0 : Option Nat) (a1 : Option Nat) (a2 : Option Nat) (a3 : Option Nat) (a4 : Option Nat) (a5 : Int32) (h : zH) : zS D z yL_law cL_law 10 (some .boolean) [] 55 h 2811 [(0, va_rf a0), (1, va_rf a1), (2, va_rf a2), (3, va_rf a3), (4, va_rf a4), (5, .int a5)] [] (f_L_law_2811 K28 a0 a1 a2 a3 a4 a5 h) := by
  unfold f_L_law_2811
  refine s_inc (pc := 2811) (v := 4) (L2 := [(0, va_rf a0), (1, va_rf a1), (2, va_rf a2), (3, va_rf a3), (4, va_rf a4)]) 5 [0, 1, 2, 3, 4] dL_law_2811 rfl (by decide) (by decide) rfl rfl (zcB (j := 4) rfl (zcat_rf a4) rfl) (fun x425 => ?_)
  refine s_goto (pc := 2814) (tgt := 28) dL_law_2814 (by decide) ?_
  exact s_sub (pc := 28) [1, 2, 3, 4, 5, 0] rfl (hK28 a0 a1 a2 a3 a4 x425 h)
theorem w_L_law_357 (K28 : Option Nat → Option Nat → Option Nat → Option Nat → Option Nat → Int32 → zH → zO) (hK28 : ∀ (a0 : Option Nat) (a1 : Option Nat) (a2 : Option Nat) (a3 : Option Nat) (a4 : Option Nat) (a5 : Int32) (h : zH), zS D z yL_law cL_law 10 (some .boolean) [] 55 h 28 [(0, va_rf a0), (1, va_rf a1), (2, va_rf a2), (3, va_rf a3), (4, va_rf a4), (5, .int a5)] [] (K28 a0 a1 a2 a3 a4 a5 h)) (a0 : Option Nat) (a1 : Option Nat) (a2 : Option Nat) (a3 : Option Nat) (a4 : Option Nat) (a5 : Int32) (h : zH) : zS D z yL_law cL_law 10 (some .boolean) [] 55 h 357 [(0, va_rf a0), (1, va_rf a1), (2, va_rf a2), (3, va_rf a3), (4, va_rf a4), (5, .int a5)] [] (f_L_law_357 K28 a0 a1 a2 a3 a4 a5 h) := by
  unfold f_L_law_357
  refine s_goto (pc := 357) (tgt := 2811) dL_law_357 (by decide) ?_
  exact s_sub (pc := 2811) [0, 1, 2, 3, 4, 5] rfl (w_L_law_2811 K28 hK28 a0 a1 a2 a3 a4 a5 h)
theorem w_L_law_413 (K28 : Option Nat → Option Nat → Option Nat → Option Nat → Option Nat → Int32 → zH → zO) (hK28 : ∀ (a0 : Option Nat) (a1 : Option Nat) (a2 : Option Nat) (a3 : Option Nat) (a4 : Option Nat) (a5 : Int32) (h : zH), zS D z yL_law cL_law 10 (some .boolean) [] 55 h 28 [(0, va_rf a0), (1, va_rf a1), (2, va_rf a2), (3, va_rf a3), (4, va_rf a4), (5, .int a5)] [] (K28 a0 a1 a2 a3 a4 a5 h)) (a0 : Option Nat) (a1 : Option Nat) (a2 : Option Nat) (a3 : Option Nat) (a4 : Option Nat) (a5 : Int32) (h : zH) : zS D z yL_law cL_law 10 (some .boolean) [] 55 h 413 [(0, va_rf a0), (1, va_rf a1), (2, va_rf a2), (3, va_rf a3), (4, va_rf a4), (5, .int a5)] [] (f_L_law_413 K28 a0 a1 a2 a3 a4 a5 h) := by
  unfold f_L_law_413
  refine s_goto (pc := 413) (tgt := 2811) dL_law_413 (by decide) ?_
  exact s_sub (pc := 2811) [0, 1, 2, 3, 4, 5] rfl (w_L_law_2811 K28 hK28 a0 a1 a2 a3 a4 a5 h)
theorem w_L_law_481 (K28 : Option Nat → Option Nat → Option Nat → Option Nat → Option Nat → Int32 → zH → zO) (hK28 : ∀ (a0 : Option Nat) (a1 : Option Nat) (a2 : Option Nat) (a3 : Option Nat) (a4 : Option Nat) (a5 : Int32) (h : zH), zS D z yL_law cL_law 10 (some .boolean) [] 55 h 28 [(0, va_rf a0), (1, va_rf a1), (2, va_rf a2), (3, va_rf a3), (4, va_rf a4), (5, .int a5)] [] (K28 a0 a1 a2 a3 a4 a5 h)) (a0 : Option Nat) (a1 : Option Nat) (a2 : Option Nat) (a3 : Option Nat) (a4 : Option Nat) (a5 : Int32) (h : zH) : zS D z yL_law cL_law 10 (some .boolean) [] 55 h 481 [(0, va_rf a0), (1, va_rf a1), (2, va_rf a2), (3, va_rf a3), (4, va_rf a4), (5, .int a5)] [] (f_L_law_481 K28 a0 a1 a2 a3 a4 a5 h) := by
  unfold f_L_law_481
  refine s_goto (pc := 481) (tgt := 2811) dL_law_481 (by decide) ?_
  exact s_sub (pc := 2811) [0, 1, 2, 3, 4, 5] rfl (w_L_law_2811 K28 hK28 a0 a1 a2 a3 a4 a5 h)
theorem w_L_law_537 (K28 : Option Nat → Option Nat → Option Nat → Option Nat → Option Nat → Int32 → zH → zO) (hK28 : ∀ (a0 : Option Nat) (a1 : Option Nat) (a2 : Option Nat) (a3 : Option Nat) (a4 : Option Nat) (a5 : Int32) (h : zH), zS D z yL_law cL_law 10 (some .boolean) [] 55 h 28 [(0, va_rf a0), (1, va_rf a1), (2, va_rf a2), (3, va_rf a3), (4, va_rf a4), (5, .int a5)] [] (K28 a0 a1 a2 a3 a4 a5 h)) (a0 : Option Nat) (a1 : Option Nat) (a2 : Option Nat) (a3 : Option Nat) (a4 : Option Nat) (a5 : Int32) (h : zH) : zS D z yL_law cL_law 10 (some .boolean) [] 55 h 537 [(0, va_rf a0), (1, va_rf a1), (2, va_rf a2), (3, va_rf a3), (4, va_rf a4), (5, .int a5)] [] (f_L_law_537 K28 a0 a1 a2 a3 a4 a5 h) := by
  unfold f_L_law_537
  refine s_goto (pc := 537) (tgt := 2811) dL_law_537 (by decide) ?_
  exact s_sub (pc := 2811) [0, 1, 2, 3, 4, 5] rfl (w_L_law_2811 K28 hK28 a0 a1 a2 a3 a4 a5 h)
theorem w_L_law_628 (K28 : Option Nat → Option Nat → Option Nat → Option Nat → Option Nat → Int32 → zH → zO) (hK28 : ∀ (a0 : Option Nat) (a1 : Option Nat) (a2 : Option Nat) (a3 : Option Nat) (a4 : Option Nat) (a5 : Int32) (h : zH), zS D z yL_law cL_law 10 (some .boolean) [] 55 h 28 [(0, va_rf a0), (1, va_rf a1), (2, va_rf a2), (3, va_rf a3), (4, va_rf a4), (5, .int a5)] [] (K28 a0 a1 a2 a3 a4 a5 h)) (a0 : Option Nat) (a1 : Option Nat) (a2 : Option Nat) (a3 : Option Nat) (a4 : Option Nat) (a5 : Int32) (h : zH) : zS D z yL_law cL_law 10 (some .boolean) [] 55 h 628 [(0, va_rf a0), (1, va_rf a1), (2, va_rf a2), (3, va_rf a3), (4, va_rf a4), (5, .int a5)] [] (f_L_law_628 K28 a0 a1 a2 a3 a4 a5 h) := by
  unfold f_L_law_628
  refine s_goto (pc := 628) (tgt := 2811) dL_law_628 (by decide) ?_
  exact s_sub (pc := 2811) [0, 1, 2, 3, 4, 5] rfl (w_L_law_2811 K28 hK28 a0 a1 a2 a3 a4 a5 h)
theorem w_L_law_622 (K28 : Option Nat → Option Nat → Option Nat → Option Nat → Option Nat → Int32 → zH → zO) (hK28 : ∀ (a0 : Option Nat) (a1 : Option Nat) (a2 : Option Nat) (a3 : Option Nat) (a4 : Option Nat) (a5 : Int32) (h : zH), zS D z yL_law cL_law 10 (some .boolean) [] 55 h 28 [(0, va_rf a0), (1, va_rf a1), (2, va_rf a2), (3, va_rf a3), (4, va_rf a4), (5, .int a5)] [] (K28 a0 a1 a2 a3 a4 a5 h)) (a0 : Option Nat) (a1 : Option Nat) (a2 : Option Nat) (a3 : Option Nat) (a4 : Option Nat) (a5 : Int32) (s0 : Int64) (s1 : Int64) (h : zH) : zS D z yL_law cL_law 10 (some .boolean) [] 55 h 622 [(0, va_rf a0), (1, va_rf a1), (2, va_rf a2), (3, va_rf a3), (4, va_rf a4), (5, .int a5)] [.long s0, .long s1] (f_L_law_622 K28 a0 a1 a2 a3 a4 a5 s0 s1 h) := by
  unfold f_L_law_622
  refine s_lcmp (pc := 622) dL_law_622 ?_
  refine s_if_eq (pc := 623) (tgt := 628) dL_law_623 (by decide) (fun _ => ?_) (fun _ => ?_)
  · exact s_sub (pc := 628) [0, 1, 2, 3, 4, 5] rfl (w_L_law_628 K28 hK28 a0 a1 a2 a3 a4 a5 h)
  · refine s_iconst (pc := 626) (v := 0) dL_law_626 (by decide) ?_
    exact s_nret (pc := 627) dL_law_627 rfl
theorem w_L_law_588 (K28 : Option Nat → Option Nat → Option Nat → Option Nat → Option Nat → Int32 → zH → zO) (hK28 : ∀ (a0 : Option Nat) (a1 : Option Nat) (a2 : Option Nat) (a3 : Option Nat) (a4 : Option Nat) (a5 : Int32) (h : zH), zS D z yL_law cL_law 10 (some .boolean) [] 55 h 28 [(0, va_rf a0), (1, va_rf a1), (2, va_rf a2), (3, va_rf a3), (4, va_rf a4), (5, .int a5)] [] (K28 a0 a1 a2 a3 a4 a5 h)) (a0 : Option Nat) (a1 : Option Nat) (a2 : Option Nat) (a3 : Option Nat) (a4 : Option Nat) (a5 : Int32) (a6 : Int32) (s0 : Int32) (s1 : Int32) (s2 : Option Nat) (h : zH) : zS D z yL_law cL_law 10 (some .boolean) [] 55 h 588 [(0, va_rf a0), (1, va_rf a1), (2, va_rf a2), (3, va_rf a3), (4, va_rf a4), (5, .int a5), (6, .int a6)] [.int s0, .int s1, va_rf s2] (f_L_law_588 K28 a0 a1 a2 a3 a4 a5 a6 s0 s1 s2 h) := by
  unfold f_L_law_588
  refine zS_ite (fun ht => ?_) (fun _ => zS_none)
  refine s_callV (pc := 588) (np := 2) (as := [.int s1, .int s0]) (rest := []) dL_law_588 ht (q := (RX5, TX5, 20)) rfl (c_X5_setCleaning (by decide) s2 s1 s0 h) rfl rfl q3416 q3417 q3418 rfl (by decide) (zkI (fun x430 h431 => ?_)) zxo
  refine s_ist (pc := 591) (L2 := [(0, va_rf a0), (1, va_rf a1), (2, va_rf a2), (3, va_rf a3), (4, va_rf a4), (5, .int a5), (6, .int a6)]) [0, 1, 2, 3, 4, 5, 6] dL_law_591 (by decide) rfl rfl (zcB (j := 6) rfl rfl rfl) ?_
  refine s_aload_n (pc := 593) 3 dL_law_593 rfl rfl ?_
  refine zS_ite (fun ht => ?_) (fun _ => zS_none)
  refine s_callV (pc := 594) (np := 0) (as := []) (rest := []) dL_law_594 ht (q := (RX5, TX5, 20)) rfl (c_X5_thrown (by decide) a2 h431) rfl rfl q3303 q3304 q3305 rfl (by decide) (zkI (fun x432 h433 => ?_)) zxo
  refine s_iload (pc := 597) 7 dL_law_597 rfl ?_
  refine s_icmp_eq (pc := 599) (tgt := 604) dL_law_599 (by decide) (fun _ => ?_) (fun _ => ?_)
  · refine s_iload (pc := 604) 7 dL_law_604 rfl ?_
    refine s_if_ne (pc := 606) (tgt := 628) dL_law_606 (by decide) (fun _ => ?_) (fun _ => ?_)
    · exact s_sub (pc := 628) [1, 2, 3, 4, 5, 6] rfl (w_L_law_628 K28 hK28 a0 a1 a2 a3 a4 a5 h433)
    · refine s_aload_n (pc := 609) 4 dL_law_609 rfl rfl ?_
      refine s_iconst (pc := 610) (v := 0) dL_law_610 (by decide) ?_
      refine s_lald (pc := 611) dL_law_611 (ztc rfl zt0) (fun x434 => ?_)
      refine s_iload (pc := 612) 0 dL_law_612 rfl ?_
      refine s_if_eq (pc := 614) (tgt := 621) dL_law_614 (by decide) (fun _ => ?_) (fun _ => ?_)
      · refine s_lconst (pc := 621) (v := 0) dL_law_621 (by decide) ?_
        exact s_sub (pc := 622) [1, 2, 3, 4, 5, 6] rfl (w_L_law_622 K28 hK28 a0 a1 a2 a3 a4 a5 0 x434 h433)
      · refine s_lconst (pc := 617) (v := 1) dL_law_617 (by decide) ?_
        refine s_goto (pc := 618) (tgt := 622) dL_law_618 (by decide) ?_
        exact s_sub (pc := 622) [1, 2, 3, 4, 5, 6] rfl (w_L_law_622 K28 hK28 a0 a1 a2 a3 a4 a5 1 x434 h433)
  · refine s_iconst (pc := 602) (v := 0) dL_law_602 (by decide) ?_
    exact s_nret (pc := 603) dL_law_603 rfl
theorem w_L_law_561 (K28 : Option Nat → Option Nat → Option Nat → Option Nat → Option Nat → Int32 → zH → zO) (hK28 : ∀ (a0 : Option Nat) (a1 : Option Nat) (a2 : Option Nat) (a3 : Option Nat) (a4 : Option Nat) (a5 : Int32) (h : zH), zS D z yL_law cL_law 10 (some .boolean) [] 55 h 28 [(0, va_rf a0), (1, va_rf a1), (2, va_rf a2), (3, va_rf a3), (4, va_rf a4), (5, .int a5)] [] (K28 a0 a1 a2 a3 a4 a5 h)) (a0 : Option Nat) (a1 : Option Nat) (a2 : Option Nat) (a3 : Option Nat) (a4 : Option Nat) (a5 : Int32) (s0 : Int32) (s1 : Int32) (s2 : Option Nat) (h : zH) : zS D z yL_law cL_law 10 (some .boolean) [] 55 h 561 [(0, va_rf a0), (1, va_rf a1), (2, va_rf a2), (3, va_rf a3), (4, va_rf a4), (5, .int a5)] [.int s0, .int s1, va_rf s2] (f_L_law_561 K28 a0 a1 a2 a3 a4 a5 s0 s1 s2 h) := by
  unfold f_L_law_561
  refine s_aload_n (pc := 561) 3 dL_law_561 rfl rfl ?_
  refine s_callSS (pc := 562) (np := 4) (as := [va_rf s2, .int s1, .int s0, va_rf a3]) (rest := []) dL_law_562 (c_X0_setCleaning (by decide) s2 s1 s0 a3 h) rfl rfl q2505 q2506 rfl (by decide) (zkI (fun x426 h427 => ?_)) zxo
  refine s_ist (pc := 565) (L2 := [(0, va_rf a0), (1, va_rf a1), (2, va_rf a2), (3, va_rf a3), (4, va_rf a4), (5, .int a5)]) [0, 1, 2, 3, 4, 5] dL_law_565 (by decide) rfl rfl (zcB (j := 5) rfl rfl rfl) ?_
  refine s_aload_n (pc := 567) 3 dL_law_567 rfl rfl ?_
  refine s_aload_n (pc := 568) 1 dL_law_568 rfl rfl ?_
  refine s_iload (pc := 569) 6 dL_law_569 rfl ?_
  refine s_iconst (pc := 571) (v := 1) dL_law_571 (by decide) ?_
  refine s_iadd (pc := 572) dL_law_572 ?_
  refine s_iald (pc := 573) dL_law_573 (ztc rfl zt0) (fun x428 => ?_)
  refine s_aload_n (pc := 574) 1 dL_law_574 rfl rfl ?_
  refine s_iload (pc := 575) 6 dL_law_575 rfl ?_
  refine s_iconst (pc := 577) (v := 2) dL_law_577 (by decide) ?_
  refine s_iadd (pc := 578) dL_law_578 ?_
  refine s_iald (pc := 579) dL_law_579 (ztc rfl zt0) (fun x429 => ?_)
  refine s_if_eq (pc := 580) (tgt := 587) dL_law_580 (by decide) (fun _ => ?_) (fun _ => ?_)
  · refine s_iconst (pc := 587) (v := 0) dL_law_587 (by decide) ?_
    exact s_sub (pc := 588) [1, 2, 3, 4, 5, 6, 0] rfl (w_L_law_588 K28 hK28 a0 a1 a2 a3 a4 a5 x426 0 x428 a2 h427)
  · refine s_iconst (pc := 583) (v := 1) dL_law_583 (by decide) ?_
    refine s_goto (pc := 584) (tgt := 588) dL_law_584 (by decide) ?_
    exact s_sub (pc := 588) [1, 2, 3, 4, 5, 6, 0] rfl (w_L_law_588 K28 hK28 a0 a1 a2 a3 a4 a5 x426 1 x428 a2 h427)
theorem w_L_law_697 (K28 : Option Nat → Option Nat → Option Nat → Option Nat → Option Nat → Int32 → zH → zO) (hK28 : ∀ (a0 : Option Nat) (a1 : Option Nat) (a2 : Option Nat) (a3 : Option Nat) (a4 : Option Nat) (a5 : Int32) (h : zH), zS D z yL_law cL_law 10 (some .boolean) [] 55 h 28 [(0, va_rf a0), (1, va_rf a1), (2, va_rf a2), (3, va_rf a3), (4, va_rf a4), (5, .int a5)] [] (K28 a0 a1 a2 a3 a4 a5 h)) (a0 : Option Nat) (a1 : Option Nat) (a2 : Option Nat) (a3 : Option Nat) (a4 : Option Nat) (a5 : Int32) (h : zH) : zS D z yL_law cL_law 10 (some .boolean) [] 55 h 697 [(0, va_rf a0), (1, va_rf a1), (2, va_rf a2), (3, va_rf a3), (4, va_rf a4), (5, .int a5)] [] (f_L_law_697 K28 a0 a1 a2 a3 a4 a5 h) := by
  unfold f_L_law_697
  refine s_goto (pc := 697) (tgt := 2811) dL_law_697 (by decide) ?_
  exact s_sub (pc := 2811) [0, 1, 2, 3, 4, 5] rfl (w_L_law_2811 K28 hK28 a0 a1 a2 a3 a4 a5 h)
theorem w_L_law_760 (K28 : Option Nat → Option Nat → Option Nat → Option Nat → Option Nat → Int32 → zH → zO) (hK28 : ∀ (a0 : Option Nat) (a1 : Option Nat) (a2 : Option Nat) (a3 : Option Nat) (a4 : Option Nat) (a5 : Int32) (h : zH), zS D z yL_law cL_law 10 (some .boolean) [] 55 h 28 [(0, va_rf a0), (1, va_rf a1), (2, va_rf a2), (3, va_rf a3), (4, va_rf a4), (5, .int a5)] [] (K28 a0 a1 a2 a3 a4 a5 h)) (a0 : Option Nat) (a1 : Option Nat) (a2 : Option Nat) (a3 : Option Nat) (a4 : Option Nat) (a5 : Int32) (h : zH) : zS D z yL_law cL_law 10 (some .boolean) [] 55 h 760 [(0, va_rf a0), (1, va_rf a1), (2, va_rf a2), (3, va_rf a3), (4, va_rf a4), (5, .int a5)] [] (f_L_law_760 K28 a0 a1 a2 a3 a4 a5 h) := by
  unfold f_L_law_760
  refine s_goto (pc := 760) (tgt := 2811) dL_law_760 (by decide) ?_
  exact s_sub (pc := 2811) [0, 1, 2, 3, 4, 5] rfl (w_L_law_2811 K28 hK28 a0 a1 a2 a3 a4 a5 h)
theorem w_L_law_754 (K28 : Option Nat → Option Nat → Option Nat → Option Nat → Option Nat → Int32 → zH → zO) (hK28 : ∀ (a0 : Option Nat) (a1 : Option Nat) (a2 : Option Nat) (a3 : Option Nat) (a4 : Option Nat) (a5 : Int32) (h : zH), zS D z yL_law cL_law 10 (some .boolean) [] 55 h 28 [(0, va_rf a0), (1, va_rf a1), (2, va_rf a2), (3, va_rf a3), (4, va_rf a4), (5, .int a5)] [] (K28 a0 a1 a2 a3 a4 a5 h)) (a0 : Option Nat) (a1 : Option Nat) (a2 : Option Nat) (a3 : Option Nat) (a4 : Option Nat) (a5 : Int32) (s0 : Int64) (s1 : Int64) (h : zH) : zS D z yL_law cL_law 10 (some .boolean) [] 55 h 754 [(0, va_rf a0), (1, va_rf a1), (2, va_rf a2), (3, va_rf a3), (4, va_rf a4), (5, .int a5)] [.long s0, .long s1] (f_L_law_754 K28 a0 a1 a2 a3 a4 a5 s0 s1 h) := by
  unfold f_L_law_754
  refine s_lcmp (pc := 754) dL_law_754 ?_
  refine s_if_eq (pc := 755) (tgt := 760) dL_law_755 (by decide) (fun _ => ?_) (fun _ => ?_)
  · exact s_sub (pc := 760) [0, 1, 2, 3, 4, 5] rfl (w_L_law_760 K28 hK28 a0 a1 a2 a3 a4 a5 h)
  · refine s_iconst (pc := 758) (v := 0) dL_law_758 (by decide) ?_
    exact s_nret (pc := 759) dL_law_759 rfl
theorem w_L_law_816 (K28 : Option Nat → Option Nat → Option Nat → Option Nat → Option Nat → Int32 → zH → zO) (hK28 : ∀ (a0 : Option Nat) (a1 : Option Nat) (a2 : Option Nat) (a3 : Option Nat) (a4 : Option Nat) (a5 : Int32) (h : zH), zS D z yL_law cL_law 10 (some .boolean) [] 55 h 28 [(0, va_rf a0), (1, va_rf a1), (2, va_rf a2), (3, va_rf a3), (4, va_rf a4), (5, .int a5)] [] (K28 a0 a1 a2 a3 a4 a5 h)) (a0 : Option Nat) (a1 : Option Nat) (a2 : Option Nat) (a3 : Option Nat) (a4 : Option Nat) (a5 : Int32) (h : zH) : zS D z yL_law cL_law 10 (some .boolean) [] 55 h 816 [(0, va_rf a0), (1, va_rf a1), (2, va_rf a2), (3, va_rf a3), (4, va_rf a4), (5, .int a5)] [] (f_L_law_816 K28 a0 a1 a2 a3 a4 a5 h) := by
  unfold f_L_law_816
  refine s_goto (pc := 816) (tgt := 2811) dL_law_816 (by decide) ?_
  exact s_sub (pc := 2811) [0, 1, 2, 3, 4, 5] rfl (w_L_law_2811 K28 hK28 a0 a1 a2 a3 a4 a5 h)
theorem w_L_law_872 (K28 : Option Nat → Option Nat → Option Nat → Option Nat → Option Nat → Int32 → zH → zO) (hK28 : ∀ (a0 : Option Nat) (a1 : Option Nat) (a2 : Option Nat) (a3 : Option Nat) (a4 : Option Nat) (a5 : Int32) (h : zH), zS D z yL_law cL_law 10 (some .boolean) [] 55 h 28 [(0, va_rf a0), (1, va_rf a1), (2, va_rf a2), (3, va_rf a3), (4, va_rf a4), (5, .int a5)] [] (K28 a0 a1 a2 a3 a4 a5 h)) (a0 : Option Nat) (a1 : Option Nat) (a2 : Option Nat) (a3 : Option Nat) (a4 : Option Nat) (a5 : Int32) (h : zH) : zS D z yL_law cL_law 10 (some .boolean) [] 55 h 872 [(0, va_rf a0), (1, va_rf a1), (2, va_rf a2), (3, va_rf a3), (4, va_rf a4), (5, .int a5)] [] (f_L_law_872 K28 a0 a1 a2 a3 a4 a5 h) := by
  unfold f_L_law_872
  refine s_goto (pc := 872) (tgt := 2811) dL_law_872 (by decide) ?_
  exact s_sub (pc := 2811) [0, 1, 2, 3, 4, 5] rfl (w_L_law_2811 K28 hK28 a0 a1 a2 a3 a4 a5 h)
theorem w_L_law_928 (K28 : Option Nat → Option Nat → Option Nat → Option Nat → Option Nat → Int32 → zH → zO) (hK28 : ∀ (a0 : Option Nat) (a1 : Option Nat) (a2 : Option Nat) (a3 : Option Nat) (a4 : Option Nat) (a5 : Int32) (h : zH), zS D z yL_law cL_law 10 (some .boolean) [] 55 h 28 [(0, va_rf a0), (1, va_rf a1), (2, va_rf a2), (3, va_rf a3), (4, va_rf a4), (5, .int a5)] [] (K28 a0 a1 a2 a3 a4 a5 h)) (a0 : Option Nat) (a1 : Option Nat) (a2 : Option Nat) (a3 : Option Nat) (a4 : Option Nat) (a5 : Int32) (h : zH) : zS D z yL_law cL_law 10 (some .boolean) [] 55 h 928 [(0, va_rf a0), (1, va_rf a1), (2, va_rf a2), (3, va_rf a3), (4, va_rf a4), (5, .int a5)] [] (f_L_law_928 K28 a0 a1 a2 a3 a4 a5 h) := by
  unfold f_L_law_928
  refine s_goto (pc := 928) (tgt := 2811) dL_law_928 (by decide) ?_
  exact s_sub (pc := 2811) [0, 1, 2, 3, 4, 5] rfl (w_L_law_2811 K28 hK28 a0 a1 a2 a3 a4 a5 h)
theorem w_L_law_984 (K28 : Option Nat → Option Nat → Option Nat → Option Nat → Option Nat → Int32 → zH → zO) (hK28 : ∀ (a0 : Option Nat) (a1 : Option Nat) (a2 : Option Nat) (a3 : Option Nat) (a4 : Option Nat) (a5 : Int32) (h : zH), zS D z yL_law cL_law 10 (some .boolean) [] 55 h 28 [(0, va_rf a0), (1, va_rf a1), (2, va_rf a2), (3, va_rf a3), (4, va_rf a4), (5, .int a5)] [] (K28 a0 a1 a2 a3 a4 a5 h)) (a0 : Option Nat) (a1 : Option Nat) (a2 : Option Nat) (a3 : Option Nat) (a4 : Option Nat) (a5 : Int32) (h : zH) : zS D z yL_law cL_law 10 (some .boolean) [] 55 h 984 [(0, va_rf a0), (1, va_rf a1), (2, va_rf a2), (3, va_rf a3), (4, va_rf a4), (5, .int a5)] [] (f_L_law_984 K28 a0 a1 a2 a3 a4 a5 h) := by
  unfold f_L_law_984
  refine s_goto (pc := 984) (tgt := 2811) dL_law_984 (by decide) ?_
  exact s_sub (pc := 2811) [0, 1, 2, 3, 4, 5] rfl (w_L_law_2811 K28 hK28 a0 a1 a2 a3 a4 a5 h)
theorem w_L_law_1047 (K28 : Option Nat → Option Nat → Option Nat → Option Nat → Option Nat → Int32 → zH → zO) (hK28 : ∀ (a0 : Option Nat) (a1 : Option Nat) (a2 : Option Nat) (a3 : Option Nat) (a4 : Option Nat) (a5 : Int32) (h : zH), zS D z yL_law cL_law 10 (some .boolean) [] 55 h 28 [(0, va_rf a0), (1, va_rf a1), (2, va_rf a2), (3, va_rf a3), (4, va_rf a4), (5, .int a5)] [] (K28 a0 a1 a2 a3 a4 a5 h)) (a0 : Option Nat) (a1 : Option Nat) (a2 : Option Nat) (a3 : Option Nat) (a4 : Option Nat) (a5 : Int32) (h : zH) : zS D z yL_law cL_law 10 (some .boolean) [] 55 h 1047 [(0, va_rf a0), (1, va_rf a1), (2, va_rf a2), (3, va_rf a3), (4, va_rf a4), (5, .int a5)] [] (f_L_law_1047 K28 a0 a1 a2 a3 a4 a5 h) := by
  unfold f_L_law_1047
  refine s_goto (pc := 1047) (tgt := 2811) dL_law_1047 (by decide) ?_
  exact s_sub (pc := 2811) [0, 1, 2, 3, 4, 5] rfl (w_L_law_2811 K28 hK28 a0 a1 a2 a3 a4 a5 h)
theorem w_L_law_1041 (K28 : Option Nat → Option Nat → Option Nat → Option Nat → Option Nat → Int32 → zH → zO) (hK28 : ∀ (a0 : Option Nat) (a1 : Option Nat) (a2 : Option Nat) (a3 : Option Nat) (a4 : Option Nat) (a5 : Int32) (h : zH), zS D z yL_law cL_law 10 (some .boolean) [] 55 h 28 [(0, va_rf a0), (1, va_rf a1), (2, va_rf a2), (3, va_rf a3), (4, va_rf a4), (5, .int a5)] [] (K28 a0 a1 a2 a3 a4 a5 h)) (a0 : Option Nat) (a1 : Option Nat) (a2 : Option Nat) (a3 : Option Nat) (a4 : Option Nat) (a5 : Int32) (s0 : Int64) (s1 : Int64) (h : zH) : zS D z yL_law cL_law 10 (some .boolean) [] 55 h 1041 [(0, va_rf a0), (1, va_rf a1), (2, va_rf a2), (3, va_rf a3), (4, va_rf a4), (5, .int a5)] [.long s0, .long s1] (f_L_law_1041 K28 a0 a1 a2 a3 a4 a5 s0 s1 h) := by
  unfold f_L_law_1041
  refine s_lcmp (pc := 1041) dL_law_1041 ?_
  refine s_if_eq (pc := 1042) (tgt := 1047) dL_law_1042 (by decide) (fun _ => ?_) (fun _ => ?_)
  · exact s_sub (pc := 1047) [0, 1, 2, 3, 4, 5] rfl (w_L_law_1047 K28 hK28 a0 a1 a2 a3 a4 a5 h)
  · refine s_iconst (pc := 1045) (v := 0) dL_law_1045 (by decide) ?_
    exact s_nret (pc := 1046) dL_law_1046 rfl
theorem w_L_law_1091 (K28 : Option Nat → Option Nat → Option Nat → Option Nat → Option Nat → Int32 → zH → zO) (hK28 : ∀ (a0 : Option Nat) (a1 : Option Nat) (a2 : Option Nat) (a3 : Option Nat) (a4 : Option Nat) (a5 : Int32) (h : zH), zS D z yL_law cL_law 10 (some .boolean) [] 55 h 28 [(0, va_rf a0), (1, va_rf a1), (2, va_rf a2), (3, va_rf a3), (4, va_rf a4), (5, .int a5)] [] (K28 a0 a1 a2 a3 a4 a5 h)) (a0 : Option Nat) (a1 : Option Nat) (a2 : Option Nat) (a3 : Option Nat) (a4 : Option Nat) (a5 : Int32) (h : zH) : zS D z yL_law cL_law 10 (some .boolean) [] 55 h 1091 [(0, va_rf a0), (1, va_rf a1), (2, va_rf a2), (3, va_rf a3), (4, va_rf a4), (5, .int a5)] [] (f_L_law_1091 K28 a0 a1 a2 a3 a4 a5 h) := by
  unfold f_L_law_1091
  refine s_goto (pc := 1091) (tgt := 2811) dL_law_1091 (by decide) ?_
  exact s_sub (pc := 2811) [0, 1, 2, 3, 4, 5] rfl (w_L_law_2811 K28 hK28 a0 a1 a2 a3 a4 a5 h)
theorem w_L_law_1170 (K28 : Option Nat → Option Nat → Option Nat → Option Nat → Option Nat → Int32 → zH → zO) (hK28 : ∀ (a0 : Option Nat) (a1 : Option Nat) (a2 : Option Nat) (a3 : Option Nat) (a4 : Option Nat) (a5 : Int32) (h : zH), zS D z yL_law cL_law 10 (some .boolean) [] 55 h 28 [(0, va_rf a0), (1, va_rf a1), (2, va_rf a2), (3, va_rf a3), (4, va_rf a4), (5, .int a5)] [] (K28 a0 a1 a2 a3 a4 a5 h)) (a0 : Option Nat) (a1 : Option Nat) (a2 : Option Nat) (a3 : Option Nat) (a4 : Option Nat) (a5 : Int32) (h : zH) : zS D z yL_law cL_law 10 (some .boolean) [] 55 h 1170 [(0, va_rf a0), (1, va_rf a1), (2, va_rf a2), (3, va_rf a3), (4, va_rf a4), (5, .int a5)] [] (f_L_law_1170 K28 a0 a1 a2 a3 a4 a5 h) := by
  unfold f_L_law_1170
  refine s_goto (pc := 1170) (tgt := 2811) dL_law_1170 (by decide) ?_
  exact s_sub (pc := 2811) [0, 1, 2, 3, 4, 5] rfl (w_L_law_2811 K28 hK28 a0 a1 a2 a3 a4 a5 h)
theorem w_L_law_1164 (K28 : Option Nat → Option Nat → Option Nat → Option Nat → Option Nat → Int32 → zH → zO) (hK28 : ∀ (a0 : Option Nat) (a1 : Option Nat) (a2 : Option Nat) (a3 : Option Nat) (a4 : Option Nat) (a5 : Int32) (h : zH), zS D z yL_law cL_law 10 (some .boolean) [] 55 h 28 [(0, va_rf a0), (1, va_rf a1), (2, va_rf a2), (3, va_rf a3), (4, va_rf a4), (5, .int a5)] [] (K28 a0 a1 a2 a3 a4 a5 h)) (a0 : Option Nat) (a1 : Option Nat) (a2 : Option Nat) (a3 : Option Nat) (a4 : Option Nat) (a5 : Int32) (s0 : Int64) (s1 : Int64) (h : zH) : zS D z yL_law cL_law 10 (some .boolean) [] 55 h 1164 [(0, va_rf a0), (1, va_rf a1), (2, va_rf a2), (3, va_rf a3), (4, va_rf a4), (5, .int a5)] [.long s0, .long s1] (f_L_law_1164 K28 a0 a1 a2 a3 a4 a5 s0 s1 h) := by
  unfold f_L_law_1164
  refine s_lcmp (pc := 1164) dL_law_1164 ?_
  refine s_if_eq (pc := 1165) (tgt := 1170) dL_law_1165 (by decide) (fun _ => ?_) (fun _ => ?_)
  · exact s_sub (pc := 1170) [0, 1, 2, 3, 4, 5] rfl (w_L_law_1170 K28 hK28 a0 a1 a2 a3 a4 a5 h)
  · refine s_iconst (pc := 1168) (v := 0) dL_law_1168 (by decide) ?_
    exact s_nret (pc := 1169) dL_law_1169 rfl
theorem w_L_law_1130 (K28 : Option Nat → Option Nat → Option Nat → Option Nat → Option Nat → Int32 → zH → zO) (hK28 : ∀ (a0 : Option Nat) (a1 : Option Nat) (a2 : Option Nat) (a3 : Option Nat) (a4 : Option Nat) (a5 : Int32) (h : zH), zS D z yL_law cL_law 10 (some .boolean) [] 55 h 28 [(0, va_rf a0), (1, va_rf a1), (2, va_rf a2), (3, va_rf a3), (4, va_rf a4), (5, .int a5)] [] (K28 a0 a1 a2 a3 a4 a5 h)) (a0 : Option Nat) (a1 : Option Nat) (a2 : Option Nat) (a3 : Option Nat) (a4 : Option Nat) (a5 : Int32) (a6 : Int32) (s0 : Int32) (s1 : Option Nat) (h : zH) : zS D z yL_law cL_law 10 (some .boolean) [] 55 h 1130 [(0, va_rf a0), (1, va_rf a1), (2, va_rf a2), (3, va_rf a3), (4, va_rf a4), (5, .int a5), (6, .int a6)] [.int s0, va_rf s1] (f_L_law_1130 K28 a0 a1 a2 a3 a4 a5 a6 s0 s1 h) := by
  unfold f_L_law_1130
  refine zS_ite (fun ht => ?_) (fun _ => zS_none)
  refine s_callV (pc := 1130) (np := 1) (as := [.int s0]) (rest := []) dL_law_1130 ht (q := (RX5, TX5, 20)) rfl (c_X5_setGate (by decide) s1 s0 h) rfl rfl q3432 q3433 q3434 rfl (by decide) (zkI (fun x420 h421 => ?_)) zxo
  refine s_ist (pc := 1133) (L2 := [(0, va_rf a0), (1, va_rf a1), (2, va_rf a2), (3, va_rf a3), (4, va_rf a4), (5, .int a5), (6, .int a6)]) [0, 1, 2, 3, 4, 5, 6] dL_law_1133 (by decide) rfl rfl (zcB (j := 6) rfl rfl rfl) ?_
  refine s_aload_n (pc := 1135) 3 dL_law_1135 rfl rfl ?_
  refine zS_ite (fun ht => ?_) (fun _ => zS_none)
  refine s_callV (pc := 1136) (np := 0) (as := []) (rest := []) dL_law_1136 ht (q := (RX5, TX5, 20)) rfl (c_X5_thrown (by decide) a2 h421) rfl rfl q3303 q3304 q3305 rfl (by decide) (zkI (fun x422 h423 => ?_)) zxo
  refine s_iload (pc := 1139) 7 dL_law_1139 rfl ?_
  refine s_icmp_eq (pc := 1141) (tgt := 1146) dL_law_1141 (by decide) (fun _ => ?_) (fun _ => ?_)
  · refine s_iload (pc := 1146) 7 dL_law_1146 rfl ?_
    refine s_if_ne (pc := 1148) (tgt := 1170) dL_law_1148 (by decide) (fun _ => ?_) (fun _ => ?_)
    · exact s_sub (pc := 1170) [1, 2, 3, 4, 5, 6] rfl (w_L_law_1170 K28 hK28 a0 a1 a2 a3 a4 a5 h423)
    · refine s_aload_n (pc := 1151) 4 dL_law_1151 rfl rfl ?_
      refine s_iconst (pc := 1152) (v := 0) dL_law_1152 (by decide) ?_
      refine s_lald (pc := 1153) dL_law_1153 (ztc rfl zt0) (fun x424 => ?_)
      refine s_iload (pc := 1154) 0 dL_law_1154 rfl ?_
      refine s_if_eq (pc := 1156) (tgt := 1163) dL_law_1156 (by decide) (fun _ => ?_) (fun _ => ?_)
      · refine s_lconst (pc := 1163) (v := 0) dL_law_1163 (by decide) ?_
        exact s_sub (pc := 1164) [1, 2, 3, 4, 5, 6] rfl (w_L_law_1164 K28 hK28 a0 a1 a2 a3 a4 a5 0 x424 h423)
      · refine s_lconst (pc := 1159) (v := 1) dL_law_1159 (by decide) ?_
        refine s_goto (pc := 1160) (tgt := 1164) dL_law_1160 (by decide) ?_
        exact s_sub (pc := 1164) [1, 2, 3, 4, 5, 6] rfl (w_L_law_1164 K28 hK28 a0 a1 a2 a3 a4 a5 1 x424 h423)
  · refine s_iconst (pc := 1144) (v := 0) dL_law_1144 (by decide) ?_
    exact s_nret (pc := 1145) dL_law_1145 rfl
theorem w_L_law_1109 (K28 : Option Nat → Option Nat → Option Nat → Option Nat → Option Nat → Int32 → zH → zO) (hK28 : ∀ (a0 : Option Nat) (a1 : Option Nat) (a2 : Option Nat) (a3 : Option Nat) (a4 : Option Nat) (a5 : Int32) (h : zH), zS D z yL_law cL_law 10 (some .boolean) [] 55 h 28 [(0, va_rf a0), (1, va_rf a1), (2, va_rf a2), (3, va_rf a3), (4, va_rf a4), (5, .int a5)] [] (K28 a0 a1 a2 a3 a4 a5 h)) (a0 : Option Nat) (a1 : Option Nat) (a2 : Option Nat) (a3 : Option Nat) (a4 : Option Nat) (a5 : Int32) (s0 : Int32) (s1 : Option Nat) (h : zH) : zS D z yL_law cL_law 10 (some .boolean) [] 55 h 1109 [(0, va_rf a0), (1, va_rf a1), (2, va_rf a2), (3, va_rf a3), (4, va_rf a4), (5, .int a5)] [.int s0, va_rf s1] (f_L_law_1109 K28 a0 a1 a2 a3 a4 a5 s0 s1 h) := by
  unfold f_L_law_1109
  refine s_aload_n (pc := 1109) 3 dL_law_1109 rfl rfl ?_
  refine s_callSS (pc := 1110) (np := 3) (as := [va_rf s1, .int s0, va_rf a3]) (rest := []) dL_law_1110 (c_X0_setGate (by decide) s1 s0 a3 h) rfl rfl q2613 q2614 rfl (by decide) (zkI (fun x417 h418 => ?_)) zxo
  refine s_ist (pc := 1113) (L2 := [(0, va_rf a0), (1, va_rf a1), (2, va_rf a2), (3, va_rf a3), (4, va_rf a4), (5, .int a5)]) [0, 1, 2, 3, 4, 5] dL_law_1113 (by decide) rfl rfl (zcB (j := 5) rfl rfl rfl) ?_
  refine s_aload_n (pc := 1115) 3 dL_law_1115 rfl rfl ?_
  refine s_aload_n (pc := 1116) 1 dL_law_1116 rfl rfl ?_
  refine s_iload (pc := 1117) 6 dL_law_1117 rfl ?_
  refine s_iconst (pc := 1119) (v := 1) dL_law_1119 (by decide) ?_
  refine s_iadd (pc := 1120) dL_law_1120 ?_
  refine s_iald (pc := 1121) dL_law_1121 (ztc rfl zt0) (fun x419 => ?_)
  refine s_if_eq (pc := 1122) (tgt := 1129) dL_law_1122 (by decide) (fun _ => ?_) (fun _ => ?_)
  · refine s_iconst (pc := 1129) (v := 0) dL_law_1129 (by decide) ?_
    exact s_sub (pc := 1130) [1, 2, 3, 4, 5, 6, 0] rfl (w_L_law_1130 K28 hK28 a0 a1 a2 a3 a4 a5 x417 0 a2 h418)
  · refine s_iconst (pc := 1125) (v := 1) dL_law_1125 (by decide) ?_
    refine s_goto (pc := 1126) (tgt := 1130) dL_law_1126 (by decide) ?_
    exact s_sub (pc := 1130) [1, 2, 3, 4, 5, 6, 0] rfl (w_L_law_1130 K28 hK28 a0 a1 a2 a3 a4 a5 x417 1 a2 h418)
theorem w_L_law_1239 (K28 : Option Nat → Option Nat → Option Nat → Option Nat → Option Nat → Int32 → zH → zO) (hK28 : ∀ (a0 : Option Nat) (a1 : Option Nat) (a2 : Option Nat) (a3 : Option Nat) (a4 : Option Nat) (a5 : Int32) (h : zH), zS D z yL_law cL_law 10 (some .boolean) [] 55 h 28 [(0, va_rf a0), (1, va_rf a1), (2, va_rf a2), (3, va_rf a3), (4, va_rf a4), (5, .int a5)] [] (K28 a0 a1 a2 a3 a4 a5 h)) (a0 : Option Nat) (a1 : Option Nat) (a2 : Option Nat) (a3 : Option Nat) (a4 : Option Nat) (a5 : Int32) (h : zH) : zS D z yL_law cL_law 10 (some .boolean) [] 55 h 1239 [(0, va_rf a0), (1, va_rf a1), (2, va_rf a2), (3, va_rf a3), (4, va_rf a4), (5, .int a5)] [] (f_L_law_1239 K28 a0 a1 a2 a3 a4 a5 h) := by
  unfold f_L_law_1239
  refine s_goto (pc := 1239) (tgt := 2811) dL_law_1239 (by decide) ?_
  exact s_sub (pc := 2811) [0, 1, 2, 3, 4, 5] rfl (w_L_law_2811 K28 hK28 a0 a1 a2 a3 a4 a5 h)
theorem w_L_law_1308 (K28 : Option Nat → Option Nat → Option Nat → Option Nat → Option Nat → Int32 → zH → zO) (hK28 : ∀ (a0 : Option Nat) (a1 : Option Nat) (a2 : Option Nat) (a3 : Option Nat) (a4 : Option Nat) (a5 : Int32) (h : zH), zS D z yL_law cL_law 10 (some .boolean) [] 55 h 28 [(0, va_rf a0), (1, va_rf a1), (2, va_rf a2), (3, va_rf a3), (4, va_rf a4), (5, .int a5)] [] (K28 a0 a1 a2 a3 a4 a5 h)) (a0 : Option Nat) (a1 : Option Nat) (a2 : Option Nat) (a3 : Option Nat) (a4 : Option Nat) (a5 : Int32) (h : zH) : zS D z yL_law cL_law 10 (some .boolean) [] 55 h 1308 [(0, va_rf a0), (1, va_rf a1), (2, va_rf a2), (3, va_rf a3), (4, va_rf a4), (5, .int a5)] [] (f_L_law_1308 K28 a0 a1 a2 a3 a4 a5 h) := by
  unfold f_L_law_1308
  refine s_goto (pc := 1308) (tgt := 2811) dL_law_1308 (by decide) ?_
  exact s_sub (pc := 2811) [0, 1, 2, 3, 4, 5] rfl (w_L_law_2811 K28 hK28 a0 a1 a2 a3 a4 a5 h)
theorem w_L_law_1364 (K28 : Option Nat → Option Nat → Option Nat → Option Nat → Option Nat → Int32 → zH → zO) (hK28 : ∀ (a0 : Option Nat) (a1 : Option Nat) (a2 : Option Nat) (a3 : Option Nat) (a4 : Option Nat) (a5 : Int32) (h : zH), zS D z yL_law cL_law 10 (some .boolean) [] 55 h 28 [(0, va_rf a0), (1, va_rf a1), (2, va_rf a2), (3, va_rf a3), (4, va_rf a4), (5, .int a5)] [] (K28 a0 a1 a2 a3 a4 a5 h)) (a0 : Option Nat) (a1 : Option Nat) (a2 : Option Nat) (a3 : Option Nat) (a4 : Option Nat) (a5 : Int32) (h : zH) : zS D z yL_law cL_law 10 (some .boolean) [] 55 h 1364 [(0, va_rf a0), (1, va_rf a1), (2, va_rf a2), (3, va_rf a3), (4, va_rf a4), (5, .int a5)] [] (f_L_law_1364 K28 a0 a1 a2 a3 a4 a5 h) := by
  unfold f_L_law_1364
  refine s_goto (pc := 1364) (tgt := 2811) dL_law_1364 (by decide) ?_
  exact s_sub (pc := 2811) [0, 1, 2, 3, 4, 5] rfl (w_L_law_2811 K28 hK28 a0 a1 a2 a3 a4 a5 h)
theorem w_L_law_1420 (K28 : Option Nat → Option Nat → Option Nat → Option Nat → Option Nat → Int32 → zH → zO) (hK28 : ∀ (a0 : Option Nat) (a1 : Option Nat) (a2 : Option Nat) (a3 : Option Nat) (a4 : Option Nat) (a5 : Int32) (h : zH), zS D z yL_law cL_law 10 (some .boolean) [] 55 h 28 [(0, va_rf a0), (1, va_rf a1), (2, va_rf a2), (3, va_rf a3), (4, va_rf a4), (5, .int a5)] [] (K28 a0 a1 a2 a3 a4 a5 h)) (a0 : Option Nat) (a1 : Option Nat) (a2 : Option Nat) (a3 : Option Nat) (a4 : Option Nat) (a5 : Int32) (h : zH) : zS D z yL_law cL_law 10 (some .boolean) [] 55 h 1420 [(0, va_rf a0), (1, va_rf a1), (2, va_rf a2), (3, va_rf a3), (4, va_rf a4), (5, .int a5)] [] (f_L_law_1420 K28 a0 a1 a2 a3 a4 a5 h) := by
  unfold f_L_law_1420
  refine s_goto (pc := 1420) (tgt := 2811) dL_law_1420 (by decide) ?_
  exact s_sub (pc := 2811) [0, 1, 2, 3, 4, 5] rfl (w_L_law_2811 K28 hK28 a0 a1 a2 a3 a4 a5 h)
theorem w_L_law_1489 (K28 : Option Nat → Option Nat → Option Nat → Option Nat → Option Nat → Int32 → zH → zO) (hK28 : ∀ (a0 : Option Nat) (a1 : Option Nat) (a2 : Option Nat) (a3 : Option Nat) (a4 : Option Nat) (a5 : Int32) (h : zH), zS D z yL_law cL_law 10 (some .boolean) [] 55 h 28 [(0, va_rf a0), (1, va_rf a1), (2, va_rf a2), (3, va_rf a3), (4, va_rf a4), (5, .int a5)] [] (K28 a0 a1 a2 a3 a4 a5 h)) (a0 : Option Nat) (a1 : Option Nat) (a2 : Option Nat) (a3 : Option Nat) (a4 : Option Nat) (a5 : Int32) (h : zH) : zS D z yL_law cL_law 10 (some .boolean) [] 55 h 1489 [(0, va_rf a0), (1, va_rf a1), (2, va_rf a2), (3, va_rf a3), (4, va_rf a4), (5, .int a5)] [] (f_L_law_1489 K28 a0 a1 a2 a3 a4 a5 h) := by
  unfold f_L_law_1489
  refine s_goto (pc := 1489) (tgt := 2811) dL_law_1489 (by decide) ?_
  exact s_sub (pc := 2811) [0, 1, 2, 3, 4, 5] rfl (w_L_law_2811 K28 hK28 a0 a1 a2 a3 a4 a5 h)
theorem w_L_law_1545 (K28 : Option Nat → Option Nat → Option Nat → Option Nat → Option Nat → Int32 → zH → zO) (hK28 : ∀ (a0 : Option Nat) (a1 : Option Nat) (a2 : Option Nat) (a3 : Option Nat) (a4 : Option Nat) (a5 : Int32) (h : zH), zS D z yL_law cL_law 10 (some .boolean) [] 55 h 28 [(0, va_rf a0), (1, va_rf a1), (2, va_rf a2), (3, va_rf a3), (4, va_rf a4), (5, .int a5)] [] (K28 a0 a1 a2 a3 a4 a5 h)) (a0 : Option Nat) (a1 : Option Nat) (a2 : Option Nat) (a3 : Option Nat) (a4 : Option Nat) (a5 : Int32) (h : zH) : zS D z yL_law cL_law 10 (some .boolean) [] 55 h 1545 [(0, va_rf a0), (1, va_rf a1), (2, va_rf a2), (3, va_rf a3), (4, va_rf a4), (5, .int a5)] [] (f_L_law_1545 K28 a0 a1 a2 a3 a4 a5 h) := by
  unfold f_L_law_1545
  refine s_goto (pc := 1545) (tgt := 2811) dL_law_1545 (by decide) ?_
  exact s_sub (pc := 2811) [0, 1, 2, 3, 4, 5] rfl (w_L_law_2811 K28 hK28 a0 a1 a2 a3 a4 a5 h)
theorem w_L_law_1601 (K28 : Option Nat → Option Nat → Option Nat → Option Nat → Option Nat → Int32 → zH → zO) (hK28 : ∀ (a0 : Option Nat) (a1 : Option Nat) (a2 : Option Nat) (a3 : Option Nat) (a4 : Option Nat) (a5 : Int32) (h : zH), zS D z yL_law cL_law 10 (some .boolean) [] 55 h 28 [(0, va_rf a0), (1, va_rf a1), (2, va_rf a2), (3, va_rf a3), (4, va_rf a4), (5, .int a5)] [] (K28 a0 a1 a2 a3 a4 a5 h)) (a0 : Option Nat) (a1 : Option Nat) (a2 : Option Nat) (a3 : Option Nat) (a4 : Option Nat) (a5 : Int32) (h : zH) : zS D z yL_law cL_law 10 (some .boolean) [] 55 h 1601 [(0, va_rf a0), (1, va_rf a1), (2, va_rf a2), (3, va_rf a3), (4, va_rf a4), (5, .int a5)] [] (f_L_law_1601 K28 a0 a1 a2 a3 a4 a5 h) := by
  unfold f_L_law_1601
  refine s_goto (pc := 1601) (tgt := 2811) dL_law_1601 (by decide) ?_
  exact s_sub (pc := 2811) [0, 1, 2, 3, 4, 5] rfl (w_L_law_2811 K28 hK28 a0 a1 a2 a3 a4 a5 h)
theorem w_L_law_1657 (K28 : Option Nat → Option Nat → Option Nat → Option Nat → Option Nat → Int32 → zH → zO) (hK28 : ∀ (a0 : Option Nat) (a1 : Option Nat) (a2 : Option Nat) (a3 : Option Nat) (a4 : Option Nat) (a5 : Int32) (h : zH), zS D z yL_law cL_law 10 (some .boolean) [] 55 h 28 [(0, va_rf a0), (1, va_rf a1), (2, va_rf a2), (3, va_rf a3), (4, va_rf a4), (5, .int a5)] [] (K28 a0 a1 a2 a3 a4 a5 h)) (a0 : Option Nat) (a1 : Option Nat) (a2 : Option Nat) (a3 : Option Nat) (a4 : Option Nat) (a5 : Int32) (h : zH) : zS D z yL_law cL_law 10 (some .boolean) [] 55 h 1657 [(0, va_rf a0), (1, va_rf a1), (2, va_rf a2), (3, va_rf a3), (4, va_rf a4), (5, .int a5)] [] (f_L_law_1657 K28 a0 a1 a2 a3 a4 a5 h) := by
  unfold f_L_law_1657
  refine s_goto (pc := 1657) (tgt := 2811) dL_law_1657 (by decide) ?_
  exact s_sub (pc := 2811) [0, 1, 2, 3, 4, 5] rfl (w_L_law_2811 K28 hK28 a0 a1 a2 a3 a4 a5 h)
theorem w_L_law_1720 (K28 : Option Nat → Option Nat → Option Nat → Option Nat → Option Nat → Int32 → zH → zO) (hK28 : ∀ (a0 : Option Nat) (a1 : Option Nat) (a2 : Option Nat) (a3 : Option Nat) (a4 : Option Nat) (a5 : Int32) (h : zH), zS D z yL_law cL_law 10 (some .boolean) [] 55 h 28 [(0, va_rf a0), (1, va_rf a1), (2, va_rf a2), (3, va_rf a3), (4, va_rf a4), (5, .int a5)] [] (K28 a0 a1 a2 a3 a4 a5 h)) (a0 : Option Nat) (a1 : Option Nat) (a2 : Option Nat) (a3 : Option Nat) (a4 : Option Nat) (a5 : Int32) (h : zH) : zS D z yL_law cL_law 10 (some .boolean) [] 55 h 1720 [(0, va_rf a0), (1, va_rf a1), (2, va_rf a2), (3, va_rf a3), (4, va_rf a4), (5, .int a5)] [] (f_L_law_1720 K28 a0 a1 a2 a3 a4 a5 h) := by
  unfold f_L_law_1720
  refine s_goto (pc := 1720) (tgt := 2811) dL_law_1720 (by decide) ?_
  exact s_sub (pc := 2811) [0, 1, 2, 3, 4, 5] rfl (w_L_law_2811 K28 hK28 a0 a1 a2 a3 a4 a5 h)
theorem w_L_law_1714 (K28 : Option Nat → Option Nat → Option Nat → Option Nat → Option Nat → Int32 → zH → zO) (hK28 : ∀ (a0 : Option Nat) (a1 : Option Nat) (a2 : Option Nat) (a3 : Option Nat) (a4 : Option Nat) (a5 : Int32) (h : zH), zS D z yL_law cL_law 10 (some .boolean) [] 55 h 28 [(0, va_rf a0), (1, va_rf a1), (2, va_rf a2), (3, va_rf a3), (4, va_rf a4), (5, .int a5)] [] (K28 a0 a1 a2 a3 a4 a5 h)) (a0 : Option Nat) (a1 : Option Nat) (a2 : Option Nat) (a3 : Option Nat) (a4 : Option Nat) (a5 : Int32) (s0 : Int64) (s1 : Int64) (h : zH) : zS D z yL_law cL_law 10 (some .boolean) [] 55 h 1714 [(0, va_rf a0), (1, va_rf a1), (2, va_rf a2), (3, va_rf a3), (4, va_rf a4), (5, .int a5)] [.long s0, .long s1] (f_L_law_1714 K28 a0 a1 a2 a3 a4 a5 s0 s1 h) := by
  unfold f_L_law_1714
  refine s_lcmp (pc := 1714) dL_law_1714 ?_
  refine s_if_eq (pc := 1715) (tgt := 1720) dL_law_1715 (by decide) (fun _ => ?_) (fun _ => ?_)
  · exact s_sub (pc := 1720) [0, 1, 2, 3, 4, 5] rfl (w_L_law_1720 K28 hK28 a0 a1 a2 a3 a4 a5 h)
  · refine s_iconst (pc := 1718) (v := 0) dL_law_1718 (by decide) ?_
    exact s_nret (pc := 1719) dL_law_1719 rfl
theorem w_L_law_1776 (K28 : Option Nat → Option Nat → Option Nat → Option Nat → Option Nat → Int32 → zH → zO) (hK28 : ∀ (a0 : Option Nat) (a1 : Option Nat) (a2 : Option Nat) (a3 : Option Nat) (a4 : Option Nat) (a5 : Int32) (h : zH), zS D z yL_law cL_law 10 (some .boolean) [] 55 h 28 [(0, va_rf a0), (1, va_rf a1), (2, va_rf a2), (3, va_rf a3), (4, va_rf a4), (5, .int a5)] [] (K28 a0 a1 a2 a3 a4 a5 h)) (a0 : Option Nat) (a1 : Option Nat) (a2 : Option Nat) (a3 : Option Nat) (a4 : Option Nat) (a5 : Int32) (h : zH) : zS D z yL_law cL_law 10 (some .boolean) [] 55 h 1776 [(0, va_rf a0), (1, va_rf a1), (2, va_rf a2), (3, va_rf a3), (4, va_rf a4), (5, .int a5)] [] (f_L_law_1776 K28 a0 a1 a2 a3 a4 a5 h) := by
  unfold f_L_law_1776
  refine s_goto (pc := 1776) (tgt := 2811) dL_law_1776 (by decide) ?_
  exact s_sub (pc := 2811) [0, 1, 2, 3, 4, 5] rfl (w_L_law_2811 K28 hK28 a0 a1 a2 a3 a4 a5 h)
theorem w_L_law_1832 (K28 : Option Nat → Option Nat → Option Nat → Option Nat → Option Nat → Int32 → zH → zO) (hK28 : ∀ (a0 : Option Nat) (a1 : Option Nat) (a2 : Option Nat) (a3 : Option Nat) (a4 : Option Nat) (a5 : Int32) (h : zH), zS D z yL_law cL_law 10 (some .boolean) [] 55 h 28 [(0, va_rf a0), (1, va_rf a1), (2, va_rf a2), (3, va_rf a3), (4, va_rf a4), (5, .int a5)] [] (K28 a0 a1 a2 a3 a4 a5 h)) (a0 : Option Nat) (a1 : Option Nat) (a2 : Option Nat) (a3 : Option Nat) (a4 : Option Nat) (a5 : Int32) (h : zH) : zS D z yL_law cL_law 10 (some .boolean) [] 55 h 1832 [(0, va_rf a0), (1, va_rf a1), (2, va_rf a2), (3, va_rf a3), (4, va_rf a4), (5, .int a5)] [] (f_L_law_1832 K28 a0 a1 a2 a3 a4 a5 h) := by
  unfold f_L_law_1832
  refine s_goto (pc := 1832) (tgt := 2811) dL_law_1832 (by decide) ?_
  exact s_sub (pc := 2811) [0, 1, 2, 3, 4, 5] rfl (w_L_law_2811 K28 hK28 a0 a1 a2 a3 a4 a5 h)
theorem w_L_law_1888 (K28 : Option Nat → Option Nat → Option Nat → Option Nat → Option Nat → Int32 → zH → zO) (hK28 : ∀ (a0 : Option Nat) (a1 : Option Nat) (a2 : Option Nat) (a3 : Option Nat) (a4 : Option Nat) (a5 : Int32) (h : zH), zS D z yL_law cL_law 10 (some .boolean) [] 55 h 28 [(0, va_rf a0), (1, va_rf a1), (2, va_rf a2), (3, va_rf a3), (4, va_rf a4), (5, .int a5)] [] (K28 a0 a1 a2 a3 a4 a5 h)) (a0 : Option Nat) (a1 : Option Nat) (a2 : Option Nat) (a3 : Option Nat) (a4 : Option Nat) (a5 : Int32) (h : zH) : zS D z yL_law cL_law 10 (some .boolean) [] 55 h 1888 [(0, va_rf a0), (1, va_rf a1), (2, va_rf a2), (3, va_rf a3), (4, va_rf a4), (5, .int a5)] [] (f_L_law_1888 K28 a0 a1 a2 a3 a4 a5 h) := by
  unfold f_L_law_1888
  refine s_goto (pc := 1888) (tgt := 2811) dL_law_1888 (by decide) ?_
  exact s_sub (pc := 2811) [0, 1, 2, 3, 4, 5] rfl (w_L_law_2811 K28 hK28 a0 a1 a2 a3 a4 a5 h)
theorem w_L_law_1944 (K28 : Option Nat → Option Nat → Option Nat → Option Nat → Option Nat → Int32 → zH → zO) (hK28 : ∀ (a0 : Option Nat) (a1 : Option Nat) (a2 : Option Nat) (a3 : Option Nat) (a4 : Option Nat) (a5 : Int32) (h : zH), zS D z yL_law cL_law 10 (some .boolean) [] 55 h 28 [(0, va_rf a0), (1, va_rf a1), (2, va_rf a2), (3, va_rf a3), (4, va_rf a4), (5, .int a5)] [] (K28 a0 a1 a2 a3 a4 a5 h)) (a0 : Option Nat) (a1 : Option Nat) (a2 : Option Nat) (a3 : Option Nat) (a4 : Option Nat) (a5 : Int32) (h : zH) : zS D z yL_law cL_law 10 (some .boolean) [] 55 h 1944 [(0, va_rf a0), (1, va_rf a1), (2, va_rf a2), (3, va_rf a3), (4, va_rf a4), (5, .int a5)] [] (f_L_law_1944 K28 a0 a1 a2 a3 a4 a5 h) := by
  unfold f_L_law_1944
  refine s_goto (pc := 1944) (tgt := 2811) dL_law_1944 (by decide) ?_
  exact s_sub (pc := 2811) [0, 1, 2, 3, 4, 5] rfl (w_L_law_2811 K28 hK28 a0 a1 a2 a3 a4 a5 h)
theorem w_L_law_2000 (K28 : Option Nat → Option Nat → Option Nat → Option Nat → Option Nat → Int32 → zH → zO) (hK28 : ∀ (a0 : Option Nat) (a1 : Option Nat) (a2 : Option Nat) (a3 : Option Nat) (a4 : Option Nat) (a5 : Int32) (h : zH), zS D z yL_law cL_law 10 (some .boolean) [] 55 h 28 [(0, va_rf a0), (1, va_rf a1), (2, va_rf a2), (3, va_rf a3), (4, va_rf a4), (5, .int a5)] [] (K28 a0 a1 a2 a3 a4 a5 h)) (a0 : Option Nat) (a1 : Option Nat) (a2 : Option Nat) (a3 : Option Nat) (a4 : Option Nat) (a5 : Int32) (h : zH) : zS D z yL_law cL_law 10 (some .boolean) [] 55 h 2000 [(0, va_rf a0), (1, va_rf a1), (2, va_rf a2), (3, va_rf a3), (4, va_rf a4), (5, .int a5)] [] (f_L_law_2000 K28 a0 a1 a2 a3 a4 a5 h) := by
  unfold f_L_law_2000
  refine s_goto (pc := 2000) (tgt := 2811) dL_law_2000 (by decide) ?_
  exact s_sub (pc := 2811) [0, 1, 2, 3, 4, 5] rfl (w_L_law_2811 K28 hK28 a0 a1 a2 a3 a4 a5 h)
theorem w_L_law_2108 (K28 : Option Nat → Option Nat → Option Nat → Option Nat → Option Nat → Int32 → zH → zO) (hK28 : ∀ (a0 : Option Nat) (a1 : Option Nat) (a2 : Option Nat) (a3 : Option Nat) (a4 : Option Nat) (a5 : Int32) (h : zH), zS D z yL_law cL_law 10 (some .boolean) [] 55 h 28 [(0, va_rf a0), (1, va_rf a1), (2, va_rf a2), (3, va_rf a3), (4, va_rf a4), (5, .int a5)] [] (K28 a0 a1 a2 a3 a4 a5 h)) (a0 : Option Nat) (a1 : Option Nat) (a2 : Option Nat) (a3 : Option Nat) (a4 : Option Nat) (a5 : Int32) (h : zH) : zS D z yL_law cL_law 10 (some .boolean) [] 55 h 2108 [(0, va_rf a0), (1, va_rf a1), (2, va_rf a2), (3, va_rf a3), (4, va_rf a4), (5, .int a5)] [] (f_L_law_2108 K28 a0 a1 a2 a3 a4 a5 h) := by
  unfold f_L_law_2108
  refine s_goto (pc := 2108) (tgt := 2811) dL_law_2108 (by decide) ?_
  exact s_sub (pc := 2811) [0, 1, 2, 3, 4, 5] rfl (w_L_law_2811 K28 hK28 a0 a1 a2 a3 a4 a5 h)
theorem w_L_law_2176 (K28 : Option Nat → Option Nat → Option Nat → Option Nat → Option Nat → Int32 → zH → zO) (hK28 : ∀ (a0 : Option Nat) (a1 : Option Nat) (a2 : Option Nat) (a3 : Option Nat) (a4 : Option Nat) (a5 : Int32) (h : zH), zS D z yL_law cL_law 10 (some .boolean) [] 55 h 28 [(0, va_rf a0), (1, va_rf a1), (2, va_rf a2), (3, va_rf a3), (4, va_rf a4), (5, .int a5)] [] (K28 a0 a1 a2 a3 a4 a5 h)) (a0 : Option Nat) (a1 : Option Nat) (a2 : Option Nat) (a3 : Option Nat) (a4 : Option Nat) (a5 : Int32) (h : zH) : zS D z yL_law cL_law 10 (some .boolean) [] 55 h 2176 [(0, va_rf a0), (1, va_rf a1), (2, va_rf a2), (3, va_rf a3), (4, va_rf a4), (5, .int a5)] [] (f_L_law_2176 K28 a0 a1 a2 a3 a4 a5 h) := by
  unfold f_L_law_2176
  refine s_goto (pc := 2176) (tgt := 2811) dL_law_2176 (by decide) ?_
  exact s_sub (pc := 2811) [0, 1, 2, 3, 4, 5] rfl (w_L_law_2811 K28 hK28 a0 a1 a2 a3 a4 a5 h)
theorem w_L_law_2271 (K28 : Option Nat → Option Nat → Option Nat → Option Nat → Option Nat → Int32 → zH → zO) (hK28 : ∀ (a0 : Option Nat) (a1 : Option Nat) (a2 : Option Nat) (a3 : Option Nat) (a4 : Option Nat) (a5 : Int32) (h : zH), zS D z yL_law cL_law 10 (some .boolean) [] 55 h 28 [(0, va_rf a0), (1, va_rf a1), (2, va_rf a2), (3, va_rf a3), (4, va_rf a4), (5, .int a5)] [] (K28 a0 a1 a2 a3 a4 a5 h)) (a0 : Option Nat) (a1 : Option Nat) (a2 : Option Nat) (a3 : Option Nat) (a4 : Option Nat) (a5 : Int32) (h : zH) : zS D z yL_law cL_law 10 (some .boolean) [] 55 h 2271 [(0, va_rf a0), (1, va_rf a1), (2, va_rf a2), (3, va_rf a3), (4, va_rf a4), (5, .int a5)] [] (f_L_law_2271 K28 a0 a1 a2 a3 a4 a5 h) := by
  unfold f_L_law_2271
  refine s_goto (pc := 2271) (tgt := 2811) dL_law_2271 (by decide) ?_
  exact s_sub (pc := 2811) [0, 1, 2, 3, 4, 5] rfl (w_L_law_2811 K28 hK28 a0 a1 a2 a3 a4 a5 h)
theorem w_L_law_2329 (K28 : Option Nat → Option Nat → Option Nat → Option Nat → Option Nat → Int32 → zH → zO) (hK28 : ∀ (a0 : Option Nat) (a1 : Option Nat) (a2 : Option Nat) (a3 : Option Nat) (a4 : Option Nat) (a5 : Int32) (h : zH), zS D z yL_law cL_law 10 (some .boolean) [] 55 h 28 [(0, va_rf a0), (1, va_rf a1), (2, va_rf a2), (3, va_rf a3), (4, va_rf a4), (5, .int a5)] [] (K28 a0 a1 a2 a3 a4 a5 h)) (a0 : Option Nat) (a1 : Option Nat) (a2 : Option Nat) (a3 : Option Nat) (a4 : Option Nat) (a5 : Int32) (h : zH) : zS D z yL_law cL_law 10 (some .boolean) [] 55 h 2329 [(0, va_rf a0), (1, va_rf a1), (2, va_rf a2), (3, va_rf a3), (4, va_rf a4), (5, .int a5)] [] (f_L_law_2329 K28 a0 a1 a2 a3 a4 a5 h) := by
  unfold f_L_law_2329
  refine s_goto (pc := 2329) (tgt := 2811) dL_law_2329 (by decide) ?_
  exact s_sub (pc := 2811) [0, 1, 2, 3, 4, 5] rfl (w_L_law_2811 K28 hK28 a0 a1 a2 a3 a4 a5 h)
theorem w_L_law_2373 (K28 : Option Nat → Option Nat → Option Nat → Option Nat → Option Nat → Int32 → zH → zO) (hK28 : ∀ (a0 : Option Nat) (a1 : Option Nat) (a2 : Option Nat) (a3 : Option Nat) (a4 : Option Nat) (a5 : Int32) (h : zH), zS D z yL_law cL_law 10 (some .boolean) [] 55 h 28 [(0, va_rf a0), (1, va_rf a1), (2, va_rf a2), (3, va_rf a3), (4, va_rf a4), (5, .int a5)] [] (K28 a0 a1 a2 a3 a4 a5 h)) (a0 : Option Nat) (a1 : Option Nat) (a2 : Option Nat) (a3 : Option Nat) (a4 : Option Nat) (a5 : Int32) (h : zH) : zS D z yL_law cL_law 10 (some .boolean) [] 55 h 2373 [(0, va_rf a0), (1, va_rf a1), (2, va_rf a2), (3, va_rf a3), (4, va_rf a4), (5, .int a5)] [] (f_L_law_2373 K28 a0 a1 a2 a3 a4 a5 h) := by
  unfold f_L_law_2373
  refine s_goto (pc := 2373) (tgt := 2811) dL_law_2373 (by decide) ?_
  exact s_sub (pc := 2811) [0, 1, 2, 3, 4, 5] rfl (w_L_law_2811 K28 hK28 a0 a1 a2 a3 a4 a5 h)
theorem w_L_law_2417 (K28 : Option Nat → Option Nat → Option Nat → Option Nat → Option Nat → Int32 → zH → zO) (hK28 : ∀ (a0 : Option Nat) (a1 : Option Nat) (a2 : Option Nat) (a3 : Option Nat) (a4 : Option Nat) (a5 : Int32) (h : zH), zS D z yL_law cL_law 10 (some .boolean) [] 55 h 28 [(0, va_rf a0), (1, va_rf a1), (2, va_rf a2), (3, va_rf a3), (4, va_rf a4), (5, .int a5)] [] (K28 a0 a1 a2 a3 a4 a5 h)) (a0 : Option Nat) (a1 : Option Nat) (a2 : Option Nat) (a3 : Option Nat) (a4 : Option Nat) (a5 : Int32) (h : zH) : zS D z yL_law cL_law 10 (some .boolean) [] 55 h 2417 [(0, va_rf a0), (1, va_rf a1), (2, va_rf a2), (3, va_rf a3), (4, va_rf a4), (5, .int a5)] [] (f_L_law_2417 K28 a0 a1 a2 a3 a4 a5 h) := by
  unfold f_L_law_2417
  refine s_goto (pc := 2417) (tgt := 2811) dL_law_2417 (by decide) ?_
  exact s_sub (pc := 2811) [0, 1, 2, 3, 4, 5] rfl (w_L_law_2811 K28 hK28 a0 a1 a2 a3 a4 a5 h)
theorem w_L_law_2461 (K28 : Option Nat → Option Nat → Option Nat → Option Nat → Option Nat → Int32 → zH → zO) (hK28 : ∀ (a0 : Option Nat) (a1 : Option Nat) (a2 : Option Nat) (a3 : Option Nat) (a4 : Option Nat) (a5 : Int32) (h : zH), zS D z yL_law cL_law 10 (some .boolean) [] 55 h 28 [(0, va_rf a0), (1, va_rf a1), (2, va_rf a2), (3, va_rf a3), (4, va_rf a4), (5, .int a5)] [] (K28 a0 a1 a2 a3 a4 a5 h)) (a0 : Option Nat) (a1 : Option Nat) (a2 : Option Nat) (a3 : Option Nat) (a4 : Option Nat) (a5 : Int32) (h : zH) : zS D z yL_law cL_law 10 (some .boolean) [] 55 h 2461 [(0, va_rf a0), (1, va_rf a1), (2, va_rf a2), (3, va_rf a3), (4, va_rf a4), (5, .int a5)] [] (f_L_law_2461 K28 a0 a1 a2 a3 a4 a5 h) := by
  unfold f_L_law_2461
  refine s_goto (pc := 2461) (tgt := 2811) dL_law_2461 (by decide) ?_
  exact s_sub (pc := 2811) [0, 1, 2, 3, 4, 5] rfl (w_L_law_2811 K28 hK28 a0 a1 a2 a3 a4 a5 h)
theorem w_L_law_2530 (K28 : Option Nat → Option Nat → Option Nat → Option Nat → Option Nat → Int32 → zH → zO) (hK28 : ∀ (a0 : Option Nat) (a1 : Option Nat) (a2 : Option Nat) (a3 : Option Nat) (a4 : Option Nat) (a5 : Int32) (h : zH), zS D z yL_law cL_law 10 (some .boolean) [] 55 h 28 [(0, va_rf a0), (1, va_rf a1), (2, va_rf a2), (3, va_rf a3), (4, va_rf a4), (5, .int a5)] [] (K28 a0 a1 a2 a3 a4 a5 h)) (a0 : Option Nat) (a1 : Option Nat) (a2 : Option Nat) (a3 : Option Nat) (a4 : Option Nat) (a5 : Int32) (h : zH) : zS D z yL_law cL_law 10 (some .boolean) [] 55 h 2530 [(0, va_rf a0), (1, va_rf a1), (2, va_rf a2), (3, va_rf a3), (4, va_rf a4), (5, .int a5)] [] (f_L_law_2530 K28 a0 a1 a2 a3 a4 a5 h) := by
  unfold f_L_law_2530
  refine s_goto (pc := 2530) (tgt := 2811) dL_law_2530 (by decide) ?_
  exact s_sub (pc := 2811) [0, 1, 2, 3, 4, 5] rfl (w_L_law_2811 K28 hK28 a0 a1 a2 a3 a4 a5 h)
theorem w_L_law_2586 (K28 : Option Nat → Option Nat → Option Nat → Option Nat → Option Nat → Int32 → zH → zO) (hK28 : ∀ (a0 : Option Nat) (a1 : Option Nat) (a2 : Option Nat) (a3 : Option Nat) (a4 : Option Nat) (a5 : Int32) (h : zH), zS D z yL_law cL_law 10 (some .boolean) [] 55 h 28 [(0, va_rf a0), (1, va_rf a1), (2, va_rf a2), (3, va_rf a3), (4, va_rf a4), (5, .int a5)] [] (K28 a0 a1 a2 a3 a4 a5 h)) (a0 : Option Nat) (a1 : Option Nat) (a2 : Option Nat) (a3 : Option Nat) (a4 : Option Nat) (a5 : Int32) (h : zH) : zS D z yL_law cL_law 10 (some .boolean) [] 55 h 2586 [(0, va_rf a0), (1, va_rf a1), (2, va_rf a2), (3, va_rf a3), (4, va_rf a4), (5, .int a5)] [] (f_L_law_2586 K28 a0 a1 a2 a3 a4 a5 h) := by
  unfold f_L_law_2586
  refine s_goto (pc := 2586) (tgt := 2811) dL_law_2586 (by decide) ?_
  exact s_sub (pc := 2811) [0, 1, 2, 3, 4, 5] rfl (w_L_law_2811 K28 hK28 a0 a1 a2 a3 a4 a5 h)
theorem w_L_law_2651 (K28 : Option Nat → Option Nat → Option Nat → Option Nat → Option Nat → Int32 → zH → zO) (hK28 : ∀ (a0 : Option Nat) (a1 : Option Nat) (a2 : Option Nat) (a3 : Option Nat) (a4 : Option Nat) (a5 : Int32) (h : zH), zS D z yL_law cL_law 10 (some .boolean) [] 55 h 28 [(0, va_rf a0), (1, va_rf a1), (2, va_rf a2), (3, va_rf a3), (4, va_rf a4), (5, .int a5)] [] (K28 a0 a1 a2 a3 a4 a5 h)) (a0 : Option Nat) (a1 : Option Nat) (a2 : Option Nat) (a3 : Option Nat) (a4 : Option Nat) (a5 : Int32) (h : zH) : zS D z yL_law cL_law 10 (some .boolean) [] 55 h 2651 [(0, va_rf a0), (1, va_rf a1), (2, va_rf a2), (3, va_rf a3), (4, va_rf a4), (5, .int a5)] [] (f_L_law_2651 K28 a0 a1 a2 a3 a4 a5 h) := by
  unfold f_L_law_2651
  refine s_goto (pc := 2651) (tgt := 2811) dL_law_2651 (by decide) ?_
  exact s_sub (pc := 2811) [0, 1, 2, 3, 4, 5] rfl (w_L_law_2811 K28 hK28 a0 a1 a2 a3 a4 a5 h)
theorem w_L_law_2694 (K28 : Option Nat → Option Nat → Option Nat → Option Nat → Option Nat → Int32 → zH → zO) (hK28 : ∀ (a0 : Option Nat) (a1 : Option Nat) (a2 : Option Nat) (a3 : Option Nat) (a4 : Option Nat) (a5 : Int32) (h : zH), zS D z yL_law cL_law 10 (some .boolean) [] 55 h 28 [(0, va_rf a0), (1, va_rf a1), (2, va_rf a2), (3, va_rf a3), (4, va_rf a4), (5, .int a5)] [] (K28 a0 a1 a2 a3 a4 a5 h)) (a0 : Option Nat) (a1 : Option Nat) (a2 : Option Nat) (a3 : Option Nat) (a4 : Option Nat) (a5 : Int32) (h : zH) : zS D z yL_law cL_law 10 (some .boolean) [] 55 h 2694 [(0, va_rf a0), (1, va_rf a1), (2, va_rf a2), (3, va_rf a3), (4, va_rf a4), (5, .int a5)] [] (f_L_law_2694 K28 a0 a1 a2 a3 a4 a5 h) := by
  unfold f_L_law_2694
  refine s_goto (pc := 2694) (tgt := 2811) dL_law_2694 (by decide) ?_
  exact s_sub (pc := 2811) [0, 1, 2, 3, 4, 5] rfl (w_L_law_2811 K28 hK28 a0 a1 a2 a3 a4 a5 h)
theorem w_L_law_2751 (K28 : Option Nat → Option Nat → Option Nat → Option Nat → Option Nat → Int32 → zH → zO) (hK28 : ∀ (a0 : Option Nat) (a1 : Option Nat) (a2 : Option Nat) (a3 : Option Nat) (a4 : Option Nat) (a5 : Int32) (h : zH), zS D z yL_law cL_law 10 (some .boolean) [] 55 h 28 [(0, va_rf a0), (1, va_rf a1), (2, va_rf a2), (3, va_rf a3), (4, va_rf a4), (5, .int a5)] [] (K28 a0 a1 a2 a3 a4 a5 h)) (a0 : Option Nat) (a1 : Option Nat) (a2 : Option Nat) (a3 : Option Nat) (a4 : Option Nat) (a5 : Int32) (h : zH) : zS D z yL_law cL_law 10 (some .boolean) [] 55 h 2751 [(0, va_rf a0), (1, va_rf a1), (2, va_rf a2), (3, va_rf a3), (4, va_rf a4), (5, .int a5)] [] (f_L_law_2751 K28 a0 a1 a2 a3 a4 a5 h) := by
  unfold f_L_law_2751
  refine s_goto (pc := 2751) (tgt := 2811) dL_law_2751 (by decide) ?_
  exact s_sub (pc := 2811) [0, 1, 2, 3, 4, 5] rfl (w_L_law_2811 K28 hK28 a0 a1 a2 a3 a4 a5 h)
theorem w_L_law_2808 (K28 : Option Nat → Option Nat → Option Nat → Option Nat → Option Nat → Int32 → zH → zO) (hK28 : ∀ (a0 : Option Nat) (a1 : Option Nat) (a2 : Option Nat) (a3 : Option Nat) (a4 : Option Nat) (a5 : Int32) (h : zH), zS D z yL_law cL_law 10 (some .boolean) [] 55 h 28 [(0, va_rf a0), (1, va_rf a1), (2, va_rf a2), (3, va_rf a3), (4, va_rf a4), (5, .int a5)] [] (K28 a0 a1 a2 a3 a4 a5 h)) (a0 : Option Nat) (a1 : Option Nat) (a2 : Option Nat) (a3 : Option Nat) (a4 : Option Nat) (a5 : Int32) (h : zH) : zS D z yL_law cL_law 10 (some .boolean) [] 55 h 2808 [(0, va_rf a0), (1, va_rf a1), (2, va_rf a2), (3, va_rf a3), (4, va_rf a4), (5, .int a5)] [] (f_L_law_2808 K28 a0 a1 a2 a3 a4 a5 h) := by
  unfold f_L_law_2808
  refine s_goto (pc := 2808) (tgt := 2811) dL_law_2808 (by decide) ?_
  exact s_sub (pc := 2811) [0, 1, 2, 3, 4, 5] rfl (w_L_law_2811 K28 hK28 a0 a1 a2 a3 a4 a5 h)
theorem w_L_law_28 : ∀ (n : Nat) (a0 : Option Nat) (a1 : Option Nat) (a2 : Option Nat) (a3 : Option Nat) (a4 : Option Nat) (a5 : Int32) (h : zH), zS D z yL_law cL_law 10 (some .boolean) [] 55 h 28 [(0, va_rf a0), (1, va_rf a1), (2, va_rf a2), (3, va_rf a3), (4, va_rf a4), (5, .int a5)] [] (f_L_law_28 n a0 a1 a2 a3 a4 a5 h) := by
  intro n
  induction n with
  | zero => intros; exact zS_none
  | succ n ih =>
    intro a0 a1 a2 a3 a4 a5 h
    rw [f_L_law_28.eq_2]
    refine s_iload (pc := 28) 5 dL_law_28 rfl ?_
    refine s_aload_n (pc := 30) 0 dL_law_30 rfl rfl ?_
    refine s_alen (pc := 31) dL_law_31 zarrs_ok (fun x11 => ?_)
    refine s_iconst (pc := 32) (v := 4) dL_law_32 (by decide) ?_
    refine s_isub (pc := 33) dL_law_33 ?_
    refine s_icmp_gt (pc := 34) (tgt := 2817) dL_law_34 (by decide) (fun _ => ?_) (fun _ => ?_)
    · refine s_iconst (pc := 2817) (v := 1) dL_law_2817 (by decide) ?_
      exact s_nret (pc := 2818) dL_law_2818 rfl
    · refine s_aload_n (pc := 37) 0 dL_law_37 rfl rfl ?_
      refine s_iload (pc := 38) 5 dL_law_38 rfl ?_
      refine s_iald (pc := 40) dL_law_40 (ztc rfl zt0) (fun x12 => ?_)
      refine s_bipush (pc := 41) (v := 63) dL_law_41 (by decide) ?_
      refine s_iand (pc := 43) dL_law_43 ?_
      refine s_nm (pc := 44) Value.int (fun x13 => ?_)
      refine zS_ite (fun hx => ?_) (fun hx0 => ?_)
      · refine s_tabIn (pc := 44) (tgt := 280) (v := 0) dL_law_44 hx (by decide) (by decide) rfl (by decide) ?_
        refine s_aload_n (pc := 280) 1 dL_law_280 rfl rfl ?_
        refine s_aload_n (pc := 281) 0 dL_law_281 rfl rfl ?_
        refine s_iload (pc := 282) 5 dL_law_282 rfl ?_
        refine s_iconst (pc := 284) (v := 1) dL_law_284 (by decide) ?_
        refine s_iadd (pc := 285) dL_law_285 ?_
        refine s_iald (pc := 286) dL_law_286 (ztc rfl zt0) (fun x14 => ?_)
        refine s_aload_n (pc := 287) 0 dL_law_287 rfl rfl ?_
        refine s_iload (pc := 288) 5 dL_law_288 rfl ?_
        refine s_iconst (pc := 290) (v := 2) dL_law_290 (by decide) ?_
        refine s_iadd (pc := 291) dL_law_291 ?_
        refine s_iald (pc := 292) dL_law_292 (ztc rfl zt0) (fun x15 => ?_)
        refine s_aload_n (pc := 293) 0 dL_law_293 rfl rfl ?_
        refine s_iload (pc := 294) 5 dL_law_294 rfl ?_
        refine s_iconst (pc := 296) (v := 3) dL_law_296 (by decide) ?_
        refine s_iadd (pc := 297) dL_law_297 ?_
        refine s_iald (pc := 298) dL_law_298 (ztc rfl zt0) (fun x16 => ?_)
        refine s_aload_n (pc := 299) 3 dL_law_299 rfl rfl ?_
        refine s_callSS (pc := 300) (np := 5) (as := [va_rf a1, .int x14, .int x15, .int x16, va_rf a3]) (rest := []) dL_law_300 (c_X0_addShip (by decide) a1 x14 x15 x16 a3 h) rfl rfl q2263 q2264 rfl (by decide) (zkI (fun x17 h18 => ?_)) zxo
        refine s_ist (pc := 303) (L2 := [(0, va_rf a0), (1, va_rf a1), (2, va_rf a2), (3, va_rf a3), (4, va_rf a4), (5, .int a5)]) [0, 1, 2, 3, 4, 5] dL_law_303 (by decide) rfl rfl (zcB (j := 5) rfl rfl rfl) ?_
        refine s_aload_n (pc := 305) 3 dL_law_305 rfl rfl ?_
        refine s_aload_n (pc := 306) 1 dL_law_306 rfl rfl ?_
        refine s_iload (pc := 307) 6 dL_law_307 rfl ?_
        refine s_iconst (pc := 309) (v := 1) dL_law_309 (by decide) ?_
        refine s_iadd (pc := 310) dL_law_310 ?_
        refine s_iald (pc := 311) dL_law_311 (ztc rfl zt0) (fun x19 => ?_)
        refine s_aload_n (pc := 312) 1 dL_law_312 rfl rfl ?_
        refine s_iload (pc := 313) 6 dL_law_313 rfl ?_
        refine s_iconst (pc := 315) (v := 2) dL_law_315 (by decide) ?_
        refine s_iadd (pc := 316) dL_law_316 ?_
        refine s_iald (pc := 317) dL_law_317 (ztc rfl zt0) (fun x20 => ?_)
        refine s_aload_n (pc := 318) 1 dL_law_318 rfl rfl ?_
        refine s_iload (pc := 319) 6 dL_law_319 rfl ?_
        refine s_iconst (pc := 321) (v := 3) dL_law_321 (by decide) ?_
        refine s_iadd (pc := 322) dL_law_322 ?_
        refine s_iald (pc := 323) dL_law_323 (ztc rfl zt0) (fun x21 => ?_)
        refine zS_ite (fun ht => ?_) (fun _ => zS_none)
        refine s_callV (pc := 324) (np := 3) (as := [.int x19, .int x20, .int x21]) (rest := []) dL_law_324 ht (q := (RX5, TX5, 20)) rfl (c_X5_addShip (by decide) a2 x19 x20 x21 h18) rfl rfl q3330 q3331 q3332 rfl (by decide) (zkI (fun x22 h23 => ?_)) zxo
        refine s_ist (pc := 327) (L2 := [(6, .int x17), (0, va_rf a0), (1, va_rf a1), (2, va_rf a2), (3, va_rf a3), (4, va_rf a4), (5, .int a5)]) [0, 1, 2, 3, 4, 5, 6] dL_law_327 (by decide) rfl rfl (zcB (j := 0) rfl rfl rfl) ?_
        refine s_aload_n (pc := 329) 4 dL_law_329 rfl rfl ?_
        refine zS_ite (fun ht => ?_) (fun _ => zS_none)
        refine s_callV (pc := 330) (np := 0) (as := []) (rest := []) dL_law_330 ht (q := (RX5, TX5, 20)) rfl (c_X5_thrown (by decide) a2 h23) rfl rfl q3303 q3304 q3305 rfl (by decide) (zkI (fun x24 h25 => ?_)) zxo
        refine s_iload (pc := 333) 1 dL_law_333 rfl ?_
        refine s_icmp_eq (pc := 335) (tgt := 340) dL_law_335 (by decide) (fun _ => ?_) (fun _ => ?_)
        · refine s_iload (pc := 340) 1 dL_law_340 rfl ?_
          refine s_if_ne (pc := 342) (tgt := 357) dL_law_342 (by decide) (fun _ => ?_) (fun _ => ?_)
          · exact s_sub (pc := 357) [2, 3, 4, 5, 6, 7] rfl (w_L_law_357 (f_L_law_28 n) ih a0 a1 a2 a3 a4 a5 h25)
          · refine s_aload_n (pc := 345) 5 dL_law_345 rfl rfl ?_
            refine s_iconst (pc := 346) (v := 0) dL_law_346 (by decide) ?_
            refine s_lald (pc := 347) dL_law_347 (ztc rfl zt0) (fun x26 => ?_)
            refine s_iload (pc := 348) 0 dL_law_348 rfl ?_
            refine s_i2l (pc := 350) dL_law_350 ?_
            refine s_lcmp (pc := 351) dL_law_351 ?_
            refine s_if_eq (pc := 352) (tgt := 357) dL_law_352 (by decide) (fun _ => ?_) (fun _ => ?_)
            · exact s_sub (pc := 357) [2, 3, 4, 5, 6, 7] rfl (w_L_law_357 (f_L_law_28 n) ih a0 a1 a2 a3 a4 a5 h25)
            · refine s_iconst (pc := 355) (v := 0) dL_law_355 (by decide) ?_
              exact s_nret (pc := 356) dL_law_356 rfl
        · refine s_iconst (pc := 338) (v := 0) dL_law_338 (by decide) ?_
          exact s_nret (pc := 339) dL_law_339 rfl
      refine zS_ite (fun hx => ?_) (fun hx1 => ?_)
      · refine s_tabIn (pc := 44) (tgt := 360) (v := 1) dL_law_44 hx (by decide) (by decide) rfl (by decide) ?_
        refine s_aload_n (pc := 360) 1 dL_law_360 rfl rfl ?_
        refine s_aload_n (pc := 361) 0 dL_law_361 rfl rfl ?_
        refine s_iload (pc := 362) 5 dL_law_362 rfl ?_
        refine s_iconst (pc := 364) (v := 1) dL_law_364 (by decide) ?_
        refine s_iadd (pc := 365) dL_law_365 ?_
        refine s_iald (pc := 366) dL_law_366 (ztc rfl zt0) (fun x27 => ?_)
        refine s_aload_n (pc := 367) 3 dL_law_367 rfl rfl ?_
        refine s_callSS (pc := 368) (np := 3) (as := [va_rf a1, .int x27, va_rf a3]) (rest := []) dL_law_368 (c_X0_removeShip (by decide) a1 x27 a3 h) rfl rfl q2372 q2373 rfl (by decide) (zkI (fun x28 h29 => ?_)) zxo
        refine s_ist (pc := 371) (L2 := [(0, va_rf a0), (1, va_rf a1), (2, va_rf a2), (3, va_rf a3), (4, va_rf a4), (5, .int a5)]) [0, 1, 2, 3, 4, 5] dL_law_371 (by decide) rfl rfl (zcB (j := 5) rfl rfl rfl) ?_
        refine s_aload_n (pc := 373) 3 dL_law_373 rfl rfl ?_
        refine s_aload_n (pc := 374) 1 dL_law_374 rfl rfl ?_
        refine s_iload (pc := 375) 6 dL_law_375 rfl ?_
        refine s_iconst (pc := 377) (v := 1) dL_law_377 (by decide) ?_
        refine s_iadd (pc := 378) dL_law_378 ?_
        refine s_iald (pc := 379) dL_law_379 (ztc rfl zt0) (fun x30 => ?_)
        refine zS_ite (fun ht => ?_) (fun _ => zS_none)
        refine s_callV (pc := 380) (np := 1) (as := [.int x30]) (rest := []) dL_law_380 ht (q := (RX5, TX5, 20)) rfl (c_X5_removeShip (by decide) a2 x30 h29) rfl rfl q3357 q3358 q3359 rfl (by decide) (zkI (fun x31 h32 => ?_)) zxo
        refine s_ist (pc := 383) (L2 := [(6, .int x28), (0, va_rf a0), (1, va_rf a1), (2, va_rf a2), (3, va_rf a3), (4, va_rf a4), (5, .int a5)]) [0, 1, 2, 3, 4, 5, 6] dL_law_383 (by decide) rfl rfl (zcB (j := 0) rfl rfl rfl) ?_
        refine s_aload_n (pc := 385) 4 dL_law_385 rfl rfl ?_
        refine zS_ite (fun ht => ?_) (fun _ => zS_none)
        refine s_callV (pc := 386) (np := 0) (as := []) (rest := []) dL_law_386 ht (q := (RX5, TX5, 20)) rfl (c_X5_thrown (by decide) a2 h32) rfl rfl q3303 q3304 q3305 rfl (by decide) (zkI (fun x33 h34 => ?_)) zxo
        refine s_iload (pc := 389) 1 dL_law_389 rfl ?_
        refine s_icmp_eq (pc := 391) (tgt := 396) dL_law_391 (by decide) (fun _ => ?_) (fun _ => ?_)
        · refine s_iload (pc := 396) 1 dL_law_396 rfl ?_
          refine s_if_ne (pc := 398) (tgt := 413) dL_law_398 (by decide) (fun _ => ?_) (fun _ => ?_)
          · exact s_sub (pc := 413) [2, 3, 4, 5, 6, 7] rfl (w_L_law_413 (f_L_law_28 n) ih a0 a1 a2 a3 a4 a5 h34)
          · refine s_aload_n (pc := 401) 5 dL_law_401 rfl rfl ?_
            refine s_iconst (pc := 402) (v := 0) dL_law_402 (by decide) ?_
            refine s_lald (pc := 403) dL_law_403 (ztc rfl zt0) (fun x35 => ?_)
            refine s_iload (pc := 404) 0 dL_law_404 rfl ?_
            refine s_i2l (pc := 406) dL_law_406 ?_
            refine s_lcmp (pc := 407) dL_law_407 ?_
            refine s_if_eq (pc := 408) (tgt := 413) dL_law_408 (by decide) (fun _ => ?_) (fun _ => ?_)
            · exact s_sub (pc := 413) [2, 3, 4, 5, 6, 7] rfl (w_L_law_413 (f_L_law_28 n) ih a0 a1 a2 a3 a4 a5 h34)
            · refine s_iconst (pc := 411) (v := 0) dL_law_411 (by decide) ?_
              exact s_nret (pc := 412) dL_law_412 rfl
        · refine s_iconst (pc := 394) (v := 0) dL_law_394 (by decide) ?_
          exact s_nret (pc := 395) dL_law_395 rfl
      refine zS_ite (fun hx => ?_) (fun hx2 => ?_)
      · refine s_tabIn (pc := 44) (tgt := 416) (v := 2) dL_law_44 hx (by decide) (by decide) rfl (by decide) ?_
        refine s_aload_n (pc := 416) 1 dL_law_416 rfl rfl ?_
        refine s_aload_n (pc := 417) 0 dL_law_417 rfl rfl ?_
        refine s_iload (pc := 418) 5 dL_law_418 rfl ?_
        refine s_iconst (pc := 420) (v := 1) dL_law_420 (by decide) ?_
        refine s_iadd (pc := 421) dL_law_421 ?_
        refine s_iald (pc := 422) dL_law_422 (ztc rfl zt0) (fun x36 => ?_)
        refine s_aload_n (pc := 423) 0 dL_law_423 rfl rfl ?_
        refine s_iload (pc := 424) 5 dL_law_424 rfl ?_
        refine s_iconst (pc := 426) (v := 2) dL_law_426 (by decide) ?_
        refine s_iadd (pc := 427) dL_law_427 ?_
        refine s_iald (pc := 428) dL_law_428 (ztc rfl zt0) (fun x37 => ?_)
        refine s_aload_n (pc := 429) 3 dL_law_429 rfl rfl ?_
        refine s_callSS (pc := 430) (np := 4) (as := [va_rf a1, .int x36, .int x37, va_rf a3]) (rest := []) dL_law_430 (c_X0_enter (by decide) a1 x36 x37 a3 h) rfl rfl q2435 q2436 rfl (by decide) (zkI (fun x38 h39 => ?_)) zxo
        refine s_ist (pc := 433) (L2 := [(0, va_rf a0), (1, va_rf a1), (2, va_rf a2), (3, va_rf a3), (4, va_rf a4), (5, .int a5)]) [0, 1, 2, 3, 4, 5] dL_law_433 (by decide) rfl rfl (zcB (j := 5) rfl rfl rfl) ?_
        refine s_aload_n (pc := 435) 3 dL_law_435 rfl rfl ?_
        refine s_aload_n (pc := 436) 1 dL_law_436 rfl rfl ?_
        refine s_iload (pc := 437) 6 dL_law_437 rfl ?_
        refine s_iconst (pc := 439) (v := 1) dL_law_439 (by decide) ?_
        refine s_iadd (pc := 440) dL_law_440 ?_
        refine s_iald (pc := 441) dL_law_441 (ztc rfl zt0) (fun x40 => ?_)
        refine s_aload_n (pc := 442) 1 dL_law_442 rfl rfl ?_
        refine s_iload (pc := 443) 6 dL_law_443 rfl ?_
        refine s_iconst (pc := 445) (v := 2) dL_law_445 (by decide) ?_
        refine s_iadd (pc := 446) dL_law_446 ?_
        refine s_iald (pc := 447) dL_law_447 (ztc rfl zt0) (fun x41 => ?_)
        refine zS_ite (fun ht => ?_) (fun _ => zS_none)
        refine s_callV (pc := 448) (np := 2) (as := [.int x40, .int x41]) (rest := []) dL_law_448 ht (q := (RX5, TX5, 20)) rfl (c_X5_enter (by decide) a2 x40 x41 h39) rfl rfl q3377 q3378 q3379 rfl (by decide) (zkI (fun x42 h43 => ?_)) zxo
        refine s_ist (pc := 451) (L2 := [(6, .int x38), (0, va_rf a0), (1, va_rf a1), (2, va_rf a2), (3, va_rf a3), (4, va_rf a4), (5, .int a5)]) [0, 1, 2, 3, 4, 5, 6] dL_law_451 (by decide) rfl rfl (zcB (j := 0) rfl rfl rfl) ?_
        refine s_aload_n (pc := 453) 4 dL_law_453 rfl rfl ?_
        refine zS_ite (fun ht => ?_) (fun _ => zS_none)
        refine s_callV (pc := 454) (np := 0) (as := []) (rest := []) dL_law_454 ht (q := (RX5, TX5, 20)) rfl (c_X5_thrown (by decide) a2 h43) rfl rfl q3303 q3304 q3305 rfl (by decide) (zkI (fun x44 h45 => ?_)) zxo
        refine s_iload (pc := 457) 1 dL_law_457 rfl ?_
        refine s_icmp_eq (pc := 459) (tgt := 464) dL_law_459 (by decide) (fun _ => ?_) (fun _ => ?_)
        · refine s_iload (pc := 464) 1 dL_law_464 rfl ?_
          refine s_if_ne (pc := 466) (tgt := 481) dL_law_466 (by decide) (fun _ => ?_) (fun _ => ?_)
          · exact s_sub (pc := 481) [2, 3, 4, 5, 6, 7] rfl (w_L_law_481 (f_L_law_28 n) ih a0 a1 a2 a3 a4 a5 h45)
          · refine s_aload_n (pc := 469) 5 dL_law_469 rfl rfl ?_
            refine s_iconst (pc := 470) (v := 0) dL_law_470 (by decide) ?_
            refine s_lald (pc := 471) dL_law_471 (ztc rfl zt0) (fun x46 => ?_)
            refine s_iload (pc := 472) 0 dL_law_472 rfl ?_
            refine s_i2l (pc := 474) dL_law_474 ?_
            refine s_lcmp (pc := 475) dL_law_475 ?_
            refine s_if_eq (pc := 476) (tgt := 481) dL_law_476 (by decide) (fun _ => ?_) (fun _ => ?_)
            · exact s_sub (pc := 481) [2, 3, 4, 5, 6, 7] rfl (w_L_law_481 (f_L_law_28 n) ih a0 a1 a2 a3 a4 a5 h45)
            · refine s_iconst (pc := 479) (v := 0) dL_law_479 (by decide) ?_
              exact s_nret (pc := 480) dL_law_480 rfl
        · refine s_iconst (pc := 462) (v := 0) dL_law_462 (by decide) ?_
          exact s_nret (pc := 463) dL_law_463 rfl
      refine zS_ite (fun hx => ?_) (fun hx3 => ?_)
      · refine s_tabIn (pc := 44) (tgt := 484) (v := 3) dL_law_44 hx (by decide) (by decide) rfl (by decide) ?_
        refine s_aload_n (pc := 484) 1 dL_law_484 rfl rfl ?_
        refine s_aload_n (pc := 485) 0 dL_law_485 rfl rfl ?_
        refine s_iload (pc := 486) 5 dL_law_486 rfl ?_
        refine s_iconst (pc := 488) (v := 1) dL_law_488 (by decide) ?_
        refine s_iadd (pc := 489) dL_law_489 ?_
        refine s_iald (pc := 490) dL_law_490 (ztc rfl zt0) (fun x47 => ?_)
        refine s_aload_n (pc := 491) 3 dL_law_491 rfl rfl ?_
        refine s_callSS (pc := 492) (np := 3) (as := [va_rf a1, .int x47, va_rf a3]) (rest := []) dL_law_492 (c_X0_leave (by decide) a1 x47 a3 h) rfl rfl q2487 q2488 rfl (by decide) (zkI (fun x48 h49 => ?_)) zxo
        refine s_ist (pc := 495) (L2 := [(0, va_rf a0), (1, va_rf a1), (2, va_rf a2), (3, va_rf a3), (4, va_rf a4), (5, .int a5)]) [0, 1, 2, 3, 4, 5] dL_law_495 (by decide) rfl rfl (zcB (j := 5) rfl rfl rfl) ?_
        refine s_aload_n (pc := 497) 3 dL_law_497 rfl rfl ?_
        refine s_aload_n (pc := 498) 1 dL_law_498 rfl rfl ?_
        refine s_iload (pc := 499) 6 dL_law_499 rfl ?_
        refine s_iconst (pc := 501) (v := 1) dL_law_501 (by decide) ?_
        refine s_iadd (pc := 502) dL_law_502 ?_
        refine s_iald (pc := 503) dL_law_503 (ztc rfl zt0) (fun x50 => ?_)
        refine zS_ite (fun ht => ?_) (fun _ => zS_none)
        refine s_callV (pc := 504) (np := 1) (as := [.int x50]) (rest := []) dL_law_504 ht (q := (RX5, TX5, 20)) rfl (c_X5_leave (by decide) a2 x50 h49) rfl rfl q3404 q3405 q3406 rfl (by decide) (zkI (fun x51 h52 => ?_)) zxo
        refine s_ist (pc := 507) (L2 := [(6, .int x48), (0, va_rf a0), (1, va_rf a1), (2, va_rf a2), (3, va_rf a3), (4, va_rf a4), (5, .int a5)]) [0, 1, 2, 3, 4, 5, 6] dL_law_507 (by decide) rfl rfl (zcB (j := 0) rfl rfl rfl) ?_
        refine s_aload_n (pc := 509) 4 dL_law_509 rfl rfl ?_
        refine zS_ite (fun ht => ?_) (fun _ => zS_none)
        refine s_callV (pc := 510) (np := 0) (as := []) (rest := []) dL_law_510 ht (q := (RX5, TX5, 20)) rfl (c_X5_thrown (by decide) a2 h52) rfl rfl q3303 q3304 q3305 rfl (by decide) (zkI (fun x53 h54 => ?_)) zxo
        refine s_iload (pc := 513) 1 dL_law_513 rfl ?_
        refine s_icmp_eq (pc := 515) (tgt := 520) dL_law_515 (by decide) (fun _ => ?_) (fun _ => ?_)
        · refine s_iload (pc := 520) 1 dL_law_520 rfl ?_
          refine s_if_ne (pc := 522) (tgt := 537) dL_law_522 (by decide) (fun _ => ?_) (fun _ => ?_)
          · exact s_sub (pc := 537) [2, 3, 4, 5, 6, 7] rfl (w_L_law_537 (f_L_law_28 n) ih a0 a1 a2 a3 a4 a5 h54)
          · refine s_aload_n (pc := 525) 5 dL_law_525 rfl rfl ?_
            refine s_iconst (pc := 526) (v := 0) dL_law_526 (by decide) ?_
            refine s_lald (pc := 527) dL_law_527 (ztc rfl zt0) (fun x55 => ?_)
            refine s_iload (pc := 528) 0 dL_law_528 rfl ?_
            refine s_i2l (pc := 530) dL_law_530 ?_
            refine s_lcmp (pc := 531) dL_law_531 ?_
            refine s_if_eq (pc := 532) (tgt := 537) dL_law_532 (by decide) (fun _ => ?_) (fun _ => ?_)
            · exact s_sub (pc := 537) [2, 3, 4, 5, 6, 7] rfl (w_L_law_537 (f_L_law_28 n) ih a0 a1 a2 a3 a4 a5 h54)
            · refine s_iconst (pc := 535) (v := 0) dL_law_535 (by decide) ?_
              exact s_nret (pc := 536) dL_law_536 rfl
        · refine s_iconst (pc := 518) (v := 0) dL_law_518 (by decide) ?_
          exact s_nret (pc := 519) dL_law_519 rfl
      refine zS_ite (fun hx => ?_) (fun hx4 => ?_)
      · refine s_tabIn (pc := 44) (tgt := 540) (v := 4) dL_law_44 hx (by decide) (by decide) rfl (by decide) ?_
        refine s_aload_n (pc := 540) 1 dL_law_540 rfl rfl ?_
        refine s_aload_n (pc := 541) 0 dL_law_541 rfl rfl ?_
        refine s_iload (pc := 542) 5 dL_law_542 rfl ?_
        refine s_iconst (pc := 544) (v := 1) dL_law_544 (by decide) ?_
        refine s_iadd (pc := 545) dL_law_545 ?_
        refine s_iald (pc := 546) dL_law_546 (ztc rfl zt0) (fun x56 => ?_)
        refine s_aload_n (pc := 547) 0 dL_law_547 rfl rfl ?_
        refine s_iload (pc := 548) 5 dL_law_548 rfl ?_
        refine s_iconst (pc := 550) (v := 2) dL_law_550 (by decide) ?_
        refine s_iadd (pc := 551) dL_law_551 ?_
        refine s_iald (pc := 552) dL_law_552 (ztc rfl zt0) (fun x57 => ?_)
        refine s_if_eq (pc := 553) (tgt := 560) dL_law_553 (by decide) (fun _ => ?_) (fun _ => ?_)
        · refine s_iconst (pc := 560) (v := 0) dL_law_560 (by decide) ?_
          exact s_sub (pc := 561) [0, 1, 2, 3, 4, 5] rfl (w_L_law_561 (f_L_law_28 n) ih a0 a1 a2 a3 a4 a5 0 x56 a1 h)
        · refine s_iconst (pc := 556) (v := 1) dL_law_556 (by decide) ?_
          refine s_goto (pc := 557) (tgt := 561) dL_law_557 (by decide) ?_
          exact s_sub (pc := 561) [0, 1, 2, 3, 4, 5] rfl (w_L_law_561 (f_L_law_28 n) ih a0 a1 a2 a3 a4 a5 1 x56 a1 h)
      refine zS_ite (fun hx => ?_) (fun hx5 => ?_)
      · refine s_tabIn (pc := 44) (tgt := 631) (v := 5) dL_law_44 hx (by decide) (by decide) rfl (by decide) ?_
        refine s_aload_n (pc := 631) 1 dL_law_631 rfl rfl ?_
        refine zS_ite (fun ht => ?_) (fun _ => zS_none)
        refine s_callV (pc := 632) (np := 0) (as := []) (rest := []) dL_law_632 ht (q := (RX1, TX1, 11)) rfl (c_X1_shipCount (by decide) a1 h) rfl rfl q1418 q1419 q1420 rfl (by decide) (zkI (fun x58 h59 => ?_)) zxo
        refine s_aload_n (pc := 635) 2 dL_law_635 rfl rfl ?_
        refine zS_ite (fun ht => ?_) (fun _ => zS_none)
        refine s_callV (pc := 636) (np := 0) (as := []) (rest := [.int x58]) dL_law_636 ht (q := (RX5, TX5, 20)) rfl (c_X5_shipCount (by decide) a2 h59) rfl rfl q3501 q3502 q3503 rfl (by simp [zcat_rf, zcat_i, zcat_l, zcat_f, zcat_d]) (zkI (fun x60 h61 => ?_)) zxo
        refine s_icmp_eq (pc := 639) (tgt := 2811) dL_law_639 (by decide) (fun _ => ?_) (fun _ => ?_)
        · exact s_sub (pc := 2811) [0, 1, 2, 3, 4, 5] rfl (w_L_law_2811 (f_L_law_28 n) ih a0 a1 a2 a3 a4 a5 h61)
        · refine s_iconst (pc := 642) (v := 0) dL_law_642 (by decide) ?_
          exact s_nret (pc := 643) dL_law_643 rfl
      refine zS_ite (fun hx => ?_) (fun hx6 => ?_)
      · refine s_tabIn (pc := 44) (tgt := 644) (v := 6) dL_law_44 hx (by decide) (by decide) rfl (by decide) ?_
        refine s_aload_n (pc := 644) 1 dL_law_644 rfl rfl ?_
        refine s_aload_n (pc := 645) 0 dL_law_645 rfl rfl ?_
        refine s_iload (pc := 646) 5 dL_law_646 rfl ?_
        refine s_iconst (pc := 648) (v := 1) dL_law_648 (by decide) ?_
        refine s_iadd (pc := 649) dL_law_649 ?_
        refine s_iald (pc := 650) dL_law_650 (ztc rfl zt0) (fun x62 => ?_)
        refine s_aload_n (pc := 651) 3 dL_law_651 rfl rfl ?_
        refine s_callSS (pc := 652) (np := 3) (as := [va_rf a1, .int x62, va_rf a3]) (rest := []) dL_law_652 (c_X0_shipAt (by decide) a1 x62 a3 h) rfl rfl q2518 q2519 rfl (by decide) (zkI (fun x63 h64 => ?_)) zxo
        refine s_ist (pc := 655) (L2 := [(0, va_rf a0), (1, va_rf a1), (2, va_rf a2), (3, va_rf a3), (4, va_rf a4), (5, .int a5)]) [0, 1, 2, 3, 4, 5] dL_law_655 (by decide) rfl rfl (zcB (j := 5) rfl rfl rfl) ?_
        refine s_aload_n (pc := 657) 3 dL_law_657 rfl rfl ?_
        refine s_aload_n (pc := 658) 1 dL_law_658 rfl rfl ?_
        refine s_iload (pc := 659) 6 dL_law_659 rfl ?_
        refine s_iconst (pc := 661) (v := 1) dL_law_661 (by decide) ?_
        refine s_iadd (pc := 662) dL_law_662 ?_
        refine s_iald (pc := 663) dL_law_663 (ztc rfl zt0) (fun x65 => ?_)
        refine zS_ite (fun ht => ?_) (fun _ => zS_none)
        refine s_callV (pc := 664) (np := 1) (as := [.int x65]) (rest := []) dL_law_664 ht (q := (RX5, TX5, 20)) rfl (c_X5_shipAt (by decide) a2 x65 h64) rfl rfl q3505 q3506 q3507 rfl (by decide) (zkI (fun x66 h67 => ?_)) zxo
        refine s_ist (pc := 667) (L2 := [(6, .int x63), (0, va_rf a0), (1, va_rf a1), (2, va_rf a2), (3, va_rf a3), (4, va_rf a4), (5, .int a5)]) [0, 1, 2, 3, 4, 5, 6] dL_law_667 (by decide) rfl rfl (zcB (j := 0) rfl rfl rfl) ?_
        refine s_aload_n (pc := 669) 4 dL_law_669 rfl rfl ?_
        refine zS_ite (fun ht => ?_) (fun _ => zS_none)
        refine s_callV (pc := 670) (np := 0) (as := []) (rest := []) dL_law_670 ht (q := (RX5, TX5, 20)) rfl (c_X5_thrown (by decide) a2 h67) rfl rfl q3303 q3304 q3305 rfl (by decide) (zkI (fun x68 h69 => ?_)) zxo
        refine s_iload (pc := 673) 1 dL_law_673 rfl ?_
        refine s_icmp_eq (pc := 675) (tgt := 680) dL_law_675 (by decide) (fun _ => ?_) (fun _ => ?_)
        · refine s_iload (pc := 680) 1 dL_law_680 rfl ?_
          refine s_if_ne (pc := 682) (tgt := 697) dL_law_682 (by decide) (fun _ => ?_) (fun _ => ?_)
          · exact s_sub (pc := 697) [2, 3, 4, 5, 6, 7] rfl (w_L_law_697 (f_L_law_28 n) ih a0 a1 a2 a3 a4 a5 h69)
          · refine s_aload_n (pc := 685) 5 dL_law_685 rfl rfl ?_
            refine s_iconst (pc := 686) (v := 0) dL_law_686 (by decide) ?_
            refine s_lald (pc := 687) dL_law_687 (ztc rfl zt0) (fun x70 => ?_)
            refine s_iload (pc := 688) 0 dL_law_688 rfl ?_
            refine s_i2l (pc := 690) dL_law_690 ?_
            refine s_lcmp (pc := 691) dL_law_691 ?_
            refine s_if_eq (pc := 692) (tgt := 697) dL_law_692 (by decide) (fun _ => ?_) (fun _ => ?_)
            · exact s_sub (pc := 697) [2, 3, 4, 5, 6, 7] rfl (w_L_law_697 (f_L_law_28 n) ih a0 a1 a2 a3 a4 a5 h69)
            · refine s_iconst (pc := 695) (v := 0) dL_law_695 (by decide) ?_
              exact s_nret (pc := 696) dL_law_696 rfl
        · refine s_iconst (pc := 678) (v := 0) dL_law_678 (by decide) ?_
          exact s_nret (pc := 679) dL_law_679 rfl
      refine zS_ite (fun hx => ?_) (fun hx7 => ?_)
      · refine s_tabIn (pc := 44) (tgt := 700) (v := 7) dL_law_44 hx (by decide) (by decide) rfl (by decide) ?_
        refine s_aload_n (pc := 700) 1 dL_law_700 rfl rfl ?_
        refine s_aload_n (pc := 701) 0 dL_law_701 rfl rfl ?_
        refine s_iload (pc := 702) 5 dL_law_702 rfl ?_
        refine s_iconst (pc := 704) (v := 1) dL_law_704 (by decide) ?_
        refine s_iadd (pc := 705) dL_law_705 ?_
        refine s_iald (pc := 706) dL_law_706 (ztc rfl zt0) (fun x71 => ?_)
        refine s_aload_n (pc := 707) 3 dL_law_707 rfl rfl ?_
        refine s_callSS (pc := 708) (np := 3) (as := [va_rf a1, .int x71, va_rf a3]) (rest := []) dL_law_708 (c_X0_isInDock (by decide) a1 x71 a3 h) rfl rfl q2557 q2558 rfl (by decide) (zkI (fun x72 h73 => ?_)) zxo
        refine s_ist (pc := 711) (L2 := [(0, va_rf a0), (1, va_rf a1), (2, va_rf a2), (3, va_rf a3), (4, va_rf a4), (5, .int a5)]) [0, 1, 2, 3, 4, 5] dL_law_711 (by decide) rfl rfl (zcB (j := 5) rfl rfl rfl) ?_
        refine s_aload_n (pc := 713) 3 dL_law_713 rfl rfl ?_
        refine s_aload_n (pc := 714) 1 dL_law_714 rfl rfl ?_
        refine s_iload (pc := 715) 6 dL_law_715 rfl ?_
        refine s_iconst (pc := 717) (v := 1) dL_law_717 (by decide) ?_
        refine s_iadd (pc := 718) dL_law_718 ?_
        refine s_iald (pc := 719) dL_law_719 (ztc rfl zt0) (fun x74 => ?_)
        refine zS_ite (fun ht => ?_) (fun _ => zS_none)
        refine s_callV (pc := 720) (np := 1) (as := [.int x74]) (rest := []) dL_law_720 ht (q := (RX5, TX5, 20)) rfl (c_X5_isInDock (by decide) a2 x74 h73) rfl rfl q3509 q3510 q3511 rfl (by decide) (zkI (fun x75 h76 => ?_)) zxo
        refine s_ist (pc := 723) (L2 := [(6, .int x72), (0, va_rf a0), (1, va_rf a1), (2, va_rf a2), (3, va_rf a3), (4, va_rf a4), (5, .int a5)]) [0, 1, 2, 3, 4, 5, 6] dL_law_723 (by decide) rfl rfl (zcB (j := 0) rfl rfl rfl) ?_
        refine s_aload_n (pc := 725) 4 dL_law_725 rfl rfl ?_
        refine zS_ite (fun ht => ?_) (fun _ => zS_none)
        refine s_callV (pc := 726) (np := 0) (as := []) (rest := []) dL_law_726 ht (q := (RX5, TX5, 20)) rfl (c_X5_thrown (by decide) a2 h76) rfl rfl q3303 q3304 q3305 rfl (by decide) (zkI (fun x77 h78 => ?_)) zxo
        refine s_iload (pc := 729) 1 dL_law_729 rfl ?_
        refine s_icmp_eq (pc := 731) (tgt := 736) dL_law_731 (by decide) (fun _ => ?_) (fun _ => ?_)
        · refine s_iload (pc := 736) 1 dL_law_736 rfl ?_
          refine s_if_ne (pc := 738) (tgt := 760) dL_law_738 (by decide) (fun _ => ?_) (fun _ => ?_)
          · exact s_sub (pc := 760) [2, 3, 4, 5, 6, 7] rfl (w_L_law_760 (f_L_law_28 n) ih a0 a1 a2 a3 a4 a5 h78)
          · refine s_aload_n (pc := 741) 5 dL_law_741 rfl rfl ?_
            refine s_iconst (pc := 742) (v := 0) dL_law_742 (by decide) ?_
            refine s_lald (pc := 743) dL_law_743 (ztc rfl zt0) (fun x79 => ?_)
            refine s_iload (pc := 744) 0 dL_law_744 rfl ?_
            refine s_if_eq (pc := 746) (tgt := 753) dL_law_746 (by decide) (fun _ => ?_) (fun _ => ?_)
            · refine s_lconst (pc := 753) (v := 0) dL_law_753 (by decide) ?_
              exact s_sub (pc := 754) [2, 3, 4, 5, 6, 7] rfl (w_L_law_754 (f_L_law_28 n) ih a0 a1 a2 a3 a4 a5 0 x79 h78)
            · refine s_lconst (pc := 749) (v := 1) dL_law_749 (by decide) ?_
              refine s_goto (pc := 750) (tgt := 754) dL_law_750 (by decide) ?_
              exact s_sub (pc := 754) [2, 3, 4, 5, 6, 7] rfl (w_L_law_754 (f_L_law_28 n) ih a0 a1 a2 a3 a4 a5 1 x79 h78)
        · refine s_iconst (pc := 734) (v := 0) dL_law_734 (by decide) ?_
          exact s_nret (pc := 735) dL_law_735 rfl
      refine zS_ite (fun hx => ?_) (fun hx8 => ?_)
      · refine s_tabIn (pc := 44) (tgt := 763) (v := 8) dL_law_44 hx (by decide) (by decide) rfl (by decide) ?_
        refine s_aload_n (pc := 763) 1 dL_law_763 rfl rfl ?_
        refine s_aload_n (pc := 764) 0 dL_law_764 rfl rfl ?_
        refine s_iload (pc := 765) 5 dL_law_765 rfl ?_
        refine s_iconst (pc := 767) (v := 1) dL_law_767 (by decide) ?_
        refine s_iadd (pc := 768) dL_law_768 ?_
        refine s_iald (pc := 769) dL_law_769 (ztc rfl zt0) (fun x80 => ?_)
        refine s_aload_n (pc := 770) 3 dL_law_770 rfl rfl ?_
        refine s_callSS (pc := 771) (np := 3) (as := [va_rf a1, .int x80, va_rf a3]) (rest := []) dL_law_771 (c_X0_positionOf (by decide) a1 x80 a3 h) rfl rfl q2566 q2567 rfl (by decide) (zkI (fun x81 h82 => ?_)) zxo
        refine s_ist (pc := 774) (L2 := [(0, va_rf a0), (1, va_rf a1), (2, va_rf a2), (3, va_rf a3), (4, va_rf a4), (5, .int a5)]) [0, 1, 2, 3, 4, 5] dL_law_774 (by decide) rfl rfl (zcB (j := 5) rfl rfl rfl) ?_
        refine s_aload_n (pc := 776) 3 dL_law_776 rfl rfl ?_
        refine s_aload_n (pc := 777) 1 dL_law_777 rfl rfl ?_
        refine s_iload (pc := 778) 6 dL_law_778 rfl ?_
        refine s_iconst (pc := 780) (v := 1) dL_law_780 (by decide) ?_
        refine s_iadd (pc := 781) dL_law_781 ?_
        refine s_iald (pc := 782) dL_law_782 (ztc rfl zt0) (fun x83 => ?_)
        refine zS_ite (fun ht => ?_) (fun _ => zS_none)
        refine s_callV (pc := 783) (np := 1) (as := [.int x83]) (rest := []) dL_law_783 ht (q := (RX5, TX5, 20)) rfl (c_X5_positionOf (by decide) a2 x83 h82) rfl rfl q3517 q3518 q3519 rfl (by decide) (zkI (fun x84 h85 => ?_)) zxo
        refine s_ist (pc := 786) (L2 := [(6, .int x81), (0, va_rf a0), (1, va_rf a1), (2, va_rf a2), (3, va_rf a3), (4, va_rf a4), (5, .int a5)]) [0, 1, 2, 3, 4, 5, 6] dL_law_786 (by decide) rfl rfl (zcB (j := 0) rfl rfl rfl) ?_
        refine s_aload_n (pc := 788) 4 dL_law_788 rfl rfl ?_
        refine zS_ite (fun ht => ?_) (fun _ => zS_none)
        refine s_callV (pc := 789) (np := 0) (as := []) (rest := []) dL_law_789 ht (q := (RX5, TX5, 20)) rfl (c_X5_thrown (by decide) a2 h85) rfl rfl q3303 q3304 q3305 rfl (by decide) (zkI (fun x86 h87 => ?_)) zxo
        refine s_iload (pc := 792) 1 dL_law_792 rfl ?_
        refine s_icmp_eq (pc := 794) (tgt := 799) dL_law_794 (by decide) (fun _ => ?_) (fun _ => ?_)
        · refine s_iload (pc := 799) 1 dL_law_799 rfl ?_
          refine s_if_ne (pc := 801) (tgt := 816) dL_law_801 (by decide) (fun _ => ?_) (fun _ => ?_)
          · exact s_sub (pc := 816) [2, 3, 4, 5, 6, 7] rfl (w_L_law_816 (f_L_law_28 n) ih a0 a1 a2 a3 a4 a5 h87)
          · refine s_aload_n (pc := 804) 5 dL_law_804 rfl rfl ?_
            refine s_iconst (pc := 805) (v := 0) dL_law_805 (by decide) ?_
            refine s_lald (pc := 806) dL_law_806 (ztc rfl zt0) (fun x88 => ?_)
            refine s_iload (pc := 807) 0 dL_law_807 rfl ?_
            refine s_i2l (pc := 809) dL_law_809 ?_
            refine s_lcmp (pc := 810) dL_law_810 ?_
            refine s_if_eq (pc := 811) (tgt := 816) dL_law_811 (by decide) (fun _ => ?_) (fun _ => ?_)
            · exact s_sub (pc := 816) [2, 3, 4, 5, 6, 7] rfl (w_L_law_816 (f_L_law_28 n) ih a0 a1 a2 a3 a4 a5 h87)
            · refine s_iconst (pc := 814) (v := 0) dL_law_814 (by decide) ?_
              exact s_nret (pc := 815) dL_law_815 rfl
        · refine s_iconst (pc := 797) (v := 0) dL_law_797 (by decide) ?_
          exact s_nret (pc := 798) dL_law_798 rfl
      refine zS_ite (fun hx => ?_) (fun hx9 => ?_)
      · refine s_tabIn (pc := 44) (tgt := 819) (v := 9) dL_law_44 hx (by decide) (by decide) rfl (by decide) ?_
        refine s_aload_n (pc := 819) 1 dL_law_819 rfl rfl ?_
        refine s_aload_n (pc := 820) 0 dL_law_820 rfl rfl ?_
        refine s_iload (pc := 821) 5 dL_law_821 rfl ?_
        refine s_iconst (pc := 823) (v := 1) dL_law_823 (by decide) ?_
        refine s_iadd (pc := 824) dL_law_824 ?_
        refine s_iald (pc := 825) dL_law_825 (ztc rfl zt0) (fun x89 => ?_)
        refine s_aload_n (pc := 826) 3 dL_law_826 rfl rfl ?_
        refine s_callSS (pc := 827) (np := 3) (as := [va_rf a1, .int x89, va_rf a3]) (rest := []) dL_law_827 (c_X0_dirtOf (by decide) a1 x89 a3 h) rfl rfl q2577 q2578 rfl (by decide) (zkI (fun x90 h91 => ?_)) zxo
        refine s_ist (pc := 830) (L2 := [(0, va_rf a0), (1, va_rf a1), (2, va_rf a2), (3, va_rf a3), (4, va_rf a4), (5, .int a5)]) [0, 1, 2, 3, 4, 5] dL_law_830 (by decide) rfl rfl (zcB (j := 5) rfl rfl rfl) ?_
        refine s_aload_n (pc := 832) 3 dL_law_832 rfl rfl ?_
        refine s_aload_n (pc := 833) 1 dL_law_833 rfl rfl ?_
        refine s_iload (pc := 834) 6 dL_law_834 rfl ?_
        refine s_iconst (pc := 836) (v := 1) dL_law_836 (by decide) ?_
        refine s_iadd (pc := 837) dL_law_837 ?_
        refine s_iald (pc := 838) dL_law_838 (ztc rfl zt0) (fun x92 => ?_)
        refine zS_ite (fun ht => ?_) (fun _ => zS_none)
        refine s_callV (pc := 839) (np := 1) (as := [.int x92]) (rest := []) dL_law_839 ht (q := (RX5, TX5, 20)) rfl (c_X5_dirtOf (by decide) a2 x92 h91) rfl rfl q3521 q3522 q3523 rfl (by decide) (zkI (fun x93 h94 => ?_)) zxo
        refine s_ist (pc := 842) (L2 := [(6, .int x90), (0, va_rf a0), (1, va_rf a1), (2, va_rf a2), (3, va_rf a3), (4, va_rf a4), (5, .int a5)]) [0, 1, 2, 3, 4, 5, 6] dL_law_842 (by decide) rfl rfl (zcB (j := 0) rfl rfl rfl) ?_
        refine s_aload_n (pc := 844) 4 dL_law_844 rfl rfl ?_
        refine zS_ite (fun ht => ?_) (fun _ => zS_none)
        refine s_callV (pc := 845) (np := 0) (as := []) (rest := []) dL_law_845 ht (q := (RX5, TX5, 20)) rfl (c_X5_thrown (by decide) a2 h94) rfl rfl q3303 q3304 q3305 rfl (by decide) (zkI (fun x95 h96 => ?_)) zxo
        refine s_iload (pc := 848) 1 dL_law_848 rfl ?_
        refine s_icmp_eq (pc := 850) (tgt := 855) dL_law_850 (by decide) (fun _ => ?_) (fun _ => ?_)
        · refine s_iload (pc := 855) 1 dL_law_855 rfl ?_
          refine s_if_ne (pc := 857) (tgt := 872) dL_law_857 (by decide) (fun _ => ?_) (fun _ => ?_)
          · exact s_sub (pc := 872) [2, 3, 4, 5, 6, 7] rfl (w_L_law_872 (f_L_law_28 n) ih a0 a1 a2 a3 a4 a5 h96)
          · refine s_aload_n (pc := 860) 5 dL_law_860 rfl rfl ?_
            refine s_iconst (pc := 861) (v := 0) dL_law_861 (by decide) ?_
            refine s_lald (pc := 862) dL_law_862 (ztc rfl zt0) (fun x97 => ?_)
            refine s_iload (pc := 863) 0 dL_law_863 rfl ?_
            refine s_i2l (pc := 865) dL_law_865 ?_
            refine s_lcmp (pc := 866) dL_law_866 ?_
            refine s_if_eq (pc := 867) (tgt := 872) dL_law_867 (by decide) (fun _ => ?_) (fun _ => ?_)
            · exact s_sub (pc := 872) [2, 3, 4, 5, 6, 7] rfl (w_L_law_872 (f_L_law_28 n) ih a0 a1 a2 a3 a4 a5 h96)
            · refine s_iconst (pc := 870) (v := 0) dL_law_870 (by decide) ?_
              exact s_nret (pc := 871) dL_law_871 rfl
        · refine s_iconst (pc := 853) (v := 0) dL_law_853 (by decide) ?_
          exact s_nret (pc := 854) dL_law_854 rfl
      refine zS_ite (fun hx => ?_) (fun hx10 => ?_)
      · refine s_tabIn (pc := 44) (tgt := 875) (v := 10) dL_law_44 hx (by decide) (by decide) rfl (by decide) ?_
        refine s_aload_n (pc := 875) 1 dL_law_875 rfl rfl ?_
        refine s_aload_n (pc := 876) 0 dL_law_876 rfl rfl ?_
        refine s_iload (pc := 877) 5 dL_law_877 rfl ?_
        refine s_iconst (pc := 879) (v := 1) dL_law_879 (by decide) ?_
        refine s_iadd (pc := 880) dL_law_880 ?_
        refine s_iald (pc := 881) dL_law_881 (ztc rfl zt0) (fun x98 => ?_)
        refine s_aload_n (pc := 882) 3 dL_law_882 rfl rfl ?_
        refine s_callSS (pc := 883) (np := 3) (as := [va_rf a1, .int x98, va_rf a3]) (rest := []) dL_law_883 (c_X0_damageOf (by decide) a1 x98 a3 h) rfl rfl q2584 q2585 rfl (by decide) (zkI (fun x99 h100 => ?_)) zxo
        refine s_ist (pc := 886) (L2 := [(0, va_rf a0), (1, va_rf a1), (2, va_rf a2), (3, va_rf a3), (4, va_rf a4), (5, .int a5)]) [0, 1, 2, 3, 4, 5] dL_law_886 (by decide) rfl rfl (zcB (j := 5) rfl rfl rfl) ?_
        refine s_aload_n (pc := 888) 3 dL_law_888 rfl rfl ?_
        refine s_aload_n (pc := 889) 1 dL_law_889 rfl rfl ?_
        refine s_iload (pc := 890) 6 dL_law_890 rfl ?_
        refine s_iconst (pc := 892) (v := 1) dL_law_892 (by decide) ?_
        refine s_iadd (pc := 893) dL_law_893 ?_
        refine s_iald (pc := 894) dL_law_894 (ztc rfl zt0) (fun x101 => ?_)
        refine zS_ite (fun ht => ?_) (fun _ => zS_none)
        refine s_callV (pc := 895) (np := 1) (as := [.int x101]) (rest := []) dL_law_895 ht (q := (RX5, TX5, 20)) rfl (c_X5_damageOf (by decide) a2 x101 h100) rfl rfl q3525 q3526 q3527 rfl (by decide) (zkI (fun x102 h103 => ?_)) zxo
        refine s_ist (pc := 898) (L2 := [(6, .int x99), (0, va_rf a0), (1, va_rf a1), (2, va_rf a2), (3, va_rf a3), (4, va_rf a4), (5, .int a5)]) [0, 1, 2, 3, 4, 5, 6] dL_law_898 (by decide) rfl rfl (zcB (j := 0) rfl rfl rfl) ?_
        refine s_aload_n (pc := 900) 4 dL_law_900 rfl rfl ?_
        refine zS_ite (fun ht => ?_) (fun _ => zS_none)
        refine s_callV (pc := 901) (np := 0) (as := []) (rest := []) dL_law_901 ht (q := (RX5, TX5, 20)) rfl (c_X5_thrown (by decide) a2 h103) rfl rfl q3303 q3304 q3305 rfl (by decide) (zkI (fun x104 h105 => ?_)) zxo
        refine s_iload (pc := 904) 1 dL_law_904 rfl ?_
        refine s_icmp_eq (pc := 906) (tgt := 911) dL_law_906 (by decide) (fun _ => ?_) (fun _ => ?_)
        · refine s_iload (pc := 911) 1 dL_law_911 rfl ?_
          refine s_if_ne (pc := 913) (tgt := 928) dL_law_913 (by decide) (fun _ => ?_) (fun _ => ?_)
          · exact s_sub (pc := 928) [2, 3, 4, 5, 6, 7] rfl (w_L_law_928 (f_L_law_28 n) ih a0 a1 a2 a3 a4 a5 h105)
          · refine s_aload_n (pc := 916) 5 dL_law_916 rfl rfl ?_
            refine s_iconst (pc := 917) (v := 0) dL_law_917 (by decide) ?_
            refine s_lald (pc := 918) dL_law_918 (ztc rfl zt0) (fun x106 => ?_)
            refine s_iload (pc := 919) 0 dL_law_919 rfl ?_
            refine s_i2l (pc := 921) dL_law_921 ?_
            refine s_lcmp (pc := 922) dL_law_922 ?_
            refine s_if_eq (pc := 923) (tgt := 928) dL_law_923 (by decide) (fun _ => ?_) (fun _ => ?_)
            · exact s_sub (pc := 928) [2, 3, 4, 5, 6, 7] rfl (w_L_law_928 (f_L_law_28 n) ih a0 a1 a2 a3 a4 a5 h105)
            · refine s_iconst (pc := 926) (v := 0) dL_law_926 (by decide) ?_
              exact s_nret (pc := 927) dL_law_927 rfl
        · refine s_iconst (pc := 909) (v := 0) dL_law_909 (by decide) ?_
          exact s_nret (pc := 910) dL_law_910 rfl
      refine zS_ite (fun hx => ?_) (fun hx11 => ?_)
      · refine s_tabIn (pc := 44) (tgt := 931) (v := 11) dL_law_44 hx (by decide) (by decide) rfl (by decide) ?_
        refine s_aload_n (pc := 931) 1 dL_law_931 rfl rfl ?_
        refine s_aload_n (pc := 932) 0 dL_law_932 rfl rfl ?_
        refine s_iload (pc := 933) 5 dL_law_933 rfl ?_
        refine s_iconst (pc := 935) (v := 1) dL_law_935 (by decide) ?_
        refine s_iadd (pc := 936) dL_law_936 ?_
        refine s_iald (pc := 937) dL_law_937 (ztc rfl zt0) (fun x107 => ?_)
        refine s_aload_n (pc := 938) 3 dL_law_938 rfl rfl ?_
        refine s_callSS (pc := 939) (np := 3) (as := [va_rf a1, .int x107, va_rf a3]) (rest := []) dL_law_939 (c_X0_hoursAfloat (by decide) a1 x107 a3 h) rfl rfl q2591 q2592 rfl (by decide) (zkI (fun x108 h109 => ?_)) zxo
        refine s_ist (pc := 942) (L2 := [(0, va_rf a0), (1, va_rf a1), (2, va_rf a2), (3, va_rf a3), (4, va_rf a4), (5, .int a5)]) [0, 1, 2, 3, 4, 5] dL_law_942 (by decide) rfl rfl (zcB (j := 5) rfl rfl rfl) ?_
        refine s_aload_n (pc := 944) 3 dL_law_944 rfl rfl ?_
        refine s_aload_n (pc := 945) 1 dL_law_945 rfl rfl ?_
        refine s_iload (pc := 946) 6 dL_law_946 rfl ?_
        refine s_iconst (pc := 948) (v := 1) dL_law_948 (by decide) ?_
        refine s_iadd (pc := 949) dL_law_949 ?_
        refine s_iald (pc := 950) dL_law_950 (ztc rfl zt0) (fun x110 => ?_)
        refine zS_ite (fun ht => ?_) (fun _ => zS_none)
        refine s_callV (pc := 951) (np := 1) (as := [.int x110]) (rest := []) dL_law_951 ht (q := (RX5, TX5, 20)) rfl (c_X5_hoursAfloat (by decide) a2 x110 h109) rfl rfl q3529 q3530 q3531 rfl (by decide) (zkI (fun x111 h112 => ?_)) zxo
        refine s_ist (pc := 954) (L2 := [(6, .int x108), (0, va_rf a0), (1, va_rf a1), (2, va_rf a2), (3, va_rf a3), (4, va_rf a4), (5, .int a5)]) [0, 1, 2, 3, 4, 5, 6] dL_law_954 (by decide) rfl rfl (zcB (j := 0) rfl rfl rfl) ?_
        refine s_aload_n (pc := 956) 4 dL_law_956 rfl rfl ?_
        refine zS_ite (fun ht => ?_) (fun _ => zS_none)
        refine s_callV (pc := 957) (np := 0) (as := []) (rest := []) dL_law_957 ht (q := (RX5, TX5, 20)) rfl (c_X5_thrown (by decide) a2 h112) rfl rfl q3303 q3304 q3305 rfl (by decide) (zkI (fun x113 h114 => ?_)) zxo
        refine s_iload (pc := 960) 1 dL_law_960 rfl ?_
        refine s_icmp_eq (pc := 962) (tgt := 967) dL_law_962 (by decide) (fun _ => ?_) (fun _ => ?_)
        · refine s_iload (pc := 967) 1 dL_law_967 rfl ?_
          refine s_if_ne (pc := 969) (tgt := 984) dL_law_969 (by decide) (fun _ => ?_) (fun _ => ?_)
          · exact s_sub (pc := 984) [2, 3, 4, 5, 6, 7] rfl (w_L_law_984 (f_L_law_28 n) ih a0 a1 a2 a3 a4 a5 h114)
          · refine s_aload_n (pc := 972) 5 dL_law_972 rfl rfl ?_
            refine s_iconst (pc := 973) (v := 0) dL_law_973 (by decide) ?_
            refine s_lald (pc := 974) dL_law_974 (ztc rfl zt0) (fun x115 => ?_)
            refine s_iload (pc := 975) 0 dL_law_975 rfl ?_
            refine s_i2l (pc := 977) dL_law_977 ?_
            refine s_lcmp (pc := 978) dL_law_978 ?_
            refine s_if_eq (pc := 979) (tgt := 984) dL_law_979 (by decide) (fun _ => ?_) (fun _ => ?_)
            · exact s_sub (pc := 984) [2, 3, 4, 5, 6, 7] rfl (w_L_law_984 (f_L_law_28 n) ih a0 a1 a2 a3 a4 a5 h114)
            · refine s_iconst (pc := 982) (v := 0) dL_law_982 (by decide) ?_
              exact s_nret (pc := 983) dL_law_983 rfl
        · refine s_iconst (pc := 965) (v := 0) dL_law_965 (by decide) ?_
          exact s_nret (pc := 966) dL_law_966 rfl
      refine zS_ite (fun hx => ?_) (fun hx12 => ?_)
      · refine s_tabIn (pc := 44) (tgt := 987) (v := 12) dL_law_44 hx (by decide) (by decide) rfl (by decide) ?_
        refine s_aload_n (pc := 987) 1 dL_law_987 rfl rfl ?_
        refine s_aload_n (pc := 988) 0 dL_law_988 rfl rfl ?_
        refine s_iload (pc := 989) 5 dL_law_989 rfl ?_
        refine s_iconst (pc := 991) (v := 1) dL_law_991 (by decide) ?_
        refine s_iadd (pc := 992) dL_law_992 ?_
        refine s_iald (pc := 993) dL_law_993 (ztc rfl zt0) (fun x116 => ?_)
        refine s_aload_n (pc := 994) 3 dL_law_994 rfl rfl ?_
        refine s_callSS (pc := 995) (np := 3) (as := [va_rf a1, .int x116, va_rf a3]) (rest := []) dL_law_995 (c_X0_isAfloat (by decide) a1 x116 a3 h) rfl rfl q2598 q2599 rfl (by decide) (zkI (fun x117 h118 => ?_)) zxo
        refine s_ist (pc := 998) (L2 := [(0, va_rf a0), (1, va_rf a1), (2, va_rf a2), (3, va_rf a3), (4, va_rf a4), (5, .int a5)]) [0, 1, 2, 3, 4, 5] dL_law_998 (by decide) rfl rfl (zcB (j := 5) rfl rfl rfl) ?_
        refine s_aload_n (pc := 1000) 3 dL_law_1000 rfl rfl ?_
        refine s_aload_n (pc := 1001) 1 dL_law_1001 rfl rfl ?_
        refine s_iload (pc := 1002) 6 dL_law_1002 rfl ?_
        refine s_iconst (pc := 1004) (v := 1) dL_law_1004 (by decide) ?_
        refine s_iadd (pc := 1005) dL_law_1005 ?_
        refine s_iald (pc := 1006) dL_law_1006 (ztc rfl zt0) (fun x119 => ?_)
        refine zS_ite (fun ht => ?_) (fun _ => zS_none)
        refine s_callV (pc := 1007) (np := 1) (as := [.int x119]) (rest := []) dL_law_1007 ht (q := (RX5, TX5, 20)) rfl (c_X5_isAfloat (by decide) a2 x119 h118) rfl rfl q3533 q3534 q3535 rfl (by decide) (zkI (fun x120 h121 => ?_)) zxo
        refine s_ist (pc := 1010) (L2 := [(6, .int x117), (0, va_rf a0), (1, va_rf a1), (2, va_rf a2), (3, va_rf a3), (4, va_rf a4), (5, .int a5)]) [0, 1, 2, 3, 4, 5, 6] dL_law_1010 (by decide) rfl rfl (zcB (j := 0) rfl rfl rfl) ?_
        refine s_aload_n (pc := 1012) 4 dL_law_1012 rfl rfl ?_
        refine zS_ite (fun ht => ?_) (fun _ => zS_none)
        refine s_callV (pc := 1013) (np := 0) (as := []) (rest := []) dL_law_1013 ht (q := (RX5, TX5, 20)) rfl (c_X5_thrown (by decide) a2 h121) rfl rfl q3303 q3304 q3305 rfl (by decide) (zkI (fun x122 h123 => ?_)) zxo
        refine s_iload (pc := 1016) 1 dL_law_1016 rfl ?_
        refine s_icmp_eq (pc := 1018) (tgt := 1023) dL_law_1018 (by decide) (fun _ => ?_) (fun _ => ?_)
        · refine s_iload (pc := 1023) 1 dL_law_1023 rfl ?_
          refine s_if_ne (pc := 1025) (tgt := 1047) dL_law_1025 (by decide) (fun _ => ?_) (fun _ => ?_)
          · exact s_sub (pc := 1047) [2, 3, 4, 5, 6, 7] rfl (w_L_law_1047 (f_L_law_28 n) ih a0 a1 a2 a3 a4 a5 h123)
          · refine s_aload_n (pc := 1028) 5 dL_law_1028 rfl rfl ?_
            refine s_iconst (pc := 1029) (v := 0) dL_law_1029 (by decide) ?_
            refine s_lald (pc := 1030) dL_law_1030 (ztc rfl zt0) (fun x124 => ?_)
            refine s_iload (pc := 1031) 0 dL_law_1031 rfl ?_
            refine s_if_eq (pc := 1033) (tgt := 1040) dL_law_1033 (by decide) (fun _ => ?_) (fun _ => ?_)
            · refine s_lconst (pc := 1040) (v := 0) dL_law_1040 (by decide) ?_
              exact s_sub (pc := 1041) [2, 3, 4, 5, 6, 7] rfl (w_L_law_1041 (f_L_law_28 n) ih a0 a1 a2 a3 a4 a5 0 x124 h123)
            · refine s_lconst (pc := 1036) (v := 1) dL_law_1036 (by decide) ?_
              refine s_goto (pc := 1037) (tgt := 1041) dL_law_1037 (by decide) ?_
              exact s_sub (pc := 1041) [2, 3, 4, 5, 6, 7] rfl (w_L_law_1041 (f_L_law_28 n) ih a0 a1 a2 a3 a4 a5 1 x124 h123)
        · refine s_iconst (pc := 1021) (v := 0) dL_law_1021 (by decide) ?_
          exact s_nret (pc := 1022) dL_law_1022 rfl
      refine zS_ite (fun hx => ?_) (fun hx13 => ?_)
      · refine s_tabIn (pc := 44) (tgt := 1050) (v := 13) dL_law_44 hx (by decide) (by decide) rfl (by decide) ?_
        refine s_aload_n (pc := 1050) 1 dL_law_1050 rfl rfl ?_
        refine s_aload_n (pc := 1051) 3 dL_law_1051 rfl rfl ?_
        refine s_callSS (pc := 1052) (np := 2) (as := [va_rf a1, va_rf a3]) (rest := []) dL_law_1052 (c_X0_refusalReason (by decide) a1 a3 h) rfl rfl q2605 q2606 rfl (by decide) (zkI (fun x125 h126 => ?_)) zxo
        refine s_ist (pc := 1055) (L2 := [(0, va_rf a0), (1, va_rf a1), (2, va_rf a2), (3, va_rf a3), (4, va_rf a4), (5, .int a5)]) [0, 1, 2, 3, 4, 5] dL_law_1055 (by decide) rfl rfl (zcB (j := 5) rfl rfl rfl) ?_
        refine s_aload_n (pc := 1057) 3 dL_law_1057 rfl rfl ?_
        refine zS_ite (fun ht => ?_) (fun _ => zS_none)
        refine s_callV (pc := 1058) (np := 0) (as := []) (rest := []) dL_law_1058 ht (q := (RX5, TX5, 20)) rfl (c_X5_refusalReason (by decide) a2 h126) rfl rfl q3537 q3538 q3539 rfl (by decide) (zkI (fun x127 h128 => ?_)) zxo
        refine s_ist (pc := 1061) (L2 := [(6, .int x125), (0, va_rf a0), (1, va_rf a1), (2, va_rf a2), (3, va_rf a3), (4, va_rf a4), (5, .int a5)]) [0, 1, 2, 3, 4, 5, 6] dL_law_1061 (by decide) rfl rfl (zcB (j := 0) rfl rfl rfl) ?_
        refine s_aload_n (pc := 1063) 4 dL_law_1063 rfl rfl ?_
        refine zS_ite (fun ht => ?_) (fun _ => zS_none)
        refine s_callV (pc := 1064) (np := 0) (as := []) (rest := []) dL_law_1064 ht (q := (RX5, TX5, 20)) rfl (c_X5_thrown (by decide) a2 h128) rfl rfl q3303 q3304 q3305 rfl (by decide) (zkI (fun x129 h130 => ?_)) zxo
        refine s_iload (pc := 1067) 1 dL_law_1067 rfl ?_
        refine s_icmp_eq (pc := 1069) (tgt := 1074) dL_law_1069 (by decide) (fun _ => ?_) (fun _ => ?_)
        · refine s_iload (pc := 1074) 1 dL_law_1074 rfl ?_
          refine s_if_ne (pc := 1076) (tgt := 1091) dL_law_1076 (by decide) (fun _ => ?_) (fun _ => ?_)
          · exact s_sub (pc := 1091) [2, 3, 4, 5, 6, 7] rfl (w_L_law_1091 (f_L_law_28 n) ih a0 a1 a2 a3 a4 a5 h130)
          · refine s_aload_n (pc := 1079) 5 dL_law_1079 rfl rfl ?_
            refine s_iconst (pc := 1080) (v := 0) dL_law_1080 (by decide) ?_
            refine s_lald (pc := 1081) dL_law_1081 (ztc rfl zt0) (fun x131 => ?_)
            refine s_iload (pc := 1082) 0 dL_law_1082 rfl ?_
            refine s_i2l (pc := 1084) dL_law_1084 ?_
            refine s_lcmp (pc := 1085) dL_law_1085 ?_
            refine s_if_eq (pc := 1086) (tgt := 1091) dL_law_1086 (by decide) (fun _ => ?_) (fun _ => ?_)
            · exact s_sub (pc := 1091) [2, 3, 4, 5, 6, 7] rfl (w_L_law_1091 (f_L_law_28 n) ih a0 a1 a2 a3 a4 a5 h130)
            · refine s_iconst (pc := 1089) (v := 0) dL_law_1089 (by decide) ?_
              exact s_nret (pc := 1090) dL_law_1090 rfl
        · refine s_iconst (pc := 1072) (v := 0) dL_law_1072 (by decide) ?_
          exact s_nret (pc := 1073) dL_law_1073 rfl
      refine zS_ite (fun hx => ?_) (fun hx14 => ?_)
      · refine s_tabIn (pc := 44) (tgt := 1094) (v := 14) dL_law_44 hx (by decide) (by decide) rfl (by decide) ?_
        refine s_aload_n (pc := 1094) 1 dL_law_1094 rfl rfl ?_
        refine s_aload_n (pc := 1095) 0 dL_law_1095 rfl rfl ?_
        refine s_iload (pc := 1096) 5 dL_law_1096 rfl ?_
        refine s_iconst (pc := 1098) (v := 1) dL_law_1098 (by decide) ?_
        refine s_iadd (pc := 1099) dL_law_1099 ?_
        refine s_iald (pc := 1100) dL_law_1100 (ztc rfl zt0) (fun x132 => ?_)
        refine s_if_eq (pc := 1101) (tgt := 1108) dL_law_1101 (by decide) (fun _ => ?_) (fun _ => ?_)
        · refine s_iconst (pc := 1108) (v := 0) dL_law_1108 (by decide) ?_
          exact s_sub (pc := 1109) [0, 1, 2, 3, 4, 5] rfl (w_L_law_1109 (f_L_law_28 n) ih a0 a1 a2 a3 a4 a5 0 a1 h)
        · refine s_iconst (pc := 1104) (v := 1) dL_law_1104 (by decide) ?_
          refine s_goto (pc := 1105) (tgt := 1109) dL_law_1105 (by decide) ?_
          exact s_sub (pc := 1109) [0, 1, 2, 3, 4, 5] rfl (w_L_law_1109 (f_L_law_28 n) ih a0 a1 a2 a3 a4 a5 1 a1 h)
      refine zS_ite (fun hx => ?_) (fun hx15 => ?_)
      · refine s_tabIn (pc := 44) (tgt := 1173) (v := 15) dL_law_44 hx (by decide) (by decide) rfl (by decide) ?_
        refine s_aload_n (pc := 1173) 1 dL_law_1173 rfl rfl ?_
        refine zS_ite (fun ht => ?_) (fun _ => zS_none)
        refine s_callV (pc := 1174) (np := 0) (as := []) (rest := []) dL_law_1174 ht (q := (RX1, TX1, 11)) rfl (c_X1_isGateOpen (by decide) a1 h) rfl rfl q1428 q1429 q1430 rfl (by decide) (zkI (fun x133 h134 => ?_)) zxo
        refine s_aload_n (pc := 1177) 2 dL_law_1177 rfl rfl ?_
        refine zS_ite (fun ht => ?_) (fun _ => zS_none)
        refine s_callV (pc := 1178) (np := 0) (as := []) (rest := [.int x133]) dL_law_1178 ht (q := (RX5, TX5, 20)) rfl (c_X5_isGateOpen (by decide) a2 h134) rfl rfl q3545 q3546 q3547 rfl (by simp [zcat_rf, zcat_i, zcat_l, zcat_f, zcat_d]) (zkI (fun x135 h136 => ?_)) zxo
        refine s_icmp_eq (pc := 1181) (tgt := 2811) dL_law_1181 (by decide) (fun _ => ?_) (fun _ => ?_)
        · exact s_sub (pc := 2811) [0, 1, 2, 3, 4, 5] rfl (w_L_law_2811 (f_L_law_28 n) ih a0 a1 a2 a3 a4 a5 h136)
        · refine s_iconst (pc := 1184) (v := 0) dL_law_1184 (by decide) ?_
          exact s_nret (pc := 1185) dL_law_1185 rfl
      refine zS_ite (fun hx => ?_) (fun hx16 => ?_)
      · refine s_tabIn (pc := 44) (tgt := 1186) (v := 16) dL_law_44 hx (by decide) (by decide) rfl (by decide) ?_
        refine s_aload_n (pc := 1186) 1 dL_law_1186 rfl rfl ?_
        refine s_aload_n (pc := 1187) 0 dL_law_1187 rfl rfl ?_
        refine s_iload (pc := 1188) 5 dL_law_1188 rfl ?_
        refine s_iconst (pc := 1190) (v := 1) dL_law_1190 (by decide) ?_
        refine s_iadd (pc := 1191) dL_law_1191 ?_
        refine s_iald (pc := 1192) dL_law_1192 (ztc rfl zt0) (fun x137 => ?_)
        refine s_aload_n (pc := 1193) 3 dL_law_1193 rfl rfl ?_
        refine s_callSS (pc := 1194) (np := 3) (as := [va_rf a1, .int x137, va_rf a3]) (rest := []) dL_law_1194 (c_X0_setPump (by decide) a1 x137 a3 h) rfl rfl q2632 q2633 rfl (by decide) (zkI (fun x138 h139 => ?_)) zxo
        refine s_ist (pc := 1197) (L2 := [(0, va_rf a0), (1, va_rf a1), (2, va_rf a2), (3, va_rf a3), (4, va_rf a4), (5, .int a5)]) [0, 1, 2, 3, 4, 5] dL_law_1197 (by decide) rfl rfl (zcB (j := 5) rfl rfl rfl) ?_
        refine s_aload_n (pc := 1199) 3 dL_law_1199 rfl rfl ?_
        refine s_aload_n (pc := 1200) 1 dL_law_1200 rfl rfl ?_
        refine s_iload (pc := 1201) 6 dL_law_1201 rfl ?_
        refine s_iconst (pc := 1203) (v := 1) dL_law_1203 (by decide) ?_
        refine s_iadd (pc := 1204) dL_law_1204 ?_
        refine s_iald (pc := 1205) dL_law_1205 (ztc rfl zt0) (fun x140 => ?_)
        refine zS_ite (fun ht => ?_) (fun _ => zS_none)
        refine s_callV (pc := 1206) (np := 1) (as := [.int x140]) (rest := []) dL_law_1206 ht (q := (RX5, TX5, 20)) rfl (c_X5_setPump (by decide) a2 x140 h139) rfl rfl q3444 q3445 q3446 rfl (by decide) (zkI (fun x141 h142 => ?_)) zxo
        refine s_ist (pc := 1209) (L2 := [(6, .int x138), (0, va_rf a0), (1, va_rf a1), (2, va_rf a2), (3, va_rf a3), (4, va_rf a4), (5, .int a5)]) [0, 1, 2, 3, 4, 5, 6] dL_law_1209 (by decide) rfl rfl (zcB (j := 0) rfl rfl rfl) ?_
        refine s_aload_n (pc := 1211) 4 dL_law_1211 rfl rfl ?_
        refine zS_ite (fun ht => ?_) (fun _ => zS_none)
        refine s_callV (pc := 1212) (np := 0) (as := []) (rest := []) dL_law_1212 ht (q := (RX5, TX5, 20)) rfl (c_X5_thrown (by decide) a2 h142) rfl rfl q3303 q3304 q3305 rfl (by decide) (zkI (fun x143 h144 => ?_)) zxo
        refine s_iload (pc := 1215) 1 dL_law_1215 rfl ?_
        refine s_icmp_eq (pc := 1217) (tgt := 1222) dL_law_1217 (by decide) (fun _ => ?_) (fun _ => ?_)
        · refine s_iload (pc := 1222) 1 dL_law_1222 rfl ?_
          refine s_if_ne (pc := 1224) (tgt := 1239) dL_law_1224 (by decide) (fun _ => ?_) (fun _ => ?_)
          · exact s_sub (pc := 1239) [2, 3, 4, 5, 6, 7] rfl (w_L_law_1239 (f_L_law_28 n) ih a0 a1 a2 a3 a4 a5 h144)
          · refine s_aload_n (pc := 1227) 5 dL_law_1227 rfl rfl ?_
            refine s_iconst (pc := 1228) (v := 0) dL_law_1228 (by decide) ?_
            refine s_lald (pc := 1229) dL_law_1229 (ztc rfl zt0) (fun x145 => ?_)
            refine s_iload (pc := 1230) 0 dL_law_1230 rfl ?_
            refine s_i2l (pc := 1232) dL_law_1232 ?_
            refine s_lcmp (pc := 1233) dL_law_1233 ?_
            refine s_if_eq (pc := 1234) (tgt := 1239) dL_law_1234 (by decide) (fun _ => ?_) (fun _ => ?_)
            · exact s_sub (pc := 1239) [2, 3, 4, 5, 6, 7] rfl (w_L_law_1239 (f_L_law_28 n) ih a0 a1 a2 a3 a4 a5 h144)
            · refine s_iconst (pc := 1237) (v := 0) dL_law_1237 (by decide) ?_
              exact s_nret (pc := 1238) dL_law_1238 rfl
        · refine s_iconst (pc := 1220) (v := 0) dL_law_1220 (by decide) ?_
          exact s_nret (pc := 1221) dL_law_1221 rfl
      refine zS_ite (fun hx => ?_) (fun hx17 => ?_)
      · refine s_tabIn (pc := 44) (tgt := 1242) (v := 17) dL_law_44 hx (by decide) (by decide) rfl (by decide) ?_
        refine s_aload_n (pc := 1242) 1 dL_law_1242 rfl rfl ?_
        refine zS_ite (fun ht => ?_) (fun _ => zS_none)
        refine s_callV (pc := 1243) (np := 0) (as := []) (rest := []) dL_law_1243 ht (q := (RX1, TX1, 11)) rfl (c_X1_level (by decide) a1 h) rfl rfl q1432 q1433 q1434 rfl (by decide) (zkI (fun x146 h147 => ?_)) zxo
        refine s_aload_n (pc := 1246) 2 dL_law_1246 rfl rfl ?_
        refine zS_ite (fun ht => ?_) (fun _ => zS_none)
        refine s_callV (pc := 1247) (np := 0) (as := []) (rest := [.int x146]) dL_law_1247 ht (q := (RX5, TX5, 20)) rfl (c_X5_level (by decide) a2 h147) rfl rfl q3549 q3550 q3551 rfl (by simp [zcat_rf, zcat_i, zcat_l, zcat_f, zcat_d]) (zkI (fun x148 h149 => ?_)) zxo
        refine s_icmp_eq (pc := 1250) (tgt := 2811) dL_law_1250 (by decide) (fun _ => ?_) (fun _ => ?_)
        · exact s_sub (pc := 2811) [0, 1, 2, 3, 4, 5] rfl (w_L_law_2811 (f_L_law_28 n) ih a0 a1 a2 a3 a4 a5 h149)
        · refine s_iconst (pc := 1253) (v := 0) dL_law_1253 (by decide) ?_
          exact s_nret (pc := 1254) dL_law_1254 rfl
      refine zS_ite (fun hx => ?_) (fun hx18 => ?_)
      · refine s_tabIn (pc := 44) (tgt := 1255) (v := 18) dL_law_44 hx (by decide) (by decide) rfl (by decide) ?_
        refine s_aload_n (pc := 1255) 1 dL_law_1255 rfl rfl ?_
        refine s_aload_n (pc := 1256) 0 dL_law_1256 rfl rfl ?_
        refine s_iload (pc := 1257) 5 dL_law_1257 rfl ?_
        refine s_iconst (pc := 1259) (v := 1) dL_law_1259 (by decide) ?_
        refine s_iadd (pc := 1260) dL_law_1260 ?_
        refine s_iald (pc := 1261) dL_law_1261 (ztc rfl zt0) (fun x150 => ?_)
        refine s_aload_n (pc := 1262) 3 dL_law_1262 rfl rfl ?_
        refine s_callSS (pc := 1263) (np := 3) (as := [va_rf a1, .int x150, va_rf a3]) (rest := []) dL_law_1263 (c_X0_seaLevel (by decide) a1 x150 a3 h) rfl rfl q2645 q2646 rfl (by decide) (zkI (fun x151 h152 => ?_)) zxo
        refine s_ist (pc := 1266) (L2 := [(0, va_rf a0), (1, va_rf a1), (2, va_rf a2), (3, va_rf a3), (4, va_rf a4), (5, .int a5)]) [0, 1, 2, 3, 4, 5] dL_law_1266 (by decide) rfl rfl (zcB (j := 5) rfl rfl rfl) ?_
        refine s_aload_n (pc := 1268) 3 dL_law_1268 rfl rfl ?_
        refine s_aload_n (pc := 1269) 1 dL_law_1269 rfl rfl ?_
        refine s_iload (pc := 1270) 6 dL_law_1270 rfl ?_
        refine s_iconst (pc := 1272) (v := 1) dL_law_1272 (by decide) ?_
        refine s_iadd (pc := 1273) dL_law_1273 ?_
        refine s_iald (pc := 1274) dL_law_1274 (ztc rfl zt0) (fun x153 => ?_)
        refine zS_ite (fun ht => ?_) (fun _ => zS_none)
        refine s_callV (pc := 1275) (np := 1) (as := [.int x153]) (rest := []) dL_law_1275 ht (q := (RX5, TX5, 20)) rfl (c_X5_seaLevel (by decide) a2 x153 h152) rfl rfl q3553 q3554 q3555 rfl (by decide) (zkI (fun x154 h155 => ?_)) zxo
        refine s_ist (pc := 1278) (L2 := [(6, .int x151), (0, va_rf a0), (1, va_rf a1), (2, va_rf a2), (3, va_rf a3), (4, va_rf a4), (5, .int a5)]) [0, 1, 2, 3, 4, 5, 6] dL_law_1278 (by decide) rfl rfl (zcB (j := 0) rfl rfl rfl) ?_
        refine s_aload_n (pc := 1280) 4 dL_law_1280 rfl rfl ?_
        refine zS_ite (fun ht => ?_) (fun _ => zS_none)
        refine s_callV (pc := 1281) (np := 0) (as := []) (rest := []) dL_law_1281 ht (q := (RX5, TX5, 20)) rfl (c_X5_thrown (by decide) a2 h155) rfl rfl q3303 q3304 q3305 rfl (by decide) (zkI (fun x156 h157 => ?_)) zxo
        refine s_iload (pc := 1284) 1 dL_law_1284 rfl ?_
        refine s_icmp_eq (pc := 1286) (tgt := 1291) dL_law_1286 (by decide) (fun _ => ?_) (fun _ => ?_)
        · refine s_iload (pc := 1291) 1 dL_law_1291 rfl ?_
          refine s_if_ne (pc := 1293) (tgt := 1308) dL_law_1293 (by decide) (fun _ => ?_) (fun _ => ?_)
          · exact s_sub (pc := 1308) [2, 3, 4, 5, 6, 7] rfl (w_L_law_1308 (f_L_law_28 n) ih a0 a1 a2 a3 a4 a5 h157)
          · refine s_aload_n (pc := 1296) 5 dL_law_1296 rfl rfl ?_
            refine s_iconst (pc := 1297) (v := 0) dL_law_1297 (by decide) ?_
            refine s_lald (pc := 1298) dL_law_1298 (ztc rfl zt0) (fun x158 => ?_)
            refine s_iload (pc := 1299) 0 dL_law_1299 rfl ?_
            refine s_i2l (pc := 1301) dL_law_1301 ?_
            refine s_lcmp (pc := 1302) dL_law_1302 ?_
            refine s_if_eq (pc := 1303) (tgt := 1308) dL_law_1303 (by decide) (fun _ => ?_) (fun _ => ?_)
            · exact s_sub (pc := 1308) [2, 3, 4, 5, 6, 7] rfl (w_L_law_1308 (f_L_law_28 n) ih a0 a1 a2 a3 a4 a5 h157)
            · refine s_iconst (pc := 1306) (v := 0) dL_law_1306 (by decide) ?_
              exact s_nret (pc := 1307) dL_law_1307 rfl
        · refine s_iconst (pc := 1289) (v := 0) dL_law_1289 (by decide) ?_
          exact s_nret (pc := 1290) dL_law_1290 rfl
      refine zS_ite (fun hx => ?_) (fun hx19 => ?_)
      · refine s_tabIn (pc := 44) (tgt := 1311) (v := 19) dL_law_44 hx (by decide) (by decide) rfl (by decide) ?_
        refine s_aload_n (pc := 1311) 1 dL_law_1311 rfl rfl ?_
        refine s_aload_n (pc := 1312) 0 dL_law_1312 rfl rfl ?_
        refine s_iload (pc := 1313) 5 dL_law_1313 rfl ?_
        refine s_iconst (pc := 1315) (v := 1) dL_law_1315 (by decide) ?_
        refine s_iadd (pc := 1316) dL_law_1316 ?_
        refine s_iald (pc := 1317) dL_law_1317 (ztc rfl zt0) (fun x159 => ?_)
        refine s_aload_n (pc := 1318) 3 dL_law_1318 rfl rfl ?_
        refine s_callSS (pc := 1319) (np := 3) (as := [va_rf a1, .int x159, va_rf a3]) (rest := []) dL_law_1319 (c_X0_seaLevelByHours (by decide) a1 x159 a3 h) rfl rfl q2654 q2655 rfl (by decide) (zkI (fun x160 h161 => ?_)) zxo
        refine s_ist (pc := 1322) (L2 := [(0, va_rf a0), (1, va_rf a1), (2, va_rf a2), (3, va_rf a3), (4, va_rf a4), (5, .int a5)]) [0, 1, 2, 3, 4, 5] dL_law_1322 (by decide) rfl rfl (zcB (j := 5) rfl rfl rfl) ?_
        refine s_aload_n (pc := 1324) 3 dL_law_1324 rfl rfl ?_
        refine s_aload_n (pc := 1325) 1 dL_law_1325 rfl rfl ?_
        refine s_iload (pc := 1326) 6 dL_law_1326 rfl ?_
        refine s_iconst (pc := 1328) (v := 1) dL_law_1328 (by decide) ?_
        refine s_iadd (pc := 1329) dL_law_1329 ?_
        refine s_iald (pc := 1330) dL_law_1330 (ztc rfl zt0) (fun x162 => ?_)
        refine zS_ite (fun ht => ?_) (fun _ => zS_none)
        refine s_callV (pc := 1331) (np := 1) (as := [.int x162]) (rest := []) dL_law_1331 ht (q := (RX5, TX5, 20)) rfl (c_X5_seaLevelByHours (by decide) a2 x162 h161) rfl rfl q3561 q3562 q3563 rfl (by decide) (zkI (fun x163 h164 => ?_)) zxo
        refine s_ist (pc := 1334) (L2 := [(6, .int x160), (0, va_rf a0), (1, va_rf a1), (2, va_rf a2), (3, va_rf a3), (4, va_rf a4), (5, .int a5)]) [0, 1, 2, 3, 4, 5, 6] dL_law_1334 (by decide) rfl rfl (zcB (j := 0) rfl rfl rfl) ?_
        refine s_aload_n (pc := 1336) 4 dL_law_1336 rfl rfl ?_
        refine zS_ite (fun ht => ?_) (fun _ => zS_none)
        refine s_callV (pc := 1337) (np := 0) (as := []) (rest := []) dL_law_1337 ht (q := (RX5, TX5, 20)) rfl (c_X5_thrown (by decide) a2 h164) rfl rfl q3303 q3304 q3305 rfl (by decide) (zkI (fun x165 h166 => ?_)) zxo
        refine s_iload (pc := 1340) 1 dL_law_1340 rfl ?_
        refine s_icmp_eq (pc := 1342) (tgt := 1347) dL_law_1342 (by decide) (fun _ => ?_) (fun _ => ?_)
        · refine s_iload (pc := 1347) 1 dL_law_1347 rfl ?_
          refine s_if_ne (pc := 1349) (tgt := 1364) dL_law_1349 (by decide) (fun _ => ?_) (fun _ => ?_)
          · exact s_sub (pc := 1364) [2, 3, 4, 5, 6, 7] rfl (w_L_law_1364 (f_L_law_28 n) ih a0 a1 a2 a3 a4 a5 h166)
          · refine s_aload_n (pc := 1352) 5 dL_law_1352 rfl rfl ?_
            refine s_iconst (pc := 1353) (v := 0) dL_law_1353 (by decide) ?_
            refine s_lald (pc := 1354) dL_law_1354 (ztc rfl zt0) (fun x167 => ?_)
            refine s_iload (pc := 1355) 0 dL_law_1355 rfl ?_
            refine s_i2l (pc := 1357) dL_law_1357 ?_
            refine s_lcmp (pc := 1358) dL_law_1358 ?_
            refine s_if_eq (pc := 1359) (tgt := 1364) dL_law_1359 (by decide) (fun _ => ?_) (fun _ => ?_)
            · exact s_sub (pc := 1364) [2, 3, 4, 5, 6, 7] rfl (w_L_law_1364 (f_L_law_28 n) ih a0 a1 a2 a3 a4 a5 h166)
            · refine s_iconst (pc := 1362) (v := 0) dL_law_1362 (by decide) ?_
              exact s_nret (pc := 1363) dL_law_1363 rfl
        · refine s_iconst (pc := 1345) (v := 0) dL_law_1345 (by decide) ?_
          exact s_nret (pc := 1346) dL_law_1346 rfl
      refine zS_ite (fun hx => ?_) (fun hx20 => ?_)
      · refine s_tabIn (pc := 44) (tgt := 1367) (v := 20) dL_law_44 hx (by decide) (by decide) rfl (by decide) ?_
        refine s_aload_n (pc := 1367) 1 dL_law_1367 rfl rfl ?_
        refine s_aload_n (pc := 1368) 0 dL_law_1368 rfl rfl ?_
        refine s_iload (pc := 1369) 5 dL_law_1369 rfl ?_
        refine s_iconst (pc := 1371) (v := 1) dL_law_1371 (by decide) ?_
        refine s_iadd (pc := 1372) dL_law_1372 ?_
        refine s_iald (pc := 1373) dL_law_1373 (ztc rfl zt0) (fun x168 => ?_)
        refine s_aload_n (pc := 1374) 3 dL_law_1374 rfl rfl ?_
        refine s_callSS (pc := 1375) (np := 3) (as := [va_rf a1, .int x168, va_rf a3]) (rest := []) dL_law_1375 (c_X0_pass (by decide) a1 x168 a3 h) rfl rfl q2662 q2663 rfl (by decide) (zkI (fun x169 h170 => ?_)) zxo
        refine s_ist (pc := 1378) (L2 := [(0, va_rf a0), (1, va_rf a1), (2, va_rf a2), (3, va_rf a3), (4, va_rf a4), (5, .int a5)]) [0, 1, 2, 3, 4, 5] dL_law_1378 (by decide) rfl rfl (zcB (j := 5) rfl rfl rfl) ?_
        refine s_aload_n (pc := 1380) 3 dL_law_1380 rfl rfl ?_
        refine s_aload_n (pc := 1381) 1 dL_law_1381 rfl rfl ?_
        refine s_iload (pc := 1382) 6 dL_law_1382 rfl ?_
        refine s_iconst (pc := 1384) (v := 1) dL_law_1384 (by decide) ?_
        refine s_iadd (pc := 1385) dL_law_1385 ?_
        refine s_iald (pc := 1386) dL_law_1386 (ztc rfl zt0) (fun x171 => ?_)
        refine zS_ite (fun ht => ?_) (fun _ => zS_none)
        refine s_callV (pc := 1387) (np := 1) (as := [.int x171]) (rest := []) dL_law_1387 ht (q := (RX5, TX5, 20)) rfl (c_X5_pass (by decide) a2 x171 h170) rfl rfl q3476 q3477 q3478 rfl (by decide) (zkI (fun x172 h173 => ?_)) zxo
        refine s_ist (pc := 1390) (L2 := [(6, .int x169), (0, va_rf a0), (1, va_rf a1), (2, va_rf a2), (3, va_rf a3), (4, va_rf a4), (5, .int a5)]) [0, 1, 2, 3, 4, 5, 6] dL_law_1390 (by decide) rfl rfl (zcB (j := 0) rfl rfl rfl) ?_
        refine s_aload_n (pc := 1392) 4 dL_law_1392 rfl rfl ?_
        refine zS_ite (fun ht => ?_) (fun _ => zS_none)
        refine s_callV (pc := 1393) (np := 0) (as := []) (rest := []) dL_law_1393 ht (q := (RX5, TX5, 20)) rfl (c_X5_thrown (by decide) a2 h173) rfl rfl q3303 q3304 q3305 rfl (by decide) (zkI (fun x174 h175 => ?_)) zxo
        refine s_iload (pc := 1396) 1 dL_law_1396 rfl ?_
        refine s_icmp_eq (pc := 1398) (tgt := 1403) dL_law_1398 (by decide) (fun _ => ?_) (fun _ => ?_)
        · refine s_iload (pc := 1403) 1 dL_law_1403 rfl ?_
          refine s_if_ne (pc := 1405) (tgt := 1420) dL_law_1405 (by decide) (fun _ => ?_) (fun _ => ?_)
          · exact s_sub (pc := 1420) [2, 3, 4, 5, 6, 7] rfl (w_L_law_1420 (f_L_law_28 n) ih a0 a1 a2 a3 a4 a5 h175)
          · refine s_aload_n (pc := 1408) 5 dL_law_1408 rfl rfl ?_
            refine s_iconst (pc := 1409) (v := 0) dL_law_1409 (by decide) ?_
            refine s_lald (pc := 1410) dL_law_1410 (ztc rfl zt0) (fun x176 => ?_)
            refine s_iload (pc := 1411) 0 dL_law_1411 rfl ?_
            refine s_i2l (pc := 1413) dL_law_1413 ?_
            refine s_lcmp (pc := 1414) dL_law_1414 ?_
            refine s_if_eq (pc := 1415) (tgt := 1420) dL_law_1415 (by decide) (fun _ => ?_) (fun _ => ?_)
            · exact s_sub (pc := 1420) [2, 3, 4, 5, 6, 7] rfl (w_L_law_1420 (f_L_law_28 n) ih a0 a1 a2 a3 a4 a5 h175)
            · refine s_iconst (pc := 1418) (v := 0) dL_law_1418 (by decide) ?_
              exact s_nret (pc := 1419) dL_law_1419 rfl
        · refine s_iconst (pc := 1401) (v := 0) dL_law_1401 (by decide) ?_
          exact s_nret (pc := 1402) dL_law_1402 rfl
      refine zS_ite (fun hx => ?_) (fun hx21 => ?_)
      · refine s_tabIn (pc := 44) (tgt := 1423) (v := 21) dL_law_44 hx (by decide) (by decide) rfl (by decide) ?_
        refine s_aload_n (pc := 1423) 1 dL_law_1423 rfl rfl ?_
        refine zS_ite (fun ht => ?_) (fun _ => zS_none)
        refine s_callV (pc := 1424) (np := 0) (as := []) (rest := []) dL_law_1424 ht (q := (RX1, TX1, 11)) rfl (c_X1_hour (by decide) a1 h) rfl rfl q1436 q1437 q1438 rfl (by decide) (zkI (fun x177 h178 => ?_)) zxo
        refine s_aload_n (pc := 1427) 2 dL_law_1427 rfl rfl ?_
        refine zS_ite (fun ht => ?_) (fun _ => zS_none)
        refine s_callV (pc := 1428) (np := 0) (as := []) (rest := [.int x177]) dL_law_1428 ht (q := (RX5, TX5, 20)) rfl (c_X5_hour (by decide) a2 h178) rfl rfl q3565 q3566 q3567 rfl (by simp [zcat_rf, zcat_i, zcat_l, zcat_f, zcat_d]) (zkI (fun x179 h180 => ?_)) zxo
        refine s_icmp_eq (pc := 1431) (tgt := 2811) dL_law_1431 (by decide) (fun _ => ?_) (fun _ => ?_)
        · exact s_sub (pc := 2811) [0, 1, 2, 3, 4, 5] rfl (w_L_law_2811 (f_L_law_28 n) ih a0 a1 a2 a3 a4 a5 h180)
        · refine s_iconst (pc := 1434) (v := 0) dL_law_1434 (by decide) ?_
          exact s_nret (pc := 1435) dL_law_1435 rfl
      refine zS_ite (fun hx => ?_) (fun hx22 => ?_)
      · refine s_tabIn (pc := 44) (tgt := 1436) (v := 22) dL_law_44 hx (by decide) (by decide) rfl (by decide) ?_
        refine s_aload_n (pc := 1436) 1 dL_law_1436 rfl rfl ?_
        refine s_aload_n (pc := 1437) 0 dL_law_1437 rfl rfl ?_
        refine s_iload (pc := 1438) 5 dL_law_1438 rfl ?_
        refine s_iconst (pc := 1440) (v := 1) dL_law_1440 (by decide) ?_
        refine s_iadd (pc := 1441) dL_law_1441 ?_
        refine s_iald (pc := 1442) dL_law_1442 (ztc rfl zt0) (fun x181 => ?_)
        refine s_aload_n (pc := 1443) 3 dL_law_1443 rfl rfl ?_
        refine s_callSS (pc := 1444) (np := 3) (as := [va_rf a1, .int x181, va_rf a3]) (rest := []) dL_law_1444 (c_X0_levelAfter (by decide) a1 x181 a3 h) rfl rfl q2696 q2697 rfl (by decide) (zkI (fun x182 h183 => ?_)) zxo
        refine s_ist (pc := 1447) (L2 := [(0, va_rf a0), (1, va_rf a1), (2, va_rf a2), (3, va_rf a3), (4, va_rf a4), (5, .int a5)]) [0, 1, 2, 3, 4, 5] dL_law_1447 (by decide) rfl rfl (zcB (j := 5) rfl rfl rfl) ?_
        refine s_aload_n (pc := 1449) 3 dL_law_1449 rfl rfl ?_
        refine s_aload_n (pc := 1450) 1 dL_law_1450 rfl rfl ?_
        refine s_iload (pc := 1451) 6 dL_law_1451 rfl ?_
        refine s_iconst (pc := 1453) (v := 1) dL_law_1453 (by decide) ?_
        refine s_iadd (pc := 1454) dL_law_1454 ?_
        refine s_iald (pc := 1455) dL_law_1455 (ztc rfl zt0) (fun x184 => ?_)
        refine zS_ite (fun ht => ?_) (fun _ => zS_none)
        refine s_callV (pc := 1456) (np := 1) (as := [.int x184]) (rest := []) dL_law_1456 ht (q := (RX5, TX5, 20)) rfl (c_X5_levelAfter (by decide) a2 x184 h183) rfl rfl q3569 q3570 q3571 rfl (by decide) (zkI (fun x185 h186 => ?_)) zxo
        refine s_ist (pc := 1459) (L2 := [(6, .int x182), (0, va_rf a0), (1, va_rf a1), (2, va_rf a2), (3, va_rf a3), (4, va_rf a4), (5, .int a5)]) [0, 1, 2, 3, 4, 5, 6] dL_law_1459 (by decide) rfl rfl (zcB (j := 0) rfl rfl rfl) ?_
        refine s_aload_n (pc := 1461) 4 dL_law_1461 rfl rfl ?_
        refine zS_ite (fun ht => ?_) (fun _ => zS_none)
        refine s_callV (pc := 1462) (np := 0) (as := []) (rest := []) dL_law_1462 ht (q := (RX5, TX5, 20)) rfl (c_X5_thrown (by decide) a2 h186) rfl rfl q3303 q3304 q3305 rfl (by decide) (zkI (fun x187 h188 => ?_)) zxo
        refine s_iload (pc := 1465) 1 dL_law_1465 rfl ?_
        refine s_icmp_eq (pc := 1467) (tgt := 1472) dL_law_1467 (by decide) (fun _ => ?_) (fun _ => ?_)
        · refine s_iload (pc := 1472) 1 dL_law_1472 rfl ?_
          refine s_if_ne (pc := 1474) (tgt := 1489) dL_law_1474 (by decide) (fun _ => ?_) (fun _ => ?_)
          · exact s_sub (pc := 1489) [2, 3, 4, 5, 6, 7] rfl (w_L_law_1489 (f_L_law_28 n) ih a0 a1 a2 a3 a4 a5 h188)
          · refine s_aload_n (pc := 1477) 5 dL_law_1477 rfl rfl ?_
            refine s_iconst (pc := 1478) (v := 0) dL_law_1478 (by decide) ?_
            refine s_lald (pc := 1479) dL_law_1479 (ztc rfl zt0) (fun x189 => ?_)
            refine s_iload (pc := 1480) 0 dL_law_1480 rfl ?_
            refine s_i2l (pc := 1482) dL_law_1482 ?_
            refine s_lcmp (pc := 1483) dL_law_1483 ?_
            refine s_if_eq (pc := 1484) (tgt := 1489) dL_law_1484 (by decide) (fun _ => ?_) (fun _ => ?_)
            · exact s_sub (pc := 1489) [2, 3, 4, 5, 6, 7] rfl (w_L_law_1489 (f_L_law_28 n) ih a0 a1 a2 a3 a4 a5 h188)
            · refine s_iconst (pc := 1487) (v := 0) dL_law_1487 (by decide) ?_
              exact s_nret (pc := 1488) dL_law_1488 rfl
        · refine s_iconst (pc := 1470) (v := 0) dL_law_1470 (by decide) ?_
          exact s_nret (pc := 1471) dL_law_1471 rfl
      refine zS_ite (fun hx => ?_) (fun hx23 => ?_)
      · refine s_tabIn (pc := 44) (tgt := 1492) (v := 23) dL_law_44 hx (by decide) (by decide) rfl (by decide) ?_
        refine s_aload_n (pc := 1492) 1 dL_law_1492 rfl rfl ?_
        refine s_aload_n (pc := 1493) 0 dL_law_1493 rfl rfl ?_
        refine s_iload (pc := 1494) 5 dL_law_1494 rfl ?_
        refine s_iconst (pc := 1496) (v := 1) dL_law_1496 (by decide) ?_
        refine s_iadd (pc := 1497) dL_law_1497 ?_
        refine s_iald (pc := 1498) dL_law_1498 (ztc rfl zt0) (fun x190 => ?_)
        refine s_aload_n (pc := 1499) 3 dL_law_1499 rfl rfl ?_
        refine s_callSS (pc := 1500) (np := 3) (as := [va_rf a1, .int x190, va_rf a3]) (rest := []) dL_law_1500 (c_X0_hoursUntilAfloat (by decide) a1 x190 a3 h) rfl rfl q2709 q2710 rfl (by decide) (zkI (fun x191 h192 => ?_)) zxo
        refine s_ist (pc := 1503) (L2 := [(0, va_rf a0), (1, va_rf a1), (2, va_rf a2), (3, va_rf a3), (4, va_rf a4), (5, .int a5)]) [0, 1, 2, 3, 4, 5] dL_law_1503 (by decide) rfl rfl (zcB (j := 5) rfl rfl rfl) ?_
        refine s_aload_n (pc := 1505) 3 dL_law_1505 rfl rfl ?_
        refine s_aload_n (pc := 1506) 1 dL_law_1506 rfl rfl ?_
        refine s_iload (pc := 1507) 6 dL_law_1507 rfl ?_
        refine s_iconst (pc := 1509) (v := 1) dL_law_1509 (by decide) ?_
        refine s_iadd (pc := 1510) dL_law_1510 ?_
        refine s_iald (pc := 1511) dL_law_1511 (ztc rfl zt0) (fun x193 => ?_)
        refine zS_ite (fun ht => ?_) (fun _ => zS_none)
        refine s_callV (pc := 1512) (np := 1) (as := [.int x193]) (rest := []) dL_law_1512 ht (q := (RX5, TX5, 20)) rfl (c_X5_hoursUntilAfloat (by decide) a2 x193 h192) rfl rfl q3573 q3574 q3575 rfl (by decide) (zkI (fun x194 h195 => ?_)) zxo
        refine s_ist (pc := 1515) (L2 := [(6, .int x191), (0, va_rf a0), (1, va_rf a1), (2, va_rf a2), (3, va_rf a3), (4, va_rf a4), (5, .int a5)]) [0, 1, 2, 3, 4, 5, 6] dL_law_1515 (by decide) rfl rfl (zcB (j := 0) rfl rfl rfl) ?_
        refine s_aload_n (pc := 1517) 4 dL_law_1517 rfl rfl ?_
        refine zS_ite (fun ht => ?_) (fun _ => zS_none)
        refine s_callV (pc := 1518) (np := 0) (as := []) (rest := []) dL_law_1518 ht (q := (RX5, TX5, 20)) rfl (c_X5_thrown (by decide) a2 h195) rfl rfl q3303 q3304 q3305 rfl (by decide) (zkI (fun x196 h197 => ?_)) zxo
        refine s_iload (pc := 1521) 1 dL_law_1521 rfl ?_
        refine s_icmp_eq (pc := 1523) (tgt := 1528) dL_law_1523 (by decide) (fun _ => ?_) (fun _ => ?_)
        · refine s_iload (pc := 1528) 1 dL_law_1528 rfl ?_
          refine s_if_ne (pc := 1530) (tgt := 1545) dL_law_1530 (by decide) (fun _ => ?_) (fun _ => ?_)
          · exact s_sub (pc := 1545) [2, 3, 4, 5, 6, 7] rfl (w_L_law_1545 (f_L_law_28 n) ih a0 a1 a2 a3 a4 a5 h197)
          · refine s_aload_n (pc := 1533) 5 dL_law_1533 rfl rfl ?_
            refine s_iconst (pc := 1534) (v := 0) dL_law_1534 (by decide) ?_
            refine s_lald (pc := 1535) dL_law_1535 (ztc rfl zt0) (fun x198 => ?_)
            refine s_iload (pc := 1536) 0 dL_law_1536 rfl ?_
            refine s_i2l (pc := 1538) dL_law_1538 ?_
            refine s_lcmp (pc := 1539) dL_law_1539 ?_
            refine s_if_eq (pc := 1540) (tgt := 1545) dL_law_1540 (by decide) (fun _ => ?_) (fun _ => ?_)
            · exact s_sub (pc := 1545) [2, 3, 4, 5, 6, 7] rfl (w_L_law_1545 (f_L_law_28 n) ih a0 a1 a2 a3 a4 a5 h197)
            · refine s_iconst (pc := 1543) (v := 0) dL_law_1543 (by decide) ?_
              exact s_nret (pc := 1544) dL_law_1544 rfl
        · refine s_iconst (pc := 1526) (v := 0) dL_law_1526 (by decide) ?_
          exact s_nret (pc := 1527) dL_law_1527 rfl
      refine zS_ite (fun hx => ?_) (fun hx24 => ?_)
      · refine s_tabIn (pc := 44) (tgt := 1548) (v := 24) dL_law_44 hx (by decide) (by decide) rfl (by decide) ?_
        refine s_aload_n (pc := 1548) 1 dL_law_1548 rfl rfl ?_
        refine s_aload_n (pc := 1549) 0 dL_law_1549 rfl rfl ?_
        refine s_iload (pc := 1550) 5 dL_law_1550 rfl ?_
        refine s_iconst (pc := 1552) (v := 1) dL_law_1552 (by decide) ?_
        refine s_iadd (pc := 1553) dL_law_1553 ?_
        refine s_iald (pc := 1554) dL_law_1554 (ztc rfl zt0) (fun x199 => ?_)
        refine s_aload_n (pc := 1555) 3 dL_law_1555 rfl rfl ?_
        refine s_callSS (pc := 1556) (np := 3) (as := [va_rf a1, .int x199, va_rf a3]) (rest := []) dL_law_1556 (c_X0_placeBlock (by decide) a1 x199 a3 h) rfl rfl q2722 q2723 rfl (by decide) (zkI (fun x200 h201 => ?_)) zxo
        refine s_ist (pc := 1559) (L2 := [(0, va_rf a0), (1, va_rf a1), (2, va_rf a2), (3, va_rf a3), (4, va_rf a4), (5, .int a5)]) [0, 1, 2, 3, 4, 5] dL_law_1559 (by decide) rfl rfl (zcB (j := 5) rfl rfl rfl) ?_
        refine s_aload_n (pc := 1561) 3 dL_law_1561 rfl rfl ?_
        refine s_aload_n (pc := 1562) 1 dL_law_1562 rfl rfl ?_
        refine s_iload (pc := 1563) 6 dL_law_1563 rfl ?_
        refine s_iconst (pc := 1565) (v := 1) dL_law_1565 (by decide) ?_
        refine s_iadd (pc := 1566) dL_law_1566 ?_
        refine s_iald (pc := 1567) dL_law_1567 (ztc rfl zt0) (fun x202 => ?_)
        refine zS_ite (fun ht => ?_) (fun _ => zS_none)
        refine s_callV (pc := 1568) (np := 1) (as := [.int x202]) (rest := []) dL_law_1568 ht (q := (RX5, TX5, 20)) rfl (c_X5_placeBlock (by decide) a2 x202 h201) rfl rfl q3452 q3453 q3454 rfl (by decide) (zkI (fun x203 h204 => ?_)) zxo
        refine s_ist (pc := 1571) (L2 := [(6, .int x200), (0, va_rf a0), (1, va_rf a1), (2, va_rf a2), (3, va_rf a3), (4, va_rf a4), (5, .int a5)]) [0, 1, 2, 3, 4, 5, 6] dL_law_1571 (by decide) rfl rfl (zcB (j := 0) rfl rfl rfl) ?_
        refine s_aload_n (pc := 1573) 4 dL_law_1573 rfl rfl ?_
        refine zS_ite (fun ht => ?_) (fun _ => zS_none)
        refine s_callV (pc := 1574) (np := 0) (as := []) (rest := []) dL_law_1574 ht (q := (RX5, TX5, 20)) rfl (c_X5_thrown (by decide) a2 h204) rfl rfl q3303 q3304 q3305 rfl (by decide) (zkI (fun x205 h206 => ?_)) zxo
        refine s_iload (pc := 1577) 1 dL_law_1577 rfl ?_
        refine s_icmp_eq (pc := 1579) (tgt := 1584) dL_law_1579 (by decide) (fun _ => ?_) (fun _ => ?_)
        · refine s_iload (pc := 1584) 1 dL_law_1584 rfl ?_
          refine s_if_ne (pc := 1586) (tgt := 1601) dL_law_1586 (by decide) (fun _ => ?_) (fun _ => ?_)
          · exact s_sub (pc := 1601) [2, 3, 4, 5, 6, 7] rfl (w_L_law_1601 (f_L_law_28 n) ih a0 a1 a2 a3 a4 a5 h206)
          · refine s_aload_n (pc := 1589) 5 dL_law_1589 rfl rfl ?_
            refine s_iconst (pc := 1590) (v := 0) dL_law_1590 (by decide) ?_
            refine s_lald (pc := 1591) dL_law_1591 (ztc rfl zt0) (fun x207 => ?_)
            refine s_iload (pc := 1592) 0 dL_law_1592 rfl ?_
            refine s_i2l (pc := 1594) dL_law_1594 ?_
            refine s_lcmp (pc := 1595) dL_law_1595 ?_
            refine s_if_eq (pc := 1596) (tgt := 1601) dL_law_1596 (by decide) (fun _ => ?_) (fun _ => ?_)
            · exact s_sub (pc := 1601) [2, 3, 4, 5, 6, 7] rfl (w_L_law_1601 (f_L_law_28 n) ih a0 a1 a2 a3 a4 a5 h206)
            · refine s_iconst (pc := 1599) (v := 0) dL_law_1599 (by decide) ?_
              exact s_nret (pc := 1600) dL_law_1600 rfl
        · refine s_iconst (pc := 1582) (v := 0) dL_law_1582 (by decide) ?_
          exact s_nret (pc := 1583) dL_law_1583 rfl
      refine zS_ite (fun hx => ?_) (fun hx25 => ?_)
      · refine s_tabIn (pc := 44) (tgt := 1604) (v := 25) dL_law_44 hx (by decide) (by decide) rfl (by decide) ?_
        refine s_aload_n (pc := 1604) 1 dL_law_1604 rfl rfl ?_
        refine s_aload_n (pc := 1605) 0 dL_law_1605 rfl rfl ?_
        refine s_iload (pc := 1606) 5 dL_law_1606 rfl ?_
        refine s_iconst (pc := 1608) (v := 1) dL_law_1608 (by decide) ?_
        refine s_iadd (pc := 1609) dL_law_1609 ?_
        refine s_iald (pc := 1610) dL_law_1610 (ztc rfl zt0) (fun x208 => ?_)
        refine s_aload_n (pc := 1611) 3 dL_law_1611 rfl rfl ?_
        refine s_callSS (pc := 1612) (np := 3) (as := [va_rf a1, .int x208, va_rf a3]) (rest := []) dL_law_1612 (c_X0_removeBlock (by decide) a1 x208 a3 h) rfl rfl q2747 q2748 rfl (by decide) (zkI (fun x209 h210 => ?_)) zxo
        refine s_ist (pc := 1615) (L2 := [(0, va_rf a0), (1, va_rf a1), (2, va_rf a2), (3, va_rf a3), (4, va_rf a4), (5, .int a5)]) [0, 1, 2, 3, 4, 5] dL_law_1615 (by decide) rfl rfl (zcB (j := 5) rfl rfl rfl) ?_
        refine s_aload_n (pc := 1617) 3 dL_law_1617 rfl rfl ?_
        refine s_aload_n (pc := 1618) 1 dL_law_1618 rfl rfl ?_
        refine s_iload (pc := 1619) 6 dL_law_1619 rfl ?_
        refine s_iconst (pc := 1621) (v := 1) dL_law_1621 (by decide) ?_
        refine s_iadd (pc := 1622) dL_law_1622 ?_
        refine s_iald (pc := 1623) dL_law_1623 (ztc rfl zt0) (fun x211 => ?_)
        refine zS_ite (fun ht => ?_) (fun _ => zS_none)
        refine s_callV (pc := 1624) (np := 1) (as := [.int x211]) (rest := []) dL_law_1624 ht (q := (RX5, TX5, 20)) rfl (c_X5_removeBlock (by decide) a2 x211 h210) rfl rfl q3468 q3469 q3470 rfl (by decide) (zkI (fun x212 h213 => ?_)) zxo
        refine s_ist (pc := 1627) (L2 := [(6, .int x209), (0, va_rf a0), (1, va_rf a1), (2, va_rf a2), (3, va_rf a3), (4, va_rf a4), (5, .int a5)]) [0, 1, 2, 3, 4, 5, 6] dL_law_1627 (by decide) rfl rfl (zcB (j := 0) rfl rfl rfl) ?_
        refine s_aload_n (pc := 1629) 4 dL_law_1629 rfl rfl ?_
        refine zS_ite (fun ht => ?_) (fun _ => zS_none)
        refine s_callV (pc := 1630) (np := 0) (as := []) (rest := []) dL_law_1630 ht (q := (RX5, TX5, 20)) rfl (c_X5_thrown (by decide) a2 h213) rfl rfl q3303 q3304 q3305 rfl (by decide) (zkI (fun x214 h215 => ?_)) zxo
        refine s_iload (pc := 1633) 1 dL_law_1633 rfl ?_
        refine s_icmp_eq (pc := 1635) (tgt := 1640) dL_law_1635 (by decide) (fun _ => ?_) (fun _ => ?_)
        · refine s_iload (pc := 1640) 1 dL_law_1640 rfl ?_
          refine s_if_ne (pc := 1642) (tgt := 1657) dL_law_1642 (by decide) (fun _ => ?_) (fun _ => ?_)
          · exact s_sub (pc := 1657) [2, 3, 4, 5, 6, 7] rfl (w_L_law_1657 (f_L_law_28 n) ih a0 a1 a2 a3 a4 a5 h215)
          · refine s_aload_n (pc := 1645) 5 dL_law_1645 rfl rfl ?_
            refine s_iconst (pc := 1646) (v := 0) dL_law_1646 (by decide) ?_
            refine s_lald (pc := 1647) dL_law_1647 (ztc rfl zt0) (fun x216 => ?_)
            refine s_iload (pc := 1648) 0 dL_law_1648 rfl ?_
            refine s_i2l (pc := 1650) dL_law_1650 ?_
            refine s_lcmp (pc := 1651) dL_law_1651 ?_
            refine s_if_eq (pc := 1652) (tgt := 1657) dL_law_1652 (by decide) (fun _ => ?_) (fun _ => ?_)
            · exact s_sub (pc := 1657) [2, 3, 4, 5, 6, 7] rfl (w_L_law_1657 (f_L_law_28 n) ih a0 a1 a2 a3 a4 a5 h215)
            · refine s_iconst (pc := 1655) (v := 0) dL_law_1655 (by decide) ?_
              exact s_nret (pc := 1656) dL_law_1656 rfl
        · refine s_iconst (pc := 1638) (v := 0) dL_law_1638 (by decide) ?_
          exact s_nret (pc := 1639) dL_law_1639 rfl
      refine zS_ite (fun hx => ?_) (fun hx26 => ?_)
      · refine s_tabIn (pc := 44) (tgt := 1660) (v := 26) dL_law_44 hx (by decide) (by decide) rfl (by decide) ?_
        refine s_aload_n (pc := 1660) 1 dL_law_1660 rfl rfl ?_
        refine s_aload_n (pc := 1661) 0 dL_law_1661 rfl rfl ?_
        refine s_iload (pc := 1662) 5 dL_law_1662 rfl ?_
        refine s_iconst (pc := 1664) (v := 1) dL_law_1664 (by decide) ?_
        refine s_iadd (pc := 1665) dL_law_1665 ?_
        refine s_iald (pc := 1666) dL_law_1666 (ztc rfl zt0) (fun x217 => ?_)
        refine s_aload_n (pc := 1667) 3 dL_law_1667 rfl rfl ?_
        refine s_callSS (pc := 1668) (np := 3) (as := [va_rf a1, .int x217, va_rf a3]) (rest := []) dL_law_1668 (c_X0_hasBlock (by decide) a1 x217 a3 h) rfl rfl q2765 q2766 rfl (by decide) (zkI (fun x218 h219 => ?_)) zxo
        refine s_ist (pc := 1671) (L2 := [(0, va_rf a0), (1, va_rf a1), (2, va_rf a2), (3, va_rf a3), (4, va_rf a4), (5, .int a5)]) [0, 1, 2, 3, 4, 5] dL_law_1671 (by decide) rfl rfl (zcB (j := 5) rfl rfl rfl) ?_
        refine s_aload_n (pc := 1673) 3 dL_law_1673 rfl rfl ?_
        refine s_aload_n (pc := 1674) 1 dL_law_1674 rfl rfl ?_
        refine s_iload (pc := 1675) 6 dL_law_1675 rfl ?_
        refine s_iconst (pc := 1677) (v := 1) dL_law_1677 (by decide) ?_
        refine s_iadd (pc := 1678) dL_law_1678 ?_
        refine s_iald (pc := 1679) dL_law_1679 (ztc rfl zt0) (fun x220 => ?_)
        refine zS_ite (fun ht => ?_) (fun _ => zS_none)
        refine s_callV (pc := 1680) (np := 1) (as := [.int x220]) (rest := []) dL_law_1680 ht (q := (RX5, TX5, 20)) rfl (c_X5_hasBlock (by decide) a2 x220 h219) rfl rfl q3577 q3578 q3579 rfl (by decide) (zkI (fun x221 h222 => ?_)) zxo
        refine s_ist (pc := 1683) (L2 := [(6, .int x218), (0, va_rf a0), (1, va_rf a1), (2, va_rf a2), (3, va_rf a3), (4, va_rf a4), (5, .int a5)]) [0, 1, 2, 3, 4, 5, 6] dL_law_1683 (by decide) rfl rfl (zcB (j := 0) rfl rfl rfl) ?_
        refine s_aload_n (pc := 1685) 4 dL_law_1685 rfl rfl ?_
        refine zS_ite (fun ht => ?_) (fun _ => zS_none)
        refine s_callV (pc := 1686) (np := 0) (as := []) (rest := []) dL_law_1686 ht (q := (RX5, TX5, 20)) rfl (c_X5_thrown (by decide) a2 h222) rfl rfl q3303 q3304 q3305 rfl (by decide) (zkI (fun x223 h224 => ?_)) zxo
        refine s_iload (pc := 1689) 1 dL_law_1689 rfl ?_
        refine s_icmp_eq (pc := 1691) (tgt := 1696) dL_law_1691 (by decide) (fun _ => ?_) (fun _ => ?_)
        · refine s_iload (pc := 1696) 1 dL_law_1696 rfl ?_
          refine s_if_ne (pc := 1698) (tgt := 1720) dL_law_1698 (by decide) (fun _ => ?_) (fun _ => ?_)
          · exact s_sub (pc := 1720) [2, 3, 4, 5, 6, 7] rfl (w_L_law_1720 (f_L_law_28 n) ih a0 a1 a2 a3 a4 a5 h224)
          · refine s_aload_n (pc := 1701) 5 dL_law_1701 rfl rfl ?_
            refine s_iconst (pc := 1702) (v := 0) dL_law_1702 (by decide) ?_
            refine s_lald (pc := 1703) dL_law_1703 (ztc rfl zt0) (fun x225 => ?_)
            refine s_iload (pc := 1704) 0 dL_law_1704 rfl ?_
            refine s_if_eq (pc := 1706) (tgt := 1713) dL_law_1706 (by decide) (fun _ => ?_) (fun _ => ?_)
            · refine s_lconst (pc := 1713) (v := 0) dL_law_1713 (by decide) ?_
              exact s_sub (pc := 1714) [2, 3, 4, 5, 6, 7] rfl (w_L_law_1714 (f_L_law_28 n) ih a0 a1 a2 a3 a4 a5 0 x225 h224)
            · refine s_lconst (pc := 1709) (v := 1) dL_law_1709 (by decide) ?_
              refine s_goto (pc := 1710) (tgt := 1714) dL_law_1710 (by decide) ?_
              exact s_sub (pc := 1714) [2, 3, 4, 5, 6, 7] rfl (w_L_law_1714 (f_L_law_28 n) ih a0 a1 a2 a3 a4 a5 1 x225 h224)
        · refine s_iconst (pc := 1694) (v := 0) dL_law_1694 (by decide) ?_
          exact s_nret (pc := 1695) dL_law_1695 rfl
      refine zS_ite (fun hx => ?_) (fun hx27 => ?_)
      · refine s_tabIn (pc := 44) (tgt := 1723) (v := 27) dL_law_44 hx (by decide) (by decide) rfl (by decide) ?_
        refine s_aload_n (pc := 1723) 1 dL_law_1723 rfl rfl ?_
        refine s_aload_n (pc := 1724) 0 dL_law_1724 rfl rfl ?_
        refine s_iload (pc := 1725) 5 dL_law_1725 rfl ?_
        refine s_iconst (pc := 1727) (v := 1) dL_law_1727 (by decide) ?_
        refine s_iadd (pc := 1728) dL_law_1728 ?_
        refine s_iald (pc := 1729) dL_law_1729 (ztc rfl zt0) (fun x226 => ?_)
        refine s_aload_n (pc := 1730) 3 dL_law_1730 rfl rfl ?_
        refine s_callSS (pc := 1731) (np := 3) (as := [va_rf a1, .int x226, va_rf a3]) (rest := []) dL_law_1731 (c_X0_blocksBeneath (by decide) a1 x226 a3 h) rfl rfl q2774 q2775 rfl (by decide) (zkI (fun x227 h228 => ?_)) zxo
        refine s_ist (pc := 1734) (L2 := [(0, va_rf a0), (1, va_rf a1), (2, va_rf a2), (3, va_rf a3), (4, va_rf a4), (5, .int a5)]) [0, 1, 2, 3, 4, 5] dL_law_1734 (by decide) rfl rfl (zcB (j := 5) rfl rfl rfl) ?_
        refine s_aload_n (pc := 1736) 3 dL_law_1736 rfl rfl ?_
        refine s_aload_n (pc := 1737) 1 dL_law_1737 rfl rfl ?_
        refine s_iload (pc := 1738) 6 dL_law_1738 rfl ?_
        refine s_iconst (pc := 1740) (v := 1) dL_law_1740 (by decide) ?_
        refine s_iadd (pc := 1741) dL_law_1741 ?_
        refine s_iald (pc := 1742) dL_law_1742 (ztc rfl zt0) (fun x229 => ?_)
        refine zS_ite (fun ht => ?_) (fun _ => zS_none)
        refine s_callV (pc := 1743) (np := 1) (as := [.int x229]) (rest := []) dL_law_1743 ht (q := (RX5, TX5, 20)) rfl (c_X5_blocksBeneath (by decide) a2 x229 h228) rfl rfl q3581 q3582 q3583 rfl (by decide) (zkI (fun x230 h231 => ?_)) zxo
        refine s_ist (pc := 1746) (L2 := [(6, .int x227), (0, va_rf a0), (1, va_rf a1), (2, va_rf a2), (3, va_rf a3), (4, va_rf a4), (5, .int a5)]) [0, 1, 2, 3, 4, 5, 6] dL_law_1746 (by decide) rfl rfl (zcB (j := 0) rfl rfl rfl) ?_
        refine s_aload_n (pc := 1748) 4 dL_law_1748 rfl rfl ?_
        refine zS_ite (fun ht => ?_) (fun _ => zS_none)
        refine s_callV (pc := 1749) (np := 0) (as := []) (rest := []) dL_law_1749 ht (q := (RX5, TX5, 20)) rfl (c_X5_thrown (by decide) a2 h231) rfl rfl q3303 q3304 q3305 rfl (by decide) (zkI (fun x232 h233 => ?_)) zxo
        refine s_iload (pc := 1752) 1 dL_law_1752 rfl ?_
        refine s_icmp_eq (pc := 1754) (tgt := 1759) dL_law_1754 (by decide) (fun _ => ?_) (fun _ => ?_)
        · refine s_iload (pc := 1759) 1 dL_law_1759 rfl ?_
          refine s_if_ne (pc := 1761) (tgt := 1776) dL_law_1761 (by decide) (fun _ => ?_) (fun _ => ?_)
          · exact s_sub (pc := 1776) [2, 3, 4, 5, 6, 7] rfl (w_L_law_1776 (f_L_law_28 n) ih a0 a1 a2 a3 a4 a5 h233)
          · refine s_aload_n (pc := 1764) 5 dL_law_1764 rfl rfl ?_
            refine s_iconst (pc := 1765) (v := 0) dL_law_1765 (by decide) ?_
            refine s_lald (pc := 1766) dL_law_1766 (ztc rfl zt0) (fun x234 => ?_)
            refine s_iload (pc := 1767) 0 dL_law_1767 rfl ?_
            refine s_i2l (pc := 1769) dL_law_1769 ?_
            refine s_lcmp (pc := 1770) dL_law_1770 ?_
            refine s_if_eq (pc := 1771) (tgt := 1776) dL_law_1771 (by decide) (fun _ => ?_) (fun _ => ?_)
            · exact s_sub (pc := 1776) [2, 3, 4, 5, 6, 7] rfl (w_L_law_1776 (f_L_law_28 n) ih a0 a1 a2 a3 a4 a5 h233)
            · refine s_iconst (pc := 1774) (v := 0) dL_law_1774 (by decide) ?_
              exact s_nret (pc := 1775) dL_law_1775 rfl
        · refine s_iconst (pc := 1757) (v := 0) dL_law_1757 (by decide) ?_
          exact s_nret (pc := 1758) dL_law_1758 rfl
      refine zS_ite (fun hx => ?_) (fun hx28 => ?_)
      · refine s_tabIn (pc := 44) (tgt := 1779) (v := 28) dL_law_44 hx (by decide) (by decide) rfl (by decide) ?_
        refine s_aload_n (pc := 1779) 1 dL_law_1779 rfl rfl ?_
        refine s_aload_n (pc := 1780) 0 dL_law_1780 rfl rfl ?_
        refine s_iload (pc := 1781) 5 dL_law_1781 rfl ?_
        refine s_iconst (pc := 1783) (v := 1) dL_law_1783 (by decide) ?_
        refine s_iadd (pc := 1784) dL_law_1784 ?_
        refine s_iald (pc := 1785) dL_law_1785 (ztc rfl zt0) (fun x235 => ?_)
        refine s_aload_n (pc := 1786) 3 dL_law_1786 rfl rfl ?_
        refine s_callSS (pc := 1787) (np := 3) (as := [va_rf a1, .int x235, va_rf a3]) (rest := []) dL_law_1787 (c_X0_blocksBeneathByBlocks (by decide) a1 x235 a3 h) rfl rfl q2782 q2783 rfl (by decide) (zkI (fun x236 h237 => ?_)) zxo
        refine s_ist (pc := 1790) (L2 := [(0, va_rf a0), (1, va_rf a1), (2, va_rf a2), (3, va_rf a3), (4, va_rf a4), (5, .int a5)]) [0, 1, 2, 3, 4, 5] dL_law_1790 (by decide) rfl rfl (zcB (j := 5) rfl rfl rfl) ?_
        refine s_aload_n (pc := 1792) 3 dL_law_1792 rfl rfl ?_
        refine s_aload_n (pc := 1793) 1 dL_law_1793 rfl rfl ?_
        refine s_iload (pc := 1794) 6 dL_law_1794 rfl ?_
        refine s_iconst (pc := 1796) (v := 1) dL_law_1796 (by decide) ?_
        refine s_iadd (pc := 1797) dL_law_1797 ?_
        refine s_iald (pc := 1798) dL_law_1798 (ztc rfl zt0) (fun x238 => ?_)
        refine zS_ite (fun ht => ?_) (fun _ => zS_none)
        refine s_callV (pc := 1799) (np := 1) (as := [.int x238]) (rest := []) dL_law_1799 ht (q := (RX5, TX5, 20)) rfl (c_X5_blocksBeneathByBlocks (by decide) a2 x238 h237) rfl rfl q3589 q3590 q3591 rfl (by decide) (zkI (fun x239 h240 => ?_)) zxo
        refine s_ist (pc := 1802) (L2 := [(6, .int x236), (0, va_rf a0), (1, va_rf a1), (2, va_rf a2), (3, va_rf a3), (4, va_rf a4), (5, .int a5)]) [0, 1, 2, 3, 4, 5, 6] dL_law_1802 (by decide) rfl rfl (zcB (j := 0) rfl rfl rfl) ?_
        refine s_aload_n (pc := 1804) 4 dL_law_1804 rfl rfl ?_
        refine zS_ite (fun ht => ?_) (fun _ => zS_none)
        refine s_callV (pc := 1805) (np := 0) (as := []) (rest := []) dL_law_1805 ht (q := (RX5, TX5, 20)) rfl (c_X5_thrown (by decide) a2 h240) rfl rfl q3303 q3304 q3305 rfl (by decide) (zkI (fun x241 h242 => ?_)) zxo
        refine s_iload (pc := 1808) 1 dL_law_1808 rfl ?_
        refine s_icmp_eq (pc := 1810) (tgt := 1815) dL_law_1810 (by decide) (fun _ => ?_) (fun _ => ?_)
        · refine s_iload (pc := 1815) 1 dL_law_1815 rfl ?_
          refine s_if_ne (pc := 1817) (tgt := 1832) dL_law_1817 (by decide) (fun _ => ?_) (fun _ => ?_)
          · exact s_sub (pc := 1832) [2, 3, 4, 5, 6, 7] rfl (w_L_law_1832 (f_L_law_28 n) ih a0 a1 a2 a3 a4 a5 h242)
          · refine s_aload_n (pc := 1820) 5 dL_law_1820 rfl rfl ?_
            refine s_iconst (pc := 1821) (v := 0) dL_law_1821 (by decide) ?_
            refine s_lald (pc := 1822) dL_law_1822 (ztc rfl zt0) (fun x243 => ?_)
            refine s_iload (pc := 1823) 0 dL_law_1823 rfl ?_
            refine s_i2l (pc := 1825) dL_law_1825 ?_
            refine s_lcmp (pc := 1826) dL_law_1826 ?_
            refine s_if_eq (pc := 1827) (tgt := 1832) dL_law_1827 (by decide) (fun _ => ?_) (fun _ => ?_)
            · exact s_sub (pc := 1832) [2, 3, 4, 5, 6, 7] rfl (w_L_law_1832 (f_L_law_28 n) ih a0 a1 a2 a3 a4 a5 h242)
            · refine s_iconst (pc := 1830) (v := 0) dL_law_1830 (by decide) ?_
              exact s_nret (pc := 1831) dL_law_1831 rfl
        · refine s_iconst (pc := 1813) (v := 0) dL_law_1813 (by decide) ?_
          exact s_nret (pc := 1814) dL_law_1814 rfl
      refine zS_ite (fun hx => ?_) (fun hx29 => ?_)
      · refine s_tabIn (pc := 44) (tgt := 1835) (v := 29) dL_law_44 hx (by decide) (by decide) rfl (by decide) ?_
        refine s_aload_n (pc := 1835) 1 dL_law_1835 rfl rfl ?_
        refine s_aload_n (pc := 1836) 0 dL_law_1836 rfl rfl ?_
        refine s_iload (pc := 1837) 5 dL_law_1837 rfl ?_
        refine s_iconst (pc := 1839) (v := 1) dL_law_1839 (by decide) ?_
        refine s_iadd (pc := 1840) dL_law_1840 ?_
        refine s_iald (pc := 1841) dL_law_1841 (ztc rfl zt0) (fun x244 => ?_)
        refine s_aload_n (pc := 1842) 3 dL_law_1842 rfl rfl ?_
        refine s_callSS (pc := 1843) (np := 3) (as := [va_rf a1, .int x244, va_rf a3]) (rest := []) dL_law_1843 (c_X0_shipAtPosition (by decide) a1 x244 a3 h) rfl rfl q2790 q2791 rfl (by decide) (zkI (fun x245 h246 => ?_)) zxo
        refine s_ist (pc := 1846) (L2 := [(0, va_rf a0), (1, va_rf a1), (2, va_rf a2), (3, va_rf a3), (4, va_rf a4), (5, .int a5)]) [0, 1, 2, 3, 4, 5] dL_law_1846 (by decide) rfl rfl (zcB (j := 5) rfl rfl rfl) ?_
        refine s_aload_n (pc := 1848) 3 dL_law_1848 rfl rfl ?_
        refine s_aload_n (pc := 1849) 1 dL_law_1849 rfl rfl ?_
        refine s_iload (pc := 1850) 6 dL_law_1850 rfl ?_
        refine s_iconst (pc := 1852) (v := 1) dL_law_1852 (by decide) ?_
        refine s_iadd (pc := 1853) dL_law_1853 ?_
        refine s_iald (pc := 1854) dL_law_1854 (ztc rfl zt0) (fun x247 => ?_)
        refine zS_ite (fun ht => ?_) (fun _ => zS_none)
        refine s_callV (pc := 1855) (np := 1) (as := [.int x247]) (rest := []) dL_law_1855 ht (q := (RX5, TX5, 20)) rfl (c_X5_shipAtPosition (by decide) a2 x247 h246) rfl rfl q3593 q3594 q3595 rfl (by decide) (zkI (fun x248 h249 => ?_)) zxo
        refine s_ist (pc := 1858) (L2 := [(6, .int x245), (0, va_rf a0), (1, va_rf a1), (2, va_rf a2), (3, va_rf a3), (4, va_rf a4), (5, .int a5)]) [0, 1, 2, 3, 4, 5, 6] dL_law_1858 (by decide) rfl rfl (zcB (j := 0) rfl rfl rfl) ?_
        refine s_aload_n (pc := 1860) 4 dL_law_1860 rfl rfl ?_
        refine zS_ite (fun ht => ?_) (fun _ => zS_none)
        refine s_callV (pc := 1861) (np := 0) (as := []) (rest := []) dL_law_1861 ht (q := (RX5, TX5, 20)) rfl (c_X5_thrown (by decide) a2 h249) rfl rfl q3303 q3304 q3305 rfl (by decide) (zkI (fun x250 h251 => ?_)) zxo
        refine s_iload (pc := 1864) 1 dL_law_1864 rfl ?_
        refine s_icmp_eq (pc := 1866) (tgt := 1871) dL_law_1866 (by decide) (fun _ => ?_) (fun _ => ?_)
        · refine s_iload (pc := 1871) 1 dL_law_1871 rfl ?_
          refine s_if_ne (pc := 1873) (tgt := 1888) dL_law_1873 (by decide) (fun _ => ?_) (fun _ => ?_)
          · exact s_sub (pc := 1888) [2, 3, 4, 5, 6, 7] rfl (w_L_law_1888 (f_L_law_28 n) ih a0 a1 a2 a3 a4 a5 h251)
          · refine s_aload_n (pc := 1876) 5 dL_law_1876 rfl rfl ?_
            refine s_iconst (pc := 1877) (v := 0) dL_law_1877 (by decide) ?_
            refine s_lald (pc := 1878) dL_law_1878 (ztc rfl zt0) (fun x252 => ?_)
            refine s_iload (pc := 1879) 0 dL_law_1879 rfl ?_
            refine s_i2l (pc := 1881) dL_law_1881 ?_
            refine s_lcmp (pc := 1882) dL_law_1882 ?_
            refine s_if_eq (pc := 1883) (tgt := 1888) dL_law_1883 (by decide) (fun _ => ?_) (fun _ => ?_)
            · exact s_sub (pc := 1888) [2, 3, 4, 5, 6, 7] rfl (w_L_law_1888 (f_L_law_28 n) ih a0 a1 a2 a3 a4 a5 h251)
            · refine s_iconst (pc := 1886) (v := 0) dL_law_1886 (by decide) ?_
              exact s_nret (pc := 1887) dL_law_1887 rfl
        · refine s_iconst (pc := 1869) (v := 0) dL_law_1869 (by decide) ?_
          exact s_nret (pc := 1870) dL_law_1870 rfl
      refine zS_ite (fun hx => ?_) (fun hx30 => ?_)
      · refine s_tabIn (pc := 44) (tgt := 1891) (v := 30) dL_law_44 hx (by decide) (by decide) rfl (by decide) ?_
        refine s_aload_n (pc := 1891) 1 dL_law_1891 rfl rfl ?_
        refine s_aload_n (pc := 1892) 0 dL_law_1892 rfl rfl ?_
        refine s_iload (pc := 1893) 5 dL_law_1893 rfl ?_
        refine s_iconst (pc := 1895) (v := 1) dL_law_1895 (by decide) ?_
        refine s_iadd (pc := 1896) dL_law_1896 ?_
        refine s_iald (pc := 1897) dL_law_1897 (ztc rfl zt0) (fun x253 => ?_)
        refine s_aload_n (pc := 1898) 3 dL_law_1898 rfl rfl ?_
        refine s_callSS (pc := 1899) (np := 3) (as := [va_rf a1, .int x253, va_rf a3]) (rest := []) dL_law_1899 (c_X0_firstGap (by decide) a1 x253 a3 h) rfl rfl q2798 q2799 rfl (by decide) (zkI (fun x254 h255 => ?_)) zxo
        refine s_ist (pc := 1902) (L2 := [(0, va_rf a0), (1, va_rf a1), (2, va_rf a2), (3, va_rf a3), (4, va_rf a4), (5, .int a5)]) [0, 1, 2, 3, 4, 5] dL_law_1902 (by decide) rfl rfl (zcB (j := 5) rfl rfl rfl) ?_
        refine s_aload_n (pc := 1904) 3 dL_law_1904 rfl rfl ?_
        refine s_aload_n (pc := 1905) 1 dL_law_1905 rfl rfl ?_
        refine s_iload (pc := 1906) 6 dL_law_1906 rfl ?_
        refine s_iconst (pc := 1908) (v := 1) dL_law_1908 (by decide) ?_
        refine s_iadd (pc := 1909) dL_law_1909 ?_
        refine s_iald (pc := 1910) dL_law_1910 (ztc rfl zt0) (fun x256 => ?_)
        refine zS_ite (fun ht => ?_) (fun _ => zS_none)
        refine s_callV (pc := 1911) (np := 1) (as := [.int x256]) (rest := []) dL_law_1911 ht (q := (RX5, TX5, 20)) rfl (c_X5_firstGap (by decide) a2 x256 h255) rfl rfl q3597 q3598 q3599 rfl (by decide) (zkI (fun x257 h258 => ?_)) zxo
        refine s_ist (pc := 1914) (L2 := [(6, .int x254), (0, va_rf a0), (1, va_rf a1), (2, va_rf a2), (3, va_rf a3), (4, va_rf a4), (5, .int a5)]) [0, 1, 2, 3, 4, 5, 6] dL_law_1914 (by decide) rfl rfl (zcB (j := 0) rfl rfl rfl) ?_
        refine s_aload_n (pc := 1916) 4 dL_law_1916 rfl rfl ?_
        refine zS_ite (fun ht => ?_) (fun _ => zS_none)
        refine s_callV (pc := 1917) (np := 0) (as := []) (rest := []) dL_law_1917 ht (q := (RX5, TX5, 20)) rfl (c_X5_thrown (by decide) a2 h258) rfl rfl q3303 q3304 q3305 rfl (by decide) (zkI (fun x259 h260 => ?_)) zxo
        refine s_iload (pc := 1920) 1 dL_law_1920 rfl ?_
        refine s_icmp_eq (pc := 1922) (tgt := 1927) dL_law_1922 (by decide) (fun _ => ?_) (fun _ => ?_)
        · refine s_iload (pc := 1927) 1 dL_law_1927 rfl ?_
          refine s_if_ne (pc := 1929) (tgt := 1944) dL_law_1929 (by decide) (fun _ => ?_) (fun _ => ?_)
          · exact s_sub (pc := 1944) [2, 3, 4, 5, 6, 7] rfl (w_L_law_1944 (f_L_law_28 n) ih a0 a1 a2 a3 a4 a5 h260)
          · refine s_aload_n (pc := 1932) 5 dL_law_1932 rfl rfl ?_
            refine s_iconst (pc := 1933) (v := 0) dL_law_1933 (by decide) ?_
            refine s_lald (pc := 1934) dL_law_1934 (ztc rfl zt0) (fun x261 => ?_)
            refine s_iload (pc := 1935) 0 dL_law_1935 rfl ?_
            refine s_i2l (pc := 1937) dL_law_1937 ?_
            refine s_lcmp (pc := 1938) dL_law_1938 ?_
            refine s_if_eq (pc := 1939) (tgt := 1944) dL_law_1939 (by decide) (fun _ => ?_) (fun _ => ?_)
            · exact s_sub (pc := 1944) [2, 3, 4, 5, 6, 7] rfl (w_L_law_1944 (f_L_law_28 n) ih a0 a1 a2 a3 a4 a5 h260)
            · refine s_iconst (pc := 1942) (v := 0) dL_law_1942 (by decide) ?_
              exact s_nret (pc := 1943) dL_law_1943 rfl
        · refine s_iconst (pc := 1925) (v := 0) dL_law_1925 (by decide) ?_
          exact s_nret (pc := 1926) dL_law_1926 rfl
      refine zS_ite (fun hx => ?_) (fun hx31 => ?_)
      · refine s_tabIn (pc := 44) (tgt := 1947) (v := 31) dL_law_44 hx (by decide) (by decide) rfl (by decide) ?_
        refine s_aload_n (pc := 1947) 1 dL_law_1947 rfl rfl ?_
        refine s_aload_n (pc := 1948) 0 dL_law_1948 rfl rfl ?_
        refine s_iload (pc := 1949) 5 dL_law_1949 rfl ?_
        refine s_iconst (pc := 1951) (v := 1) dL_law_1951 (by decide) ?_
        refine s_iadd (pc := 1952) dL_law_1952 ?_
        refine s_iald (pc := 1953) dL_law_1953 (ztc rfl zt0) (fun x262 => ?_)
        refine s_aload_n (pc := 1954) 3 dL_law_1954 rfl rfl ?_
        refine s_callSS (pc := 1955) (np := 3) (as := [va_rf a1, .int x262, va_rf a3]) (rest := []) dL_law_1955 (c_X0_firstGapByShips (by decide) a1 x262 a3 h) rfl rfl q2811 q2812 rfl (by decide) (zkI (fun x263 h264 => ?_)) zxo
        refine s_ist (pc := 1958) (L2 := [(0, va_rf a0), (1, va_rf a1), (2, va_rf a2), (3, va_rf a3), (4, va_rf a4), (5, .int a5)]) [0, 1, 2, 3, 4, 5] dL_law_1958 (by decide) rfl rfl (zcB (j := 5) rfl rfl rfl) ?_
        refine s_aload_n (pc := 1960) 3 dL_law_1960 rfl rfl ?_
        refine s_aload_n (pc := 1961) 1 dL_law_1961 rfl rfl ?_
        refine s_iload (pc := 1962) 6 dL_law_1962 rfl ?_
        refine s_iconst (pc := 1964) (v := 1) dL_law_1964 (by decide) ?_
        refine s_iadd (pc := 1965) dL_law_1965 ?_
        refine s_iald (pc := 1966) dL_law_1966 (ztc rfl zt0) (fun x265 => ?_)
        refine zS_ite (fun ht => ?_) (fun _ => zS_none)
        refine s_callV (pc := 1967) (np := 1) (as := [.int x265]) (rest := []) dL_law_1967 ht (q := (RX5, TX5, 20)) rfl (c_X5_firstGapByShips (by decide) a2 x265 h264) rfl rfl q3605 q3606 q3607 rfl (by decide) (zkI (fun x266 h267 => ?_)) zxo
        refine s_ist (pc := 1970) (L2 := [(6, .int x263), (0, va_rf a0), (1, va_rf a1), (2, va_rf a2), (3, va_rf a3), (4, va_rf a4), (5, .int a5)]) [0, 1, 2, 3, 4, 5, 6] dL_law_1970 (by decide) rfl rfl (zcB (j := 0) rfl rfl rfl) ?_
        refine s_aload_n (pc := 1972) 4 dL_law_1972 rfl rfl ?_
        refine zS_ite (fun ht => ?_) (fun _ => zS_none)
        refine s_callV (pc := 1973) (np := 0) (as := []) (rest := []) dL_law_1973 ht (q := (RX5, TX5, 20)) rfl (c_X5_thrown (by decide) a2 h267) rfl rfl q3303 q3304 q3305 rfl (by decide) (zkI (fun x268 h269 => ?_)) zxo
        refine s_iload (pc := 1976) 1 dL_law_1976 rfl ?_
        refine s_icmp_eq (pc := 1978) (tgt := 1983) dL_law_1978 (by decide) (fun _ => ?_) (fun _ => ?_)
        · refine s_iload (pc := 1983) 1 dL_law_1983 rfl ?_
          refine s_if_ne (pc := 1985) (tgt := 2000) dL_law_1985 (by decide) (fun _ => ?_) (fun _ => ?_)
          · exact s_sub (pc := 2000) [2, 3, 4, 5, 6, 7] rfl (w_L_law_2000 (f_L_law_28 n) ih a0 a1 a2 a3 a4 a5 h269)
          · refine s_aload_n (pc := 1988) 5 dL_law_1988 rfl rfl ?_
            refine s_iconst (pc := 1989) (v := 0) dL_law_1989 (by decide) ?_
            refine s_lald (pc := 1990) dL_law_1990 (ztc rfl zt0) (fun x270 => ?_)
            refine s_iload (pc := 1991) 0 dL_law_1991 rfl ?_
            refine s_i2l (pc := 1993) dL_law_1993 ?_
            refine s_lcmp (pc := 1994) dL_law_1994 ?_
            refine s_if_eq (pc := 1995) (tgt := 2000) dL_law_1995 (by decide) (fun _ => ?_) (fun _ => ?_)
            · exact s_sub (pc := 2000) [2, 3, 4, 5, 6, 7] rfl (w_L_law_2000 (f_L_law_28 n) ih a0 a1 a2 a3 a4 a5 h269)
            · refine s_iconst (pc := 1998) (v := 0) dL_law_1998 (by decide) ?_
              exact s_nret (pc := 1999) dL_law_1999 rfl
        · refine s_iconst (pc := 1981) (v := 0) dL_law_1981 (by decide) ?_
          exact s_nret (pc := 1982) dL_law_1982 rfl
      refine zS_ite (fun hx => ?_) (fun hx32 => ?_)
      · refine s_tabIn (pc := 44) (tgt := 2003) (v := 32) dL_law_44 hx (by decide) (by decide) rfl (by decide) ?_
        refine s_aload_n (pc := 2003) 1 dL_law_2003 rfl rfl ?_
        refine zS_ite (fun ht => ?_) (fun _ => zS_none)
        refine s_callV (pc := 2004) (np := 0) (as := []) (rest := []) dL_law_2004 ht (q := (RX1, TX1, 11)) rfl (c_X1_freeMetres (by decide) a1 h) rfl rfl q1440 q1441 q1442 rfl (by decide) (zkI (fun x271 h272 => ?_)) zxo
        refine s_aload_n (pc := 2007) 2 dL_law_2007 rfl rfl ?_
        refine zS_ite (fun ht => ?_) (fun _ => zS_none)
        refine s_callV (pc := 2008) (np := 0) (as := []) (rest := [.int x271]) dL_law_2008 ht (q := (RX5, TX5, 20)) rfl (c_X5_freeMetres (by decide) a2 h272) rfl rfl q3609 q3610 q3611 rfl (by simp [zcat_rf, zcat_i, zcat_l, zcat_f, zcat_d]) (zkI (fun x273 h274 => ?_)) zxo
        refine s_icmp_eq (pc := 2011) (tgt := 2811) dL_law_2011 (by decide) (fun _ => ?_) (fun _ => ?_)
        · exact s_sub (pc := 2811) [0, 1, 2, 3, 4, 5] rfl (w_L_law_2811 (f_L_law_28 n) ih a0 a1 a2 a3 a4 a5 h274)
        · refine s_iconst (pc := 2014) (v := 0) dL_law_2014 (by decide) ?_
          exact s_nret (pc := 2015) dL_law_2015 rfl
      refine zS_ite (fun hx => ?_) (fun hx33 => ?_)
      · refine s_tabIn (pc := 44) (tgt := 2016) (v := 33) dL_law_44 hx (by decide) (by decide) rfl (by decide) ?_
        refine s_aload_n (pc := 2016) 1 dL_law_2016 rfl rfl ?_
        refine zS_ite (fun ht => ?_) (fun _ => zS_none)
        refine s_callV (pc := 2017) (np := 0) (as := []) (rest := []) dL_law_2017 ht (q := (RX1, TX1, 11)) rfl (c_X1_mostFitting (by decide) a1 h) rfl rfl q1458 q1459 q1460 rfl (by decide) (zkI (fun x275 h276 => ?_)) zxo
        refine s_aload_n (pc := 2020) 2 dL_law_2020 rfl rfl ?_
        refine zS_ite (fun ht => ?_) (fun _ => zS_none)
        refine s_callV (pc := 2021) (np := 0) (as := []) (rest := [.int x275]) dL_law_2021 ht (q := (RX5, TX5, 20)) rfl (c_X5_mostFitting (by decide) a2 h276) rfl rfl q3617 q3618 q3619 rfl (by simp [zcat_rf, zcat_i, zcat_l, zcat_f, zcat_d]) (zkI (fun x277 h278 => ?_)) zxo
        refine s_icmp_eq (pc := 2024) (tgt := 2811) dL_law_2024 (by decide) (fun _ => ?_) (fun _ => ?_)
        · exact s_sub (pc := 2811) [0, 1, 2, 3, 4, 5] rfl (w_L_law_2811 (f_L_law_28 n) ih a0 a1 a2 a3 a4 a5 h278)
        · refine s_iconst (pc := 2027) (v := 0) dL_law_2027 (by decide) ?_
          exact s_nret (pc := 2028) dL_law_2028 rfl
      refine zS_ite (fun hx => ?_) (fun hx34 => ?_)
      · refine s_tabIn (pc := 44) (tgt := 2029) (v := 34) dL_law_44 hx (by decide) (by decide) rfl (by decide) ?_
        refine s_aload_n (pc := 2029) 1 dL_law_2029 rfl rfl ?_
        refine zS_ite (fun ht => ?_) (fun _ => zS_none)
        refine s_callV (pc := 2030) (np := 0) (as := []) (rest := []) dL_law_2030 ht (q := (RX1, TX1, 11)) rfl (c_X1_mostFittingByTable (by decide) a1 h) rfl rfl q1466 q1467 q1468 rfl (by decide) (zkI (fun x279 h280 => ?_)) zxo
        refine s_aload_n (pc := 2033) 2 dL_law_2033 rfl rfl ?_
        refine zS_ite (fun ht => ?_) (fun _ => zS_none)
        refine s_callV (pc := 2034) (np := 0) (as := []) (rest := [.int x279]) dL_law_2034 ht (q := (RX5, TX5, 20)) rfl (c_X5_mostFittingByTable (by decide) a2 h280) rfl rfl q3638 q3639 q3640 rfl (by simp [zcat_rf, zcat_i, zcat_l, zcat_f, zcat_d]) (zkI (fun x281 h282 => ?_)) zxo
        refine s_icmp_eq (pc := 2037) (tgt := 2811) dL_law_2037 (by decide) (fun _ => ?_) (fun _ => ?_)
        · exact s_sub (pc := 2811) [0, 1, 2, 3, 4, 5] rfl (w_L_law_2811 (f_L_law_28 n) ih a0 a1 a2 a3 a4 a5 h282)
        · refine s_iconst (pc := 2040) (v := 0) dL_law_2040 (by decide) ?_
          exact s_nret (pc := 2041) dL_law_2041 rfl
      refine zS_ite (fun hx => ?_) (fun hx35 => ?_)
      · refine s_tabIn (pc := 44) (tgt := 2042) (v := 35) dL_law_44 hx (by decide) (by decide) rfl (by decide) ?_
        refine s_aload_n (pc := 2042) 1 dL_law_2042 rfl rfl ?_
        refine zS_ite (fun ht => ?_) (fun _ => zS_none)
        refine s_callV (pc := 2043) (np := 0) (as := []) (rest := []) dL_law_2043 ht (q := (RX1, TX1, 11)) rfl (c_X1_mostFittingMetres (by decide) a1 h) rfl rfl q1470 q1471 q1472 rfl (by decide) (zkI (fun x283 h284 => ?_)) zxo
        refine s_aload_n (pc := 2046) 2 dL_law_2046 rfl rfl ?_
        refine zS_ite (fun ht => ?_) (fun _ => zS_none)
        refine s_callV (pc := 2047) (np := 0) (as := []) (rest := [.int x283]) dL_law_2047 ht (q := (RX5, TX5, 20)) rfl (c_X5_mostFittingMetres (by decide) a2 h284) rfl rfl q3642 q3643 q3644 rfl (by simp [zcat_rf, zcat_i, zcat_l, zcat_f, zcat_d]) (zkI (fun x285 h286 => ?_)) zxo
        refine s_icmp_eq (pc := 2050) (tgt := 2811) dL_law_2050 (by decide) (fun _ => ?_) (fun _ => ?_)
        · exact s_sub (pc := 2811) [0, 1, 2, 3, 4, 5] rfl (w_L_law_2811 (f_L_law_28 n) ih a0 a1 a2 a3 a4 a5 h286)
        · refine s_iconst (pc := 2053) (v := 0) dL_law_2053 (by decide) ?_
          exact s_nret (pc := 2054) dL_law_2054 rfl
      refine zS_ite (fun hx => ?_) (fun hx36 => ?_)
      · refine s_tabIn (pc := 44) (tgt := 2055) (v := 36) dL_law_44 hx (by decide) (by decide) rfl (by decide) ?_
        refine s_aload_n (pc := 2055) 1 dL_law_2055 rfl rfl ?_
        refine s_aload_n (pc := 2056) 0 dL_law_2056 rfl rfl ?_
        refine s_iload (pc := 2057) 5 dL_law_2057 rfl ?_
        refine s_iconst (pc := 2059) (v := 1) dL_law_2059 (by decide) ?_
        refine s_iadd (pc := 2060) dL_law_2060 ?_
        refine s_iald (pc := 2061) dL_law_2061 (ztc rfl zt0) (fun x287 => ?_)
        refine s_aload_n (pc := 2062) 3 dL_law_2062 rfl rfl ?_
        refine s_callSS (pc := 2063) (np := 3) (as := [va_rf a1, .int x287, va_rf a3]) (rest := []) dL_law_2063 (c_X0_billOf (by decide) a1 x287 a3 h) rfl rfl q2818 q2819 rfl (by decide) (zkI (fun x288 h289 => ?_)) zxo
        refine s_ist (pc := 2066) (L2 := [(0, va_rf a0), (1, va_rf a1), (2, va_rf a2), (3, va_rf a3), (4, va_rf a4), (5, .int a5)]) [0, 1, 2, 3, 4, 5] dL_law_2066 (by decide) rfl rfl (zcB (j := 5) rfl rfl rfl) ?_
        refine s_aload_n (pc := 2068) 3 dL_law_2068 rfl rfl ?_
        refine s_aload_n (pc := 2069) 1 dL_law_2069 rfl rfl ?_
        refine s_iload (pc := 2070) 6 dL_law_2070 rfl ?_
        refine s_iconst (pc := 2072) (v := 1) dL_law_2072 (by decide) ?_
        refine s_iadd (pc := 2073) dL_law_2073 ?_
        refine s_iald (pc := 2074) dL_law_2074 (ztc rfl zt0) (fun x290 => ?_)
        refine zS_ite (fun ht => ?_) (fun _ => zS_none)
        refine s_callV (pc := 2075) (np := 1) (as := [.int x290]) (rest := []) dL_law_2075 ht (q := (RX5, TX5, 20)) rfl (c_X5_billOf (by decide) a2 x290 h289) rfl rfl q3541 q3542 q3543 rfl (by decide) (zkI (fun x291 h292 => ?_)) zxo
        refine s_ist (pc := 2078) (L2 := [(6, .int x288), (0, va_rf a0), (1, va_rf a1), (2, va_rf a2), (3, va_rf a3), (4, va_rf a4), (5, .int a5)]) [0, 1, 2, 3, 4, 5, 6] dL_law_2078 (by decide) rfl rfl (zcB (j := 0) rfl rfl rfl) ?_
        refine s_aload_n (pc := 2080) 4 dL_law_2080 rfl rfl ?_
        refine zS_ite (fun ht => ?_) (fun _ => zS_none)
        refine s_callV (pc := 2081) (np := 0) (as := []) (rest := []) dL_law_2081 ht (q := (RX5, TX5, 20)) rfl (c_X5_thrown (by decide) a2 h292) rfl rfl q3303 q3304 q3305 rfl (by decide) (zkI (fun x293 h294 => ?_)) zxo
        refine s_iload (pc := 2084) 1 dL_law_2084 rfl ?_
        refine s_icmp_eq (pc := 2086) (tgt := 2091) dL_law_2086 (by decide) (fun _ => ?_) (fun _ => ?_)
        · refine s_iload (pc := 2091) 1 dL_law_2091 rfl ?_
          refine s_if_ne (pc := 2093) (tgt := 2108) dL_law_2093 (by decide) (fun _ => ?_) (fun _ => ?_)
          · exact s_sub (pc := 2108) [2, 3, 4, 5, 6, 7] rfl (w_L_law_2108 (f_L_law_28 n) ih a0 a1 a2 a3 a4 a5 h294)
          · refine s_aload_n (pc := 2096) 5 dL_law_2096 rfl rfl ?_
            refine s_iconst (pc := 2097) (v := 0) dL_law_2097 (by decide) ?_
            refine s_lald (pc := 2098) dL_law_2098 (ztc rfl zt0) (fun x295 => ?_)
            refine s_iload (pc := 2099) 0 dL_law_2099 rfl ?_
            refine s_i2l (pc := 2101) dL_law_2101 ?_
            refine s_lcmp (pc := 2102) dL_law_2102 ?_
            refine s_if_eq (pc := 2103) (tgt := 2108) dL_law_2103 (by decide) (fun _ => ?_) (fun _ => ?_)
            · exact s_sub (pc := 2108) [2, 3, 4, 5, 6, 7] rfl (w_L_law_2108 (f_L_law_28 n) ih a0 a1 a2 a3 a4 a5 h294)
            · refine s_iconst (pc := 2106) (v := 0) dL_law_2106 (by decide) ?_
              exact s_nret (pc := 2107) dL_law_2107 rfl
        · refine s_iconst (pc := 2089) (v := 0) dL_law_2089 (by decide) ?_
          exact s_nret (pc := 2090) dL_law_2090 rfl
      refine zS_ite (fun hx => ?_) (fun hx37 => ?_)
      · refine s_tabIn (pc := 44) (tgt := 2111) (v := 37) dL_law_44 hx (by decide) (by decide) rfl (by decide) ?_
        refine s_aload_n (pc := 2111) 1 dL_law_2111 rfl rfl ?_
        refine s_aload_n (pc := 2112) 0 dL_law_2112 rfl rfl ?_
        refine s_iload (pc := 2113) 5 dL_law_2113 rfl ?_
        refine s_iconst (pc := 2115) (v := 1) dL_law_2115 (by decide) ?_
        refine s_iadd (pc := 2116) dL_law_2116 ?_
        refine s_iald (pc := 2117) dL_law_2117 (ztc rfl zt0) (fun x296 => ?_)
        refine s_aload_n (pc := 2118) 0 dL_law_2118 rfl rfl ?_
        refine s_iload (pc := 2119) 5 dL_law_2119 rfl ?_
        refine s_iconst (pc := 2121) (v := 2) dL_law_2121 (by decide) ?_
        refine s_iadd (pc := 2122) dL_law_2122 ?_
        refine s_iald (pc := 2123) dL_law_2123 (ztc rfl zt0) (fun x297 => ?_)
        refine s_aload_n (pc := 2124) 3 dL_law_2124 rfl rfl ?_
        refine s_callSS (pc := 2125) (np := 4) (as := [va_rf a1, .int x296, .int x297, va_rf a3]) (rest := []) dL_law_2125 (c_X0_pay (by decide) a1 x296 x297 a3 h) rfl rfl q2825 q2826 rfl (by decide) (zkI (fun x298 h299 => ?_)) zxo
        refine s_ist (pc := 2128) (L2 := [(0, va_rf a0), (1, va_rf a1), (2, va_rf a2), (3, va_rf a3), (4, va_rf a4), (5, .int a5)]) [0, 1, 2, 3, 4, 5] dL_law_2128 (by decide) rfl rfl (zcB (j := 5) rfl rfl rfl) ?_
        refine s_aload_n (pc := 2130) 3 dL_law_2130 rfl rfl ?_
        refine s_aload_n (pc := 2131) 1 dL_law_2131 rfl rfl ?_
        refine s_iload (pc := 2132) 6 dL_law_2132 rfl ?_
        refine s_iconst (pc := 2134) (v := 1) dL_law_2134 (by decide) ?_
        refine s_iadd (pc := 2135) dL_law_2135 ?_
        refine s_iald (pc := 2136) dL_law_2136 (ztc rfl zt0) (fun x300 => ?_)
        refine s_aload_n (pc := 2137) 1 dL_law_2137 rfl rfl ?_
        refine s_iload (pc := 2138) 6 dL_law_2138 rfl ?_
        refine s_iconst (pc := 2140) (v := 2) dL_law_2140 (by decide) ?_
        refine s_iadd (pc := 2141) dL_law_2141 ?_
        refine s_iald (pc := 2142) dL_law_2142 (ztc rfl zt0) (fun x301 => ?_)
        refine zS_ite (fun ht => ?_) (fun _ => zS_none)
        refine s_callV (pc := 2143) (np := 2) (as := [.int x300, .int x301]) (rest := []) dL_law_2143 ht (q := (RX5, TX5, 20)) rfl (c_X5_pay (by decide) a2 x300 x301 h299) rfl rfl q3424 q3425 q3426 rfl (by decide) (zkI (fun x302 h303 => ?_)) zxo
        refine s_ist (pc := 2146) (L2 := [(6, .int x298), (0, va_rf a0), (1, va_rf a1), (2, va_rf a2), (3, va_rf a3), (4, va_rf a4), (5, .int a5)]) [0, 1, 2, 3, 4, 5, 6] dL_law_2146 (by decide) rfl rfl (zcB (j := 0) rfl rfl rfl) ?_
        refine s_aload_n (pc := 2148) 4 dL_law_2148 rfl rfl ?_
        refine zS_ite (fun ht => ?_) (fun _ => zS_none)
        refine s_callV (pc := 2149) (np := 0) (as := []) (rest := []) dL_law_2149 ht (q := (RX5, TX5, 20)) rfl (c_X5_thrown (by decide) a2 h303) rfl rfl q3303 q3304 q3305 rfl (by decide) (zkI (fun x304 h305 => ?_)) zxo
        refine s_iload (pc := 2152) 1 dL_law_2152 rfl ?_
        refine s_icmp_eq (pc := 2154) (tgt := 2159) dL_law_2154 (by decide) (fun _ => ?_) (fun _ => ?_)
        · refine s_iload (pc := 2159) 1 dL_law_2159 rfl ?_
          refine s_if_ne (pc := 2161) (tgt := 2176) dL_law_2161 (by decide) (fun _ => ?_) (fun _ => ?_)
          · exact s_sub (pc := 2176) [2, 3, 4, 5, 6, 7] rfl (w_L_law_2176 (f_L_law_28 n) ih a0 a1 a2 a3 a4 a5 h305)
          · refine s_aload_n (pc := 2164) 5 dL_law_2164 rfl rfl ?_
            refine s_iconst (pc := 2165) (v := 0) dL_law_2165 (by decide) ?_
            refine s_lald (pc := 2166) dL_law_2166 (ztc rfl zt0) (fun x306 => ?_)
            refine s_iload (pc := 2167) 0 dL_law_2167 rfl ?_
            refine s_i2l (pc := 2169) dL_law_2169 ?_
            refine s_lcmp (pc := 2170) dL_law_2170 ?_
            refine s_if_eq (pc := 2171) (tgt := 2176) dL_law_2171 (by decide) (fun _ => ?_) (fun _ => ?_)
            · exact s_sub (pc := 2176) [2, 3, 4, 5, 6, 7] rfl (w_L_law_2176 (f_L_law_28 n) ih a0 a1 a2 a3 a4 a5 h305)
            · refine s_iconst (pc := 2174) (v := 0) dL_law_2174 (by decide) ?_
              exact s_nret (pc := 2175) dL_law_2175 rfl
        · refine s_iconst (pc := 2157) (v := 0) dL_law_2157 (by decide) ?_
          exact s_nret (pc := 2158) dL_law_2158 rfl
      refine zS_ite (fun hx => ?_) (fun hx38 => ?_)
      · refine s_tabIn (pc := 44) (tgt := 2179) (v := 38) dL_law_44 hx (by decide) (by decide) rfl (by decide) ?_
        refine s_aload_n (pc := 2179) 1 dL_law_2179 rfl rfl ?_
        refine zS_ite (fun ht => ?_) (fun _ => zS_none)
        refine s_callV (pc := 2180) (np := 0) (as := []) (rest := []) dL_law_2180 ht (q := (RX1, TX1, 11)) rfl (c_X1_billTotal (by decide) a1 h) rfl rfl q1478 q1479 q1480 rfl (by decide) (zkI (fun x307 h308 => ?_)) zxo
        refine s_aload_n (pc := 2183) 2 dL_law_2183 rfl rfl ?_
        refine zS_ite (fun ht => ?_) (fun _ => zS_none)
        refine s_callV (pc := 2184) (np := 0) (as := []) (rest := [.int x307]) dL_law_2184 ht (q := (RX5, TX5, 20)) rfl (c_X5_billTotal (by decide) a2 h308) rfl rfl q3646 q3647 q3648 rfl (by simp [zcat_rf, zcat_i, zcat_l, zcat_f, zcat_d]) (zkI (fun x309 h310 => ?_)) zxo
        refine s_icmp_eq (pc := 2187) (tgt := 2811) dL_law_2187 (by decide) (fun _ => ?_) (fun _ => ?_)
        · exact s_sub (pc := 2811) [0, 1, 2, 3, 4, 5] rfl (w_L_law_2811 (f_L_law_28 n) ih a0 a1 a2 a3 a4 a5 h310)
        · refine s_iconst (pc := 2190) (v := 0) dL_law_2190 (by decide) ?_
          exact s_nret (pc := 2191) dL_law_2191 rfl
      refine zS_ite (fun hx => ?_) (fun hx39 => ?_)
      · refine s_tabIn (pc := 44) (tgt := 2192) (v := 39) dL_law_44 hx (by decide) (by decide) rfl (by decide) ?_
        refine s_aload_n (pc := 2192) 1 dL_law_2192 rfl rfl ?_
        refine zS_ite (fun ht => ?_) (fun _ => zS_none)
        refine s_callV (pc := 2193) (np := 0) (as := []) (rest := []) dL_law_2193 ht (q := (RX1, TX1, 11)) rfl (c_X1_billTotalByAccount (by decide) a1 h) rfl rfl q1486 q1487 q1488 rfl (by decide) (zkI (fun x311 h312 => ?_)) zxo
        refine s_aload_n (pc := 2196) 2 dL_law_2196 rfl rfl ?_
        refine zS_ite (fun ht => ?_) (fun _ => zS_none)
        refine s_callV (pc := 2197) (np := 0) (as := []) (rest := [.int x311]) dL_law_2197 ht (q := (RX5, TX5, 20)) rfl (c_X5_billTotalByAccount (by decide) a2 h312) rfl rfl q3654 q3655 q3656 rfl (by simp [zcat_rf, zcat_i, zcat_l, zcat_f, zcat_d]) (zkI (fun x313 h314 => ?_)) zxo
        refine s_icmp_eq (pc := 2200) (tgt := 2811) dL_law_2200 (by decide) (fun _ => ?_) (fun _ => ?_)
        · exact s_sub (pc := 2811) [0, 1, 2, 3, 4, 5] rfl (w_L_law_2811 (f_L_law_28 n) ih a0 a1 a2 a3 a4 a5 h314)
        · refine s_iconst (pc := 2203) (v := 0) dL_law_2203 (by decide) ?_
          exact s_nret (pc := 2204) dL_law_2204 rfl
      refine zS_ite (fun hx => ?_) (fun hx40 => ?_)
      · refine s_tabIn (pc := 44) (tgt := 2205) (v := 40) dL_law_44 hx (by decide) (by decide) rfl (by decide) ?_
        refine s_aload_n (pc := 2205) 1 dL_law_2205 rfl rfl ?_
        refine zS_ite (fun ht => ?_) (fun _ => zS_none)
        refine s_callV (pc := 2206) (np := 0) (as := []) (rest := []) dL_law_2206 ht (q := (RX1, TX1, 11)) rfl (c_X1_paidTotal (by decide) a1 h) rfl rfl q1490 q1491 q1492 rfl (by decide) (zkI (fun x315 h316 => ?_)) zxo
        refine s_aload_n (pc := 2209) 2 dL_law_2209 rfl rfl ?_
        refine zS_ite (fun ht => ?_) (fun _ => zS_none)
        refine s_callV (pc := 2210) (np := 0) (as := []) (rest := [.int x315]) dL_law_2210 ht (q := (RX5, TX5, 20)) rfl (c_X5_paidTotal (by decide) a2 h316) rfl rfl q3658 q3659 q3660 rfl (by simp [zcat_rf, zcat_i, zcat_l, zcat_f, zcat_d]) (zkI (fun x317 h318 => ?_)) zxo
        refine s_icmp_eq (pc := 2213) (tgt := 2811) dL_law_2213 (by decide) (fun _ => ?_) (fun _ => ?_)
        · exact s_sub (pc := 2811) [0, 1, 2, 3, 4, 5] rfl (w_L_law_2811 (f_L_law_28 n) ih a0 a1 a2 a3 a4 a5 h318)
        · refine s_iconst (pc := 2216) (v := 0) dL_law_2216 (by decide) ?_
          exact s_nret (pc := 2217) dL_law_2217 rfl
      refine zS_ite (fun hx => ?_) (fun hx41 => ?_)
      · refine s_tabIn (pc := 44) (tgt := 2218) (v := 41) dL_law_44 hx (by decide) (by decide) rfl (by decide) ?_
        refine s_aload_n (pc := 2218) 1 dL_law_2218 rfl rfl ?_
        refine s_aload_n (pc := 2219) 0 dL_law_2219 rfl rfl ?_
        refine s_iload (pc := 2220) 5 dL_law_2220 rfl ?_
        refine s_iconst (pc := 2222) (v := 1) dL_law_2222 (by decide) ?_
        refine s_iadd (pc := 2223) dL_law_2223 ?_
        refine s_iald (pc := 2224) dL_law_2224 (ztc rfl zt0) (fun x319 => ?_)
        refine s_aload_n (pc := 2225) 3 dL_law_2225 rfl rfl ?_
        refine s_callSS (pc := 2226) (np := 3) (as := [va_rf a1, .int x319, va_rf a3]) (rest := []) dL_law_2226 (c_X0_shipAtRank (by decide) a1 x319 a3 h) rfl rfl q2838 q2839 rfl (by decide) (zkI (fun x320 h321 => ?_)) zxo
        refine s_ist (pc := 2229) (L2 := [(0, va_rf a0), (1, va_rf a1), (2, va_rf a2), (3, va_rf a3), (4, va_rf a4), (5, .int a5)]) [0, 1, 2, 3, 4, 5] dL_law_2229 (by decide) rfl rfl (zcB (j := 5) rfl rfl rfl) ?_
        refine s_aload_n (pc := 2231) 3 dL_law_2231 rfl rfl ?_
        refine s_aload_n (pc := 2232) 1 dL_law_2232 rfl rfl ?_
        refine s_iload (pc := 2233) 6 dL_law_2233 rfl ?_
        refine s_iconst (pc := 2235) (v := 1) dL_law_2235 (by decide) ?_
        refine s_iadd (pc := 2236) dL_law_2236 ?_
        refine s_iald (pc := 2237) dL_law_2237 (ztc rfl zt0) (fun x322 => ?_)
        refine zS_ite (fun ht => ?_) (fun _ => zS_none)
        refine s_callV (pc := 2238) (np := 1) (as := [.int x322]) (rest := []) dL_law_2238 ht (q := (RX5, TX5, 20)) rfl (c_X5_shipAtRank (by decide) a2 x322 h321) rfl rfl q3662 q3663 q3664 rfl (by decide) (zkI (fun x323 h324 => ?_)) zxo
        refine s_ist (pc := 2241) (L2 := [(6, .int x320), (0, va_rf a0), (1, va_rf a1), (2, va_rf a2), (3, va_rf a3), (4, va_rf a4), (5, .int a5)]) [0, 1, 2, 3, 4, 5, 6] dL_law_2241 (by decide) rfl rfl (zcB (j := 0) rfl rfl rfl) ?_
        refine s_aload_n (pc := 2243) 4 dL_law_2243 rfl rfl ?_
        refine zS_ite (fun ht => ?_) (fun _ => zS_none)
        refine s_callV (pc := 2244) (np := 0) (as := []) (rest := []) dL_law_2244 ht (q := (RX5, TX5, 20)) rfl (c_X5_thrown (by decide) a2 h324) rfl rfl q3303 q3304 q3305 rfl (by decide) (zkI (fun x325 h326 => ?_)) zxo
        refine s_iload (pc := 2247) 1 dL_law_2247 rfl ?_
        refine s_icmp_eq (pc := 2249) (tgt := 2254) dL_law_2249 (by decide) (fun _ => ?_) (fun _ => ?_)
        · refine s_iload (pc := 2254) 1 dL_law_2254 rfl ?_
          refine s_if_ne (pc := 2256) (tgt := 2271) dL_law_2256 (by decide) (fun _ => ?_) (fun _ => ?_)
          · exact s_sub (pc := 2271) [2, 3, 4, 5, 6, 7] rfl (w_L_law_2271 (f_L_law_28 n) ih a0 a1 a2 a3 a4 a5 h326)
          · refine s_aload_n (pc := 2259) 5 dL_law_2259 rfl rfl ?_
            refine s_iconst (pc := 2260) (v := 0) dL_law_2260 (by decide) ?_
            refine s_lald (pc := 2261) dL_law_2261 (ztc rfl zt0) (fun x327 => ?_)
            refine s_iload (pc := 2262) 0 dL_law_2262 rfl ?_
            refine s_i2l (pc := 2264) dL_law_2264 ?_
            refine s_lcmp (pc := 2265) dL_law_2265 ?_
            refine s_if_eq (pc := 2266) (tgt := 2271) dL_law_2266 (by decide) (fun _ => ?_) (fun _ => ?_)
            · exact s_sub (pc := 2271) [2, 3, 4, 5, 6, 7] rfl (w_L_law_2271 (f_L_law_28 n) ih a0 a1 a2 a3 a4 a5 h326)
            · refine s_iconst (pc := 2269) (v := 0) dL_law_2269 (by decide) ?_
              exact s_nret (pc := 2270) dL_law_2270 rfl
        · refine s_iconst (pc := 2252) (v := 0) dL_law_2252 (by decide) ?_
          exact s_nret (pc := 2253) dL_law_2253 rfl
      refine zS_ite (fun hx => ?_) (fun hx42 => ?_)
      · refine s_tabIn (pc := 44) (tgt := 2274) (v := 42) dL_law_44 hx (by decide) (by decide) rfl (by decide) ?_
        refine s_aload_n (pc := 2274) 1 dL_law_2274 rfl rfl ?_
        refine s_aload_n (pc := 2275) 0 dL_law_2275 rfl rfl ?_
        refine s_iload (pc := 2276) 5 dL_law_2276 rfl ?_
        refine s_iconst (pc := 2278) (v := 1) dL_law_2278 (by decide) ?_
        refine s_iadd (pc := 2279) dL_law_2279 ?_
        refine s_iald (pc := 2280) dL_law_2280 (ztc rfl zt0) (fun x328 => ?_)
        refine s_i2c (pc := 2281) dL_law_2281 ?_
        refine s_aload_n (pc := 2282) 3 dL_law_2282 rfl rfl ?_
        refine s_callSS (pc := 2283) (np := 3) (as := [va_rf a1, .int ((x328.toUInt32 % 65536).toInt32), va_rf a3]) (rest := []) dL_law_2283 (c_X0_append (by decide) a1 ((x328.toUInt32 % 65536).toInt32) a3 h) rfl rfl q2855 q2856 rfl (by decide) (zkI (fun x329 h330 => ?_)) zxo
        refine s_ist (pc := 2286) (L2 := [(0, va_rf a0), (1, va_rf a1), (2, va_rf a2), (3, va_rf a3), (4, va_rf a4), (5, .int a5)]) [0, 1, 2, 3, 4, 5] dL_law_2286 (by decide) rfl rfl (zcB (j := 5) rfl rfl rfl) ?_
        refine s_aload_n (pc := 2288) 3 dL_law_2288 rfl rfl ?_
        refine s_aload_n (pc := 2289) 1 dL_law_2289 rfl rfl ?_
        refine s_iload (pc := 2290) 6 dL_law_2290 rfl ?_
        refine s_iconst (pc := 2292) (v := 1) dL_law_2292 (by decide) ?_
        refine s_iadd (pc := 2293) dL_law_2293 ?_
        refine s_iald (pc := 2294) dL_law_2294 (ztc rfl zt0) (fun x331 => ?_)
        refine s_i2c (pc := 2295) dL_law_2295 ?_
        refine zS_ite (fun ht => ?_) (fun _ => zS_none)
        refine s_callV (pc := 2296) (np := 1) (as := [.int ((x331.toUInt32 % 65536).toInt32)]) (rest := []) dL_law_2296 ht (q := (RX5, TX5, 20)) rfl (c_X5_append (by decide) a2 ((x331.toUInt32 % 65536).toInt32) h330) rfl rfl q3699 q3700 q3701 rfl (by decide) (zkI (fun x332 h333 => ?_)) zxo
        refine s_ist (pc := 2299) (L2 := [(6, .int x329), (0, va_rf a0), (1, va_rf a1), (2, va_rf a2), (3, va_rf a3), (4, va_rf a4), (5, .int a5)]) [0, 1, 2, 3, 4, 5, 6] dL_law_2299 (by decide) rfl rfl (zcB (j := 0) rfl rfl rfl) ?_
        refine s_aload_n (pc := 2301) 4 dL_law_2301 rfl rfl ?_
        refine zS_ite (fun ht => ?_) (fun _ => zS_none)
        refine s_callV (pc := 2302) (np := 0) (as := []) (rest := []) dL_law_2302 ht (q := (RX5, TX5, 20)) rfl (c_X5_thrown (by decide) a2 h333) rfl rfl q3303 q3304 q3305 rfl (by decide) (zkI (fun x334 h335 => ?_)) zxo
        refine s_iload (pc := 2305) 1 dL_law_2305 rfl ?_
        refine s_icmp_eq (pc := 2307) (tgt := 2312) dL_law_2307 (by decide) (fun _ => ?_) (fun _ => ?_)
        · refine s_iload (pc := 2312) 1 dL_law_2312 rfl ?_
          refine s_if_ne (pc := 2314) (tgt := 2329) dL_law_2314 (by decide) (fun _ => ?_) (fun _ => ?_)
          · exact s_sub (pc := 2329) [2, 3, 4, 5, 6, 7] rfl (w_L_law_2329 (f_L_law_28 n) ih a0 a1 a2 a3 a4 a5 h335)
          · refine s_aload_n (pc := 2317) 5 dL_law_2317 rfl rfl ?_
            refine s_iconst (pc := 2318) (v := 0) dL_law_2318 (by decide) ?_
            refine s_lald (pc := 2319) dL_law_2319 (ztc rfl zt0) (fun x336 => ?_)
            refine s_iload (pc := 2320) 0 dL_law_2320 rfl ?_
            refine s_i2l (pc := 2322) dL_law_2322 ?_
            refine s_lcmp (pc := 2323) dL_law_2323 ?_
            refine s_if_eq (pc := 2324) (tgt := 2329) dL_law_2324 (by decide) (fun _ => ?_) (fun _ => ?_)
            · exact s_sub (pc := 2329) [2, 3, 4, 5, 6, 7] rfl (w_L_law_2329 (f_L_law_28 n) ih a0 a1 a2 a3 a4 a5 h335)
            · refine s_iconst (pc := 2327) (v := 0) dL_law_2327 (by decide) ?_
              exact s_nret (pc := 2328) dL_law_2328 rfl
        · refine s_iconst (pc := 2310) (v := 0) dL_law_2310 (by decide) ?_
          exact s_nret (pc := 2311) dL_law_2311 rfl
      refine zS_ite (fun hx => ?_) (fun hx43 => ?_)
      · refine s_tabIn (pc := 44) (tgt := 2332) (v := 43) dL_law_44 hx (by decide) (by decide) rfl (by decide) ?_
        refine s_aload_n (pc := 2332) 1 dL_law_2332 rfl rfl ?_
        refine s_aload_n (pc := 2333) 3 dL_law_2333 rfl rfl ?_
        refine s_callSS (pc := 2334) (np := 2) (as := [va_rf a1, va_rf a3]) (rest := []) dL_law_2334 (c_X0_run (by decide) a1 a3 h) rfl rfl q2865 q2866 rfl (by decide) (zkI (fun x337 h338 => ?_)) zxo
        refine s_ist (pc := 2337) (L2 := [(0, va_rf a0), (1, va_rf a1), (2, va_rf a2), (3, va_rf a3), (4, va_rf a4), (5, .int a5)]) [0, 1, 2, 3, 4, 5] dL_law_2337 (by decide) rfl rfl (zcB (j := 5) rfl rfl rfl) ?_
        refine s_aload_n (pc := 2339) 3 dL_law_2339 rfl rfl ?_
        refine zS_ite (fun ht => ?_) (fun _ => zS_none)
        refine s_callV (pc := 2340) (np := 0) (as := []) (rest := []) dL_law_2340 ht (q := (RX5, TX5, 20)) rfl (c_X5_run (by decide) a2 h338) rfl rfl q3703 q3704 q3705 rfl (by decide) (zkI (fun x339 h340 => ?_)) zxo
        refine s_ist (pc := 2343) (L2 := [(6, .int x337), (0, va_rf a0), (1, va_rf a1), (2, va_rf a2), (3, va_rf a3), (4, va_rf a4), (5, .int a5)]) [0, 1, 2, 3, 4, 5, 6] dL_law_2343 (by decide) rfl rfl (zcB (j := 0) rfl rfl rfl) ?_
        refine s_aload_n (pc := 2345) 4 dL_law_2345 rfl rfl ?_
        refine zS_ite (fun ht => ?_) (fun _ => zS_none)
        refine s_callV (pc := 2346) (np := 0) (as := []) (rest := []) dL_law_2346 ht (q := (RX5, TX5, 20)) rfl (c_X5_thrown (by decide) a2 h340) rfl rfl q3303 q3304 q3305 rfl (by decide) (zkI (fun x341 h342 => ?_)) zxo
        refine s_iload (pc := 2349) 1 dL_law_2349 rfl ?_
        refine s_icmp_eq (pc := 2351) (tgt := 2356) dL_law_2351 (by decide) (fun _ => ?_) (fun _ => ?_)
        · refine s_iload (pc := 2356) 1 dL_law_2356 rfl ?_
          refine s_if_ne (pc := 2358) (tgt := 2373) dL_law_2358 (by decide) (fun _ => ?_) (fun _ => ?_)
          · exact s_sub (pc := 2373) [2, 3, 4, 5, 6, 7] rfl (w_L_law_2373 (f_L_law_28 n) ih a0 a1 a2 a3 a4 a5 h342)
          · refine s_aload_n (pc := 2361) 5 dL_law_2361 rfl rfl ?_
            refine s_iconst (pc := 2362) (v := 0) dL_law_2362 (by decide) ?_
            refine s_lald (pc := 2363) dL_law_2363 (ztc rfl zt0) (fun x343 => ?_)
            refine s_iload (pc := 2364) 0 dL_law_2364 rfl ?_
            refine s_i2l (pc := 2366) dL_law_2366 ?_
            refine s_lcmp (pc := 2367) dL_law_2367 ?_
            refine s_if_eq (pc := 2368) (tgt := 2373) dL_law_2368 (by decide) (fun _ => ?_) (fun _ => ?_)
            · exact s_sub (pc := 2373) [2, 3, 4, 5, 6, 7] rfl (w_L_law_2373 (f_L_law_28 n) ih a0 a1 a2 a3 a4 a5 h342)
            · refine s_iconst (pc := 2371) (v := 0) dL_law_2371 (by decide) ?_
              exact s_nret (pc := 2372) dL_law_2372 rfl
        · refine s_iconst (pc := 2354) (v := 0) dL_law_2354 (by decide) ?_
          exact s_nret (pc := 2355) dL_law_2355 rfl
      refine zS_ite (fun hx => ?_) (fun hx44 => ?_)
      · refine s_tabIn (pc := 44) (tgt := 2376) (v := 44) dL_law_44 hx (by decide) (by decide) rfl (by decide) ?_
        refine s_aload_n (pc := 2376) 1 dL_law_2376 rfl rfl ?_
        refine s_aload_n (pc := 2377) 3 dL_law_2377 rfl rfl ?_
        refine s_callSS (pc := 2378) (np := 2) (as := [va_rf a1, va_rf a3]) (rest := []) dL_law_2378 (c_X0_errorPosition (by decide) a1 a3 h) rfl rfl q3121 q3122 rfl (by decide) (zkI (fun x344 h345 => ?_)) zxo
        refine s_ist (pc := 2381) (L2 := [(0, va_rf a0), (1, va_rf a1), (2, va_rf a2), (3, va_rf a3), (4, va_rf a4), (5, .int a5)]) [0, 1, 2, 3, 4, 5] dL_law_2381 (by decide) rfl rfl (zcB (j := 5) rfl rfl rfl) ?_
        refine s_aload_n (pc := 2383) 3 dL_law_2383 rfl rfl ?_
        refine zS_ite (fun ht => ?_) (fun _ => zS_none)
        refine s_callV (pc := 2384) (np := 0) (as := []) (rest := []) dL_law_2384 ht (q := (RX5, TX5, 20)) rfl (c_X5_errorPosition (by decide) a2 h345) rfl rfl q3744 q3745 q3746 rfl (by decide) (zkI (fun x346 h347 => ?_)) zxo
        refine s_ist (pc := 2387) (L2 := [(6, .int x344), (0, va_rf a0), (1, va_rf a1), (2, va_rf a2), (3, va_rf a3), (4, va_rf a4), (5, .int a5)]) [0, 1, 2, 3, 4, 5, 6] dL_law_2387 (by decide) rfl rfl (zcB (j := 0) rfl rfl rfl) ?_
        refine s_aload_n (pc := 2389) 4 dL_law_2389 rfl rfl ?_
        refine zS_ite (fun ht => ?_) (fun _ => zS_none)
        refine s_callV (pc := 2390) (np := 0) (as := []) (rest := []) dL_law_2390 ht (q := (RX5, TX5, 20)) rfl (c_X5_thrown (by decide) a2 h347) rfl rfl q3303 q3304 q3305 rfl (by decide) (zkI (fun x348 h349 => ?_)) zxo
        refine s_iload (pc := 2393) 1 dL_law_2393 rfl ?_
        refine s_icmp_eq (pc := 2395) (tgt := 2400) dL_law_2395 (by decide) (fun _ => ?_) (fun _ => ?_)
        · refine s_iload (pc := 2400) 1 dL_law_2400 rfl ?_
          refine s_if_ne (pc := 2402) (tgt := 2417) dL_law_2402 (by decide) (fun _ => ?_) (fun _ => ?_)
          · exact s_sub (pc := 2417) [2, 3, 4, 5, 6, 7] rfl (w_L_law_2417 (f_L_law_28 n) ih a0 a1 a2 a3 a4 a5 h349)
          · refine s_aload_n (pc := 2405) 5 dL_law_2405 rfl rfl ?_
            refine s_iconst (pc := 2406) (v := 0) dL_law_2406 (by decide) ?_
            refine s_lald (pc := 2407) dL_law_2407 (ztc rfl zt0) (fun x350 => ?_)
            refine s_iload (pc := 2408) 0 dL_law_2408 rfl ?_
            refine s_i2l (pc := 2410) dL_law_2410 ?_
            refine s_lcmp (pc := 2411) dL_law_2411 ?_
            refine s_if_eq (pc := 2412) (tgt := 2417) dL_law_2412 (by decide) (fun _ => ?_) (fun _ => ?_)
            · exact s_sub (pc := 2417) [2, 3, 4, 5, 6, 7] rfl (w_L_law_2417 (f_L_law_28 n) ih a0 a1 a2 a3 a4 a5 h349)
            · refine s_iconst (pc := 2415) (v := 0) dL_law_2415 (by decide) ?_
              exact s_nret (pc := 2416) dL_law_2416 rfl
        · refine s_iconst (pc := 2398) (v := 0) dL_law_2398 (by decide) ?_
          exact s_nret (pc := 2399) dL_law_2399 rfl
      refine zS_ite (fun hx => ?_) (fun hx45 => ?_)
      · refine s_tabIn (pc := 44) (tgt := 2420) (v := 45) dL_law_44 hx (by decide) (by decide) rfl (by decide) ?_
        refine s_aload_n (pc := 2420) 1 dL_law_2420 rfl rfl ?_
        refine s_aload_n (pc := 2421) 3 dL_law_2421 rfl rfl ?_
        refine s_callSS (pc := 2422) (np := 2) (as := [va_rf a1, va_rf a3]) (rest := []) dL_law_2422 (c_X0_failedCommand (by decide) a1 a3 h) rfl rfl q3128 q3129 rfl (by decide) (zkI (fun x351 h352 => ?_)) zxo
        refine s_ist (pc := 2425) (L2 := [(0, va_rf a0), (1, va_rf a1), (2, va_rf a2), (3, va_rf a3), (4, va_rf a4), (5, .int a5)]) [0, 1, 2, 3, 4, 5] dL_law_2425 (by decide) rfl rfl (zcB (j := 5) rfl rfl rfl) ?_
        refine s_aload_n (pc := 2427) 3 dL_law_2427 rfl rfl ?_
        refine zS_ite (fun ht => ?_) (fun _ => zS_none)
        refine s_callV (pc := 2428) (np := 0) (as := []) (rest := []) dL_law_2428 ht (q := (RX5, TX5, 20)) rfl (c_X5_failedCommand (by decide) a2 h352) rfl rfl q3748 q3749 q3750 rfl (by decide) (zkI (fun x353 h354 => ?_)) zxo
        refine s_ist (pc := 2431) (L2 := [(6, .int x351), (0, va_rf a0), (1, va_rf a1), (2, va_rf a2), (3, va_rf a3), (4, va_rf a4), (5, .int a5)]) [0, 1, 2, 3, 4, 5, 6] dL_law_2431 (by decide) rfl rfl (zcB (j := 0) rfl rfl rfl) ?_
        refine s_aload_n (pc := 2433) 4 dL_law_2433 rfl rfl ?_
        refine zS_ite (fun ht => ?_) (fun _ => zS_none)
        refine s_callV (pc := 2434) (np := 0) (as := []) (rest := []) dL_law_2434 ht (q := (RX5, TX5, 20)) rfl (c_X5_thrown (by decide) a2 h354) rfl rfl q3303 q3304 q3305 rfl (by decide) (zkI (fun x355 h356 => ?_)) zxo
        refine s_iload (pc := 2437) 1 dL_law_2437 rfl ?_
        refine s_icmp_eq (pc := 2439) (tgt := 2444) dL_law_2439 (by decide) (fun _ => ?_) (fun _ => ?_)
        · refine s_iload (pc := 2444) 1 dL_law_2444 rfl ?_
          refine s_if_ne (pc := 2446) (tgt := 2461) dL_law_2446 (by decide) (fun _ => ?_) (fun _ => ?_)
          · exact s_sub (pc := 2461) [2, 3, 4, 5, 6, 7] rfl (w_L_law_2461 (f_L_law_28 n) ih a0 a1 a2 a3 a4 a5 h356)
          · refine s_aload_n (pc := 2449) 5 dL_law_2449 rfl rfl ?_
            refine s_iconst (pc := 2450) (v := 0) dL_law_2450 (by decide) ?_
            refine s_lald (pc := 2451) dL_law_2451 (ztc rfl zt0) (fun x357 => ?_)
            refine s_iload (pc := 2452) 0 dL_law_2452 rfl ?_
            refine s_i2l (pc := 2454) dL_law_2454 ?_
            refine s_lcmp (pc := 2455) dL_law_2455 ?_
            refine s_if_eq (pc := 2456) (tgt := 2461) dL_law_2456 (by decide) (fun _ => ?_) (fun _ => ?_)
            · exact s_sub (pc := 2461) [2, 3, 4, 5, 6, 7] rfl (w_L_law_2461 (f_L_law_28 n) ih a0 a1 a2 a3 a4 a5 h356)
            · refine s_iconst (pc := 2459) (v := 0) dL_law_2459 (by decide) ?_
              exact s_nret (pc := 2460) dL_law_2460 rfl
        · refine s_iconst (pc := 2442) (v := 0) dL_law_2442 (by decide) ?_
          exact s_nret (pc := 2443) dL_law_2443 rfl
      refine zS_ite (fun hx => ?_) (fun hx46 => ?_)
      · refine s_tabIn (pc := 44) (tgt := 2464) (v := 46) dL_law_44 hx (by decide) (by decide) rfl (by decide) ?_
        refine s_aload_n (pc := 2464) 1 dL_law_2464 rfl rfl ?_
        refine zS_ite (fun ht => ?_) (fun _ => zS_none)
        refine s_callV (pc := 2465) (np := 0) (as := []) (rest := []) dL_law_2465 ht (q := (RX1, TX1, 11)) rfl (c_X1_describeDock (by decide) a1 h) rfl rfl q1494 q1495 q1496 rfl (by decide) (zkI (fun x358 h359 => ?_)) zxo
        refine s_aload_n (pc := 2468) 2 dL_law_2468 rfl rfl ?_
        refine zS_ite (fun ht => ?_) (fun _ => zS_none)
        refine s_callV (pc := 2469) (np := 0) (as := []) (rest := [.int x358]) dL_law_2469 ht (q := (RX5, TX5, 20)) rfl (c_X5_describeDock (by decide) a2 h359) rfl rfl q3679 q3680 q3681 rfl (by simp [zcat_rf, zcat_i, zcat_l, zcat_f, zcat_d]) (zkI (fun x360 h361 => ?_)) zxo
        refine s_icmp_eq (pc := 2472) (tgt := 2811) dL_law_2472 (by decide) (fun _ => ?_) (fun _ => ?_)
        · exact s_sub (pc := 2811) [0, 1, 2, 3, 4, 5] rfl (w_L_law_2811 (f_L_law_28 n) ih a0 a1 a2 a3 a4 a5 h361)
        · refine s_iconst (pc := 2475) (v := 0) dL_law_2475 (by decide) ?_
          exact s_nret (pc := 2476) dL_law_2476 rfl
      refine zS_ite (fun hx => ?_) (fun hx47 => ?_)
      · refine s_tabIn (pc := 44) (tgt := 2477) (v := 47) dL_law_44 hx (by decide) (by decide) rfl (by decide) ?_
        refine s_aload_n (pc := 2477) 1 dL_law_2477 rfl rfl ?_
        refine s_aload_n (pc := 2478) 0 dL_law_2478 rfl rfl ?_
        refine s_iload (pc := 2479) 5 dL_law_2479 rfl ?_
        refine s_iconst (pc := 2481) (v := 1) dL_law_2481 (by decide) ?_
        refine s_iadd (pc := 2482) dL_law_2482 ?_
        refine s_iald (pc := 2483) dL_law_2483 (ztc rfl zt0) (fun x362 => ?_)
        refine s_aload_n (pc := 2484) 3 dL_law_2484 rfl rfl ?_
        refine s_callSS (pc := 2485) (np := 3) (as := [va_rf a1, .int x362, va_rf a3]) (rest := []) dL_law_2485 (c_X0_describeBill (by decide) a1 x362 a3 h) rfl rfl q3135 q3136 rfl (by decide) (zkI (fun x363 h364 => ?_)) zxo
        refine s_ist (pc := 2488) (L2 := [(0, va_rf a0), (1, va_rf a1), (2, va_rf a2), (3, va_rf a3), (4, va_rf a4), (5, .int a5)]) [0, 1, 2, 3, 4, 5] dL_law_2488 (by decide) rfl rfl (zcB (j := 5) rfl rfl rfl) ?_
        refine s_aload_n (pc := 2490) 3 dL_law_2490 rfl rfl ?_
        refine s_aload_n (pc := 2491) 1 dL_law_2491 rfl rfl ?_
        refine s_iload (pc := 2492) 6 dL_law_2492 rfl ?_
        refine s_iconst (pc := 2494) (v := 1) dL_law_2494 (by decide) ?_
        refine s_iadd (pc := 2495) dL_law_2495 ?_
        refine s_iald (pc := 2496) dL_law_2496 (ztc rfl zt0) (fun x365 => ?_)
        refine zS_ite (fun ht => ?_) (fun _ => zS_none)
        refine s_callV (pc := 2497) (np := 1) (as := [.int x365]) (rest := []) dL_law_2497 ht (q := (RX5, TX5, 20)) rfl (c_X5_describeBill (by decide) a2 x365 h364) rfl rfl q3683 q3684 q3685 rfl (by decide) (zkI (fun x366 h367 => ?_)) zxo
        refine s_ist (pc := 2500) (L2 := [(6, .int x363), (0, va_rf a0), (1, va_rf a1), (2, va_rf a2), (3, va_rf a3), (4, va_rf a4), (5, .int a5)]) [0, 1, 2, 3, 4, 5, 6] dL_law_2500 (by decide) rfl rfl (zcB (j := 0) rfl rfl rfl) ?_
        refine s_aload_n (pc := 2502) 4 dL_law_2502 rfl rfl ?_
        refine zS_ite (fun ht => ?_) (fun _ => zS_none)
        refine s_callV (pc := 2503) (np := 0) (as := []) (rest := []) dL_law_2503 ht (q := (RX5, TX5, 20)) rfl (c_X5_thrown (by decide) a2 h367) rfl rfl q3303 q3304 q3305 rfl (by decide) (zkI (fun x368 h369 => ?_)) zxo
        refine s_iload (pc := 2506) 1 dL_law_2506 rfl ?_
        refine s_icmp_eq (pc := 2508) (tgt := 2513) dL_law_2508 (by decide) (fun _ => ?_) (fun _ => ?_)
        · refine s_iload (pc := 2513) 1 dL_law_2513 rfl ?_
          refine s_if_ne (pc := 2515) (tgt := 2530) dL_law_2515 (by decide) (fun _ => ?_) (fun _ => ?_)
          · exact s_sub (pc := 2530) [2, 3, 4, 5, 6, 7] rfl (w_L_law_2530 (f_L_law_28 n) ih a0 a1 a2 a3 a4 a5 h369)
          · refine s_aload_n (pc := 2518) 5 dL_law_2518 rfl rfl ?_
            refine s_iconst (pc := 2519) (v := 0) dL_law_2519 (by decide) ?_
            refine s_lald (pc := 2520) dL_law_2520 (ztc rfl zt0) (fun x370 => ?_)
            refine s_iload (pc := 2521) 0 dL_law_2521 rfl ?_
            refine s_i2l (pc := 2523) dL_law_2523 ?_
            refine s_lcmp (pc := 2524) dL_law_2524 ?_
            refine s_if_eq (pc := 2525) (tgt := 2530) dL_law_2525 (by decide) (fun _ => ?_) (fun _ => ?_)
            · exact s_sub (pc := 2530) [2, 3, 4, 5, 6, 7] rfl (w_L_law_2530 (f_L_law_28 n) ih a0 a1 a2 a3 a4 a5 h369)
            · refine s_iconst (pc := 2528) (v := 0) dL_law_2528 (by decide) ?_
              exact s_nret (pc := 2529) dL_law_2529 rfl
        · refine s_iconst (pc := 2511) (v := 0) dL_law_2511 (by decide) ?_
          exact s_nret (pc := 2512) dL_law_2512 rfl
      refine zS_ite (fun hx => ?_) (fun hx48 => ?_)
      · refine s_tabIn (pc := 44) (tgt := 2533) (v := 48) dL_law_44 hx (by decide) (by decide) rfl (by decide) ?_
        refine s_aload_n (pc := 2533) 1 dL_law_2533 rfl rfl ?_
        refine s_aload_n (pc := 2534) 0 dL_law_2534 rfl rfl ?_
        refine s_iload (pc := 2535) 5 dL_law_2535 rfl ?_
        refine s_iconst (pc := 2537) (v := 1) dL_law_2537 (by decide) ?_
        refine s_iadd (pc := 2538) dL_law_2538 ?_
        refine s_iald (pc := 2539) dL_law_2539 (ztc rfl zt0) (fun x371 => ?_)
        refine s_aload_n (pc := 2540) 3 dL_law_2540 rfl rfl ?_
        refine s_callSS (pc := 2541) (np := 3) (as := [va_rf a1, .int x371, va_rf a3]) (rest := []) dL_law_2541 (c_X0_lineAt (by decide) a1 x371 a3 h) rfl rfl q3155 q3156 rfl (by decide) (zkI (fun x372 h373 => ?_)) zxo
        refine s_ist (pc := 2544) (L2 := [(0, va_rf a0), (1, va_rf a1), (2, va_rf a2), (3, va_rf a3), (4, va_rf a4), (5, .int a5)]) [0, 1, 2, 3, 4, 5] dL_law_2544 (by decide) rfl rfl (zcB (j := 5) rfl rfl rfl) ?_
        refine s_aload_n (pc := 2546) 3 dL_law_2546 rfl rfl ?_
        refine s_aload_n (pc := 2547) 1 dL_law_2547 rfl rfl ?_
        refine s_iload (pc := 2548) 6 dL_law_2548 rfl ?_
        refine s_iconst (pc := 2550) (v := 1) dL_law_2550 (by decide) ?_
        refine s_iadd (pc := 2551) dL_law_2551 ?_
        refine s_iald (pc := 2552) dL_law_2552 (ztc rfl zt0) (fun x374 => ?_)
        refine zS_ite (fun ht => ?_) (fun _ => zS_none)
        refine s_callV (pc := 2553) (np := 1) (as := [.int x374]) (rest := []) dL_law_2553 ht (q := (RX5, TX5, 20)) rfl (c_X5_lineAt (by decide) a2 x374 h373) rfl rfl q3695 q3696 q3697 rfl (by decide) (zkI (fun x375 h376 => ?_)) zxo
        refine s_ist (pc := 2556) (L2 := [(6, .int x372), (0, va_rf a0), (1, va_rf a1), (2, va_rf a2), (3, va_rf a3), (4, va_rf a4), (5, .int a5)]) [0, 1, 2, 3, 4, 5, 6] dL_law_2556 (by decide) rfl rfl (zcB (j := 0) rfl rfl rfl) ?_
        refine s_aload_n (pc := 2558) 4 dL_law_2558 rfl rfl ?_
        refine zS_ite (fun ht => ?_) (fun _ => zS_none)
        refine s_callV (pc := 2559) (np := 0) (as := []) (rest := []) dL_law_2559 ht (q := (RX5, TX5, 20)) rfl (c_X5_thrown (by decide) a2 h376) rfl rfl q3303 q3304 q3305 rfl (by decide) (zkI (fun x377 h378 => ?_)) zxo
        refine s_iload (pc := 2562) 1 dL_law_2562 rfl ?_
        refine s_icmp_eq (pc := 2564) (tgt := 2569) dL_law_2564 (by decide) (fun _ => ?_) (fun _ => ?_)
        · refine s_iload (pc := 2569) 1 dL_law_2569 rfl ?_
          refine s_if_ne (pc := 2571) (tgt := 2586) dL_law_2571 (by decide) (fun _ => ?_) (fun _ => ?_)
          · exact s_sub (pc := 2586) [2, 3, 4, 5, 6, 7] rfl (w_L_law_2586 (f_L_law_28 n) ih a0 a1 a2 a3 a4 a5 h378)
          · refine s_aload_n (pc := 2574) 5 dL_law_2574 rfl rfl ?_
            refine s_iconst (pc := 2575) (v := 0) dL_law_2575 (by decide) ?_
            refine s_lald (pc := 2576) dL_law_2576 (ztc rfl zt0) (fun x379 => ?_)
            refine s_iload (pc := 2577) 0 dL_law_2577 rfl ?_
            refine s_i2l (pc := 2579) dL_law_2579 ?_
            refine s_lcmp (pc := 2580) dL_law_2580 ?_
            refine s_if_eq (pc := 2581) (tgt := 2586) dL_law_2581 (by decide) (fun _ => ?_) (fun _ => ?_)
            · exact s_sub (pc := 2586) [2, 3, 4, 5, 6, 7] rfl (w_L_law_2586 (f_L_law_28 n) ih a0 a1 a2 a3 a4 a5 h378)
            · refine s_iconst (pc := 2584) (v := 0) dL_law_2584 (by decide) ?_
              exact s_nret (pc := 2585) dL_law_2585 rfl
        · refine s_iconst (pc := 2567) (v := 0) dL_law_2567 (by decide) ?_
          exact s_nret (pc := 2568) dL_law_2568 rfl
      refine zS_ite (fun hx => ?_) (fun hx49 => ?_)
      · refine s_tabIn (pc := 44) (tgt := 2589) (v := 49) dL_law_44 hx (by decide) (by decide) rfl (by decide) ?_
        refine s_aload_n (pc := 2589) 1 dL_law_2589 rfl rfl ?_
        refine s_aload (pc := 2590) 4 dL_law_2590 rfl ?_
        refine s_callSS (pc := 2592) (np := 2) (as := [va_rf a1, va_rf a4]) (rest := []) dL_law_2592 (c_X0_meanDirt (by decide) a1 a4 h) rfl rfl q3164 q3165 rfl (by decide) (zkI (fun x380 h381 => ?_)) zxo
        refine s_ist (pc := 2595) (L2 := [(0, va_rf a0), (1, va_rf a1), (2, va_rf a2), (3, va_rf a3), (4, va_rf a4), (5, .int a5)]) [0, 1, 2, 3, 4, 5] dL_law_2595 (by decide) rfl rfl (zcB (j := 5) rfl rfl rfl) ?_
        refine s_aload_n (pc := 2597) 3 dL_law_2597 rfl rfl ?_
        refine zS_ite (fun ht => ?_) (fun _ => zS_none)
        refine s_callV (pc := 2598) (np := 0) (as := []) (rest := []) dL_law_2598 ht (q := (RX5, TX5, 20)) rfl (c_X5_meanDirt (by decide) a2 h381) rfl rfl q3666 q3667 q3668 rfl (by decide) (zkD (fun x382 h383 => ?_)) zxo
        refine s_dst (pc := 2601) (L2 := [(6, .int x380), (0, va_rf a0), (1, va_rf a1), (2, va_rf a2), (3, va_rf a3), (4, va_rf a4), (5, .int a5)]) [0, 1, 2, 3, 4, 5, 6] dL_law_2601 (by decide) rfl rfl (zcB (j := 0) rfl rfl rfl) ?_
        refine s_aload_n (pc := 2603) 4 dL_law_2603 rfl rfl ?_
        refine zS_ite (fun ht => ?_) (fun _ => zS_none)
        refine s_callV (pc := 2604) (np := 0) (as := []) (rest := []) dL_law_2604 ht (q := (RX5, TX5, 20)) rfl (c_X5_thrown (by decide) a2 h383) rfl rfl q3303 q3304 q3305 rfl (by decide) (zkI (fun x384 h385 => ?_)) zxo
        refine s_iload (pc := 2607) 1 dL_law_2607 rfl ?_
        refine s_icmp_eq (pc := 2609) (tgt := 2614) dL_law_2609 (by decide) (fun _ => ?_) (fun _ => ?_)
        · refine s_iload (pc := 2614) 1 dL_law_2614 rfl ?_
          refine s_if_ne (pc := 2616) (tgt := 2651) dL_law_2616 (by decide) (fun _ => ?_) (fun _ => ?_)
          · exact s_sub (pc := 2651) [2, 3, 4, 5, 6, 7] rfl (w_L_law_2651 (f_L_law_28 n) ih a0 a1 a2 a3 a4 a5 h385)
          · refine s_aload (pc := 2619) 6 dL_law_2619 rfl ?_
            refine s_iconst (pc := 2621) (v := 0) dL_law_2621 (by decide) ?_
            refine s_dald (pc := 2622) dL_law_2622 (ztc rfl zt0) (fun x386 => ?_)
            refine s_dload (pc := 2623) 0 dL_law_2623 rfl ?_
            refine s_dcmp (pc := 2625) dL_law_2625 ?_
            refine s_if_eq (pc := 2626) (tgt := 2651) dL_law_2626 (by decide) (fun _ => ?_) (fun _ => ?_)
            · exact s_sub (pc := 2651) [2, 3, 4, 5, 6, 7] rfl (w_L_law_2651 (f_L_law_28 n) ih a0 a1 a2 a3 a4 a5 h385)
            · refine s_aload (pc := 2629) 6 dL_law_2629 rfl ?_
              refine s_iconst (pc := 2631) (v := 0) dL_law_2631 (by decide) ?_
              refine s_dald (pc := 2632) dL_law_2632 (ztc rfl zt0) (fun x387 => ?_)
              refine s_aload (pc := 2633) 6 dL_law_2633 rfl ?_
              refine s_iconst (pc := 2635) (v := 0) dL_law_2635 (by decide) ?_
              refine s_dald (pc := 2636) dL_law_2636 (ztc rfl zt0) (fun x388 => ?_)
              refine s_dcmp (pc := 2637) dL_law_2637 ?_
              refine s_if_eq (pc := 2638) (tgt := 2649) dL_law_2638 (by decide) (fun _ => ?_) (fun _ => ?_)
              · refine s_iconst (pc := 2649) (v := 0) dL_law_2649 (by decide) ?_
                exact s_nret (pc := 2650) dL_law_2650 rfl
              · refine s_dload (pc := 2641) 0 dL_law_2641 rfl ?_
                refine s_dload (pc := 2643) 0 dL_law_2643 rfl ?_
                refine s_dcmp (pc := 2645) dL_law_2645 ?_
                refine s_if_ne (pc := 2646) (tgt := 2651) dL_law_2646 (by decide) (fun _ => ?_) (fun _ => ?_)
                · exact s_sub (pc := 2651) [2, 3, 4, 5, 6, 7] rfl (w_L_law_2651 (f_L_law_28 n) ih a0 a1 a2 a3 a4 a5 h385)
                · refine s_iconst (pc := 2649) (v := 0) dL_law_2649 (by decide) ?_
                  exact s_nret (pc := 2650) dL_law_2650 rfl
        · refine s_iconst (pc := 2612) (v := 0) dL_law_2612 (by decide) ?_
          exact s_nret (pc := 2613) dL_law_2613 rfl
      refine zS_ite (fun hx => ?_) (fun hx50 => ?_)
      · refine s_tabIn (pc := 44) (tgt := 2654) (v := 50) dL_law_44 hx (by decide) (by decide) rfl (by decide) ?_
        refine s_aload_n (pc := 2654) 1 dL_law_2654 rfl rfl ?_
        refine zS_ite (fun ht => ?_) (fun _ => zS_none)
        refine s_callV (pc := 2655) (np := 0) (as := []) (rest := []) dL_law_2655 ht (q := (RX1, TX1, 11)) rfl (c_X1_takenShare (by decide) a1 h) rfl rfl q1928 q1929 q1930 rfl (by decide) (zkF (fun x389 h390 => ?_)) zxo
        refine s_f2d (pc := 2658) dL_law_2658 (fun _ => ?_)
        refine s_nm (pc := 2659) Value.double (fun x391 => ?_)
        refine s_dst (pc := 2659) (L2 := [(0, va_rf a0), (1, va_rf a1), (2, va_rf a2), (3, va_rf a3), (4, va_rf a4), (5, .int a5)]) [0, 1, 2, 3, 4, 5] dL_law_2659 (by decide) rfl rfl (zcB (j := 5) rfl rfl rfl) ?_
        refine s_aload_n (pc := 2661) 3 dL_law_2661 rfl rfl ?_
        refine zS_ite (fun ht => ?_) (fun _ => zS_none)
        refine s_callV (pc := 2662) (np := 0) (as := []) (rest := []) dL_law_2662 ht (q := (RX5, TX5, 20)) rfl (c_X5_takenShare (by decide) a2 h390) rfl rfl q3670 q3671 q3672 rfl (by decide) (zkF (fun x392 h393 => ?_)) zxo
        refine s_f2d (pc := 2665) dL_law_2665 (fun _ => ?_)
        refine s_nm (pc := 2666) Value.double (fun x394 => ?_)
        refine s_dst (pc := 2666) (L2 := [(6, .double x391), (0, va_rf a0), (1, va_rf a1), (2, va_rf a2), (3, va_rf a3), (4, va_rf a4), (5, .int a5)]) [0, 1, 2, 3, 4, 5, 6] dL_law_2666 (by decide) rfl rfl (zcA rfl) ?_
        refine s_dload (pc := 2668) 1 dL_law_2668 rfl ?_
        refine s_dload (pc := 2670) 0 dL_law_2670 rfl ?_
        refine s_dcmp (pc := 2672) dL_law_2672 ?_
        refine s_if_eq (pc := 2673) (tgt := 2694) dL_law_2673 (by decide) (fun _ => ?_) (fun _ => ?_)
        · exact s_sub (pc := 2694) [2, 3, 4, 5, 6, 7] rfl (w_L_law_2694 (f_L_law_28 n) ih a0 a1 a2 a3 a4 a5 h393)
        · refine s_dload (pc := 2676) 1 dL_law_2676 rfl ?_
          refine s_dload (pc := 2678) 1 dL_law_2678 rfl ?_
          refine s_dcmp (pc := 2680) dL_law_2680 ?_
          refine s_if_eq (pc := 2681) (tgt := 2692) dL_law_2681 (by decide) (fun _ => ?_) (fun _ => ?_)
          · refine s_iconst (pc := 2692) (v := 0) dL_law_2692 (by decide) ?_
            exact s_nret (pc := 2693) dL_law_2693 rfl
          · refine s_dload (pc := 2684) 0 dL_law_2684 rfl ?_
            refine s_dload (pc := 2686) 0 dL_law_2686 rfl ?_
            refine s_dcmp (pc := 2688) dL_law_2688 ?_
            refine s_if_ne (pc := 2689) (tgt := 2694) dL_law_2689 (by decide) (fun _ => ?_) (fun _ => ?_)
            · exact s_sub (pc := 2694) [2, 3, 4, 5, 6, 7] rfl (w_L_law_2694 (f_L_law_28 n) ih a0 a1 a2 a3 a4 a5 h393)
            · refine s_iconst (pc := 2692) (v := 0) dL_law_2692 (by decide) ?_
              exact s_nret (pc := 2693) dL_law_2693 rfl
      refine zS_ite (fun hx => ?_) (fun hx51 => ?_)
      · refine s_tabIn (pc := 44) (tgt := 2697) (v := 51) dL_law_44 hx (by decide) (by decide) rfl (by decide) ?_
        refine s_aload_n (pc := 2697) 1 dL_law_2697 rfl rfl ?_
        refine zS_ite (fun ht => ?_) (fun _ => zS_none)
        refine s_callV (pc := 2698) (np := 0) (as := []) (rest := []) dL_law_2698 ht (q := (RX1, TX1, 11)) rfl (c_X1_isConsistent (by decide) a1 h) rfl rfl q1933 q1934 q1935 rfl (by decide) (zkI (fun x395 h396 => ?_)) zxo
        refine s_aload_n (pc := 2701) 2 dL_law_2701 rfl rfl ?_
        refine zS_ite (fun ht => ?_) (fun _ => zS_none)
        refine s_callV (pc := 2702) (np := 0) (as := []) (rest := [.int x395]) dL_law_2702 ht (q := (RX5, TX5, 20)) rfl (c_X5_isConsistent (by decide) a2 h396) rfl rfl q3675 q3676 q3677 rfl (by simp [zcat_rf, zcat_i, zcat_l, zcat_f, zcat_d]) (zkI (fun x397 h398 => ?_)) zxo
        refine s_icmp_eq (pc := 2705) (tgt := 2811) dL_law_2705 (by decide) (fun _ => ?_) (fun _ => ?_)
        · exact s_sub (pc := 2811) [0, 1, 2, 3, 4, 5] rfl (w_L_law_2811 (f_L_law_28 n) ih a0 a1 a2 a3 a4 a5 h398)
        · refine s_iconst (pc := 2708) (v := 0) dL_law_2708 (by decide) ?_
          exact s_nret (pc := 2709) dL_law_2709 rfl
      refine zS_ite (fun hx => ?_) (fun hx52 => ?_)
      · refine s_tabIn (pc := 44) (tgt := 2710) (v := 52) dL_law_44 hx (by decide) (by decide) rfl (by decide) ?_
        refine s_aload_n (pc := 2710) 1 dL_law_2710 rfl rfl ?_
        refine s_aload_n (pc := 2711) 3 dL_law_2711 rfl rfl ?_
        refine s_callSS (pc := 2712) (np := 2) (as := [va_rf a1, va_rf a3]) (rest := []) dL_law_2712 (c_X0_undo (by decide) a1 a3 h) rfl rfl q3200 q3201 rfl (by decide) (zkI (fun x399 h400 => ?_)) zxo
        refine s_ist (pc := 2715) (L2 := [(0, va_rf a0), (1, va_rf a1), (2, va_rf a2), (3, va_rf a3), (4, va_rf a4), (5, .int a5)]) [0, 1, 2, 3, 4, 5] dL_law_2715 (by decide) rfl rfl (zcB (j := 5) rfl rfl rfl) ?_
        refine s_aload_n (pc := 2717) 3 dL_law_2717 rfl rfl ?_
        refine zS_ite (fun ht => ?_) (fun _ => zS_none)
        refine s_callV (pc := 2718) (np := 0) (as := []) (rest := []) dL_law_2718 ht (q := (RX5, TX5, 20)) rfl (c_X5_undo (by decide) a2 h400) rfl rfl q3307 q3308 q3309 rfl (by decide) (zkI (fun x401 h402 => ?_)) zxo
        refine s_ist (pc := 2721) (L2 := [(6, .int x399), (0, va_rf a0), (1, va_rf a1), (2, va_rf a2), (3, va_rf a3), (4, va_rf a4), (5, .int a5)]) [0, 1, 2, 3, 4, 5, 6] dL_law_2721 (by decide) rfl rfl (zcB (j := 0) rfl rfl rfl) ?_
        refine s_aload_n (pc := 2723) 4 dL_law_2723 rfl rfl ?_
        refine zS_ite (fun ht => ?_) (fun _ => zS_none)
        refine s_callV (pc := 2724) (np := 0) (as := []) (rest := []) dL_law_2724 ht (q := (RX5, TX5, 20)) rfl (c_X5_thrown (by decide) a2 h402) rfl rfl q3303 q3304 q3305 rfl (by decide) (zkI (fun x403 h404 => ?_)) zxo
        refine s_iload (pc := 2727) 1 dL_law_2727 rfl ?_
        refine s_icmp_eq (pc := 2729) (tgt := 2734) dL_law_2729 (by decide) (fun _ => ?_) (fun _ => ?_)
        · refine s_iload (pc := 2734) 1 dL_law_2734 rfl ?_
          refine s_if_ne (pc := 2736) (tgt := 2751) dL_law_2736 (by decide) (fun _ => ?_) (fun _ => ?_)
          · exact s_sub (pc := 2751) [2, 3, 4, 5, 6, 7] rfl (w_L_law_2751 (f_L_law_28 n) ih a0 a1 a2 a3 a4 a5 h404)
          · refine s_aload_n (pc := 2739) 5 dL_law_2739 rfl rfl ?_
            refine s_iconst (pc := 2740) (v := 0) dL_law_2740 (by decide) ?_
            refine s_lald (pc := 2741) dL_law_2741 (ztc rfl zt0) (fun x405 => ?_)
            refine s_iload (pc := 2742) 0 dL_law_2742 rfl ?_
            refine s_i2l (pc := 2744) dL_law_2744 ?_
            refine s_lcmp (pc := 2745) dL_law_2745 ?_
            refine s_if_eq (pc := 2746) (tgt := 2751) dL_law_2746 (by decide) (fun _ => ?_) (fun _ => ?_)
            · exact s_sub (pc := 2751) [2, 3, 4, 5, 6, 7] rfl (w_L_law_2751 (f_L_law_28 n) ih a0 a1 a2 a3 a4 a5 h404)
            · refine s_iconst (pc := 2749) (v := 0) dL_law_2749 (by decide) ?_
              exact s_nret (pc := 2750) dL_law_2750 rfl
        · refine s_iconst (pc := 2732) (v := 0) dL_law_2732 (by decide) ?_
          exact s_nret (pc := 2733) dL_law_2733 rfl
      refine zS_ite (fun hx => ?_) (fun hx53 => ?_)
      · refine s_tabIn (pc := 44) (tgt := 2754) (v := 53) dL_law_44 hx (by decide) (by decide) rfl (by decide) ?_
        refine s_aload_n (pc := 2754) 1 dL_law_2754 rfl rfl ?_
        refine zS_ite (fun ht => ?_) (fun _ => zS_none)
        refine s_callV (pc := 2755) (np := 0) (as := []) (rest := []) dL_law_2755 ht (q := (RX1, TX1, 11)) rfl (c_X1_save (by decide) a1 h) rfl rfl q1988 q1989 q1990 rfl (by decide) (zkI (fun x406 h407 => ?_)) zxo
        refine s_aload_n (pc := 2758) 2 dL_law_2758 rfl rfl ?_
        refine zS_ite (fun ht => ?_) (fun _ => zS_none)
        refine s_callV (pc := 2759) (np := 0) (as := []) (rest := [.int x406]) dL_law_2759 ht (q := (RX5, TX5, 20)) rfl (c_X5_save (by decide) a2 h407) rfl rfl q3322 q3323 q3324 rfl (by simp [zcat_rf, zcat_i, zcat_l, zcat_f, zcat_d]) (zkI (fun x408 h409 => ?_)) zxo
        refine s_icmp_eq (pc := 2762) (tgt := 2811) dL_law_2762 (by decide) (fun _ => ?_) (fun _ => ?_)
        · exact s_sub (pc := 2811) [0, 1, 2, 3, 4, 5] rfl (w_L_law_2811 (f_L_law_28 n) ih a0 a1 a2 a3 a4 a5 h409)
        · refine s_iconst (pc := 2765) (v := 0) dL_law_2765 (by decide) ?_
          exact s_nret (pc := 2766) dL_law_2766 rfl
      refine zS_ite (fun hx => ?_) (fun hx54 => ?_)
      · refine s_tabIn (pc := 44) (tgt := 2767) (v := 54) dL_law_44 hx (by decide) (by decide) rfl (by decide) ?_
        refine s_aload_n (pc := 2767) 1 dL_law_2767 rfl rfl ?_
        refine s_aload_n (pc := 2768) 3 dL_law_2768 rfl rfl ?_
        refine s_callSS (pc := 2769) (np := 2) (as := [va_rf a1, va_rf a3]) (rest := []) dL_law_2769 (c_X0_restore (by decide) a1 a3 h) rfl rfl q3222 q3223 rfl (by decide) (zkI (fun x410 h411 => ?_)) zxo
        refine s_ist (pc := 2772) (L2 := [(0, va_rf a0), (1, va_rf a1), (2, va_rf a2), (3, va_rf a3), (4, va_rf a4), (5, .int a5)]) [0, 1, 2, 3, 4, 5] dL_law_2772 (by decide) rfl rfl (zcB (j := 5) rfl rfl rfl) ?_
        refine s_aload_n (pc := 2774) 3 dL_law_2774 rfl rfl ?_
        refine zS_ite (fun ht => ?_) (fun _ => zS_none)
        refine s_callV (pc := 2775) (np := 0) (as := []) (rest := []) dL_law_2775 ht (q := (RX5, TX5, 20)) rfl (c_X5_restore (by decide) a2 h411) rfl rfl q3326 q3327 q3328 rfl (by decide) (zkI (fun x412 h413 => ?_)) zxo
        refine s_ist (pc := 2778) (L2 := [(6, .int x410), (0, va_rf a0), (1, va_rf a1), (2, va_rf a2), (3, va_rf a3), (4, va_rf a4), (5, .int a5)]) [0, 1, 2, 3, 4, 5, 6] dL_law_2778 (by decide) rfl rfl (zcB (j := 0) rfl rfl rfl) ?_
        refine s_aload_n (pc := 2780) 4 dL_law_2780 rfl rfl ?_
        refine zS_ite (fun ht => ?_) (fun _ => zS_none)
        refine s_callV (pc := 2781) (np := 0) (as := []) (rest := []) dL_law_2781 ht (q := (RX5, TX5, 20)) rfl (c_X5_thrown (by decide) a2 h413) rfl rfl q3303 q3304 q3305 rfl (by decide) (zkI (fun x414 h415 => ?_)) zxo
        refine s_iload (pc := 2784) 1 dL_law_2784 rfl ?_
        refine s_icmp_eq (pc := 2786) (tgt := 2791) dL_law_2786 (by decide) (fun _ => ?_) (fun _ => ?_)
        · refine s_iload (pc := 2791) 1 dL_law_2791 rfl ?_
          refine s_if_ne (pc := 2793) (tgt := 2808) dL_law_2793 (by decide) (fun _ => ?_) (fun _ => ?_)
          · exact s_sub (pc := 2808) [2, 3, 4, 5, 6, 7] rfl (w_L_law_2808 (f_L_law_28 n) ih a0 a1 a2 a3 a4 a5 h415)
          · refine s_aload_n (pc := 2796) 5 dL_law_2796 rfl rfl ?_
            refine s_iconst (pc := 2797) (v := 0) dL_law_2797 (by decide) ?_
            refine s_lald (pc := 2798) dL_law_2798 (ztc rfl zt0) (fun x416 => ?_)
            refine s_iload (pc := 2799) 0 dL_law_2799 rfl ?_
            refine s_i2l (pc := 2801) dL_law_2801 ?_
            refine s_lcmp (pc := 2802) dL_law_2802 ?_
            refine s_if_eq (pc := 2803) (tgt := 2808) dL_law_2803 (by decide) (fun _ => ?_) (fun _ => ?_)
            · exact s_sub (pc := 2808) [2, 3, 4, 5, 6, 7] rfl (w_L_law_2808 (f_L_law_28 n) ih a0 a1 a2 a3 a4 a5 h415)
            · refine s_iconst (pc := 2806) (v := 0) dL_law_2806 (by decide) ?_
              exact s_nret (pc := 2807) dL_law_2807 rfl
        · refine s_iconst (pc := 2789) (v := 0) dL_law_2789 (by decide) ?_
          exact s_nret (pc := 2790) dL_law_2790 rfl
      have hout : x13.toInt < 0 ∨ 54 < x13.toInt := by
        have q0 := lv_neT (a := 0) hx0 (by decide)
        have q1 := lv_neT (a := 1) hx1 (by decide)
        have q2 := lv_neT (a := 2) hx2 (by decide)
        have q3 := lv_neT (a := 3) hx3 (by decide)
        have q4 := lv_neT (a := 4) hx4 (by decide)
        have q5 := lv_neT (a := 5) hx5 (by decide)
        have q6 := lv_neT (a := 6) hx6 (by decide)
        have q7 := lv_neT (a := 7) hx7 (by decide)
        have q8 := lv_neT (a := 8) hx8 (by decide)
        have q9 := lv_neT (a := 9) hx9 (by decide)
        have q10 := lv_neT (a := 10) hx10 (by decide)
        have q11 := lv_neT (a := 11) hx11 (by decide)
        have q12 := lv_neT (a := 12) hx12 (by decide)
        have q13 := lv_neT (a := 13) hx13 (by decide)
        have q14 := lv_neT (a := 14) hx14 (by decide)
        have q15 := lv_neT (a := 15) hx15 (by decide)
        have q16 := lv_neT (a := 16) hx16 (by decide)
        have q17 := lv_neT (a := 17) hx17 (by decide)
        have q18 := lv_neT (a := 18) hx18 (by decide)
        have q19 := lv_neT (a := 19) hx19 (by decide)
        have q20 := lv_neT (a := 20) hx20 (by decide)
        have q21 := lv_neT (a := 21) hx21 (by decide)
        have q22 := lv_neT (a := 22) hx22 (by decide)
        have q23 := lv_neT (a := 23) hx23 (by decide)
        have q24 := lv_neT (a := 24) hx24 (by decide)
        have q25 := lv_neT (a := 25) hx25 (by decide)
        have q26 := lv_neT (a := 26) hx26 (by decide)
        have q27 := lv_neT (a := 27) hx27 (by decide)
        have q28 := lv_neT (a := 28) hx28 (by decide)
        have q29 := lv_neT (a := 29) hx29 (by decide)
        have q30 := lv_neT (a := 30) hx30 (by decide)
        have q31 := lv_neT (a := 31) hx31 (by decide)
        have q32 := lv_neT (a := 32) hx32 (by decide)
        have q33 := lv_neT (a := 33) hx33 (by decide)
        have q34 := lv_neT (a := 34) hx34 (by decide)
        have q35 := lv_neT (a := 35) hx35 (by decide)
        have q36 := lv_neT (a := 36) hx36 (by decide)
        have q37 := lv_neT (a := 37) hx37 (by decide)
        have q38 := lv_neT (a := 38) hx38 (by decide)
        have q39 := lv_neT (a := 39) hx39 (by decide)
        have q40 := lv_neT (a := 40) hx40 (by decide)
        have q41 := lv_neT (a := 41) hx41 (by decide)
        have q42 := lv_neT (a := 42) hx42 (by decide)
        have q43 := lv_neT (a := 43) hx43 (by decide)
        have q44 := lv_neT (a := 44) hx44 (by decide)
        have q45 := lv_neT (a := 45) hx45 (by decide)
        have q46 := lv_neT (a := 46) hx46 (by decide)
        have q47 := lv_neT (a := 47) hx47 (by decide)
        have q48 := lv_neT (a := 48) hx48 (by decide)
        have q49 := lv_neT (a := 49) hx49 (by decide)
        have q50 := lv_neT (a := 50) hx50 (by decide)
        have q51 := lv_neT (a := 51) hx51 (by decide)
        have q52 := lv_neT (a := 52) hx52 (by decide)
        have q53 := lv_neT (a := 53) hx53 (by decide)
        have q54 := lv_neT (a := 54) hx54 (by decide)
        omega
      refine s_tabOut (pc := 44) (tgt := 2811) dL_law_44 hout (by decide) ?_
      exact s_sub (pc := 2811) [0, 1, 2, 3, 4, 5] rfl (w_L_law_2811 (f_L_law_28 n) ih a0 a1 a2 a3 a4 a5 h)
theorem w_L_law (v0 : Option Nat) (h : zH) : zS D z yL_law cL_law 10 (some .boolean) [] 55 h 0 [(0, va_rf v0)] [] (f_L_law v0 h) := by
  unfold f_L_law
  refine s_new (pc := 0) dL_law_0 nf_X0_8 (fun r1 h2 => ?_)
  refine s_dup (pc := 3) dL_law_3 (zcat_rf _) ?_
  refine zS_ite (fun hr => ?_) (fun _ => zS_none)
  refine s_callC (pc := 4) (np := 0) (as := []) (rest := [va_rf r1]) dL_law_4 hr (c_X1_init (by decide) r1 h2) ⟨_, _, q162⟩ rfl rfl rfl q160 q161 rfl (by simp [zcat_rf, zcat_i, zcat_l, zcat_f, zcat_d]) (zkV (fun h3 => ?_)) zxo
  refine s_ast_n (pc := 7) (L2 := [(0, va_rf v0)]) [0] dL_law_7 rfl (by decide) rfl rfl (zcB (j := 0) rfl (zcat_rf v0) rfl) ?_
  refine s_new (pc := 8) dL_law_8 nf_X0_152 (fun r4 h5 => ?_)
  refine s_dup (pc := 11) dL_law_11 (zcat_rf _) ?_
  refine zS_ite (fun hr => ?_) (fun _ => zS_none)
  refine s_callC (pc := 12) (np := 0) (as := []) (rest := [va_rf r4]) dL_law_12 hr (c_X5_init (by decide) r4 h5) ⟨_, _, q3240⟩ rfl rfl rfl q3238 q3239 rfl (by simp [zcat_rf, zcat_i, zcat_l, zcat_f, zcat_d]) (zkV (fun h6 => ?_)) zxo
  refine s_ast_n (pc := 15) (L2 := [(1, va_rf r1), (0, va_rf v0)]) [0, 1] dL_law_15 rfl (by decide) rfl rfl (zcB (j := 0) rfl (zcat_rf r1) rfl) ?_
  refine s_iconst (pc := 16) (v := 1) dL_law_16 (by decide) ?_
  refine s_newa (pc := 17) (ty := .long) dL_law_17 rfl ⟨rfl, by decide⟩ q412 rfl rfl (fun r7 h8 => ?_)
  refine s_ast_n (pc := 19) (L2 := [(2, va_rf r4), (1, va_rf r1), (0, va_rf v0)]) [0, 1, 2] dL_law_19 rfl (by decide) rfl rfl (zcB (j := 0) rfl (zcat_rf r4) rfl) ?_
  refine s_iconst (pc := 20) (v := 1) dL_law_20 (by decide) ?_
  refine s_newa (pc := 21) (ty := .double) dL_law_21 rfl ⟨rfl, by decide⟩ q3752 rfl rfl (fun r9 h10 => ?_)
  refine s_ast (pc := 23) (L2 := [(3, va_rf r7), (2, va_rf r4), (1, va_rf r1), (0, va_rf v0)]) [0, 1, 2, 3] dL_law_23 (by decide) rfl rfl (zcB (j := 0) rfl (zcat_rf r7) rfl) ?_
  refine s_iconst (pc := 25) (v := 0) dL_law_25 (by decide) ?_
  refine s_ist (pc := 26) (L2 := [(4, va_rf r9), (3, va_rf r7), (2, va_rf r4), (1, va_rf r1), (0, va_rf v0)]) [0, 1, 2, 3, 4] dL_law_26 (by decide) rfl rfl (zcB (j := 0) rfl (zcat_rf r9) rfl) ?_
  exact s_sub (pc := 28) [5, 4, 3, 2, 1, 0] rfl (w_L_law_28 zfuel v0 r1 r4 r7 r9 0 h10)
end WL
