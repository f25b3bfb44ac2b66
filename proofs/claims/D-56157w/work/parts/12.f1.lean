set_option maxRecDepth 100000
def f_X3_iterator (v0 : Option Nat) (h : zH) : zO :=
  znO h 8 [.int 0, .null] fun r1 h2 =>
  if ¬ r1 = none then
    zcV (f_X9_init r1 v0 h2) zX fun h3 =>
    zrR r1 h3
  else none
def f_X2_blocksBeneathByMetres_55 (K17 : Option Nat → Int32 → Option Nat → zH → zO) (a0 : Option Nat) (a3 : Option Nat) (s0 : Int32) (s1 : Int32) (h : zH) : zO :=
  znm (s1 + s0) fun x118 =>
  K17 a0 x118 a3 h
def f_X2_blocksBeneathByMetres_17  : Nat → Option Nat → Int32 → Option Nat → zH → zO
  | 0, _, _, _, _ => none
  | n + 1, a0, a2, a3, h =>
    if ztg h a3 = some 8 then
      zcI (f_X9_hasNext a3 h) zX fun x6 h7 =>
      if x6 = 0 then
        zrI a2 h7
      else
        if ztg h7 a3 = some 8 then
          zcR (f_X9_next a3 h7) zX fun r8 h9 =>
          zcast h9 [26] r8 <|
          if ztg h9 r8 = some 26 then
            zcI (f_J24_intValue r8 h9) zX fun x10 h11 =>
            if ztg h11 a0 = some 1 then
              zcI (f_X2_hasBlock a0 x10 h11) zX fun x12 h13 =>
              if x12 = 0 then
                f_X2_blocksBeneathByMetres_55 (f_X2_blocksBeneathByMetres_17 n) a0 a3 0 a2 h13
              else
                f_X2_blocksBeneathByMetres_55 (f_X2_blocksBeneathByMetres_17 n) a0 a3 1 a2 h13
            else
            none
          else
          none
        else
        if ztg h7 a3 = some 20 then
          zcR (f_J15_next a3 h7) zX fun r8 h9 =>
          zcast h9 [26] r8 <|
          if ztg h9 r8 = some 26 then
            zcI (f_J24_intValue r8 h9) zX fun x14 h15 =>
            if ztg h15 a0 = some 1 then
              zcI (f_X2_hasBlock a0 x14 h15) zX fun x16 h17 =>
              if x16 = 0 then
                f_X2_blocksBeneathByMetres_55 (f_X2_blocksBeneathByMetres_17 n) a0 a3 0 a2 h17
              else
                f_X2_blocksBeneathByMetres_55 (f_X2_blocksBeneathByMetres_17 n) a0 a3 1 a2 h17
            else
            none
          else
          none
        else
        if ztg h7 a3 = some 21 then
          zcR (f_J17_next a3 h7) zX fun r8 h9 =>
          zcast h9 [26] r8 <|
          if ztg h9 r8 = some 26 then
            zcI (f_J24_intValue r8 h9) zX fun x18 h19 =>
            if ztg h19 a0 = some 1 then
              zcI (f_X2_hasBlock a0 x18 h19) zX fun x20 h21 =>
              if x20 = 0 then
                f_X2_blocksBeneathByMetres_55 (f_X2_blocksBeneathByMetres_17 n) a0 a3 0 a2 h21
              else
                f_X2_blocksBeneathByMetres_55 (f_X2_blocksBeneathByMetres_17 n) a0 a3 1 a2 h21
            else
            none
          else
          none
        else
        if ztg h7 a3 = some 24 then
          zcR (f_J21_next a3 h7) zX fun r8 h9 =>
          zcast h9 [26] r8 <|
          if ztg h9 r8 = some 26 then
            zcI (f_J24_intValue r8 h9) zX fun x22 h23 =>
            if ztg h23 a0 = some 1 then
              zcI (f_X2_hasBlock a0 x22 h23) zX fun x24 h25 =>
              if x24 = 0 then
                f_X2_blocksBeneathByMetres_55 (f_X2_blocksBeneathByMetres_17 n) a0 a3 0 a2 h25
              else
                f_X2_blocksBeneathByMetres_55 (f_X2_blocksBeneathByMetres_17 n) a0 a3 1 a2 h25
            else
            none
          else
          none
        else
        if ztg h7 a3 = some 25 then
          zcR (f_J22_next a3 h7) zX fun r8 h9 =>
          zcast h9 [26] r8 <|
          if ztg h9 r8 = some 26 then
            zcI (f_J24_intValue r8 h9) zX fun x26 h27 =>
            if ztg h27 a0 = some 1 then
              zcI (f_X2_hasBlock a0 x26 h27) zX fun x28 h29 =>
              if x28 = 0 then
                f_X2_blocksBeneathByMetres_55 (f_X2_blocksBeneathByMetres_17 n) a0 a3 0 a2 h29
              else
                f_X2_blocksBeneathByMetres_55 (f_X2_blocksBeneathByMetres_17 n) a0 a3 1 a2 h29
            else
            none
          else
          none
        else
        none
    else
    if ztg h a3 = some 20 then
      zcI (f_J15_hasNext a3 h) zX fun x6 h7 =>
      if x6 = 0 then
        zrI a2 h7
      else
        if ztg h7 a3 = some 8 then
          zcR (f_X9_next a3 h7) zX fun r30 h31 =>
          zcast h31 [26] r30 <|
          if ztg h31 r30 = some 26 then
            zcI (f_J24_intValue r30 h31) zX fun x32 h33 =>
            if ztg h33 a0 = some 1 then
              zcI (f_X2_hasBlock a0 x32 h33) zX fun x34 h35 =>
              if x34 = 0 then
                f_X2_blocksBeneathByMetres_55 (f_X2_blocksBeneathByMetres_17 n) a0 a3 0 a2 h35
              else
                f_X2_blocksBeneathByMetres_55 (f_X2_blocksBeneathByMetres_17 n) a0 a3 1 a2 h35
            else
            none
          else
          none
        else
        if ztg h7 a3 = some 20 then
          zcR (f_J15_next a3 h7) zX fun r30 h31 =>
          zcast h31 [26] r30 <|
          if ztg h31 r30 = some 26 then
            zcI (f_J24_intValue r30 h31) zX fun x36 h37 =>
            if ztg h37 a0 = some 1 then
              zcI (f_X2_hasBlock a0 x36 h37) zX fun x38 h39 =>
              if x38 = 0 then
                f_X2_blocksBeneathByMetres_55 (f_X2_blocksBeneathByMetres_17 n) a0 a3 0 a2 h39
              else
                f_X2_blocksBeneathByMetres_55 (f_X2_blocksBeneathByMetres_17 n) a0 a3 1 a2 h39
            else
            none
          else
          none
        else
        if ztg h7 a3 = some 21 then
          zcR (f_J17_next a3 h7) zX fun r30 h31 =>
          zcast h31 [26] r30 <|
          if ztg h31 r30 = some 26 then
            zcI (f_J24_intValue r30 h31) zX fun x40 h41 =>
            if ztg h41 a0 = some 1 then
              zcI (f_X2_hasBlock a0 x40 h41) zX fun x42 h43 =>
              if x42 = 0 then
                f_X2_blocksBeneathByMetres_55 (f_X2_blocksBeneathByMetres_17 n) a0 a3 0 a2 h43
              else
                f_X2_blocksBeneathByMetres_55 (f_X2_blocksBeneathByMetres_17 n) a0 a3 1 a2 h43
            else
            none
          else
          none
        else
        if ztg h7 a3 = some 24 then
          zcR (f_J21_next a3 h7) zX fun r30 h31 =>
          zcast h31 [26] r30 <|
          if ztg h31 r30 = some 26 then
            zcI (f_J24_intValue r30 h31) zX fun x44 h45 =>
            if ztg h45 a0 = some 1 then
              zcI (f_X2_hasBlock a0 x44 h45) zX fun x46 h47 =>
              if x46 = 0 then
                f_X2_blocksBeneathByMetres_55 (f_X2_blocksBeneathByMetres_17 n) a0 a3 0 a2 h47
              else
                f_X2_blocksBeneathByMetres_55 (f_X2_blocksBeneathByMetres_17 n) a0 a3 1 a2 h47
            else
            none
          else
          none
        else
        if ztg h7 a3 = some 25 then
          zcR (f_J22_next a3 h7) zX fun r30 h31 =>
          zcast h31 [26] r30 <|
          if ztg h31 r30 = some 26 then
            zcI (f_J24_intValue r30 h31) zX fun x48 h49 =>
            if ztg h49 a0 = some 1 then
              zcI (f_X2_hasBlock a0 x48 h49) zX fun x50 h51 =>
              if x50 = 0 then
                f_X2_blocksBeneathByMetres_55 (f_X2_blocksBeneathByMetres_17 n) a0 a3 0 a2 h51
              else
                f_X2_blocksBeneathByMetres_55 (f_X2_blocksBeneathByMetres_17 n) a0 a3 1 a2 h51
            else
            none
          else
          none
        else
        none
    else
    if ztg h a3 = some 21 then
      zcI (f_J16_hasNext a3 h) zX fun x6 h7 =>
      if x6 = 0 then
        zrI a2 h7
      else
        if ztg h7 a3 = some 8 then
          zcR (f_X9_next a3 h7) zX fun r52 h53 =>
          zcast h53 [26] r52 <|
          if ztg h53 r52 = some 26 then
            zcI (f_J24_intValue r52 h53) zX fun x54 h55 =>
            if ztg h55 a0 = some 1 then
              zcI (f_X2_hasBlock a0 x54 h55) zX fun x56 h57 =>
              if x56 = 0 then
                f_X2_blocksBeneathByMetres_55 (f_X2_blocksBeneathByMetres_17 n) a0 a3 0 a2 h57
              else
                f_X2_blocksBeneathByMetres_55 (f_X2_blocksBeneathByMetres_17 n) a0 a3 1 a2 h57
            else
            none
          else
          none
        else
        if ztg h7 a3 = some 20 then
          zcR (f_J15_next a3 h7) zX fun r52 h53 =>
          zcast h53 [26] r52 <|
          if ztg h53 r52 = some 26 then
            zcI (f_J24_intValue r52 h53) zX fun x58 h59 =>
            if ztg h59 a0 = some 1 then
              zcI (f_X2_hasBlock a0 x58 h59) zX fun x60 h61 =>
              if x60 = 0 then
                f_X2_blocksBeneathByMetres_55 (f_X2_blocksBeneathByMetres_17 n) a0 a3 0 a2 h61
              else
                f_X2_blocksBeneathByMetres_55 (f_X2_blocksBeneathByMetres_17 n) a0 a3 1 a2 h61
            else
            none
          else
          none
        else
        if ztg h7 a3 = some 21 then
          zcR (f_J17_next a3 h7) zX fun r52 h53 =>
          zcast h53 [26] r52 <|
          if ztg h53 r52 = some 26 then
            zcI (f_J24_intValue r52 h53) zX fun x62 h63 =>
            if ztg h63 a0 = some 1 then
              zcI (f_X2_hasBlock a0 x62 h63) zX fun x64 h65 =>
              if x64 = 0 then
                f_X2_blocksBeneathByMetres_55 (f_X2_blocksBeneathByMetres_17 n) a0 a3 0 a2 h65
              else
                f_X2_blocksBeneathByMetres_55 (f_X2_blocksBeneathByMetres_17 n) a0 a3 1 a2 h65
            else
            none
          else
          none
        else
        if ztg h7 a3 = some 24 then
          zcR (f_J21_next a3 h7) zX fun r52 h53 =>
          zcast h53 [26] r52 <|
          if ztg h53 r52 = some 26 then
            zcI (f_J24_intValue r52 h53) zX fun x66 h67 =>
            if ztg h67 a0 = some 1 then
              zcI (f_X2_hasBlock a0 x66 h67) zX fun x68 h69 =>
              if x68 = 0 then
                f_X2_blocksBeneathByMetres_55 (f_X2_blocksBeneathByMetres_17 n) a0 a3 0 a2 h69
              else
                f_X2_blocksBeneathByMetres_55 (f_X2_blocksBeneathByMetres_17 n) a0 a3 1 a2 h69
            else
            none
          else
          none
        else
        if ztg h7 a3 = some 25 then
          zcR (f_J22_next a3 h7) zX fun r52 h53 =>
          zcast h53 [26] r52 <|
          if ztg h53 r52 = some 26 then
            zcI (f_J24_intValue r52 h53) zX fun x70 h71 =>
            if ztg h71 a0 = some 1 then
              zcI (f_X2_hasBlock a0 x70 h71) zX fun x72 h73 =>
              if x72 = 0 then
                f_X2_blocksBeneathByMetres_55 (f_X2_blocksBeneathByMetres_17 n) a0 a3 0 a2 h73
              else
                f_X2_blocksBeneathByMetres_55 (f_X2_blocksBeneathByMetres_17 n) a0 a3 1 a2 h73
            else
            none
          else
          none
        else
        none
    else
    if ztg h a3 = some 24 then
      zcI (f_J20_hasNext a3 h) zX fun x6 h7 =>
      if x6 = 0 then
        zrI a2 h7
      else
        if ztg h7 a3 = some 8 then
          zcR (f_X9_next a3 h7) zX fun r74 h75 =>
          zcast h75 [26] r74 <|
          if ztg h75 r74 = some 26 then
            zcI (f_J24_intValue r74 h75) zX fun x76 h77 =>
            if ztg h77 a0 = some 1 then
              zcI (f_X2_hasBlock a0 x76 h77) zX fun x78 h79 =>
              if x78 = 0 then
                f_X2_blocksBeneathByMetres_55 (f_X2_blocksBeneathByMetres_17 n) a0 a3 0 a2 h79
              else
                f_X2_blocksBeneathByMetres_55 (f_X2_blocksBeneathByMetres_17 n) a0 a3 1 a2 h79
            else
            none
          else
          none
        else
        if ztg h7 a3 = some 20 then
          zcR (f_J15_next a3 h7) zX fun r74 h75 =>
          zcast h75 [26] r74 <|
          if ztg h75 r74 = some 26 then
            zcI (f_J24_intValue r74 h75) zX fun x80 h81 =>
            if ztg h81 a0 = some 1 then
              zcI (f_X2_hasBlock a0 x80 h81) zX fun x82 h83 =>
              if x82 = 0 then
                f_X2_blocksBeneathByMetres_55 (f_X2_blocksBeneathByMetres_17 n) a0 a3 0 a2 h83
              else
                f_X2_blocksBeneathByMetres_55 (f_X2_blocksBeneathByMetres_17 n) a0 a3 1 a2 h83
            else
            none
          else
          none
        else
        if ztg h7 a3 = some 21 then
          zcR (f_J17_next a3 h7) zX fun r74 h75 =>
          zcast h75 [26] r74 <|
          if ztg h75 r74 = some 26 then
            zcI (f_J24_intValue r74 h75) zX fun x84 h85 =>
            if ztg h85 a0 = some 1 then
              zcI (f_X2_hasBlock a0 x84 h85) zX fun x86 h87 =>
              if x86 = 0 then
                f_X2_blocksBeneathByMetres_55 (f_X2_blocksBeneathByMetres_17 n) a0 a3 0 a2 h87
              else
                f_X2_blocksBeneathByMetres_55 (f_X2_blocksBeneathByMetres_17 n) a0 a3 1 a2 h87
            else
            none
          else
          none
        else
        if ztg h7 a3 = some 24 then
          zcR (f_J21_next a3 h7) zX fun r74 h75 =>
          zcast h75 [26] r74 <|
          if ztg h75 r74 = some 26 then
            zcI (f_J24_intValue r74 h75) zX fun x88 h89 =>
            if ztg h89 a0 = some 1 then
              zcI (f_X2_hasBlock a0 x88 h89) zX fun x90 h91 =>
              if x90 = 0 then
                f_X2_blocksBeneathByMetres_55 (f_X2_blocksBeneathByMetres_17 n) a0 a3 0 a2 h91
              else
                f_X2_blocksBeneathByMetres_55 (f_X2_blocksBeneathByMetres_17 n) a0 a3 1 a2 h91
            else
            none
          else
          none
        else
        if ztg h7 a3 = some 25 then
          zcR (f_J22_next a3 h7) zX fun r74 h75 =>
          zcast h75 [26] r74 <|
          if ztg h75 r74 = some 26 then
            zcI (f_J24_intValue r74 h75) zX fun x92 h93 =>
            if ztg h93 a0 = some 1 then
              zcI (f_X2_hasBlock a0 x92 h93) zX fun x94 h95 =>
              if x94 = 0 then
                f_X2_blocksBeneathByMetres_55 (f_X2_blocksBeneathByMetres_17 n) a0 a3 0 a2 h95
              else
                f_X2_blocksBeneathByMetres_55 (f_X2_blocksBeneathByMetres_17 n) a0 a3 1 a2 h95
            else
            none
          else
          none
        else
        none
    else
    if ztg h a3 = some 25 then
      zcI (f_J20_hasNext a3 h) zX fun x6 h7 =>
      if x6 = 0 then
        zrI a2 h7
      else
        if ztg h7 a3 = some 8 then
          zcR (f_X9_next a3 h7) zX fun r96 h97 =>
          zcast h97 [26] r96 <|
          if ztg h97 r96 = some 26 then
            zcI (f_J24_intValue r96 h97) zX fun x98 h99 =>
            if ztg h99 a0 = some 1 then
              zcI (f_X2_hasBlock a0 x98 h99) zX fun x100 h101 =>
              if x100 = 0 then
                f_X2_blocksBeneathByMetres_55 (f_X2_blocksBeneathByMetres_17 n) a0 a3 0 a2 h101
              else
                f_X2_blocksBeneathByMetres_55 (f_X2_blocksBeneathByMetres_17 n) a0 a3 1 a2 h101
            else
            none
          else
          none
        else
        if ztg h7 a3 = some 20 then
          zcR (f_J15_next a3 h7) zX fun r96 h97 =>
          zcast h97 [26] r96 <|
          if ztg h97 r96 = some 26 then
            zcI (f_J24_intValue r96 h97) zX fun x102 h103 =>
            if ztg h103 a0 = some 1 then
              zcI (f_X2_hasBlock a0 x102 h103) zX fun x104 h105 =>
              if x104 = 0 then
                f_X2_blocksBeneathByMetres_55 (f_X2_blocksBeneathByMetres_17 n) a0 a3 0 a2 h105
              else
                f_X2_blocksBeneathByMetres_55 (f_X2_blocksBeneathByMetres_17 n) a0 a3 1 a2 h105
            else
            none
          else
          none
        else
        if ztg h7 a3 = some 21 then
          zcR (f_J17_next a3 h7) zX fun r96 h97 =>
          zcast h97 [26] r96 <|
          if ztg h97 r96 = some 26 then
            zcI (f_J24_intValue r96 h97) zX fun x106 h107 =>
            if ztg h107 a0 = some 1 then
              zcI (f_X2_hasBlock a0 x106 h107) zX fun x108 h109 =>
              if x108 = 0 then
                f_X2_blocksBeneathByMetres_55 (f_X2_blocksBeneathByMetres_17 n) a0 a3 0 a2 h109
              else
                f_X2_blocksBeneathByMetres_55 (f_X2_blocksBeneathByMetres_17 n) a0 a3 1 a2 h109
            else
            none
          else
          none
        else
        if ztg h7 a3 = some 24 then
          zcR (f_J21_next a3 h7) zX fun r96 h97 =>
          zcast h97 [26] r96 <|
          if ztg h97 r96 = some 26 then
            zcI (f_J24_intValue r96 h97) zX fun x110 h111 =>
            if ztg h111 a0 = some 1 then
              zcI (f_X2_hasBlock a0 x110 h111) zX fun x112 h113 =>
              if x112 = 0 then
                f_X2_blocksBeneathByMetres_55 (f_X2_blocksBeneathByMetres_17 n) a0 a3 0 a2 h113
              else
                f_X2_blocksBeneathByMetres_55 (f_X2_blocksBeneathByMetres_17 n) a0 a3 1 a2 h113
            else
            none
          else
          none
        else
        if ztg h7 a3 = some 25 then
          zcR (f_J22_next a3 h7) zX fun r96 h97 =>
          zcast h97 [26] r96 <|
          if ztg h97 r96 = some 26 then
            zcI (f_J24_intValue r96 h97) zX fun x114 h115 =>
            if ztg h115 a0 = some 1 then
              zcI (f_X2_hasBlock a0 x114 h115) zX fun x116 h117 =>
              if x116 = 0 then
                f_X2_blocksBeneathByMetres_55 (f_X2_blocksBeneathByMetres_17 n) a0 a3 0 a2 h117
              else
                f_X2_blocksBeneathByMetres_55 (f_X2_blocksBeneathByMetres_17 n) a0 a3 1 a2 h117
            else
            none
          else
          none
        else
        none
    else
    none
def f_X2_blocksBeneathByMetres (v0 : Option Nat) (v1 : Option Nat) (h : zH) : zO :=
  if ztg h v1 = some 5 then
    zcI (f_X6_isInDock v1 h) zX fun x1 h2 =>
    if x1 = 0 then
      zrI 0 h2
    else
      zgR h2 [5] 8 v1 fun r3 =>
      if ztg h2 r3 = some 2 then
        zcR (f_X3_iterator r3 h2) zX fun r4 h5 =>
        f_X2_blocksBeneathByMetres_17 zfuel v0 0 r4 h5
      else
      none
  else
  none
def f_X1_blocksBeneath (v0 : Option Nat) (v1 : Int32) (h : zH) : zO :=
  zgR h [0] 3 v0 fun r1 =>
  zgR h [0] 3 v0 fun r2 =>
  if ztg h r2 = some 1 then
    zcR (f_X2_ship r2 v1 h) zX fun r3 h4 =>
    if ztg h4 r1 = some 1 then
      zcI (f_X2_blocksBeneathByMetres r1 r3 h4) zX fun x5 h6 =>
      zrI x5 h6
    else
    none
  else
  none
def f_X0_blocksBeneath_12  (s0 : Option Nat) (h : zH) : zO :=
  zrI 1 h
def f_X0_blocksBeneath (v0 : Option Nat) (v1 : Int32) (v2 : Option Nat) (h : zH) : zO :=
  if ztg h v0 = some 0 then
    zcI (f_X1_blocksBeneath v0 v1 h) (fun e2 h1 => if e2.1 = 32 then zX e2 h1 else if e2.1 = 33 then zX e2 h1 else if e2.1 = 30 then f_X0_blocksBeneath_12 (some e2.2) h1 else if e2.1 = 34 then zX e2 h1 else if e2.1 = 31 then zX e2 h1 else if e2.1 = 35 then zX e2 h1 else if e2.1 = 6 then zX e2 h1 else if e2.1 = 11 then zX e2 h1 else none) fun x3 h4 =>
    zaS h4 [202] v2 0 (.long (x3.toInt64)) fun h5 =>
    zrI 0 h5
  else
  none
def f_X1_blocksBeneathByBlocks (v0 : Option Nat) (v1 : Int32) (h : zH) : zO :=
  zgR h [0] 3 v0 fun r1 =>
  zgR h [0] 3 v0 fun r2 =>
  if ztg h r2 = some 1 then
    zcR (f_X2_ship r2 v1 h) zX fun r3 h4 =>
    if ztg h4 r1 = some 1 then
      zcI (f_X2_blocksBeneath r1 r3 h4) zX fun x5 h6 =>
      zrI x5 h6
    else
    none
  else
  none
def f_X0_blocksBeneathByBlocks_12  (s0 : Option Nat) (h : zH) : zO :=
  zrI 1 h
def f_X0_blocksBeneathByBlocks (v0 : Option Nat) (v1 : Int32) (v2 : Option Nat) (h : zH) : zO :=
  if ztg h v0 = some 0 then
    zcI (f_X1_blocksBeneathByBlocks v0 v1 h) (fun e2 h1 => if e2.1 = 32 then zX e2 h1 else if e2.1 = 33 then zX e2 h1 else if e2.1 = 30 then f_X0_blocksBeneathByBlocks_12 (some e2.2) h1 else if e2.1 = 34 then zX e2 h1 else if e2.1 = 31 then zX e2 h1 else if e2.1 = 35 then zX e2 h1 else if e2.1 = 6 then zX e2 h1 else if e2.1 = 11 then zX e2 h1 else none) fun x3 h4 =>
    zaS h4 [202] v2 0 (.long (x3.toInt64)) fun h5 =>
    zrI 0 h5
  else
  none
def f_X1_shipAtPosition_25  (a2 : Option Nat) (s0 : Int32) (h : zH) : zO :=
  zcV (f_X1_checkElement s0 h) zX fun h7 =>
  zgI h7 [5] 0 a2 fun x8 =>
  zrI x8 h7
def f_X1_shipAtPosition (v0 : Option Nat) (v1 : Int32) (h : zH) : zO :=
  zcI (f_X1_isPosition v1 h) zX fun x1 h2 =>
  zcV (f_X1_checkArgument x1 h2) zX fun h3 =>
  zgR h3 [0] 3 v0 fun r4 =>
  if ztg h3 r4 = some 1 then
    zcR (f_X2_shipAtPosition r4 v1 h3) zX fun r5 h6 =>
    if r5 = none then
      f_X1_shipAtPosition_25 r5 0 h6
    else
      f_X1_shipAtPosition_25 r5 1 h6
  else
  none
def f_X0_shipAtPosition_12  (s0 : Option Nat) (h : zH) : zO :=
  zrI 1 h
def f_X0_shipAtPosition_15  (s0 : Option Nat) (h : zH) : zO :=
  zrI 2 h
def f_X0_shipAtPosition (v0 : Option Nat) (v1 : Int32) (v2 : Option Nat) (h : zH) : zO :=
  if ztg h v0 = some 0 then
    zcI (f_X1_shipAtPosition v0 v1 h) (fun e2 h1 => if e2.1 = 32 then f_X0_shipAtPosition_12 (some e2.2) h1 else if e2.1 = 33 then zX e2 h1 else if e2.1 = 30 then f_X0_shipAtPosition_15 (some e2.2) h1 else if e2.1 = 34 then zX e2 h1 else if e2.1 = 31 then zX e2 h1 else if e2.1 = 35 then zX e2 h1 else if e2.1 = 6 then zX e2 h1 else if e2.1 = 11 then zX e2 h1 else none) fun x3 h4 =>
    zaS h4 [202] v2 0 (.long (x3.toInt64)) fun h5 =>
    zrI 0 h5
  else
  none
def f_J7_init (v0 : Option Nat) (v1 : Int32) (h : zH) : zO :=
  if ¬ v0 = none then
    if (1 : Int32) = 0 then
      none
    else
      znA h 204 1 (.int 0) v1 fun r3 h4 =>
      zpF h4 [16] 0 v0 (va_rf r3) fun h5 =>
      zpN h5 [16] 1 v0 .byte (.int 0) fun h6 =>
      zrV h6
  else none
def f_J8_init (v0 : Option Nat) (h : zH) : zO :=
  if ¬ v0 = none then
    zcV (f_J7_init v0 16 h) zX fun h1 =>
    zrV h1
  else none
def f_J9_coder (v0 : Option Nat) (h : zH) : zO :=
  if (1 : Int32) = 0 then
    zrN .byte 1 h
  else
    zgI h [17] 1 v0 fun x1 =>
    zrN .byte x1 h
def f_J9_length (v0 : Option Nat) (h : zH) : zO :=
  zgR h [17] 0 v0 fun r1 =>
  zaN h zarrs r1 fun x2 =>
  if ztg h v0 = some 17 then
    zcI (f_J9_coder v0 h) zX fun x3 h4 =>
    zrI (x2 >>> (x3 &&& 31)) h4
  else
  none
def f_J30_newLength_21  (a0 : Int32) (a1 : Int32) (h : zH) : zO :=
  none
def f_J30_newLength (v0 : Int32) (v1 : Int32) (v2 : Int32) (h : zH) : zO :=
  zcI (f_J11_max v1 v2 h) zX fun x1 h2 =>
  znm (v0 + x1) fun x3 =>
  if x3 ≤ (0 : Int32) then
    f_J30_newLength_21 v0 v1 h2
  else
    if 2147483639 < x3 then
      f_J30_newLength_21 v0 v1 h2
    else
      zrI x3 h2
def f_J7_newCapacity (v0 : Option Nat) (v1 : Int32) (h : zH) : zO :=
  zgR h [16] 0 v0 fun r1 =>
  zaN h zarrs r1 fun x2 =>
  zgI h [16] 1 v0 fun x3 =>
  znm (v1 <<< (x3 &&& 31)) fun x4 =>
  znm (x4 - x2) fun x5 =>
  zgI h [16] 1 v0 fun x6 =>
  zcI (f_J30_newLength x2 x5 (x2 + ((2 : Int32) <<< (x6 &&& 31))) h) zX fun x7 h8 =>
  if ¬ x7 = 2147483647 then
    zgI h8 [16] 1 v0 fun x9 =>
    zrI (x7 >>> (x9 &&& 31)) h8
  else
    none
def f_J31_copyOf (v0 : Option Nat) (v1 : Int32) (h : zH) : zO :=
  zaN h zarrs v0 fun x1 =>
  if ¬ v1 = x1 then
    znA h 204 1 (.int 0) v1 fun r2 h3 =>
    zaN h3 zarrs v0 fun x4 =>
    zcI (f_J11_min x4 v1 h3) zX fun x5 h6 =>
    zacp h6 [204] (fun v => fits .byte v) v0 0 r2 0 x5 fun h7 =>
    zrR r2 h7
  else
    zcln h 204 (fun v => fits .byte v) v0 fun r8 h9 =>
    zcastF h9 [204] r8 <|
    zrR r8 h9
def f_J7_ensureCapacityInternal (v0 : Option Nat) (v1 : Int32) (h : zH) : zO :=
  zgR h [16] 0 v0 fun r1 =>
  zaN h zarrs r1 fun x2 =>
  zgI h [16] 1 v0 fun x3 =>
  znm (x2 >>> (x3 &&& 31)) fun x4 =>
  if (v1 - x4) ≤ 0 then
    zrV h
  else
    zgR h [16] 0 v0 fun r5 =>
    if ztg h v0 = some 16 then
      zcI (f_J7_newCapacity v0 v1 h) zX fun x6 h7 =>
      zgI h7 [16] 1 v0 fun x8 =>
      zcR (f_J31_copyOf r5 (x6 <<< (x8 &&& 31)) h7) zX fun r9 h10 =>
      zpF h10 [16] 0 v0 (va_rf r9) fun h11 =>
      zrV h11
    else
    none
def f_J33_inflate (v0 : Option Nat) (v1 : Int32) (v2 : Option Nat) (v3 : Int32) (v4 : Int32) (h : zH) : zO :=
  none
def f_J9_getBytes (v0 : Option Nat) (v1 : Option Nat) (v2 : Int32) (v3 : Int32) (h : zH) : zO :=
  if ztg h v0 = some 17 then
    zcI (f_J9_coder v0 h) zX fun x1 h2 =>
    if ¬ x1 = v3 then
      zgR h2 [17] 0 v0 fun r3 =>
      zgR h2 [17] 0 v0 fun r4 =>
      zaN h2 zarrs r4 fun x5 =>
      zcV (f_J33_inflate r3 0 v1 v2 x5 h2) zX fun h6 =>
      zrV h6
    else
      zgR h2 [17] 0 v0 fun r7 =>
      zgR h2 [17] 0 v0 fun r8 =>
      zaN h2 zarrs r8 fun x9 =>
      zacp h2 [204] (fun v => fits .byte v) r7 0 v1 (v2 <<< (v3 &&& 31)) x9 fun h10 =>
      zrV h10
  else
  none
def f_J7_putStringAt (v0 : Option Nat) (v1 : Int32) (v2 : Option Nat) (h : zH) : zO :=
  none
def f_J7_append (v0 : Option Nat) (v1 : Option Nat) (h : zH) : zO :=
  if ¬ v1 = none then
    if ztg h v1 = some 17 then
      zcI (f_J9_length v1 h) zX fun x1 h2 =>
      zgI h2 [16] 3 v0 fun x3 =>
      if ztg h2 v0 = some 16 then
        zcV (f_J7_ensureCapacityInternal v0 (x3 + x1) h2) zX fun h4 =>
        zgI h4 [16] 3 v0 fun x5 =>
        if ztg h4 v0 = some 16 then
          zcV (f_J7_putStringAt v0 x5 v1 h4) zX fun h6 =>
          zgI h6 [16] 3 v0 fun x7 =>
          zpF h6 [16] 3 v0 (.int (x7 + x1)) fun h8 =>
          zrR v0 h8
        else
        none
      else
      none
    else
    none
  else
    none
def f_J8_append (v0 : Option Nat) (v1 : Option Nat) (h : zH) : zO :=
  if ztg h v0 = some 16 then
    zcR (f_J7_append v0 v1 h) zX fun r1 h2 =>
    zrR v0 h2
  else
  none
def f_J24_stringSize_16  : Nat → Int32 → Int32 → Int32 → Int32 → zH → zO
  | 0, _, _, _, _, _ => none
  | n + 1, a0, a1, a2, a3, h =>
    if 10 ≤ a3 then
      zrI ((10 : Int32) + a1) h
    else
      if a0 ≤ a2 then
        znm ((10 : Int32) * a2) fun x2 =>
        znm (a3 + 1) fun x3 =>
        f_J24_stringSize_16 n a0 a1 x2 x3 h
      else
        zrI (a3 + a1) h
def f_J24_stringSize_11  (a0 : Int32) (a1 : Int32) (h : zH) : zO :=
  f_J24_stringSize_16 zfuel a0 a1 (-10) 1 h
def f_J24_stringSize (v0 : Int32) (h : zH) : zO :=
  if v0 < 0 then
    f_J24_stringSize_11 v0 1 h
  else
    znm (-v0) fun x1 =>
    f_J24_stringSize_11 x1 0 h
def f_J7_isLatin1 (v0 : Option Nat) (h : zH) : zO :=
  if (1 : Int32) = 0 then
    zrN .boolean 0 h
  else
    zgI h [16] 1 v0 fun x1 =>
    if ¬ x1 = 0 then
      zrN .boolean 0 h
    else
      zrN .boolean 1 h
def f_J24_getChars_104  (a2 : Option Nat) (a5 : Int32) (a6 : Int32) (h : zH) : zO :=
  if a6 = 0 then
    zrI a5 h
  else
    znm (a5 + (-1)) fun x16 =>
    zaS h [204] a2 x16 (.int (45 : Int32).toInt8.toInt32) fun h17 =>
    zrI x16 h17
def f_J24_getChars_72  (a0 : Int32) (a2 : Option Nat) (a5 : Int32) (a6 : Int32) (h : zH) : zO :=
  znm (a5 + (-1)) fun x10 =>
  zaI h [204] (some (zG h 1)) (-a0) fun x11 =>
  zaS h [204] a2 x10 (.int x11.toInt8.toInt32) fun h12 =>
  if (-9) ≤ a0 then
    f_J24_getChars_104 a2 x10 a6 h12
  else
    znm (x10 + (-1)) fun x13 =>
    zaI h12 [204] (some (zG h12 2)) (-a0) fun x14 =>
    zaS h12 [204] a2 x13 (.int x14.toInt8.toInt32) fun h15 =>
    f_J24_getChars_104 a2 x13 a6 h15
def f_J24_getChars_22  : Nat → Int32 → Option Nat → Int32 → Int32 → zH → zO
  | 0, _, _, _, _, _ => none
  | n + 1, a0, a2, a5, a6, h =>
    if (-100) < a0 then
      f_J24_getChars_72 a0 a2 a5 a6 h
    else
      if ¬ 100 = 0 then
        znm (a0 / 100) fun x2 =>
        znm ((x2 * 100) - a0) fun x3 =>
        znm (a5 + (-1)) fun x4 =>
        zaI h [204] (some (zG h 1)) x3 fun x5 =>
        zaS h [204] a2 x4 (.int x5.toInt8.toInt32) fun h6 =>
        znm (x4 + (-1)) fun x7 =>
        zaI h6 [204] (some (zG h6 2)) x3 fun x8 =>
        zaS h6 [204] a2 x7 (.int x8.toInt8.toInt32) fun h9 =>
        f_J24_getChars_22 n x2 a2 x7 a6 h9
      else none
def f_J24_getChars_12  (a0 : Int32) (a2 : Option Nat) (a5 : Int32) (s0 : Int32) (h : zH) : zO :=
  if ¬ s0 = 0 then
    f_J24_getChars_22 zfuel a0 a2 a5 s0 h
  else
    znm (-a0) fun x1 =>
    f_J24_getChars_22 zfuel x1 a2 a5 s0 h
def f_J24_getChars (v0 : Int32) (v1 : Int32) (v2 : Option Nat) (h : zH) : zO :=
  if 0 ≤ v0 then
    f_J24_getChars_12 v0 v2 v1 0 h
  else
    f_J24_getChars_12 v0 v2 v1 1 h
def f_J7_append_2_48  (a0 : Option Nat) (a3 : Int32) (h : zH) : zO :=
  zpF h [16] 3 a0 (.int a3) fun h14 =>
  zrR a0 h14
def f_J7_append_2 (v0 : Option Nat) (v1 : Int32) (h : zH) : zO :=
  zgI h [16] 3 v0 fun x1 =>
  zcI (f_J24_stringSize v1 h) zX fun x2 h3 =>
  znm (x1 + x2) fun x4 =>
  if ztg h3 v0 = some 16 then
    zcV (f_J7_ensureCapacityInternal v0 x4 h3) zX fun h5 =>
    if ztg h5 v0 = some 16 then
      zcI (f_J7_isLatin1 v0 h5) zX fun x6 h7 =>
      if x6 = 0 then
        zgR h7 [16] 0 v0 fun r8 =>
        none
      else
        zgR h7 [16] 0 v0 fun r11 =>
        zcI (f_J24_getChars v1 x4 r11 h7) zX fun x12 h13 =>
        f_J7_append_2_48 v0 x4 h13
    else
    none
  else
  none
def f_J8_append_2 (v0 : Option Nat) (v1 : Int32) (h : zH) : zO :=
  if ztg h v0 = some 16 then
    zcR (f_J7_append_2 v0 v1 h) zX fun r1 h2 =>
    zrR v0 h2
  else
  none
def f_J7_getValue (v0 : Option Nat) (h : zH) : zO :=
  zgR h [16] 0 v0 fun r1 =>
  zrR r1 h
def f_J7_length (v0 : Option Nat) (h : zH) : zO :=
  zgI h [16] 3 v0 fun x1 =>
  zrI x1 h
def f_J8_length (v0 : Option Nat) (h : zH) : zO :=
  if ztg h v0 = some 16 then
    zcI (f_J7_length v0 h) zX fun x1 h2 =>
    zrI x1 h2
  else
  none
def f_J25_init_2 (v0 : Option Nat) (v1 : Option Nat) (h : zH) : zO :=
  if ¬ v0 = none then
    zpF h [6, 11] 0 v0 (va_rf v0) fun h1 =>
    zpF h1 [6, 11] 1 v0 (va_rf (if zG h1 7 = 0 then none else some (zG h1 7 - 1))) fun h2 =>
    zpF h2 [6, 11] 2 v0 (va_rf (if zG h2 8 = 0 then none else some (zG h2 8 - 1))) fun h3 =>
    none
  else none
def f_J26_init_2 (v0 : Option Nat) (v1 : Option Nat) (h : zH) : zO :=
  if ¬ v0 = none then
    zcV (f_J25_init_2 v0 v1 h) zX fun h1 =>
    zrV h1
  else none
def f_J27_init_2 (v0 : Option Nat) (v1 : Option Nat) (h : zH) : zO :=
  if ¬ v0 = none then
    zcV (f_J26_init_2 v0 v1 h) zX fun h1 =>
    zrV h1
  else none
def f_J34_init (v0 : Option Nat) (v1 : Option Nat) (h : zH) : zO :=
  if ¬ v0 = none then
    zcV (f_J27_init_2 v0 v1 h) zX fun h1 =>
    zrV h1
  else none
def f_J31_checkLength (v0 : Int32) (v1 : Int32) (h : zH) : zO :=
  if v0 ≤ v1 then
    zrV h
  else
    none
def f_J31_copyOfRangeByte (v0 : Option Nat) (v1 : Int32) (v2 : Int32) (h : zH) : zO :=
  zcV (f_J31_checkLength v1 v2 h) zX fun h1 =>
  znm (v2 - v1) fun x2 =>
  znA h1 204 1 (.int 0) x2 fun r3 h4 =>
  zaN h4 zarrs v0 fun x5 =>
  zcI (f_J11_min (x5 - v1) x2 h4) zX fun x6 h7 =>
  zacp h7 [204] (fun v => fits .byte v) v0 v1 r3 0 x6 fun h8 =>
  zrR r3 h8
def f_J31_copyOfRange_10  (a0 : Option Nat) (a1 : Int32) (a2 : Int32) (h : zH) : zO :=
  zcR (f_J31_copyOfRangeByte a0 a1 a2 h) zX fun r4 h5 =>
  zrR r4 h5
def f_J31_copyOfRange (v0 : Option Nat) (v1 : Int32) (v2 : Int32) (h : zH) : zO :=
  if ¬ v1 = 0 then
    f_J31_copyOfRange_10 v0 v1 v2 h
  else
    zaN h zarrs v0 fun x1 =>
    if v2 = x1 then
      zcln h 204 (fun v => fits .byte v) v0 fun r2 h3 =>
      zcastF h3 [204] r2 <|
      zrR r2 h3
    else
      f_J31_copyOfRange_10 v0 v1 v2 h
def f_J9_init_2_79  (a0 : Option Nat) (a3 : Option Nat) (a4 : Int32) (h : zH) : zO :=
  zpN h [17] 1 a0 .byte (.int 1) fun h14 =>
  zcR (f_J31_copyOfRange a3 0 (a4 <<< (1 &&& 31)) h14) zX fun r15 h16 =>
  zpF h16 [17] 0 a0 (va_rf r15) fun h17 =>
  zrV h17
def f_J9_init_2 (v0 : Option Nat) (v1 : Option Nat) (v2 : Option Nat) (h : zH) : zO :=
  if ¬ v0 = none then
    if ztg h v1 = some 16 then
      zcR (f_J7_getValue v1 h) zX fun r1 h2 =>
      if ztg h2 v1 = some 16 then
        zcI (f_J8_length v1 h2) zX fun x3 h4 =>
        if ztg h4 v1 = some 16 then
          zcI (f_J7_isLatin1 v1 h4) zX fun x5 h6 =>
          if x5 = 0 then
            if (1 : Int32) = 0 then
              f_J9_init_2_79 v0 r1 x3 h6
            else
              zgI h6 [16] 2 v1 fun x7 =>
              if x7 = 0 then
                f_J9_init_2_79 v0 r1 x3 h6
              else
                none
          else
            zpN h6 [17] 1 v0 .byte (.int 0) fun h10 =>
            zcR (f_J31_copyOfRange r1 0 x3 h10) zX fun r11 h12 =>
            zpF h12 [17] 0 v0 (va_rf r11) fun h13 =>
            zrV h13
        else
        none
      else
      none
    else
    none
  else none
def f_J9_init (v0 : Option Nat) (v1 : Option Nat) (h : zH) : zO :=
  if ¬ v0 = none then
    zcV (f_J9_init_2 v0 v1 none h) zX fun h1 =>
    zrV h1
  else none
def f_J8_toString (v0 : Option Nat) (h : zH) : zO :=
  znO h 17 [.null, .int 0, .int 0, .int 0] fun r1 h2 =>
  if ¬ r1 = none then
    zcV (f_J9_init r1 v0 h2) zX fun h3 =>
    zrR r1 h3
  else none
def f_J12_wordIndex (v0 : Int32) (h : zH) : zO :=
  zrI (v0 >>> (6 &&& 31)) h
def f_J12_initWords (v0 : Option Nat) (v1 : Int32) (h : zH) : zO :=
  zcI (f_J12_wordIndex (v1 - 1) h) zX fun x1 h2 =>
  znA h2 202 8 (.long 0) (x1 + 1) fun r3 h4 =>
  zpF h4 [18] 0 v0 (va_rf r3) fun h5 =>
  zrV h5
def f_J12_init (v0 : Option Nat) (v1 : Int32) (h : zH) : zO :=
  if ¬ v0 = none then
    zpF h [18] 1 v0 (.int 0) fun h1 =>
    zpN h1 [18] 2 v0 .boolean (.int 0) fun h2 =>
    if 0 ≤ v1 then
      if ztg h2 v0 = some 18 then
        zcV (f_J12_initWords v0 v1 h2) zX fun h3 =>
        zpN h3 [18] 2 v0 .boolean (.int 1) fun h4 =>
        zrV h4
      else
      none
    else
      none
  else none
def f_J29_init (v0 : Option Nat) (v1 : Option Nat) (h : zH) : zO :=
  if ¬ v0 = none then
    zcV (f_J27_init_2 v0 v1 h) zX fun h1 =>
    zrV h1
  else none
def f_J12_checkRange (v0 : Int32) (v1 : Int32) (h : zH) : zO :=
  if 0 ≤ v0 then
    if 0 ≤ v1 then
      if v0 ≤ v1 then
        zrV h
      else
        none
    else
      none
  else
    none
def f_J31_copyOf_2 (v0 : Option Nat) (v1 : Int32) (h : zH) : zO :=
  zaN h zarrs v0 fun x1 =>
  if ¬ v1 = x1 then
    znA h 202 8 (.long 0) v1 fun r2 h3 =>
    zaN h3 zarrs v0 fun x4 =>
    zcI (f_J11_min x4 v1 h3) zX fun x5 h6 =>
    none
  else
    none
def f_J12_ensureCapacity (v0 : Option Nat) (v1 : Int32) (h : zH) : zO :=
  zgR h [18] 0 v0 fun r1 =>
  zaN h zarrs r1 fun x2 =>
  if v1 ≤ x2 then
    zrV h
  else
    zgR h [18] 0 v0 fun r3 =>
    zaN h zarrs r3 fun x4 =>
    zcI (f_J11_max ((2 : Int32) * x4) v1 h) zX fun x5 h6 =>
    zgR h6 [18] 0 v0 fun r7 =>
    zcR (f_J31_copyOf_2 r7 x5 h6) zX fun r8 h9 =>
    zpF h9 [18] 0 v0 (va_rf r8) fun h10 =>
    zpN h10 [18] 2 v0 .boolean (.int 0) fun h11 =>
    zrV h11
def f_J12_expandTo (v0 : Option Nat) (v1 : Int32) (h : zH) : zO :=
  znm (v1 + 1) fun x1 =>
  zgI h [18] 1 v0 fun x2 =>
  if x1 ≤ x2 then
    zrV h
  else
    if ztg h v0 = some 18 then
      zcV (f_J12_ensureCapacity v0 x1 h) zX fun h3 =>
      zpF h3 [18] 1 v0 (.int x1) fun h4 =>
      zrV h4
    else
    none
def f_J12_checkInvariants_62   (h : zH) : zO :=
  none
def f_J12_checkInvariants_70  (a0 : Option Nat) (h : zH) : zO :=
  if ¬ (1 : Int32) = 0 then
    zrV h
  else
    zgI h [18] 1 a0 fun x9 =>
    zgR h [18] 0 a0 fun r10 =>
    zaN h zarrs r10 fun x11 =>
    if x9 = x11 then
      zrV h
    else
      zgR h [18] 0 a0 fun r12 =>
      zgI h [18] 1 a0 fun x13 =>
      zaL h [202] r12 x13 fun x14 =>
      if (lg_cmp x14 0) = 0 then
        zrV h
      else
        none
def f_J12_checkInvariants_37  (a0 : Option Nat) (h : zH) : zO :=
  if ¬ (1 : Int32) = 0 then
    f_J12_checkInvariants_70 a0 h
  else
    zgI h [18] 1 a0 fun x5 =>
    if x5 < 0 then
      f_J12_checkInvariants_62 h
    else
      zgI h [18] 1 a0 fun x6 =>
      zgR h [18] 0 a0 fun r7 =>
      zaN h zarrs r7 fun x8 =>
      if x6 ≤ x8 then
        f_J12_checkInvariants_70 a0 h
      else
        f_J12_checkInvariants_62 h
def f_J12_checkInvariants (v0 : Option Nat) (h : zH) : zO :=
  if ¬ (1 : Int32) = 0 then
    f_J12_checkInvariants_37 v0 h
  else
    zgI h [18] 1 v0 fun x1 =>
    if x1 = 0 then
      f_J12_checkInvariants_37 v0 h
    else
      zgR h [18] 0 v0 fun r2 =>
      zgI h [18] 1 v0 fun x3 =>
      zaL h [202] r2 (x3 - 1) fun x4 =>
      if ¬ (lg_cmp x4 0) = 0 then
        f_J12_checkInvariants_37 v0 h
      else
        none
def f_J12_set_119  (a0 : Option Nat) (h : zH) : zO :=
  if ztg h a0 = some 18 then
    zcV (f_J12_checkInvariants a0 h) zX fun h16 =>
    zrV h16
  else
  none
def f_J12_set_107  (a0 : Option Nat) (a4 : Int32) (a7 : Int64) (h : zH) : zO :=
  zgR h [18] 0 a0 fun r20 =>
  zaL h [202] r20 a4 fun x21 =>
  zaS h [202] r20 a4 (.long (x21 ||| a7)) fun h22 =>
  f_J12_set_119 a0 h22
def f_J12_set_84  : Nat → Option Nat → Int32 → Int64 → Int32 → zH → zO
  | 0, _, _, _, _, _ => none
  | n + 1, a0, a4, a7, a9, h =>
    if a4 ≤ a9 then
      f_J12_set_107 a0 a4 a7 h
    else
      zgR h [18] 0 a0 fun r17 =>
      zaS h [202] r17 a9 (.long (-1)) fun h18 =>
      znm (a9 + 1) fun x19 =>
      f_J12_set_84 n a0 a4 a7 x19 h18
def f_J12_set (v0 : Option Nat) (v1 : Int32) (v2 : Int32) (h : zH) : zO :=
  zcV (f_J12_checkRange v1 v2 h) zX fun h1 =>
  if ¬ v1 = v2 then
    zcI (f_J12_wordIndex v1 h1) zX fun x2 h3 =>
    zcI (f_J12_wordIndex (v2 - 1) h3) zX fun x4 h5 =>
    if ztg h5 v0 = some 18 then
      zcV (f_J12_expandTo v0 x4 h5) zX fun h6 =>
      znm (((-1) : Int64) <<< (v1.toInt64 &&& 63)) fun x7 =>
      znm ((((-1) : Int64).toUInt64 >>> ((-v2).toInt64.toUInt64 &&& Int64.toUInt64 63)).toInt64) fun x8 =>
      if ¬ x2 = x4 then
        zgR h6 [18] 0 v0 fun r9 =>
        zaL h6 [202] r9 x2 fun x10 =>
        zaS h6 [202] r9 x2 (.long (x10 ||| x7)) fun h11 =>
        znm (x2 + 1) fun x12 =>
        f_J12_set_84 zfuel v0 x4 x8 x12 h11
      else
        zgR h6 [18] 0 v0 fun r13 =>
        zaL h6 [202] r13 x2 fun x14 =>
        zaS h6 [202] r13 x2 (.long (x14 ||| (x7 &&& x8))) fun h15 =>
        f_J12_set_119 v0 h15
    else
    none
  else
    zrV h1
def f_X2_taken_67 (K23 : Option Nat → Option Nat → zH → zO) (a1 : Option Nat) (a2 : Option Nat) (h : zH) : zO :=
  K23 a1 a2 h
def f_X2_taken_23  : Nat → Option Nat → Option Nat → zH → zO
  | 0, _, _, _ => none
  | n + 1, a1, a2, h =>
    if ztg h a2 = some 8 then
      zcI (f_X9_hasNext a2 h) zX fun x9 h10 =>
      if x9 = 0 then
        zrR a1 h10
      else
        if ztg h10 a2 = some 8 then
          zcR (f_X9_next a2 h10) zX fun r11 h12 =>
          zcast h12 [5] r11 <|
          if ztg h12 r11 = some 5 then
            zcI (f_X6_isInDock r11 h12) zX fun x13 h14 =>
            if x13 = 0 then
              f_X2_taken_67 (f_X2_taken_23 n) a1 a2 h14
            else
              zgR h14 [5] 8 r11 fun r15 =>
              zgI h14 [2] 0 r15 fun x16 =>
              zgR h14 [5] 8 r11 fun r17 =>
              if ztg h14 r17 = some 2 then
                zcI (f_X3_end r17 h14) zX fun x18 h19 =>
                if ztg h19 a1 = some 18 then
                  zcV (f_J12_set a1 x16 x18 h19) zX fun h20 =>
                  f_X2_taken_67 (f_X2_taken_23 n) a1 a2 h20
                else
                none
              else
              none
          else
          none
        else
        if ztg h10 a2 = some 20 then
          zcR (f_J15_next a2 h10) zX fun r11 h12 =>
          zcast h12 [5] r11 <|
          if ztg h12 r11 = some 5 then
            zcI (f_X6_isInDock r11 h12) zX fun x21 h22 =>
            if x21 = 0 then
              f_X2_taken_67 (f_X2_taken_23 n) a1 a2 h22
            else
              zgR h22 [5] 8 r11 fun r23 =>
              zgI h22 [2] 0 r23 fun x24 =>
              zgR h22 [5] 8 r11 fun r25 =>
              if ztg h22 r25 = some 2 then
                zcI (f_X3_end r25 h22) zX fun x26 h27 =>
                if ztg h27 a1 = some 18 then
                  zcV (f_J12_set a1 x24 x26 h27) zX fun h28 =>
                  f_X2_taken_67 (f_X2_taken_23 n) a1 a2 h28
                else
                none
              else
              none
          else
          none
        else
        if ztg h10 a2 = some 21 then
          zcR (f_J17_next a2 h10) zX fun r11 h12 =>
          zcast h12 [5] r11 <|
          if ztg h12 r11 = some 5 then
            zcI (f_X6_isInDock r11 h12) zX fun x29 h30 =>
            if x29 = 0 then
              f_X2_taken_67 (f_X2_taken_23 n) a1 a2 h30
            else
              zgR h30 [5] 8 r11 fun r31 =>
              zgI h30 [2] 0 r31 fun x32 =>
              zgR h30 [5] 8 r11 fun r33 =>
              if ztg h30 r33 = some 2 then
                zcI (f_X3_end r33 h30) zX fun x34 h35 =>
                if ztg h35 a1 = some 18 then
                  zcV (f_J12_set a1 x32 x34 h35) zX fun h36 =>
                  f_X2_taken_67 (f_X2_taken_23 n) a1 a2 h36
                else
                none
              else
              none
          else
          none
        else
        if ztg h10 a2 = some 24 then
          zcR (f_J21_next a2 h10) zX fun r11 h12 =>
          zcast h12 [5] r11 <|
          if ztg h12 r11 = some 5 then
            zcI (f_X6_isInDock r11 h12) zX fun x37 h38 =>
            if x37 = 0 then
              f_X2_taken_67 (f_X2_taken_23 n) a1 a2 h38
            else
              zgR h38 [5] 8 r11 fun r39 =>
              zgI h38 [2] 0 r39 fun x40 =>
              zgR h38 [5] 8 r11 fun r41 =>
              if ztg h38 r41 = some 2 then
                zcI (f_X3_end r41 h38) zX fun x42 h43 =>
                if ztg h43 a1 = some 18 then
                  zcV (f_J12_set a1 x40 x42 h43) zX fun h44 =>
                  f_X2_taken_67 (f_X2_taken_23 n) a1 a2 h44
                else
                none
              else
              none
          else
          none
        else
        if ztg h10 a2 = some 25 then
          zcR (f_J22_next a2 h10) zX fun r11 h12 =>
          zcast h12 [5] r11 <|
          if ztg h12 r11 = some 5 then
            zcI (f_X6_isInDock r11 h12) zX fun x45 h46 =>
            if x45 = 0 then
              f_X2_taken_67 (f_X2_taken_23 n) a1 a2 h46
            else
              zgR h46 [5] 8 r11 fun r47 =>
              zgI h46 [2] 0 r47 fun x48 =>
              zgR h46 [5] 8 r11 fun r49 =>
              if ztg h46 r49 = some 2 then
                zcI (f_X3_end r49 h46) zX fun x50 h51 =>
                if ztg h51 a1 = some 18 then
                  zcV (f_J12_set a1 x48 x50 h51) zX fun h52 =>
                  f_X2_taken_67 (f_X2_taken_23 n) a1 a2 h52
                else
                none
              else
              none
          else
          none
        else
        none
    else
    if ztg h a2 = some 20 then
      zcI (f_J15_hasNext a2 h) zX fun x9 h10 =>
      if x9 = 0 then
        zrR a1 h10
      else
        if ztg h10 a2 = some 8 then
          zcR (f_X9_next a2 h10) zX fun r53 h54 =>
          zcast h54 [5] r53 <|
          if ztg h54 r53 = some 5 then
            zcI (f_X6_isInDock r53 h54) zX fun x55 h56 =>
            if x55 = 0 then
              f_X2_taken_67 (f_X2_taken_23 n) a1 a2 h56
            else
              zgR h56 [5] 8 r53 fun r57 =>
              zgI h56 [2] 0 r57 fun x58 =>
              zgR h56 [5] 8 r53 fun r59 =>
              if ztg h56 r59 = some 2 then
                zcI (f_X3_end r59 h56) zX fun x60 h61 =>
                if ztg h61 a1 = some 18 then
                  zcV (f_J12_set a1 x58 x60 h61) zX fun h62 =>
                  f_X2_taken_67 (f_X2_taken_23 n) a1 a2 h62
                else
                none
              else
              none
          else
          none
        else
        if ztg h10 a2 = some 20 then
          zcR (f_J15_next a2 h10) zX fun r53 h54 =>
          zcast h54 [5] r53 <|
          if ztg h54 r53 = some 5 then
            zcI (f_X6_isInDock r53 h54) zX fun x63 h64 =>
            if x63 = 0 then
              f_X2_taken_67 (f_X2_taken_23 n) a1 a2 h64
            else
              zgR h64 [5] 8 r53 fun r65 =>
              zgI h64 [2] 0 r65 fun x66 =>
              zgR h64 [5] 8 r53 fun r67 =>
              if ztg h64 r67 = some 2 then
                zcI (f_X3_end r67 h64) zX fun x68 h69 =>
                if ztg h69 a1 = some 18 then
                  zcV (f_J12_set a1 x66 x68 h69) zX fun h70 =>
                  f_X2_taken_67 (f_X2_taken_23 n) a1 a2 h70
                else
                none
              else
              none
          else
          none
        else
        if ztg h10 a2 = some 21 then
          zcR (f_J17_next a2 h10) zX fun r53 h54 =>
          zcast h54 [5] r53 <|
          if ztg h54 r53 = some 5 then
            zcI (f_X6_isInDock r53 h54) zX fun x71 h72 =>
            if x71 = 0 then
              f_X2_taken_67 (f_X2_taken_23 n) a1 a2 h72
            else
              zgR h72 [5] 8 r53 fun r73 =>
              zgI h72 [2] 0 r73 fun x74 =>
              zgR h72 [5] 8 r53 fun r75 =>
              if ztg h72 r75 = some 2 then
                zcI (f_X3_end r75 h72) zX fun x76 h77 =>
                if ztg h77 a1 = some 18 then
                  zcV (f_J12_set a1 x74 x76 h77) zX fun h78 =>
                  f_X2_taken_67 (f_X2_taken_23 n) a1 a2 h78
                else
                none
              else
              none
          else
          none
        else
        if ztg h10 a2 = some 24 then
          zcR (f_J21_next a2 h10) zX fun r53 h54 =>
          zcast h54 [5] r53 <|
          if ztg h54 r53 = some 5 then
            zcI (f_X6_isInDock r53 h54) zX fun x79 h80 =>
            if x79 = 0 then
              f_X2_taken_67 (f_X2_taken_23 n) a1 a2 h80
            else
              zgR h80 [5] 8 r53 fun r81 =>
              zgI h80 [2] 0 r81 fun x82 =>
              zgR h80 [5] 8 r53 fun r83 =>
              if ztg h80 r83 = some 2 then
                zcI (f_X3_end r83 h80) zX fun x84 h85 =>
                if ztg h85 a1 = some 18 then
                  zcV (f_J12_set a1 x82 x84 h85) zX fun h86 =>
                  f_X2_taken_67 (f_X2_taken_23 n) a1 a2 h86
                else
                none
              else
              none
          else
          none
        else
        if ztg h10 a2 = some 25 then
          zcR (f_J22_next a2 h10) zX fun r53 h54 =>
          zcast h54 [5] r53 <|
          if ztg h54 r53 = some 5 then
            zcI (f_X6_isInDock r53 h54) zX fun x87 h88 =>
            if x87 = 0 then
              f_X2_taken_67 (f_X2_taken_23 n) a1 a2 h88
            else
              zgR h88 [5] 8 r53 fun r89 =>
              zgI h88 [2] 0 r89 fun x90 =>
              zgR h88 [5] 8 r53 fun r91 =>
              if ztg h88 r91 = some 2 then
                zcI (f_X3_end r91 h88) zX fun x92 h93 =>
                if ztg h93 a1 = some 18 then
                  zcV (f_J12_set a1 x90 x92 h93) zX fun h94 =>
                  f_X2_taken_67 (f_X2_taken_23 n) a1 a2 h94
                else
                none
              else
              none
          else
          none
        else
        none
    else
    if ztg h a2 = some 21 then
      zcI (f_J16_hasNext a2 h) zX fun x9 h10 =>
      if x9 = 0 then
        zrR a1 h10
      else
        if ztg h10 a2 = some 8 then
          zcR (f_X9_next a2 h10) zX fun r95 h96 =>
          zcast h96 [5] r95 <|
          if ztg h96 r95 = some 5 then
            zcI (f_X6_isInDock r95 h96) zX fun x97 h98 =>
            if x97 = 0 then
              f_X2_taken_67 (f_X2_taken_23 n) a1 a2 h98
            else
              zgR h98 [5] 8 r95 fun r99 =>
              zgI h98 [2] 0 r99 fun x100 =>
              zgR h98 [5] 8 r95 fun r101 =>
              if ztg h98 r101 = some 2 then
                zcI (f_X3_end r101 h98) zX fun x102 h103 =>
                if ztg h103 a1 = some 18 then
                  zcV (f_J12_set a1 x100 x102 h103) zX fun h104 =>
                  f_X2_taken_67 (f_X2_taken_23 n) a1 a2 h104
                else
                none
              else
              none
          else
          none
        else
        if ztg h10 a2 = some 20 then
          zcR (f_J15_next a2 h10) zX fun r95 h96 =>
          zcast h96 [5] r95 <|
          if ztg h96 r95 = some 5 then
            zcI (f_X6_isInDock r95 h96) zX fun x105 h106 =>
            if x105 = 0 then
              f_X2_taken_67 (f_X2_taken_23 n) a1 a2 h106
            else
              zgR h106 [5] 8 r95 fun r107 =>
              zgI h106 [2] 0 r107 fun x108 =>
              zgR h106 [5] 8 r95 fun r109 =>
              if ztg h106 r109 = some 2 then
                zcI (f_X3_end r109 h106) zX fun x110 h111 =>
                if ztg h111 a1 = some 18 then
                  zcV (f_J12_set a1 x108 x110 h111) zX fun h112 =>
                  f_X2_taken_67 (f_X2_taken_23 n) a1 a2 h112
                else
                none
              else
              none
          else
          none
        else
        if ztg h10 a2 = some 21 then
          zcR (f_J17_next a2 h10) zX fun r95 h96 =>
          zcast h96 [5] r95 <|
          if ztg h96 r95 = some 5 then
            zcI (f_X6_isInDock r95 h96) zX fun x113 h114 =>
            if x113 = 0 then
              f_X2_taken_67 (f_X2_taken_23 n) a1 a2 h114
            else
              zgR h114 [5] 8 r95 fun r115 =>
              zgI h114 [2] 0 r115 fun x116 =>
              zgR h114 [5] 8 r95 fun r117 =>
              if ztg h114 r117 = some 2 then
                zcI (f_X3_end r117 h114) zX fun x118 h119 =>
                if ztg h119 a1 = some 18 then
                  zcV (f_J12_set a1 x116 x118 h119) zX fun h120 =>
                  f_X2_taken_67 (f_X2_taken_23 n) a1 a2 h120
                else
                none
              else
              none
          else
          none
        else
        if ztg h10 a2 = some 24 then
          zcR (f_J21_next a2 h10) zX fun r95 h96 =>
          zcast h96 [5] r95 <|
          if ztg h96 r95 = some 5 then
            zcI (f_X6_isInDock r95 h96) zX fun x121 h122 =>
            if x121 = 0 then
              f_X2_taken_67 (f_X2_taken_23 n) a1 a2 h122
            else
              zgR h122 [5] 8 r95 fun r123 =>
              zgI h122 [2] 0 r123 fun x124 =>
              zgR h122 [5] 8 r95 fun r125 =>
              if ztg h122 r125 = some 2 then
                zcI (f_X3_end r125 h122) zX fun x126 h127 =>
                if ztg h127 a1 = some 18 then
                  zcV (f_J12_set a1 x124 x126 h127) zX fun h128 =>
                  f_X2_taken_67 (f_X2_taken_23 n) a1 a2 h128
                else
                none
              else
              none
          else
          none
        else
        if ztg h10 a2 = some 25 then
          zcR (f_J22_next a2 h10) zX fun r95 h96 =>
          zcast h96 [5] r95 <|
          if ztg h96 r95 = some 5 then
            zcI (f_X6_isInDock r95 h96) zX fun x129 h130 =>
            if x129 = 0 then
              f_X2_taken_67 (f_X2_taken_23 n) a1 a2 h130
            else
              zgR h130 [5] 8 r95 fun r131 =>
              zgI h130 [2] 0 r131 fun x132 =>
              zgR h130 [5] 8 r95 fun r133 =>
              if ztg h130 r133 = some 2 then
                zcI (f_X3_end r133 h130) zX fun x134 h135 =>
                if ztg h135 a1 = some 18 then
                  zcV (f_J12_set a1 x132 x134 h135) zX fun h136 =>
                  f_X2_taken_67 (f_X2_taken_23 n) a1 a2 h136
                else
                none
              else
              none
          else
          none
        else
        none
    else
    if ztg h a2 = some 24 then
      zcI (f_J20_hasNext a2 h) zX fun x9 h10 =>
      if x9 = 0 then
        zrR a1 h10
      else
        if ztg h10 a2 = some 8 then
          zcR (f_X9_next a2 h10) zX fun r137 h138 =>
          zcast h138 [5] r137 <|
          if ztg h138 r137 = some 5 then
            zcI (f_X6_isInDock r137 h138) zX fun x139 h140 =>
            if x139 = 0 then
              f_X2_taken_67 (f_X2_taken_23 n) a1 a2 h140
            else
              zgR h140 [5] 8 r137 fun r141 =>
              zgI h140 [2] 0 r141 fun x142 =>
              zgR h140 [5] 8 r137 fun r143 =>
              if ztg h140 r143 = some 2 then
                zcI (f_X3_end r143 h140) zX fun x144 h145 =>
                if ztg h145 a1 = some 18 then
                  zcV (f_J12_set a1 x142 x144 h145) zX fun h146 =>
                  f_X2_taken_67 (f_X2_taken_23 n) a1 a2 h146
                else
                none
              else
              none
          else
          none
        else
        if ztg h10 a2 = some 20 then
          zcR (f_J15_next a2 h10) zX fun r137 h138 =>
          zcast h138 [5] r137 <|
          if ztg h138 r137 = some 5 then
            zcI (f_X6_isInDock r137 h138) zX fun x147 h148 =>
            if x147 = 0 then
              f_X2_taken_67 (f_X2_taken_23 n) a1 a2 h148
            else
              zgR h148 [5] 8 r137 fun r149 =>
              zgI h148 [2] 0 r149 fun x150 =>
              zgR h148 [5] 8 r137 fun r151 =>
              if ztg h148 r151 = some 2 then
                zcI (f_X3_end r151 h148) zX fun x152 h153 =>
                if ztg h153 a1 = some 18 then
                  zcV (f_J12_set a1 x150 x152 h153) zX fun h154 =>
                  f_X2_taken_67 (f_X2_taken_23 n) a1 a2 h154
                else
                none
              else
              none
          else
          none
        else
        if ztg h10 a2 = some 21 then
          zcR (f_J17_next a2 h10) zX fun r137 h138 =>
          zcast h138 [5] r137 <|
          if ztg h138 r137 = some 5 then
            zcI (f_X6_isInDock r137 h138) zX fun x155 h156 =>
            if x155 = 0 then
              f_X2_taken_67 (f_X2_taken_23 n) a1 a2 h156
            else
              zgR h156 [5] 8 r137 fun r157 =>
              zgI h156 [2] 0 r157 fun x158 =>
              zgR h156 [5] 8 r137 fun r159 =>
              if ztg h156 r159 = some 2 then
                zcI (f_X3_end r159 h156) zX fun x160 h161 =>
                if ztg h161 a1 = some 18 then
                  zcV (f_J12_set a1 x158 x160 h161) zX fun h162 =>
                  f_X2_taken_67 (f_X2_taken_23 n) a1 a2 h162
                else
                none
              else
              none
          else
          none
        else
        if ztg h10 a2 = some 24 then
          zcR (f_J21_next a2 h10) zX fun r137 h138 =>
          zcast h138 [5] r137 <|
          if ztg h138 r137 = some 5 then
            zcI (f_X6_isInDock r137 h138) zX fun x163 h164 =>
            if x163 = 0 then
              f_X2_taken_67 (f_X2_taken_23 n) a1 a2 h164
            else
              zgR h164 [5] 8 r137 fun r165 =>
              zgI h164 [2] 0 r165 fun x166 =>
              zgR h164 [5] 8 r137 fun r167 =>
              if ztg h164 r167 = some 2 then
                zcI (f_X3_end r167 h164) zX fun x168 h169 =>
                if ztg h169 a1 = some 18 then
                  zcV (f_J12_set a1 x166 x168 h169) zX fun h170 =>
                  f_X2_taken_67 (f_X2_taken_23 n) a1 a2 h170
                else
                none
              else
              none
          else
          none
        else
        if ztg h10 a2 = some 25 then
          zcR (f_J22_next a2 h10) zX fun r137 h138 =>
          zcast h138 [5] r137 <|
          if ztg h138 r137 = some 5 then
            zcI (f_X6_isInDock r137 h138) zX fun x171 h172 =>
            if x171 = 0 then
              f_X2_taken_67 (f_X2_taken_23 n) a1 a2 h172
            else
              zgR h172 [5] 8 r137 fun r173 =>
              zgI h172 [2] 0 r173 fun x174 =>
              zgR h172 [5] 8 r137 fun r175 =>
              if ztg h172 r175 = some 2 then
                zcI (f_X3_end r175 h172) zX fun x176 h177 =>
                if ztg h177 a1 = some 18 then
                  zcV (f_J12_set a1 x174 x176 h177) zX fun h178 =>
                  f_X2_taken_67 (f_X2_taken_23 n) a1 a2 h178
                else
                none
              else
              none
          else
          none
        else
        none
    else
    if ztg h a2 = some 25 then
      zcI (f_J20_hasNext a2 h) zX fun x9 h10 =>
      if x9 = 0 then
        zrR a1 h10
      else
        if ztg h10 a2 = some 8 then
          zcR (f_X9_next a2 h10) zX fun r179 h180 =>
          zcast h180 [5] r179 <|
          if ztg h180 r179 = some 5 then
            zcI (f_X6_isInDock r179 h180) zX fun x181 h182 =>
            if x181 = 0 then
              f_X2_taken_67 (f_X2_taken_23 n) a1 a2 h182
            else
              zgR h182 [5] 8 r179 fun r183 =>
              zgI h182 [2] 0 r183 fun x184 =>
              zgR h182 [5] 8 r179 fun r185 =>
              if ztg h182 r185 = some 2 then
                zcI (f_X3_end r185 h182) zX fun x186 h187 =>
                if ztg h187 a1 = some 18 then
                  zcV (f_J12_set a1 x184 x186 h187) zX fun h188 =>
                  f_X2_taken_67 (f_X2_taken_23 n) a1 a2 h188
                else
                none
              else
              none
          else
          none
        else
        if ztg h10 a2 = some 20 then
          zcR (f_J15_next a2 h10) zX fun r179 h180 =>
          zcast h180 [5] r179 <|
          if ztg h180 r179 = some 5 then
            zcI (f_X6_isInDock r179 h180) zX fun x189 h190 =>
            if x189 = 0 then
              f_X2_taken_67 (f_X2_taken_23 n) a1 a2 h190
            else
              zgR h190 [5] 8 r179 fun r191 =>
              zgI h190 [2] 0 r191 fun x192 =>
              zgR h190 [5] 8 r179 fun r193 =>
              if ztg h190 r193 = some 2 then
                zcI (f_X3_end r193 h190) zX fun x194 h195 =>
                if ztg h195 a1 = some 18 then
                  zcV (f_J12_set a1 x192 x194 h195) zX fun h196 =>
                  f_X2_taken_67 (f_X2_taken_23 n) a1 a2 h196
                else
                none
              else
              none
          else
          none
        else
        if ztg h10 a2 = some 21 then
          zcR (f_J17_next a2 h10) zX fun r179 h180 =>
          zcast h180 [5] r179 <|
          if ztg h180 r179 = some 5 then
            zcI (f_X6_isInDock r179 h180) zX fun x197 h198 =>
            if x197 = 0 then
              f_X2_taken_67 (f_X2_taken_23 n) a1 a2 h198
            else
              zgR h198 [5] 8 r179 fun r199 =>
              zgI h198 [2] 0 r199 fun x200 =>
              zgR h198 [5] 8 r179 fun r201 =>
              if ztg h198 r201 = some 2 then
                zcI (f_X3_end r201 h198) zX fun x202 h203 =>
                if ztg h203 a1 = some 18 then
                  zcV (f_J12_set a1 x200 x202 h203) zX fun h204 =>
                  f_X2_taken_67 (f_X2_taken_23 n) a1 a2 h204
                else
                none
              else
              none
          else
          none
        else
        if ztg h10 a2 = some 24 then
          zcR (f_J21_next a2 h10) zX fun r179 h180 =>
          zcast h180 [5] r179 <|
          if ztg h180 r179 = some 5 then
            zcI (f_X6_isInDock r179 h180) zX fun x205 h206 =>
            if x205 = 0 then
              f_X2_taken_67 (f_X2_taken_23 n) a1 a2 h206
            else
              zgR h206 [5] 8 r179 fun r207 =>
              zgI h206 [2] 0 r207 fun x208 =>
              zgR h206 [5] 8 r179 fun r209 =>
              if ztg h206 r209 = some 2 then
                zcI (f_X3_end r209 h206) zX fun x210 h211 =>
                if ztg h211 a1 = some 18 then
                  zcV (f_J12_set a1 x208 x210 h211) zX fun h212 =>
                  f_X2_taken_67 (f_X2_taken_23 n) a1 a2 h212
                else
                none
              else
              none
          else
          none
        else
        if ztg h10 a2 = some 25 then
          zcR (f_J22_next a2 h10) zX fun r179 h180 =>
          zcast h180 [5] r179 <|
          if ztg h180 r179 = some 5 then
            zcI (f_X6_isInDock r179 h180) zX fun x213 h214 =>
            if x213 = 0 then
              f_X2_taken_67 (f_X2_taken_23 n) a1 a2 h214
            else
              zgR h214 [5] 8 r179 fun r215 =>
              zgI h214 [2] 0 r215 fun x216 =>
              zgR h214 [5] 8 r179 fun r217 =>
              if ztg h214 r217 = some 2 then
                zcI (f_X3_end r217 h214) zX fun x218 h219 =>
                if ztg h219 a1 = some 18 then
                  zcV (f_J12_set a1 x216 x218 h219) zX fun h220 =>
                  f_X2_taken_67 (f_X2_taken_23 n) a1 a2 h220
                else
                none
              else
              none
          else
          none
        else
        none
    else
    none
def f_X2_taken (v0 : Option Nat) (h : zH) : zO :=
  znO h 18 [.null, .int 0, .int 0] fun r1 h2 =>
  if ¬ r1 = none then
    zcV (f_J12_init r1 60 h2) zX fun h3 =>
    zgR h3 [1] 0 v0 fun r4 =>
    if ztg h3 r4 = some 13 then
      zcR (f_J2_values r4 h3) zX fun r5 h6 =>
      if ztg h6 r5 = some 19 then
        zcR (f_J13_iterator r5 h6) zX fun r7 h8 =>
        f_X2_taken_23 zfuel r1 r7 h8
      else
      none
    else
    none
  else none
def f_J24_numberOfTrailingZeros_74  (a0 : Int32) (a1 : Int32) (h : zH) : zO :=
  zrI (a1 + ((a0.toUInt32 >>> ((1 : Int32).toUInt32 &&& Int32.toUInt32 31)).toInt32)) h
def f_J24_numberOfTrailingZeros_62  (a0 : Int32) (a1 : Int32) (h : zH) : zO :=
  if a0 ≤ 4 then
    f_J24_numberOfTrailingZeros_74 a0 a1 h
  else
    znm (a1 + 2) fun x8 =>
    znm ((a0.toUInt32 >>> ((2 : Int32).toUInt32 &&& Int32.toUInt32 31)).toInt32) fun x9 =>
    f_J24_numberOfTrailingZeros_74 x9 x8 h
def f_J24_numberOfTrailingZeros_49  (a0 : Int32) (a1 : Int32) (h : zH) : zO :=
  if a0 ≤ 16 then
    f_J24_numberOfTrailingZeros_62 a0 a1 h
  else
    znm (a1 + 4) fun x6 =>
    znm ((a0.toUInt32 >>> ((4 : Int32).toUInt32 &&& Int32.toUInt32 31)).toInt32) fun x7 =>
    f_J24_numberOfTrailingZeros_62 x7 x6 h
def f_J24_numberOfTrailingZeros_34  (a0 : Int32) (a1 : Int32) (h : zH) : zO :=
  if a0 ≤ 256 then
    f_J24_numberOfTrailingZeros_49 a0 a1 h
  else
    znm (a1 + 8) fun x4 =>
    znm ((a0.toUInt32 >>> ((8 : Int32).toUInt32 &&& Int32.toUInt32 31)).toInt32) fun x5 =>
    f_J24_numberOfTrailingZeros_49 x5 x4 h
def f_J24_numberOfTrailingZeros (v0 : Int32) (h : zH) : zO :=
  znm ((v0 ^^^ (-1)) &&& (v0 - 1)) fun x1 =>
  if 0 < x1 then
    if x1 ≤ 65536 then
      f_J24_numberOfTrailingZeros_34 x1 1 h
    else
      znm (1 + 16) fun x2 =>
      znm ((x1.toUInt32 >>> ((16 : Int32).toUInt32 &&& Int32.toUInt32 31)).toInt32) fun x3 =>
      f_J24_numberOfTrailingZeros_34 x3 x2 h
  else
    zrI (x1 &&& 32) h
def f_J35_numberOfTrailingZeros (v0 : Int64) (h : zH) : zO :=
  znm (v0.toInt32) fun x1 =>
  if ¬ x1 = 0 then
    zcI (f_J24_numberOfTrailingZeros x1 h) zX fun x2 h3 =>
    zrI x2 h3
  else
    zcI (f_J24_numberOfTrailingZeros (((v0.toUInt64 >>> ((32 : Int32).toInt64.toUInt64 &&& Int64.toUInt64 63)).toInt64).toInt32) h) zX fun x4 h5 =>
    zrI ((32 : Int32) + x4) h5
def f_J12_nextSetBit_69  (a2 : Int32) (a3 : Int64) (h : zH) : zO :=
  zcI (f_J35_numberOfTrailingZeros a3 h) zX fun x12 h13 =>
  zrI ((a2 * 64) + x12) h13
def f_J12_nextSetBit_63  : Nat → Option Nat → Int32 → Int64 → zH → zO
  | 0, _, _, _, _ => none
  | n + 1, a0, a2, a3, h =>
    if (lg_cmp a3 0) = 0 then
      znm (a2 + 1) fun x8 =>
      zgI h [18] 1 a0 fun x9 =>
      if ¬ x8 = x9 then
        zgR h [18] 0 a0 fun r10 =>
        zaL h [202] r10 x8 fun x11 =>
        f_J12_nextSetBit_63 n a0 x8 x11 h
      else
        zrI (-1) h
    else
      f_J12_nextSetBit_69 a2 a3 h
def f_J12_nextSetBit (v0 : Option Nat) (v1 : Int32) (h : zH) : zO :=
  if 0 ≤ v1 then
    if ztg h v0 = some 18 then
      zcV (f_J12_checkInvariants v0 h) zX fun h1 =>
      zcI (f_J12_wordIndex v1 h1) zX fun x2 h3 =>
      zgI h3 [18] 1 v0 fun x4 =>
      if x2 < x4 then
        zgR h3 [18] 0 v0 fun r5 =>
        zaL h3 [202] r5 x2 fun x6 =>
        znm (x6 &&& (((-1) : Int64) <<< (v1.toInt64 &&& 63))) fun x7 =>
        f_J12_nextSetBit_63 zfuel v0 x2 x7 h3
      else
        zrI (-1) h3
    else
    none
  else
    none
def f_X2_firstGapByTrying_7  : Nat → Int32 → Option Nat → Int32 → zH → zO
  | 0, _, _, _, _ => none
  | n + 1, a1, a2, a3, h =>
    if 60 < (a3 + a1) then
      zrI (-1) h
    else
      if ztg h a2 = some 18 then
        zcI (f_J12_nextSetBit a2 a3 h) zX fun x3 h4 =>
        if x3 = (-1) then
          zrI a3 h4
        else
          if x3 < (a3 + a1) then
            znm (a3 + 1) fun x5 =>
            f_X2_firstGapByTrying_7 n a1 a2 x5 h4
          else
            zrI a3 h4
      else
      none
def f_X2_firstGapByTrying (v0 : Option Nat) (v1 : Int32) (h : zH) : zO :=
  if ztg h v0 = some 1 then
    zcR (f_X2_taken v0 h) zX fun r1 h2 =>
    f_X2_firstGapByTrying_7 zfuel v1 r1 0 h2
  else
  none
def f_X1_lambda_new_3 (v0 : Option Nat) (v1 : Int32) (h : zH) : zO :=
  if ztg h v0 = some 1 then
    zcI (f_X2_firstGapByTrying v0 v1 h) zX fun x1 h2 =>
    zrI x1 h2
  else
  none
def f_J36_init (v0 : Option Nat) (h : zH) : zO :=
  if ¬ v0 = none then
    zcV (f_J3_init v0 h) zX fun h1 =>
    zpF h1 [27] 0 v0 (.int 0) fun h2 =>
    zrV h2
  else none
def f_J37_init (v0 : Option Nat) (v1 : Int32) (h : zH) : zO :=
  if ¬ v0 = none then
    zcV (f_J36_init v0 h) zX fun h1 =>
    if v1 ≤ 0 then
      if ¬ v1 = 0 then
        none
      else
        zpF h1 [27] 1 v0 (va_rf (some (zG h1 3))) fun h2 =>
        zrV h2
    else
      znA h1 205 4 .null v1 fun r3 h4 =>
      zpF h4 [27] 1 v0 (va_rf r3) fun h5 =>
      zrV h5
  else none
def f_J37_size (v0 : Option Nat) (h : zH) : zO :=
  zgI h [27] 2 v0 fun x1 =>
  zrI x1 h
def f_J32_checkIndex_9  (a0 : Int32) (a1 : Int32) (a2 : Option Nat) (h : zH) : zO :=
  none
def f_J32_checkIndex (v0 : Int32) (v1 : Int32) (v2 : Option Nat) (h : zH) : zO :=
  if v0 < 0 then
    f_J32_checkIndex_9 v0 v1 v2 h
  else
    if v0 < v1 then
      zrI v0 h
    else
      f_J32_checkIndex_9 v0 v1 v2 h
def f_J38_checkIndex (v0 : Int32) (v1 : Int32) (h : zH) : zO :=
  zcI (f_J32_checkIndex v0 v1 none h) zX fun x1 h2 =>
  zrI x1 h2
def f_J37_elementData (v0 : Option Nat) (v1 : Int32) (h : zH) : zO :=
  zgR h [27] 1 v0 fun r1 =>
  zaR h zrefs r1 v1 fun r2 =>
  zrR r2 h
def f_J37_get (v0 : Option Nat) (v1 : Int32) (h : zH) : zO :=
  zgI h [27] 2 v0 fun x1 =>
  zcI (f_J38_checkIndex v1 x1 h) zX fun x2 h3 =>
  if ztg h3 v0 = some 27 then
    zcR (f_J37_elementData v0 v1 h3) zX fun r4 h5 =>
    zrR r4 h5
  else
  none
def f_J37_rangeCheckForAdd_12  (a0 : Option Nat) (a1 : Int32) (h : zH) : zO :=
  none
def f_J37_rangeCheckForAdd (v0 : Option Nat) (v1 : Int32) (h : zH) : zO :=
  zgI h [27] 2 v0 fun x1 =>
  if x1 < v1 then
    f_J37_rangeCheckForAdd_12 v0 v1 h
  else
    if 0 ≤ v1 then
      zrV h
    else
      f_J37_rangeCheckForAdd_12 v0 v1 h
def f_J37_add_38  (a0 : Option Nat) (a1 : Int32) (a2 : Option Nat) (a3 : Int32) (a4 : Option Nat) (h : zH) : zO :=
  zacp h [205] (zfitV h [0, 1, 2, 3, 4, 5, 6, 7, 8, 9, 10, 11, 12, 13, 14, 15, 16, 17, 18, 19, 20, 21, 22, 23, 24, 25, 26, 27, 28, 29, 30, 31, 32, 33, 34, 35]) a4 a1 a4 (a1 + 1) (a3 - a1) fun h9 =>
  zaQ h9 [205] [0, 1, 2, 3, 4, 5, 6, 7, 8, 9, 10, 11, 12, 13, 14, 15, 16, 17, 18, 19, 20, 21, 22, 23, 24, 25, 26, 27, 28, 29, 30, 31, 32, 33, 34, 35] a4 a1 a2 fun h10 =>
  zpF h10 [27] 2 a0 (.int (a3 + 1)) fun h11 =>
  zrV h11
def f_J37_add (v0 : Option Nat) (v1 : Int32) (v2 : Option Nat) (h : zH) : zO :=
  if ztg h v0 = some 27 then
    zcV (f_J37_rangeCheckForAdd v0 v1 h) zX fun h1 =>
    zgI h1 [27] 0 v0 fun x2 =>
    zpF h1 [27] 0 v0 (.int (x2 + 1)) fun h3 =>
    zgI h3 [27] 2 v0 fun x4 =>
    zgR h3 [27] 1 v0 fun r5 =>
    zaN h3 zarrs r5 fun x6 =>
    if ¬ x4 = x6 then
      f_J37_add_38 v0 v1 v2 x4 r5 h3
    else
      none
  else
  none
def f_X2_shipsByPosition_99 (K23 : Option Nat → Option Nat → zH → zO) (a1 : Option Nat) (a2 : Option Nat) (h : zH) : zO :=
  K23 a1 a2 h
def f_X2_shipsByPosition_92 (K23 : Option Nat → Option Nat → zH → zO) (a1 : Option Nat) (a2 : Option Nat) (a3 : Option Nat) (a4 : Int32) (h : zH) : zO :=
  if ztg h a1 = some 27 then
    zcV (f_J37_add a1 a4 a3 h) zX fun h80 =>
    f_X2_shipsByPosition_99 K23 a1 a2 h80
  else
  none
def f_X2_shipsByPosition_52 (K23 : Option Nat → Option Nat → zH → zO) : Nat → Option Nat → Option Nat → Option Nat → Int32 → zH → zO
  | 0, _, _, _, _, _ => none
  | n + 1, a1, a2, a3, a4, h =>
    if ztg h a1 = some 27 then
      zcI (f_J37_size a1 h) zX fun x71 h72 =>
      if x71 ≤ a4 then
        f_X2_shipsByPosition_92 K23 a1 a2 a3 a4 h72
      else
        if ztg h72 a1 = some 27 then
          zcR (f_J37_get a1 a4 h72) zX fun r73 h74 =>
          zcast h74 [5] r73 <|
          zgR h74 [5] 8 r73 fun r75 =>
          zgI h74 [2] 0 r75 fun x76 =>
          zgR h74 [5] 8 a3 fun r77 =>
          zgI h74 [2] 0 r77 fun x78 =>
          if x78 ≤ x76 then
            f_X2_shipsByPosition_92 K23 a1 a2 a3 a4 h74
          else
            znm (a4 + 1) fun x79 =>
            f_X2_shipsByPosition_52 K23 n a1 a2 a3 x79 h74
        else
        none
    else
    none
def f_X2_shipsByPosition_23  : Nat → Option Nat → Option Nat → zH → zO
  | 0, _, _, _ => none
  | n + 1, a1, a2, h =>
    if ztg h a2 = some 8 then
      zcI (f_X9_hasNext a2 h) zX fun x9 h10 =>
      if x9 = 0 then
        zrR a1 h10
      else
        if ztg h10 a2 = some 8 then
          zcR (f_X9_next a2 h10) zX fun r11 h12 =>
          zcast h12 [5] r11 <|
          if ztg h12 r11 = some 5 then
            zcI (f_X6_isInDock r11 h12) zX fun x13 h14 =>
            if x13 = 0 then
              f_X2_shipsByPosition_99 (f_X2_shipsByPosition_23 n) a1 a2 h14
            else
              f_X2_shipsByPosition_52 (f_X2_shipsByPosition_23 n) zfuel a1 a2 r11 0 h14
          else
          none
        else
        if ztg h10 a2 = some 20 then
          zcR (f_J15_next a2 h10) zX fun r11 h12 =>
          zcast h12 [5] r11 <|
          if ztg h12 r11 = some 5 then
            zcI (f_X6_isInDock r11 h12) zX fun x15 h16 =>
            if x15 = 0 then
              f_X2_shipsByPosition_99 (f_X2_shipsByPosition_23 n) a1 a2 h16
            else
              f_X2_shipsByPosition_52 (f_X2_shipsByPosition_23 n) zfuel a1 a2 r11 0 h16
          else
          none
        else
        if ztg h10 a2 = some 21 then
          zcR (f_J17_next a2 h10) zX fun r11 h12 =>
          zcast h12 [5] r11 <|
          if ztg h12 r11 = some 5 then
            zcI (f_X6_isInDock r11 h12) zX fun x17 h18 =>
            if x17 = 0 then
              f_X2_shipsByPosition_99 (f_X2_shipsByPosition_23 n) a1 a2 h18
            else
              f_X2_shipsByPosition_52 (f_X2_shipsByPosition_23 n) zfuel a1 a2 r11 0 h18
          else
          none
        else
        if ztg h10 a2 = some 24 then
          zcR (f_J21_next a2 h10) zX fun r11 h12 =>
          zcast h12 [5] r11 <|
          if ztg h12 r11 = some 5 then
            zcI (f_X6_isInDock r11 h12) zX fun x19 h20 =>
            if x19 = 0 then
              f_X2_shipsByPosition_99 (f_X2_shipsByPosition_23 n) a1 a2 h20
            else
              f_X2_shipsByPosition_52 (f_X2_shipsByPosition_23 n) zfuel a1 a2 r11 0 h20
          else
          none
        else
        if ztg h10 a2 = some 25 then
          zcR (f_J22_next a2 h10) zX fun r11 h12 =>
          zcast h12 [5] r11 <|
          if ztg h12 r11 = some 5 then
            zcI (f_X6_isInDock r11 h12) zX fun x21 h22 =>
            if x21 = 0 then
              f_X2_shipsByPosition_99 (f_X2_shipsByPosition_23 n) a1 a2 h22
            else
              f_X2_shipsByPosition_52 (f_X2_shipsByPosition_23 n) zfuel a1 a2 r11 0 h22
          else
          none
        else
        none
    else
    if ztg h a2 = some 20 then
      zcI (f_J15_hasNext a2 h) zX fun x9 h10 =>
      if x9 = 0 then
        zrR a1 h10
      else
        if ztg h10 a2 = some 8 then
          zcR (f_X9_next a2 h10) zX fun r23 h24 =>
          zcast h24 [5] r23 <|
          if ztg h24 r23 = some 5 then
            zcI (f_X6_isInDock r23 h24) zX fun x25 h26 =>
            if x25 = 0 then
              f_X2_shipsByPosition_99 (f_X2_shipsByPosition_23 n) a1 a2 h26
            else
              f_X2_shipsByPosition_52 (f_X2_shipsByPosition_23 n) zfuel a1 a2 r23 0 h26
          else
          none
        else
        if ztg h10 a2 = some 20 then
          zcR (f_J15_next a2 h10) zX fun r23 h24 =>
          zcast h24 [5] r23 <|
          if ztg h24 r23 = some 5 then
            zcI (f_X6_isInDock r23 h24) zX fun x27 h28 =>
            if x27 = 0 then
              f_X2_shipsByPosition_99 (f_X2_shipsByPosition_23 n) a1 a2 h28
            else
              f_X2_shipsByPosition_52 (f_X2_shipsByPosition_23 n) zfuel a1 a2 r23 0 h28
          else
          none
        else
        if ztg h10 a2 = some 21 then
          zcR (f_J17_next a2 h10) zX fun r23 h24 =>
          zcast h24 [5] r23 <|
          if ztg h24 r23 = some 5 then
            zcI (f_X6_isInDock r23 h24) zX fun x29 h30 =>
            if x29 = 0 then
              f_X2_shipsByPosition_99 (f_X2_shipsByPosition_23 n) a1 a2 h30
            else
              f_X2_shipsByPosition_52 (f_X2_shipsByPosition_23 n) zfuel a1 a2 r23 0 h30
          else
          none
        else
        if ztg h10 a2 = some 24 then
          zcR (f_J21_next a2 h10) zX fun r23 h24 =>
          zcast h24 [5] r23 <|
          if ztg h24 r23 = some 5 then
            zcI (f_X6_isInDock r23 h24) zX fun x31 h32 =>
            if x31 = 0 then
              f_X2_shipsByPosition_99 (f_X2_shipsByPosition_23 n) a1 a2 h32
            else
              f_X2_shipsByPosition_52 (f_X2_shipsByPosition_23 n) zfuel a1 a2 r23 0 h32
          else
          none
        else
        if ztg h10 a2 = some 25 then
          zcR (f_J22_next a2 h10) zX fun r23 h24 =>
          zcast h24 [5] r23 <|
          if ztg h24 r23 = some 5 then
            zcI (f_X6_isInDock r23 h24) zX fun x33 h34 =>
            if x33 = 0 then
              f_X2_shipsByPosition_99 (f_X2_shipsByPosition_23 n) a1 a2 h34
            else
              f_X2_shipsByPosition_52 (f_X2_shipsByPosition_23 n) zfuel a1 a2 r23 0 h34
          else
          none
        else
        none
    else
    if ztg h a2 = some 21 then
      zcI (f_J16_hasNext a2 h) zX fun x9 h10 =>
      if x9 = 0 then
        zrR a1 h10
      else
        if ztg h10 a2 = some 8 then
          zcR (f_X9_next a2 h10) zX fun r35 h36 =>
          zcast h36 [5] r35 <|
          if ztg h36 r35 = some 5 then
            zcI (f_X6_isInDock r35 h36) zX fun x37 h38 =>
            if x37 = 0 then
              f_X2_shipsByPosition_99 (f_X2_shipsByPosition_23 n) a1 a2 h38
            else
              f_X2_shipsByPosition_52 (f_X2_shipsByPosition_23 n) zfuel a1 a2 r35 0 h38
          else
          none
        else
        if ztg h10 a2 = some 20 then
          zcR (f_J15_next a2 h10) zX fun r35 h36 =>
          zcast h36 [5] r35 <|
          if ztg h36 r35 = some 5 then
            zcI (f_X6_isInDock r35 h36) zX fun x39 h40 =>
            if x39 = 0 then
              f_X2_shipsByPosition_99 (f_X2_shipsByPosition_23 n) a1 a2 h40
            else
              f_X2_shipsByPosition_52 (f_X2_shipsByPosition_23 n) zfuel a1 a2 r35 0 h40
          else
          none
        else
        if ztg h10 a2 = some 21 then
          zcR (f_J17_next a2 h10) zX fun r35 h36 =>
          zcast h36 [5] r35 <|
          if ztg h36 r35 = some 5 then
            zcI (f_X6_isInDock r35 h36) zX fun x41 h42 =>
            if x41 = 0 then
              f_X2_shipsByPosition_99 (f_X2_shipsByPosition_23 n) a1 a2 h42
            else
              f_X2_shipsByPosition_52 (f_X2_shipsByPosition_23 n) zfuel a1 a2 r35 0 h42
          else
          none
        else
        if ztg h10 a2 = some 24 then
          zcR (f_J21_next a2 h10) zX fun r35 h36 =>
          zcast h36 [5] r35 <|
          if ztg h36 r35 = some 5 then
            zcI (f_X6_isInDock r35 h36) zX fun x43 h44 =>
            if x43 = 0 then
              f_X2_shipsByPosition_99 (f_X2_shipsByPosition_23 n) a1 a2 h44
            else
              f_X2_shipsByPosition_52 (f_X2_shipsByPosition_23 n) zfuel a1 a2 r35 0 h44
          else
          none
        else
        if ztg h10 a2 = some 25 then
          zcR (f_J22_next a2 h10) zX fun r35 h36 =>
          zcast h36 [5] r35 <|
          if ztg h36 r35 = some 5 then
            zcI (f_X6_isInDock r35 h36) zX fun x45 h46 =>
            if x45 = 0 then
              f_X2_shipsByPosition_99 (f_X2_shipsByPosition_23 n) a1 a2 h46
            else
              f_X2_shipsByPosition_52 (f_X2_shipsByPosition_23 n) zfuel a1 a2 r35 0 h46
          else
          none
        else
        none
    else
    if ztg h a2 = some 24 then
      zcI (f_J20_hasNext a2 h) zX fun x9 h10 =>
      if x9 = 0 then
        zrR a1 h10
      else
        if ztg h10 a2 = some 8 then
          zcR (f_X9_next a2 h10) zX fun r47 h48 =>
          zcast h48 [5] r47 <|
          if ztg h48 r47 = some 5 then
            zcI (f_X6_isInDock r47 h48) zX fun x49 h50 =>
            if x49 = 0 then
              f_X2_shipsByPosition_99 (f_X2_shipsByPosition_23 n) a1 a2 h50
            else
              f_X2_shipsByPosition_52 (f_X2_shipsByPosition_23 n) zfuel a1 a2 r47 0 h50
          else
          none
        else
        if ztg h10 a2 = some 20 then
          zcR (f_J15_next a2 h10) zX fun r47 h48 =>
          zcast h48 [5] r47 <|
          if ztg h48 r47 = some 5 then
            zcI (f_X6_isInDock r47 h48) zX fun x51 h52 =>
            if x51 = 0 then
              f_X2_shipsByPosition_99 (f_X2_shipsByPosition_23 n) a1 a2 h52
            else
              f_X2_shipsByPosition_52 (f_X2_shipsByPosition_23 n) zfuel a1 a2 r47 0 h52
          else
          none
        else
        if ztg h10 a2 = some 21 then
          zcR (f_J17_next a2 h10) zX fun r47 h48 =>
          zcast h48 [5] r47 <|
          if ztg h48 r47 = some 5 then
            zcI (f_X6_isInDock r47 h48) zX fun x53 h54 =>
            if x53 = 0 then
              f_X2_shipsByPosition_99 (f_X2_shipsByPosition_23 n) a1 a2 h54
            else
              f_X2_shipsByPosition_52 (f_X2_shipsByPosition_23 n) zfuel a1 a2 r47 0 h54
          else
          none
        else
        if ztg h10 a2 = some 24 then
          zcR (f_J21_next a2 h10) zX fun r47 h48 =>
          zcast h48 [5] r47 <|
          if ztg h48 r47 = some 5 then
            zcI (f_X6_isInDock r47 h48) zX fun x55 h56 =>
            if x55 = 0 then
              f_X2_shipsByPosition_99 (f_X2_shipsByPosition_23 n) a1 a2 h56
            else
              f_X2_shipsByPosition_52 (f_X2_shipsByPosition_23 n) zfuel a1 a2 r47 0 h56
          else
          none
        else
        if ztg h10 a2 = some 25 then
          zcR (f_J22_next a2 h10) zX fun r47 h48 =>
          zcast h48 [5] r47 <|
          if ztg h48 r47 = some 5 then
            zcI (f_X6_isInDock r47 h48) zX fun x57 h58 =>
            if x57 = 0 then
              f_X2_shipsByPosition_99 (f_X2_shipsByPosition_23 n) a1 a2 h58
            else
              f_X2_shipsByPosition_52 (f_X2_shipsByPosition_23 n) zfuel a1 a2 r47 0 h58
          else
          none
        else
        none
    else
    if ztg h a2 = some 25 then
      zcI (f_J20_hasNext a2 h) zX fun x9 h10 =>
      if x9 = 0 then
        zrR a1 h10
      else
        if ztg h10 a2 = some 8 then
          zcR (f_X9_next a2 h10) zX fun r59 h60 =>
          zcast h60 [5] r59 <|
          if ztg h60 r59 = some 5 then
            zcI (f_X6_isInDock r59 h60) zX fun x61 h62 =>
            if x61 = 0 then
              f_X2_shipsByPosition_99 (f_X2_shipsByPosition_23 n) a1 a2 h62
            else
              f_X2_shipsByPosition_52 (f_X2_shipsByPosition_23 n) zfuel a1 a2 r59 0 h62
          else
          none
        else
        if ztg h10 a2 = some 20 then
          zcR (f_J15_next a2 h10) zX fun r59 h60 =>
          zcast h60 [5] r59 <|
          if ztg h60 r59 = some 5 then
            zcI (f_X6_isInDock r59 h60) zX fun x63 h64 =>
            if x63 = 0 then
              f_X2_shipsByPosition_99 (f_X2_shipsByPosition_23 n) a1 a2 h64
            else
              f_X2_shipsByPosition_52 (f_X2_shipsByPosition_23 n) zfuel a1 a2 r59 0 h64
          else
          none
        else
        if ztg h10 a2 = some 21 then
          zcR (f_J17_next a2 h10) zX fun r59 h60 =>
          zcast h60 [5] r59 <|
          if ztg h60 r59 = some 5 then
            zcI (f_X6_isInDock r59 h60) zX fun x65 h66 =>
            if x65 = 0 then
              f_X2_shipsByPosition_99 (f_X2_shipsByPosition_23 n) a1 a2 h66
            else
              f_X2_shipsByPosition_52 (f_X2_shipsByPosition_23 n) zfuel a1 a2 r59 0 h66
          else
          none
        else
        if ztg h10 a2 = some 24 then
          zcR (f_J21_next a2 h10) zX fun r59 h60 =>
          zcast h60 [5] r59 <|
          if ztg h60 r59 = some 5 then
            zcI (f_X6_isInDock r59 h60) zX fun x67 h68 =>
            if x67 = 0 then
              f_X2_shipsByPosition_99 (f_X2_shipsByPosition_23 n) a1 a2 h68
            else
              f_X2_shipsByPosition_52 (f_X2_shipsByPosition_23 n) zfuel a1 a2 r59 0 h68
          else
          none
        else
        if ztg h10 a2 = some 25 then
          zcR (f_J22_next a2 h10) zX fun r59 h60 =>
          zcast h60 [5] r59 <|
          if ztg h60 r59 = some 5 then
            zcI (f_X6_isInDock r59 h60) zX fun x69 h70 =>
            if x69 = 0 then
              f_X2_shipsByPosition_99 (f_X2_shipsByPosition_23 n) a1 a2 h70
            else
              f_X2_shipsByPosition_52 (f_X2_shipsByPosition_23 n) zfuel a1 a2 r59 0 h70
          else
          none
        else
        none
    else
    none
def f_X2_shipsByPosition (v0 : Option Nat) (h : zH) : zO :=
  znO h 27 [.int 0, .null, .int 0] fun r1 h2 =>
  if ¬ r1 = none then
    zcV (f_J37_init r1 8 h2) zX fun h3 =>
    zgR h3 [1] 0 v0 fun r4 =>
    if ztg h3 r4 = some 13 then
      zcR (f_J2_values r4 h3) zX fun r5 h6 =>
      if ztg h6 r5 = some 19 then
        zcR (f_J13_iterator r5 h6) zX fun r7 h8 =>
        f_X2_shipsByPosition_23 zfuel r1 r7 h8
      else
      none
    else
    none
  else none
def f_J15_init (v0 : Option Nat) (v1 : Option Nat) (h : zH) : zO :=
  zpF h [20] 3 v0 (va_rf v1) fun h1 =>
  if ¬ v0 = none then
    zpF h1 [20] 1 v0 (.int (-1)) fun h2 =>
    zgR h2 [20] 3 v0 fun r3 =>
    zgI h2 [27] 0 r3 fun x4 =>
    zpF h2 [20] 2 v0 (.int x4) fun h5 =>
    zrV h5
  else none
def f_J37_iterator (v0 : Option Nat) (h : zH) : zO :=
  znO h 20 [.int 0, .int 0, .int 0, .null] fun r1 h2 =>
  if ¬ r1 = none then
    zcV (f_J15_init r1 v0 h2) zX fun h3 =>
    zrR r1 h3
  else none
def f_J37_add_3_11  (a0 : Option Nat) (a1 : Option Nat) (a2 : Option Nat) (a3 : Int32) (h : zH) : zO :=
  zaQ h [205] [0, 1, 2, 3, 4, 5, 6, 7, 8, 9, 10, 11, 12, 13, 14, 15, 16, 17, 18, 19, 20, 21, 22, 23, 24, 25, 26, 27, 28, 29, 30, 31, 32, 33, 34, 35] a2 a3 a1 fun h4 =>
  zpF h4 [27] 2 a0 (.int (a3 + 1)) fun h5 =>
  zrV h5
def f_J37_add_3 (v0 : Option Nat) (v1 : Option Nat) (v2 : Option Nat) (v3 : Int32) (h : zH) : zO :=
  zaN h zarrs v2 fun x1 =>
  if ¬ v3 = x1 then
    f_J37_add_3_11 v0 v1 v2 v3 h
  else
    none
def f_J37_add_2 (v0 : Option Nat) (v1 : Option Nat) (h : zH) : zO :=
  zgI h [27] 0 v0 fun x1 =>
  zpF h [27] 0 v0 (.int (x1 + 1)) fun h2 =>
  zgR h2 [27] 1 v0 fun r3 =>
  zgI h2 [27] 2 v0 fun x4 =>
  if ztg h2 v0 = some 27 then
    zcV (f_J37_add_3 v0 v1 r3 x4 h2) zX fun h5 =>
    zrN .boolean 1 h5
  else
  none
def f_X2_gaps_75 (K20 : Option Nat → Int32 → Option Nat → zH → zO) (a1 : Option Nat) (a3 : Option Nat) (a4 : Option Nat) (h : zH) : zO :=
  zgR h [5] 8 a4 fun r245 =>
  if ztg h r245 = some 2 then
    zcI (f_X3_end r245 h) zX fun x246 h247 =>
    K20 a1 x246 a3 h247
  else
  none
def f_X2_gaps_87  (a1 : Option Nat) (a2 : Int32) (h : zH) : zO :=
  if 60 ≤ a2 then
    zrR a1 h
  else
    znO h 2 [.int 0, .int 0] fun r248 h249 =>
    if ¬ r248 = none then
      zcV (f_X3_init r248 a2 ((60 : Int32) - a2) h249) zX fun h250 =>
      if ztg h250 a1 = some 27 then
        zcI (f_J37_add_2 a1 r248 h250) zX fun x251 h252 =>
        zrR a1 h252
      else
      none
    else none
def f_X2_gaps_20  : Nat → Option Nat → Int32 → Option Nat → zH → zO
  | 0, _, _, _, _ => none
  | n + 1, a1, a2, a3, h =>
    if ztg h a3 = some 8 then
      zcI (f_X9_hasNext a3 h) zX fun x8 h9 =>
      if x8 = 0 then
        f_X2_gaps_87 a1 a2 h9
      else
        if ztg h9 a3 = some 8 then
          zcR (f_X9_next a3 h9) zX fun r10 h11 =>
          zcast h11 [5] r10 <|
          zgR h11 [5] 8 r10 fun r12 =>
          zgI h11 [2] 0 r12 fun x13 =>
          if x13 ≤ a2 then
            f_X2_gaps_75 (f_X2_gaps_20 n) a1 a3 r10 h11
          else
            znO h11 2 [.int 0, .int 0] fun r14 h15 =>
            zgR h15 [5] 8 r10 fun r16 =>
            zgI h15 [2] 0 r16 fun x17 =>
            if ¬ r14 = none then
              zcV (f_X3_init r14 a2 (x17 - a2) h15) zX fun h18 =>
              if ztg h18 a1 = some 27 then
                zcI (f_J37_add_2 a1 r14 h18) zX fun x19 h20 =>
                f_X2_gaps_75 (f_X2_gaps_20 n) a1 a3 r10 h20
              else
              none
            else none
        else
        if ztg h9 a3 = some 20 then
          zcR (f_J15_next a3 h9) zX fun r10 h11 =>
          zcast h11 [5] r10 <|
          zgR h11 [5] 8 r10 fun r21 =>
          zgI h11 [2] 0 r21 fun x22 =>
          if x22 ≤ a2 then
            f_X2_gaps_75 (f_X2_gaps_20 n) a1 a3 r10 h11
          else
            znO h11 2 [.int 0, .int 0] fun r23 h24 =>
            zgR h24 [5] 8 r10 fun r25 =>
            zgI h24 [2] 0 r25 fun x26 =>
            if ¬ r23 = none then
              zcV (f_X3_init r23 a2 (x26 - a2) h24) zX fun h27 =>
              if ztg h27 a1 = some 27 then
                zcI (f_J37_add_2 a1 r23 h27) zX fun x28 h29 =>
                f_X2_gaps_75 (f_X2_gaps_20 n) a1 a3 r10 h29
              else
              none
            else none
        else
        if ztg h9 a3 = some 21 then
          zcR (f_J17_next a3 h9) zX fun r10 h11 =>
          zcast h11 [5] r10 <|
          zgR h11 [5] 8 r10 fun r30 =>
          zgI h11 [2] 0 r30 fun x31 =>
          if x31 ≤ a2 then
            f_X2_gaps_75 (f_X2_gaps_20 n) a1 a3 r10 h11
          else
            znO h11 2 [.int 0, .int 0] fun r32 h33 =>
            zgR h33 [5] 8 r10 fun r34 =>
            zgI h33 [2] 0 r34 fun x35 =>
            if ¬ r32 = none then
              zcV (f_X3_init r32 a2 (x35 - a2) h33) zX fun h36 =>
              if ztg h36 a1 = some 27 then
                zcI (f_J37_add_2 a1 r32 h36) zX fun x37 h38 =>
                f_X2_gaps_75 (f_X2_gaps_20 n) a1 a3 r10 h38
              else
              none
            else none
        else
        if ztg h9 a3 = some 24 then
          zcR (f_J21_next a3 h9) zX fun r10 h11 =>
          zcast h11 [5] r10 <|
          zgR h11 [5] 8 r10 fun r39 =>
          zgI h11 [2] 0 r39 fun x40 =>
          if x40 ≤ a2 then
            f_X2_gaps_75 (f_X2_gaps_20 n) a1 a3 r10 h11
          else
            znO h11 2 [.int 0, .int 0] fun r41 h42 =>
            zgR h42 [5] 8 r10 fun r43 =>
            zgI h42 [2] 0 r43 fun x44 =>
            if ¬ r41 = none then
              zcV (f_X3_init r41 a2 (x44 - a2) h42) zX fun h45 =>
              if ztg h45 a1 = some 27 then
                zcI (f_J37_add_2 a1 r41 h45) zX fun x46 h47 =>
                f_X2_gaps_75 (f_X2_gaps_20 n) a1 a3 r10 h47
              else
              none
            else none
        else
        if ztg h9 a3 = some 25 then
          zcR (f_J22_next a3 h9) zX fun r10 h11 =>
          zcast h11 [5] r10 <|
          zgR h11 [5] 8 r10 fun r48 =>
          zgI h11 [2] 0 r48 fun x49 =>
          if x49 ≤ a2 then
            f_X2_gaps_75 (f_X2_gaps_20 n) a1 a3 r10 h11
          else
            znO h11 2 [.int 0, .int 0] fun r50 h51 =>
            zgR h51 [5] 8 r10 fun r52 =>
            zgI h51 [2] 0 r52 fun x53 =>
            if ¬ r50 = none then
              zcV (f_X3_init r50 a2 (x53 - a2) h51) zX fun h54 =>
              if ztg h54 a1 = some 27 then
                zcI (f_J37_add_2 a1 r50 h54) zX fun x55 h56 =>
                f_X2_gaps_75 (f_X2_gaps_20 n) a1 a3 r10 h56
              else
              none
            else none
        else
        none
    else
    if ztg h a3 = some 20 then
      zcI (f_J15_hasNext a3 h) zX fun x8 h9 =>
      if x8 = 0 then
        f_X2_gaps_87 a1 a2 h9
      else
        if ztg h9 a3 = some 8 then
          zcR (f_X9_next a3 h9) zX fun r57 h58 =>
          zcast h58 [5] r57 <|
          zgR h58 [5] 8 r57 fun r59 =>
          zgI h58 [2] 0 r59 fun x60 =>
          if x60 ≤ a2 then
            f_X2_gaps_75 (f_X2_gaps_20 n) a1 a3 r57 h58
          else
            znO h58 2 [.int 0, .int 0] fun r61 h62 =>
            zgR h62 [5] 8 r57 fun r63 =>
            zgI h62 [2] 0 r63 fun x64 =>
            if ¬ r61 = none then
              zcV (f_X3_init r61 a2 (x64 - a2) h62) zX fun h65 =>
              if ztg h65 a1 = some 27 then
                zcI (f_J37_add_2 a1 r61 h65) zX fun x66 h67 =>
                f_X2_gaps_75 (f_X2_gaps_20 n) a1 a3 r57 h67
              else
              none
            else none
        else
        if ztg h9 a3 = some 20 then
          zcR (f_J15_next a3 h9) zX fun r57 h58 =>
          zcast h58 [5] r57 <|
          zgR h58 [5] 8 r57 fun r68 =>
          zgI h58 [2] 0 r68 fun x69 =>
          if x69 ≤ a2 then
            f_X2_gaps_75 (f_X2_gaps_20 n) a1 a3 r57 h58
          else
            znO h58 2 [.int 0, .int 0] fun r70 h71 =>
            zgR h71 [5] 8 r57 fun r72 =>
            zgI h71 [2] 0 r72 fun x73 =>
            if ¬ r70 = none then
              zcV (f_X3_init r70 a2 (x73 - a2) h71) zX fun h74 =>
              if ztg h74 a1 = some 27 then
                zcI (f_J37_add_2 a1 r70 h74) zX fun x75 h76 =>
                f_X2_gaps_75 (f_X2_gaps_20 n) a1 a3 r57 h76
              else
              none
            else none
        else
        if ztg h9 a3 = some 21 then
          zcR (f_J17_next a3 h9) zX fun r57 h58 =>
          zcast h58 [5] r57 <|
          zgR h58 [5] 8 r57 fun r77 =>
          zgI h58 [2] 0 r77 fun x78 =>
          if x78 ≤ a2 then
            f_X2_gaps_75 (f_X2_gaps_20 n) a1 a3 r57 h58
          else
            znO h58 2 [.int 0, .int 0] fun r79 h80 =>
            zgR h80 [5] 8 r57 fun r81 =>
            zgI h80 [2] 0 r81 fun x82 =>
            if ¬ r79 = none then
              zcV (f_X3_init r79 a2 (x82 - a2) h80) zX fun h83 =>
              if ztg h83 a1 = some 27 then
                zcI (f_J37_add_2 a1 r79 h83) zX fun x84 h85 =>
                f_X2_gaps_75 (f_X2_gaps_20 n) a1 a3 r57 h85
              else
              none
            else none
        else
        if ztg h9 a3 = some 24 then
          zcR (f_J21_next a3 h9) zX fun r57 h58 =>
          zcast h58 [5] r57 <|
          zgR h58 [5] 8 r57 fun r86 =>
          zgI h58 [2] 0 r86 fun x87 =>
          if x87 ≤ a2 then
            f_X2_gaps_75 (f_X2_gaps_20 n) a1 a3 r57 h58
          else
            znO h58 2 [.int 0, .int 0] fun r88 h89 =>
            zgR h89 [5] 8 r57 fun r90 =>
            zgI h89 [2] 0 r90 fun x91 =>
            if ¬ r88 = none then
              zcV (f_X3_init r88 a2 (x91 - a2) h89) zX fun h92 =>
              if ztg h92 a1 = some 27 then
                zcI (f_J37_add_2 a1 r88 h92) zX fun x93 h94 =>
                f_X2_gaps_75 (f_X2_gaps_20 n) a1 a3 r57 h94
              else
              none
            else none
        else
        if ztg h9 a3 = some 25 then
          zcR (f_J22_next a3 h9) zX fun r57 h58 =>
          zcast h58 [5] r57 <|
          zgR h58 [5] 8 r57 fun r95 =>
          zgI h58 [2] 0 r95 fun x96 =>
          if x96 ≤ a2 then
            f_X2_gaps_75 (f_X2_gaps_20 n) a1 a3 r57 h58
          else
            znO h58 2 [.int 0, .int 0] fun r97 h98 =>
            zgR h98 [5] 8 r57 fun r99 =>
            zgI h98 [2] 0 r99 fun x100 =>
            if ¬ r97 = none then
              zcV (f_X3_init r97 a2 (x100 - a2) h98) zX fun h101 =>
              if ztg h101 a1 = some 27 then
                zcI (f_J37_add_2 a1 r97 h101) zX fun x102 h103 =>
                f_X2_gaps_75 (f_X2_gaps_20 n) a1 a3 r57 h103
              else
              none
            else none
        else
        none
    else
    if ztg h a3 = some 21 then
      zcI (f_J16_hasNext a3 h) zX fun x8 h9 =>
      if x8 = 0 then
        f_X2_gaps_87 a1 a2 h9
      else
        if ztg h9 a3 = some 8 then
          zcR (f_X9_next a3 h9) zX fun r104 h105 =>
          zcast h105 [5] r104 <|
          zgR h105 [5] 8 r104 fun r106 =>
          zgI h105 [2] 0 r106 fun x107 =>
          if x107 ≤ a2 then
            f_X2_gaps_75 (f_X2_gaps_20 n) a1 a3 r104 h105
          else
            znO h105 2 [.int 0, .int 0] fun r108 h109 =>
            zgR h109 [5] 8 r104 fun r110 =>
            zgI h109 [2] 0 r110 fun x111 =>
            if ¬ r108 = none then
              zcV (f_X3_init r108 a2 (x111 - a2) h109) zX fun h112 =>
              if ztg h112 a1 = some 27 then
                zcI (f_J37_add_2 a1 r108 h112) zX fun x113 h114 =>
                f_X2_gaps_75 (f_X2_gaps_20 n) a1 a3 r104 h114
              else
              none
            else none
        else
        if ztg h9 a3 = some 20 then
          zcR (f_J15_next a3 h9) zX fun r104 h105 =>
          zcast h105 [5] r104 <|
          zgR h105 [5] 8 r104 fun r115 =>
          zgI h105 [2] 0 r115 fun x116 =>
          if x116 ≤ a2 then
            f_X2_gaps_75 (f_X2_gaps_20 n) a1 a3 r104 h105
          else
            znO h105 2 [.int 0, .int 0] fun r117 h118 =>
            zgR h118 [5] 8 r104 fun r119 =>
            zgI h118 [2] 0 r119 fun x120 =>
            if ¬ r117 = none then
              zcV (f_X3_init r117 a2 (x120 - a2) h118) zX fun h121 =>
              if ztg h121 a1 = some 27 then
                zcI (f_J37_add_2 a1 r117 h121) zX fun x122 h123 =>
                f_X2_gaps_75 (f_X2_gaps_20 n) a1 a3 r104 h123
              else
              none
            else none
        else
        if ztg h9 a3 = some 21 then
          zcR (f_J17_next a3 h9) zX fun r104 h105 =>
          zcast h105 [5] r104 <|
          zgR h105 [5] 8 r104 fun r124 =>
          zgI h105 [2] 0 r124 fun x125 =>
          if x125 ≤ a2 then
            f_X2_gaps_75 (f_X2_gaps_20 n) a1 a3 r104 h105
          else
            znO h105 2 [.int 0, .int 0] fun r126 h127 =>
            zgR h127 [5] 8 r104 fun r128 =>
            zgI h127 [2] 0 r128 fun x129 =>
            if ¬ r126 = none then
              zcV (f_X3_init r126 a2 (x129 - a2) h127) zX fun h130 =>
              if ztg h130 a1 = some 27 then
                zcI (f_J37_add_2 a1 r126 h130) zX fun x131 h132 =>
                f_X2_gaps_75 (f_X2_gaps_20 n) a1 a3 r104 h132
              else
              none
            else none
        else
        if ztg h9 a3 = some 24 then
          zcR (f_J21_next a3 h9) zX fun r104 h105 =>
          zcast h105 [5] r104 <|
          zgR h105 [5] 8 r104 fun r133 =>
          zgI h105 [2] 0 r133 fun x134 =>
          if x134 ≤ a2 then
            f_X2_gaps_75 (f_X2_gaps_20 n) a1 a3 r104 h105
          else
            znO h105 2 [.int 0, .int 0] fun r135 h136 =>
            zgR h136 [5] 8 r104 fun r137 =>
            zgI h136 [2] 0 r137 fun x138 =>
            if ¬ r135 = none then
              zcV (f_X3_init r135 a2 (x138 - a2) h136) zX fun h139 =>
              if ztg h139 a1 = some 27 then
                zcI (f_J37_add_2 a1 r135 h139) zX fun x140 h141 =>
                f_X2_gaps_75 (f_X2_gaps_20 n) a1 a3 r104 h141
              else
              none
            else none
        else
        if ztg h9 a3 = some 25 then
          zcR (f_J22_next a3 h9) zX fun r104 h105 =>
          zcast h105 [5] r104 <|
          zgR h105 [5] 8 r104 fun r142 =>
          zgI h105 [2] 0 r142 fun x143 =>
          if x143 ≤ a2 then
            f_X2_gaps_75 (f_X2_gaps_20 n) a1 a3 r104 h105
          else
            znO h105 2 [.int 0, .int 0] fun r144 h145 =>
            zgR h145 [5] 8 r104 fun r146 =>
            zgI h145 [2] 0 r146 fun x147 =>
            if ¬ r144 = none then
              zcV (f_X3_init r144 a2 (x147 - a2) h145) zX fun h148 =>
              if ztg h148 a1 = some 27 then
                zcI (f_J37_add_2 a1 r144 h148) zX fun x149 h150 =>
                f_X2_gaps_75 (f_X2_gaps_20 n) a1 a3 r104 h150
              else
              none
            else none
        else
        none
    else
    if ztg h a3 = some 24 then
      zcI (f_J20_hasNext a3 h) zX fun x8 h9 =>
      if x8 = 0 then
        f_X2_gaps_87 a1 a2 h9
      else
        if ztg h9 a3 = some 8 then
          zcR (f_X9_next a3 h9) zX fun r151 h152 =>
          zcast h152 [5] r151 <|
          zgR h152 [5] 8 r151 fun r153 =>
          zgI h152 [2] 0 r153 fun x154 =>
          if x154 ≤ a2 then
            f_X2_gaps_75 (f_X2_gaps_20 n) a1 a3 r151 h152
          else
            znO h152 2 [.int 0, .int 0] fun r155 h156 =>
            zgR h156 [5] 8 r151 fun r157 =>
            zgI h156 [2] 0 r157 fun x158 =>
            if ¬ r155 = none then
              zcV (f_X3_init r155 a2 (x158 - a2) h156) zX fun h159 =>
              if ztg h159 a1 = some 27 then
                zcI (f_J37_add_2 a1 r155 h159) zX fun x160 h161 =>
                f_X2_gaps_75 (f_X2_gaps_20 n) a1 a3 r151 h161
              else
              none
            else none
        else
        if ztg h9 a3 = some 20 then
          zcR (f_J15_next a3 h9) zX fun r151 h152 =>
          zcast h152 [5] r151 <|
          zgR h152 [5] 8 r151 fun r162 =>
          zgI h152 [2] 0 r162 fun x163 =>
          if x163 ≤ a2 then
            f_X2_gaps_75 (f_X2_gaps_20 n) a1 a3 r151 h152
          else
            znO h152 2 [.int 0, .int 0] fun r164 h165 =>
            zgR h165 [5] 8 r151 fun r166 =>
            zgI h165 [2] 0 r166 fun x167 =>
            if ¬ r164 = none then
              zcV (f_X3_init r164 a2 (x167 - a2) h165) zX fun h168 =>
              if ztg h168 a1 = some 27 then
                zcI (f_J37_add_2 a1 r164 h168) zX fun x169 h170 =>
                f_X2_gaps_75 (f_X2_gaps_20 n) a1 a3 r151 h170
              else
              none
            else none
        else
        if ztg h9 a3 = some 21 then
          zcR (f_J17_next a3 h9) zX fun r151 h152 =>
          zcast h152 [5] r151 <|
          zgR h152 [5] 8 r151 fun r171 =>
          zgI h152 [2] 0 r171 fun x172 =>
          if x172 ≤ a2 then
            f_X2_gaps_75 (f_X2_gaps_20 n) a1 a3 r151 h152
          else
            znO h152 2 [.int 0, .int 0] fun r173 h174 =>
            zgR h174 [5] 8 r151 fun r175 =>
            zgI h174 [2] 0 r175 fun x176 =>
            if ¬ r173 = none then
              zcV (f_X3_init r173 a2 (x176 - a2) h174) zX fun h177 =>
              if ztg h177 a1 = some 27 then
                zcI (f_J37_add_2 a1 r173 h177) zX fun x178 h179 =>
                f_X2_gaps_75 (f_X2_gaps_20 n) a1 a3 r151 h179
              else
              none
            else none
        else
        if ztg h9 a3 = some 24 then
          zcR (f_J21_next a3 h9) zX fun r151 h152 =>
          zcast h152 [5] r151 <|
          zgR h152 [5] 8 r151 fun r180 =>
          zgI h152 [2] 0 r180 fun x181 =>
          if x181 ≤ a2 then
            f_X2_gaps_75 (f_X2_gaps_20 n) a1 a3 r151 h152
          else
            znO h152 2 [.int 0, .int 0] fun r182 h183 =>
            zgR h183 [5] 8 r151 fun r184 =>
            zgI h183 [2] 0 r184 fun x185 =>
            if ¬ r182 = none then
              zcV (f_X3_init r182 a2 (x185 - a2) h183) zX fun h186 =>
              if ztg h186 a1 = some 27 then
                zcI (f_J37_add_2 a1 r182 h186) zX fun x187 h188 =>
                f_X2_gaps_75 (f_X2_gaps_20 n) a1 a3 r151 h188
              else
              none
            else none
        else
        if ztg h9 a3 = some 25 then
          zcR (f_J22_next a3 h9) zX fun r151 h152 =>
          zcast h152 [5] r151 <|
          zgR h152 [5] 8 r151 fun r189 =>
          zgI h152 [2] 0 r189 fun x190 =>
          if x190 ≤ a2 then
            f_X2_gaps_75 (f_X2_gaps_20 n) a1 a3 r151 h152
          else
            znO h152 2 [.int 0, .int 0] fun r191 h192 =>
            zgR h192 [5] 8 r151 fun r193 =>
            zgI h192 [2] 0 r193 fun x194 =>
            if ¬ r191 = none then
              zcV (f_X3_init r191 a2 (x194 - a2) h192) zX fun h195 =>
              if ztg h195 a1 = some 27 then
                zcI (f_J37_add_2 a1 r191 h195) zX fun x196 h197 =>
                f_X2_gaps_75 (f_X2_gaps_20 n) a1 a3 r151 h197
              else
              none
            else none
        else
        none
    else
    if ztg h a3 = some 25 then
      zcI (f_J20_hasNext a3 h) zX fun x8 h9 =>
      if x8 = 0 then
        f_X2_gaps_87 a1 a2 h9
      else
        if ztg h9 a3 = some 8 then
          zcR (f_X9_next a3 h9) zX fun r198 h199 =>
          zcast h199 [5] r198 <|
          zgR h199 [5] 8 r198 fun r200 =>
          zgI h199 [2] 0 r200 fun x201 =>
          if x201 ≤ a2 then
            f_X2_gaps_75 (f_X2_gaps_20 n) a1 a3 r198 h199
          else
            znO h199 2 [.int 0, .int 0] fun r202 h203 =>
            zgR h203 [5] 8 r198 fun r204 =>
            zgI h203 [2] 0 r204 fun x205 =>
            if ¬ r202 = none then
              zcV (f_X3_init r202 a2 (x205 - a2) h203) zX fun h206 =>
              if ztg h206 a1 = some 27 then
                zcI (f_J37_add_2 a1 r202 h206) zX fun x207 h208 =>
                f_X2_gaps_75 (f_X2_gaps_20 n) a1 a3 r198 h208
              else
              none
            else none
        else
        if ztg h9 a3 = some 20 then
          zcR (f_J15_next a3 h9) zX fun r198 h199 =>
          zcast h199 [5] r198 <|
          zgR h199 [5] 8 r198 fun r209 =>
          zgI h199 [2] 0 r209 fun x210 =>
          if x210 ≤ a2 then
            f_X2_gaps_75 (f_X2_gaps_20 n) a1 a3 r198 h199
          else
            znO h199 2 [.int 0, .int 0] fun r211 h212 =>
            zgR h212 [5] 8 r198 fun r213 =>
            zgI h212 [2] 0 r213 fun x214 =>
            if ¬ r211 = none then
              zcV (f_X3_init r211 a2 (x214 - a2) h212) zX fun h215 =>
              if ztg h215 a1 = some 27 then
                zcI (f_J37_add_2 a1 r211 h215) zX fun x216 h217 =>
                f_X2_gaps_75 (f_X2_gaps_20 n) a1 a3 r198 h217
              else
              none
            else none
        else
        if ztg h9 a3 = some 21 then
          zcR (f_J17_next a3 h9) zX fun r198 h199 =>
          zcast h199 [5] r198 <|
          zgR h199 [5] 8 r198 fun r218 =>
          zgI h199 [2] 0 r218 fun x219 =>
          if x219 ≤ a2 then
            f_X2_gaps_75 (f_X2_gaps_20 n) a1 a3 r198 h199
          else
            znO h199 2 [.int 0, .int 0] fun r220 h221 =>
            zgR h221 [5] 8 r198 fun r222 =>
            zgI h221 [2] 0 r222 fun x223 =>
            if ¬ r220 = none then
              zcV (f_X3_init r220 a2 (x223 - a2) h221) zX fun h224 =>
              if ztg h224 a1 = some 27 then
                zcI (f_J37_add_2 a1 r220 h224) zX fun x225 h226 =>
                f_X2_gaps_75 (f_X2_gaps_20 n) a1 a3 r198 h226
              else
              none
            else none
        else
        if ztg h9 a3 = some 24 then
          zcR (f_J21_next a3 h9) zX fun r198 h199 =>
          zcast h199 [5] r198 <|
          zgR h199 [5] 8 r198 fun r227 =>
          zgI h199 [2] 0 r227 fun x228 =>
          if x228 ≤ a2 then
            f_X2_gaps_75 (f_X2_gaps_20 n) a1 a3 r198 h199
          else
            znO h199 2 [.int 0, .int 0] fun r229 h230 =>
            zgR h230 [5] 8 r198 fun r231 =>
            zgI h230 [2] 0 r231 fun x232 =>
            if ¬ r229 = none then
              zcV (f_X3_init r229 a2 (x232 - a2) h230) zX fun h233 =>
              if ztg h233 a1 = some 27 then
                zcI (f_J37_add_2 a1 r229 h233) zX fun x234 h235 =>
                f_X2_gaps_75 (f_X2_gaps_20 n) a1 a3 r198 h235
              else
              none
            else none
        else
        if ztg h9 a3 = some 25 then
          zcR (f_J22_next a3 h9) zX fun r198 h199 =>
          zcast h199 [5] r198 <|
          zgR h199 [5] 8 r198 fun r236 =>
          zgI h199 [2] 0 r236 fun x237 =>
          if x237 ≤ a2 then
            f_X2_gaps_75 (f_X2_gaps_20 n) a1 a3 r198 h199
          else
            znO h199 2 [.int 0, .int 0] fun r238 h239 =>
            zgR h239 [5] 8 r198 fun r240 =>
            zgI h239 [2] 0 r240 fun x241 =>
            if ¬ r238 = none then
              zcV (f_X3_init r238 a2 (x241 - a2) h239) zX fun h242 =>
              if ztg h242 a1 = some 27 then
                zcI (f_J37_add_2 a1 r238 h242) zX fun x243 h244 =>
                f_X2_gaps_75 (f_X2_gaps_20 n) a1 a3 r198 h244
              else
              none
            else none
        else
        none
    else
    none
def f_X2_gaps (v0 : Option Nat) (h : zH) : zO :=
  znO h 27 [.int 0, .null, .int 0] fun r1 h2 =>
  if ¬ r1 = none then
    zcV (f_J37_init r1 9 h2) zX fun h3 =>
    if ztg h3 v0 = some 1 then
      zcR (f_X2_shipsByPosition v0 h3) zX fun r4 h5 =>
      if ztg h5 r4 = some 27 then
        zcR (f_J37_iterator r4 h5) zX fun r6 h7 =>
        f_X2_gaps_20 zfuel r1 0 r6 h7
      else
      none
    else
    none
  else none
def f_X2_firstGapByShips_8  : Nat → Int32 → Option Nat → zH → zO
  | 0, _, _, _ => none
  | n + 1, a1, a2, h =>
    if ztg h a2 = some 8 then
      zcI (f_X9_hasNext a2 h) zX fun x5 h6 =>
      if x5 = 0 then
        zrI (-1) h6
      else
        if ztg h6 a2 = some 8 then
          zcR (f_X9_next a2 h6) zX fun r7 h8 =>
          zcast h8 [2] r7 <|
          zgI h8 [2] 1 r7 fun x9 =>
          if x9 < a1 then
            f_X2_firstGapByShips_8 n a1 a2 h8
          else
            zgI h8 [2] 0 r7 fun x10 =>
            zrI x10 h8
        else
        if ztg h6 a2 = some 20 then
          zcR (f_J15_next a2 h6) zX fun r7 h8 =>
          zcast h8 [2] r7 <|
          zgI h8 [2] 1 r7 fun x11 =>
          if x11 < a1 then
            f_X2_firstGapByShips_8 n a1 a2 h8
          else
            zgI h8 [2] 0 r7 fun x12 =>
            zrI x12 h8
        else
        if ztg h6 a2 = some 21 then
          zcR (f_J17_next a2 h6) zX fun r7 h8 =>
          zcast h8 [2] r7 <|
          zgI h8 [2] 1 r7 fun x13 =>
          if x13 < a1 then
            f_X2_firstGapByShips_8 n a1 a2 h8
          else
            zgI h8 [2] 0 r7 fun x14 =>
            zrI x14 h8
        else
        if ztg h6 a2 = some 24 then
          zcR (f_J21_next a2 h6) zX fun r7 h8 =>
          zcast h8 [2] r7 <|
          zgI h8 [2] 1 r7 fun x15 =>
          if x15 < a1 then
            f_X2_firstGapByShips_8 n a1 a2 h8
          else
            zgI h8 [2] 0 r7 fun x16 =>
            zrI x16 h8
        else
        if ztg h6 a2 = some 25 then
          zcR (f_J22_next a2 h6) zX fun r7 h8 =>
          zcast h8 [2] r7 <|
          zgI h8 [2] 1 r7 fun x17 =>
          if x17 < a1 then
            f_X2_firstGapByShips_8 n a1 a2 h8
          else
            zgI h8 [2] 0 r7 fun x18 =>
            zrI x18 h8
        else
        none
    else
    if ztg h a2 = some 20 then
      zcI (f_J15_hasNext a2 h) zX fun x5 h6 =>
      if x5 = 0 then
        zrI (-1) h6
      else
        if ztg h6 a2 = some 8 then
          zcR (f_X9_next a2 h6) zX fun r19 h20 =>
          zcast h20 [2] r19 <|
          zgI h20 [2] 1 r19 fun x21 =>
          if x21 < a1 then
            f_X2_firstGapByShips_8 n a1 a2 h20
          else
            zgI h20 [2] 0 r19 fun x22 =>
            zrI x22 h20
        else
        if ztg h6 a2 = some 20 then
          zcR (f_J15_next a2 h6) zX fun r19 h20 =>
          zcast h20 [2] r19 <|
          zgI h20 [2] 1 r19 fun x23 =>
          if x23 < a1 then
            f_X2_firstGapByShips_8 n a1 a2 h20
          else
            zgI h20 [2] 0 r19 fun x24 =>
            zrI x24 h20
        else
        if ztg h6 a2 = some 21 then
          zcR (f_J17_next a2 h6) zX fun r19 h20 =>
          zcast h20 [2] r19 <|
          zgI h20 [2] 1 r19 fun x25 =>
          if x25 < a1 then
            f_X2_firstGapByShips_8 n a1 a2 h20
          else
            zgI h20 [2] 0 r19 fun x26 =>
            zrI x26 h20
        else
        if ztg h6 a2 = some 24 then
          zcR (f_J21_next a2 h6) zX fun r19 h20 =>
          zcast h20 [2] r19 <|
          zgI h20 [2] 1 r19 fun x27 =>
          if x27 < a1 then
            f_X2_firstGapByShips_8 n a1 a2 h20
          else
            zgI h20 [2] 0 r19 fun x28 =>
            zrI x28 h20
        else
        if ztg h6 a2 = some 25 then
          zcR (f_J22_next a2 h6) zX fun r19 h20 =>
          zcast h20 [2] r19 <|
          zgI h20 [2] 1 r19 fun x29 =>
          if x29 < a1 then
            f_X2_firstGapByShips_8 n a1 a2 h20
          else
            zgI h20 [2] 0 r19 fun x30 =>
            zrI x30 h20
        else
        none
    else
    if ztg h a2 = some 21 then
      zcI (f_J16_hasNext a2 h) zX fun x5 h6 =>
      if x5 = 0 then
        zrI (-1) h6
      else
        if ztg h6 a2 = some 8 then
          zcR (f_X9_next a2 h6) zX fun r31 h32 =>
          zcast h32 [2] r31 <|
          zgI h32 [2] 1 r31 fun x33 =>
          if x33 < a1 then
            f_X2_firstGapByShips_8 n a1 a2 h32
          else
            zgI h32 [2] 0 r31 fun x34 =>
            zrI x34 h32
        else
        if ztg h6 a2 = some 20 then
          zcR (f_J15_next a2 h6) zX fun r31 h32 =>
          zcast h32 [2] r31 <|
          zgI h32 [2] 1 r31 fun x35 =>
          if x35 < a1 then
            f_X2_firstGapByShips_8 n a1 a2 h32
          else
            zgI h32 [2] 0 r31 fun x36 =>
            zrI x36 h32
        else
        if ztg h6 a2 = some 21 then
          zcR (f_J17_next a2 h6) zX fun r31 h32 =>
          zcast h32 [2] r31 <|
          zgI h32 [2] 1 r31 fun x37 =>
          if x37 < a1 then
            f_X2_firstGapByShips_8 n a1 a2 h32
          else
            zgI h32 [2] 0 r31 fun x38 =>
            zrI x38 h32
        else
        if ztg h6 a2 = some 24 then
          zcR (f_J21_next a2 h6) zX fun r31 h32 =>
          zcast h32 [2] r31 <|
          zgI h32 [2] 1 r31 fun x39 =>
          if x39 < a1 then
            f_X2_firstGapByShips_8 n a1 a2 h32
          else
            zgI h32 [2] 0 r31 fun x40 =>
            zrI x40 h32
        else
        if ztg h6 a2 = some 25 then
          zcR (f_J22_next a2 h6) zX fun r31 h32 =>
          zcast h32 [2] r31 <|
          zgI h32 [2] 1 r31 fun x41 =>
          if x41 < a1 then
            f_X2_firstGapByShips_8 n a1 a2 h32
          else
            zgI h32 [2] 0 r31 fun x42 =>
            zrI x42 h32
        else
        none
    else
    if ztg h a2 = some 24 then
      zcI (f_J20_hasNext a2 h) zX fun x5 h6 =>
      if x5 = 0 then
        zrI (-1) h6
      else
        if ztg h6 a2 = some 8 then
          zcR (f_X9_next a2 h6) zX fun r43 h44 =>
          zcast h44 [2] r43 <|
          zgI h44 [2] 1 r43 fun x45 =>
          if x45 < a1 then
            f_X2_firstGapByShips_8 n a1 a2 h44
          else
            zgI h44 [2] 0 r43 fun x46 =>
            zrI x46 h44
        else
        if ztg h6 a2 = some 20 then
          zcR (f_J15_next a2 h6) zX fun r43 h44 =>
          zcast h44 [2] r43 <|
          zgI h44 [2] 1 r43 fun x47 =>
          if x47 < a1 then
            f_X2_firstGapByShips_8 n a1 a2 h44
          else
            zgI h44 [2] 0 r43 fun x48 =>
            zrI x48 h44
        else
        if ztg h6 a2 = some 21 then
          zcR (f_J17_next a2 h6) zX fun r43 h44 =>
          zcast h44 [2] r43 <|
          zgI h44 [2] 1 r43 fun x49 =>
          if x49 < a1 then
            f_X2_firstGapByShips_8 n a1 a2 h44
          else
            zgI h44 [2] 0 r43 fun x50 =>
            zrI x50 h44
        else
        if ztg h6 a2 = some 24 then
          zcR (f_J21_next a2 h6) zX fun r43 h44 =>
          zcast h44 [2] r43 <|
          zgI h44 [2] 1 r43 fun x51 =>
          if x51 < a1 then
            f_X2_firstGapByShips_8 n a1 a2 h44
          else
            zgI h44 [2] 0 r43 fun x52 =>
            zrI x52 h44
        else
        if ztg h6 a2 = some 25 then
          zcR (f_J22_next a2 h6) zX fun r43 h44 =>
          zcast h44 [2] r43 <|
          zgI h44 [2] 1 r43 fun x53 =>
          if x53 < a1 then
            f_X2_firstGapByShips_8 n a1 a2 h44
          else
            zgI h44 [2] 0 r43 fun x54 =>
            zrI x54 h44
        else
        none
    else
    if ztg h a2 = some 25 then
      zcI (f_J20_hasNext a2 h) zX fun x5 h6 =>
      if x5 = 0 then
        zrI (-1) h6
      else
        if ztg h6 a2 = some 8 then
          zcR (f_X9_next a2 h6) zX fun r55 h56 =>
          zcast h56 [2] r55 <|
          zgI h56 [2] 1 r55 fun x57 =>
          if x57 < a1 then
            f_X2_firstGapByShips_8 n a1 a2 h56
          else
            zgI h56 [2] 0 r55 fun x58 =>
            zrI x58 h56
        else
        if ztg h6 a2 = some 20 then
          zcR (f_J15_next a2 h6) zX fun r55 h56 =>
          zcast h56 [2] r55 <|
          zgI h56 [2] 1 r55 fun x59 =>
          if x59 < a1 then
            f_X2_firstGapByShips_8 n a1 a2 h56
          else
            zgI h56 [2] 0 r55 fun x60 =>
            zrI x60 h56
        else
        if ztg h6 a2 = some 21 then
          zcR (f_J17_next a2 h6) zX fun r55 h56 =>
          zcast h56 [2] r55 <|
          zgI h56 [2] 1 r55 fun x61 =>
          if x61 < a1 then
            f_X2_firstGapByShips_8 n a1 a2 h56
          else
            zgI h56 [2] 0 r55 fun x62 =>
            zrI x62 h56
        else
        if ztg h6 a2 = some 24 then
          zcR (f_J21_next a2 h6) zX fun r55 h56 =>
          zcast h56 [2] r55 <|
          zgI h56 [2] 1 r55 fun x63 =>
          if x63 < a1 then
            f_X2_firstGapByShips_8 n a1 a2 h56
          else
            zgI h56 [2] 0 r55 fun x64 =>
            zrI x64 h56
        else
        if ztg h6 a2 = some 25 then
          zcR (f_J22_next a2 h6) zX fun r55 h56 =>
          zcast h56 [2] r55 <|
          zgI h56 [2] 1 r55 fun x65 =>
          if x65 < a1 then
            f_X2_firstGapByShips_8 n a1 a2 h56
          else
            zgI h56 [2] 0 r55 fun x66 =>
            zrI x66 h56
        else
        none
    else
    none
def f_X2_firstGapByShips (v0 : Option Nat) (v1 : Int32) (h : zH) : zO :=
  if ztg h v0 = some 1 then
    zcR (f_X2_gaps v0 h) zX fun r1 h2 =>
    if ztg h2 r1 = some 27 then
      zcR (f_J37_iterator r1 h2) zX fun r3 h4 =>
      f_X2_firstGapByShips_8 zfuel v1 r3 h4
    else
    none
  else
  none
def f_X1_lambda_new_4 (v0 : Option Nat) (v1 : Int32) (h : zH) : zO :=
  if ztg h v0 = some 1 then
    zcI (f_X2_firstGapByShips v0 v1 h) zX fun x1 h2 =>
    zrI x1 h2
  else
  none
def f_gf_find (v0 : Option Nat) (v1 : Option Nat) (v2 : Int32) (h : zH) : zO :=
  if ztg h v0 = some 303 then zlv0 h v0 (zcI (f_X1_lambda_new_3 v1 v2 h) zX fun x h1 => zrI x h1) else
  if ztg h v0 = some 304 then zlv0 h v0 (zcI (f_X1_lambda_new_4 v1 v2 h) zX fun x h1 => zrI x h1) else
  none
def f_X1_gap_37  (a3 : Int32) (s0 : Int32) (h : zH) : zO :=
  zcV (f_X1_checkElement s0 h) zX fun h9 =>
  zrI a3 h9
def f_X1_gap (v0 : Option Nat) (v1 : Int32) (v2 : Int32) (h : zH) : zO :=
  zcI (f_X1_isBetween v2 1 60 h) zX fun x1 h2 =>
  zcV (f_X1_checkArgument x1 h2) zX fun h3 =>
  zgR h3 [0] 1 v0 fun r4 =>
  zaR h3 zrefs r4 v1 fun r5 =>
  zgR h3 [0] 3 v0 fun r6 =>
  zcI (f_gf_find r5 r6 v2 h3) zX fun x7 h8 =>
  if x7 = (-1) then
    f_X1_gap_37 x7 0 h8
  else
    f_X1_gap_37 x7 1 h8
def f_X1_firstGap (v0 : Option Nat) (v1 : Int32) (h : zH) : zO :=
  if ztg h v0 = some 0 then
    zcI (f_X1_gap v0 0 v1 h) zX fun x1 h2 =>
    zrI x1 h2
  else
  none
def f_X0_firstGap_12  (s0 : Option Nat) (h : zH) : zO :=
  zrI 1 h
def f_X0_firstGap_15  (s0 : Option Nat) (h : zH) : zO :=
  zrI 2 h
def f_X0_firstGap (v0 : Option Nat) (v1 : Int32) (v2 : Option Nat) (h : zH) : zO :=
  if ztg h v0 = some 0 then
    zcI (f_X1_firstGap v0 v1 h) (fun e2 h1 => if e2.1 = 32 then f_X0_firstGap_12 (some e2.2) h1 else if e2.1 = 33 then zX e2 h1 else if e2.1 = 30 then f_X0_firstGap_15 (some e2.2) h1 else if e2.1 = 34 then zX e2 h1 else if e2.1 = 31 then zX e2 h1 else if e2.1 = 35 then zX e2 h1 else if e2.1 = 6 then zX e2 h1 else if e2.1 = 11 then zX e2 h1 else none) fun x3 h4 =>
    zaS h4 [202] v2 0 (.long (x3.toInt64)) fun h5 =>
    zrI 0 h5
  else
  none
def f_X1_firstGapByShips (v0 : Option Nat) (v1 : Int32) (h : zH) : zO :=
  if ztg h v0 = some 0 then
    zcI (f_X1_gap v0 1 v1 h) zX fun x1 h2 =>
    zrI x1 h2
  else
  none
def f_X0_firstGapByShips_12  (s0 : Option Nat) (h : zH) : zO :=
  zrI 1 h
def f_X0_firstGapByShips_15  (s0 : Option Nat) (h : zH) : zO :=
  zrI 2 h
def f_X0_firstGapByShips (v0 : Option Nat) (v1 : Int32) (v2 : Option Nat) (h : zH) : zO :=
  if ztg h v0 = some 0 then
    zcI (f_X1_firstGapByShips v0 v1 h) (fun e2 h1 => if e2.1 = 32 then f_X0_firstGapByShips_12 (some e2.2) h1 else if e2.1 = 33 then zX e2 h1 else if e2.1 = 30 then f_X0_firstGapByShips_15 (some e2.2) h1 else if e2.1 = 34 then zX e2 h1 else if e2.1 = 31 then zX e2 h1 else if e2.1 = 35 then zX e2 h1 else if e2.1 = 6 then zX e2 h1 else if e2.1 = 11 then zX e2 h1 else none) fun x3 h4 =>
    zaS h4 [202] v2 0 (.long (x3.toInt64)) fun h5 =>
    zrI 0 h5
  else
  none
def f_X1_billOf (v0 : Option Nat) (v1 : Int32) (h : zH) : zO :=
  zgR h [0] 3 v0 fun r1 =>
  if ztg h r1 = some 1 then
    zcR (f_X2_ship r1 v1 h) zX fun r2 h3 =>
    zgI h3 [5] 5 r2 fun x4 =>
    zrI x4 h3
  else
  none
def f_X0_billOf_12  (s0 : Option Nat) (h : zH) : zO :=
  zrI 1 h
def f_X0_billOf (v0 : Option Nat) (v1 : Int32) (v2 : Option Nat) (h : zH) : zO :=
  if ztg h v0 = some 0 then
    zcI (f_X1_billOf v0 v1 h) (fun e2 h1 => if e2.1 = 32 then zX e2 h1 else if e2.1 = 33 then zX e2 h1 else if e2.1 = 30 then f_X0_billOf_12 (some e2.2) h1 else if e2.1 = 34 then zX e2 h1 else if e2.1 = 31 then zX e2 h1 else if e2.1 = 35 then zX e2 h1 else if e2.1 = 6 then zX e2 h1 else if e2.1 = 11 then zX e2 h1 else none) fun x3 h4 =>
    zaS h4 [202] v2 0 (.long (x3.toInt64)) fun h5 =>
    zrI 0 h5
  else
  none
def f_X1_pay (v0 : Option Nat) (v1 : Int32) (v2 : Int32) (h : zH) : zO :=
  znO h 317 [.int v1, .int v2] fun r1 h2 =>
  if ztg h2 v0 = some 0 then
    zcI (f_X1_change v0 r1 h2) zX fun x3 h4 =>
    zrI x3 h4
  else
  none
def f_X0_pay_13  (s0 : Option Nat) (h : zH) : zO :=
  zrI 1 h
def f_X0_pay_17  (s0 : Option Nat) (h : zH) : zO :=
  zrI 2 h
def f_X0_pay_21  (s0 : Option Nat) (h : zH) : zO :=
  zrI 3 h
def f_X0_pay (v0 : Option Nat) (v1 : Int32) (v2 : Int32) (v3 : Option Nat) (h : zH) : zO :=
  if ztg h v0 = some 0 then
    zcI (f_X1_pay v0 v1 v2 h) (fun e2 h1 => if e2.1 = 32 then f_X0_pay_17 (some e2.2) h1 else if e2.1 = 33 then f_X0_pay_21 (some e2.2) h1 else if e2.1 = 30 then f_X0_pay_13 (some e2.2) h1 else if e2.1 = 34 then zX e2 h1 else if e2.1 = 31 then zX e2 h1 else if e2.1 = 35 then zX e2 h1 else if e2.1 = 6 then zX e2 h1 else if e2.1 = 11 then zX e2 h1 else none) fun x3 h4 =>
    zaS h4 [202] v3 0 (.long (x3.toInt64)) fun h5 =>
    zrI 0 h5
  else
  none
def f_X6_isAhead (v0 : Option Nat) (v1 : Option Nat) (h : zH) : zO :=
  zgI h [5] 5 v0 fun x1 =>
  zgI h [5] 5 v1 fun x2 =>
  if x1 = x2 then
    zgI h [5] 3 v0 fun x3 =>
    zgI h [5] 3 v1 fun x4 =>
    if x3 = x4 then
      zgI h [5] 0 v0 fun x5 =>
      zgI h [5] 0 v1 fun x6 =>
      if x6 ≤ x5 then
        zrN .boolean 0 h
      else
        zrN .boolean 1 h
    else
      zgI h [5] 3 v0 fun x7 =>
      zgI h [5] 3 v1 fun x8 =>
      if x7 ≤ x8 then
        zrN .boolean 0 h
      else
        zrN .boolean 1 h
  else
    zgI h [5] 5 v0 fun x9 =>
    zgI h [5] 5 v1 fun x10 =>
    if x9 ≤ x10 then
      zrN .boolean 0 h
    else
      zrN .boolean 1 h
def f_X2_shipAtRank_87 (K13 : Option Nat → Int32 → Option Nat → zH → zO) (K49 : Option Nat → Int32 → Option Nat → Option Nat → Int32 → Option Nat → zH → zO) (a0 : Option Nat) (a1 : Int32) (a2 : Option Nat) (a3 : Option Nat) (a5 : Option Nat) (s0 : Int32) (s1 : Int32) (h : zH) : zO :=
  znm (s1 + s0) fun x205 =>
  K49 a0 a1 a2 a3 x205 a5 h
def f_X2_shipAtRank_93 (K13 : Option Nat → Int32 → Option Nat → zH → zO) (a0 : Option Nat) (a1 : Int32) (a2 : Option Nat) (a3 : Option Nat) (a4 : Int32) (h : zH) : zO :=
  if ¬ a4 = a1 then
    K13 a0 a1 a2 h
  else
    zgI h [5] 0 a3 fun x206 =>
    zrI x206 h
def f_X2_shipAtRank_49 (K13 : Option Nat → Int32 → Option Nat → zH → zO) : Nat → Option Nat → Int32 → Option Nat → Option Nat → Int32 → Option Nat → zH → zO
  | 0, _, _, _, _, _, _, _ => none
  | n + 1, a0, a1, a2, a3, a4, a5, h =>
    if ztg h a5 = some 8 then
      zcI (f_X9_hasNext a5 h) zX fun x143 h144 =>
      if x143 = 0 then
        f_X2_shipAtRank_93 K13 a0 a1 a2 a3 a4 h144
      else
        if ztg h144 a5 = some 8 then
          zcR (f_X9_next a5 h144) zX fun r145 h146 =>
          zcast h146 [5] r145 <|
          if ztg h146 r145 = some 5 then
            zcI (f_X6_isAhead r145 a3 h146) zX fun x147 h148 =>
            if x147 = 0 then
              f_X2_shipAtRank_87 K13 (f_X2_shipAtRank_49 K13 n) a0 a1 a2 a3 a5 0 a4 h148
            else
              f_X2_shipAtRank_87 K13 (f_X2_shipAtRank_49 K13 n) a0 a1 a2 a3 a5 1 a4 h148
          else
          none
        else
        if ztg h144 a5 = some 20 then
          zcR (f_J15_next a5 h144) zX fun r145 h146 =>
          zcast h146 [5] r145 <|
          if ztg h146 r145 = some 5 then
            zcI (f_X6_isAhead r145 a3 h146) zX fun x149 h150 =>
            if x149 = 0 then
              f_X2_shipAtRank_87 K13 (f_X2_shipAtRank_49 K13 n) a0 a1 a2 a3 a5 0 a4 h150
            else
              f_X2_shipAtRank_87 K13 (f_X2_shipAtRank_49 K13 n) a0 a1 a2 a3 a5 1 a4 h150
          else
          none
        else
        if ztg h144 a5 = some 21 then
          zcR (f_J17_next a5 h144) zX fun r145 h146 =>
          zcast h146 [5] r145 <|
          if ztg h146 r145 = some 5 then
            zcI (f_X6_isAhead r145 a3 h146) zX fun x151 h152 =>
            if x151 = 0 then
              f_X2_shipAtRank_87 K13 (f_X2_shipAtRank_49 K13 n) a0 a1 a2 a3 a5 0 a4 h152
            else
              f_X2_shipAtRank_87 K13 (f_X2_shipAtRank_49 K13 n) a0 a1 a2 a3 a5 1 a4 h152
          else
          none
        else
        if ztg h144 a5 = some 24 then
          zcR (f_J21_next a5 h144) zX fun r145 h146 =>
          zcast h146 [5] r145 <|
          if ztg h146 r145 = some 5 then
            zcI (f_X6_isAhead r145 a3 h146) zX fun x153 h154 =>
            if x153 = 0 then
              f_X2_shipAtRank_87 K13 (f_X2_shipAtRank_49 K13 n) a0 a1 a2 a3 a5 0 a4 h154
            else
              f_X2_shipAtRank_87 K13 (f_X2_shipAtRank_49 K13 n) a0 a1 a2 a3 a5 1 a4 h154
          else
          none
        else
        if ztg h144 a5 = some 25 then
          zcR (f_J22_next a5 h144) zX fun r145 h146 =>
          zcast h146 [5] r145 <|
          if ztg h146 r145 = some 5 then
            zcI (f_X6_isAhead r145 a3 h146) zX fun x155 h156 =>
            if x155 = 0 then
              f_X2_shipAtRank_87 K13 (f_X2_shipAtRank_49 K13 n) a0 a1 a2 a3 a5 0 a4 h156
            else
              f_X2_shipAtRank_87 K13 (f_X2_shipAtRank_49 K13 n) a0 a1 a2 a3 a5 1 a4 h156
          else
          none
        else
        none
    else
    if ztg h a5 = some 20 then
      zcI (f_J15_hasNext a5 h) zX fun x143 h144 =>
      if x143 = 0 then
        f_X2_shipAtRank_93 K13 a0 a1 a2 a3 a4 h144
      else
        if ztg h144 a5 = some 8 then
          zcR (f_X9_next a5 h144) zX fun r157 h158 =>
          zcast h158 [5] r157 <|
          if ztg h158 r157 = some 5 then
            zcI (f_X6_isAhead r157 a3 h158) zX fun x159 h160 =>
            if x159 = 0 then
              f_X2_shipAtRank_87 K13 (f_X2_shipAtRank_49 K13 n) a0 a1 a2 a3 a5 0 a4 h160
            else
              f_X2_shipAtRank_87 K13 (f_X2_shipAtRank_49 K13 n) a0 a1 a2 a3 a5 1 a4 h160
          else
          none
        else
        if ztg h144 a5 = some 20 then
          zcR (f_J15_next a5 h144) zX fun r157 h158 =>
          zcast h158 [5] r157 <|
          if ztg h158 r157 = some 5 then
            zcI (f_X6_isAhead r157 a3 h158) zX fun x161 h162 =>
            if x161 = 0 then
              f_X2_shipAtRank_87 K13 (f_X2_shipAtRank_49 K13 n) a0 a1 a2 a3 a5 0 a4 h162
            else
              f_X2_shipAtRank_87 K13 (f_X2_shipAtRank_49 K13 n) a0 a1 a2 a3 a5 1 a4 h162
          else
          none
        else
        if ztg h144 a5 = some 21 then
          zcR (f_J17_next a5 h144) zX fun r157 h158 =>
          zcast h158 [5] r157 <|
          if ztg h158 r157 = some 5 then
            zcI (f_X6_isAhead r157 a3 h158) zX fun x163 h164 =>
            if x163 = 0 then
              f_X2_shipAtRank_87 K13 (f_X2_shipAtRank_49 K13 n) a0 a1 a2 a3 a5 0 a4 h164
            else
              f_X2_shipAtRank_87 K13 (f_X2_shipAtRank_49 K13 n) a0 a1 a2 a3 a5 1 a4 h164
          else
          none
        else
        if ztg h144 a5 = some 24 then
          zcR (f_J21_next a5 h144) zX fun r157 h158 =>
          zcast h158 [5] r157 <|
          if ztg h158 r157 = some 5 then
            zcI (f_X6_isAhead r157 a3 h158) zX fun x165 h166 =>
            if x165 = 0 then
              f_X2_shipAtRank_87 K13 (f_X2_shipAtRank_49 K13 n) a0 a1 a2 a3 a5 0 a4 h166
            else
              f_X2_shipAtRank_87 K13 (f_X2_shipAtRank_49 K13 n) a0 a1 a2 a3 a5 1 a4 h166
          else
          none
        else
        if ztg h144 a5 = some 25 then
          zcR (f_J22_next a5 h144) zX fun r157 h158 =>
          zcast h158 [5] r157 <|
          if ztg h158 r157 = some 5 then
            zcI (f_X6_isAhead r157 a3 h158) zX fun x167 h168 =>
            if x167 = 0 then
              f_X2_shipAtRank_87 K13 (f_X2_shipAtRank_49 K13 n) a0 a1 a2 a3 a5 0 a4 h168
            else
              f_X2_shipAtRank_87 K13 (f_X2_shipAtRank_49 K13 n) a0 a1 a2 a3 a5 1 a4 h168
          else
          none
        else
        none
    else
    if ztg h a5 = some 21 then
      zcI (f_J16_hasNext a5 h) zX fun x143 h144 =>
      if x143 = 0 then
        f_X2_shipAtRank_93 K13 a0 a1 a2 a3 a4 h144
      else
        if ztg h144 a5 = some 8 then
          zcR (f_X9_next a5 h144) zX fun r169 h170 =>
          zcast h170 [5] r169 <|
          if ztg h170 r169 = some 5 then
            zcI (f_X6_isAhead r169 a3 h170) zX fun x171 h172 =>
            if x171 = 0 then
              f_X2_shipAtRank_87 K13 (f_X2_shipAtRank_49 K13 n) a0 a1 a2 a3 a5 0 a4 h172
            else
              f_X2_shipAtRank_87 K13 (f_X2_shipAtRank_49 K13 n) a0 a1 a2 a3 a5 1 a4 h172
          else
          none
        else
        if ztg h144 a5 = some 20 then
          zcR (f_J15_next a5 h144) zX fun r169 h170 =>
          zcast h170 [5] r169 <|
          if ztg h170 r169 = some 5 then
            zcI (f_X6_isAhead r169 a3 h170) zX fun x173 h174 =>
            if x173 = 0 then
              f_X2_shipAtRank_87 K13 (f_X2_shipAtRank_49 K13 n) a0 a1 a2 a3 a5 0 a4 h174
            else
              f_X2_shipAtRank_87 K13 (f_X2_shipAtRank_49 K13 n) a0 a1 a2 a3 a5 1 a4 h174
          else
          none
        else
        if ztg h144 a5 = some 21 then
          zcR (f_J17_next a5 h144) zX fun r169 h170 =>
          zcast h170 [5] r169 <|
          if ztg h170 r169 = some 5 then
            zcI (f_X6_isAhead r169 a3 h170) zX fun x175 h176 =>
            if x175 = 0 then
              f_X2_shipAtRank_87 K13 (f_X2_shipAtRank_49 K13 n) a0 a1 a2 a3 a5 0 a4 h176
            else
              f_X2_shipAtRank_87 K13 (f_X2_shipAtRank_49 K13 n) a0 a1 a2 a3 a5 1 a4 h176
          else
          none
        else
        if ztg h144 a5 = some 24 then
          zcR (f_J21_next a5 h144) zX fun r169 h170 =>
          zcast h170 [5] r169 <|
          if ztg h170 r169 = some 5 then
            zcI (f_X6_isAhead r169 a3 h170) zX fun x177 h178 =>
            if x177 = 0 then
              f_X2_shipAtRank_87 K13 (f_X2_shipAtRank_49 K13 n) a0 a1 a2 a3 a5 0 a4 h178
            else
              f_X2_shipAtRank_87 K13 (f_X2_shipAtRank_49 K13 n) a0 a1 a2 a3 a5 1 a4 h178
          else
          none
        else
        if ztg h144 a5 = some 25 then
          zcR (f_J22_next a5 h144) zX fun r169 h170 =>
          zcast h170 [5] r169 <|
          if ztg h170 r169 = some 5 then
            zcI (f_X6_isAhead r169 a3 h170) zX fun x179 h180 =>
            if x179 = 0 then
              f_X2_shipAtRank_87 K13 (f_X2_shipAtRank_49 K13 n) a0 a1 a2 a3 a5 0 a4 h180
            else
              f_X2_shipAtRank_87 K13 (f_X2_shipAtRank_49 K13 n) a0 a1 a2 a3 a5 1 a4 h180
          else
          none
        else
        none
    else
    if ztg h a5 = some 24 then
      zcI (f_J20_hasNext a5 h) zX fun x143 h144 =>
      if x143 = 0 then
        f_X2_shipAtRank_93 K13 a0 a1 a2 a3 a4 h144
      else
        if ztg h144 a5 = some 8 then
          zcR (f_X9_next a5 h144) zX fun r181 h182 =>
          zcast h182 [5] r181 <|
          if ztg h182 r181 = some 5 then
            zcI (f_X6_isAhead r181 a3 h182) zX fun x183 h184 =>
            if x183 = 0 then
              f_X2_shipAtRank_87 K13 (f_X2_shipAtRank_49 K13 n) a0 a1 a2 a3 a5 0 a4 h184
            else
              f_X2_shipAtRank_87 K13 (f_X2_shipAtRank_49 K13 n) a0 a1 a2 a3 a5 1 a4 h184
          else
          none
        else
        if ztg h144 a5 = some 20 then
          zcR (f_J15_next a5 h144) zX fun r181 h182 =>
          zcast h182 [5] r181 <|
          if ztg h182 r181 = some 5 then
            zcI (f_X6_isAhead r181 a3 h182) zX fun x185 h186 =>
            if x185 = 0 then
              f_X2_shipAtRank_87 K13 (f_X2_shipAtRank_49 K13 n) a0 a1 a2 a3 a5 0 a4 h186
            else
              f_X2_shipAtRank_87 K13 (f_X2_shipAtRank_49 K13 n) a0 a1 a2 a3 a5 1 a4 h186
          else
          none
        else
        if ztg h144 a5 = some 21 then
          zcR (f_J17_next a5 h144) zX fun r181 h182 =>
          zcast h182 [5] r181 <|
          if ztg h182 r181 = some 5 then
            zcI (f_X6_isAhead r181 a3 h182) zX fun x187 h188 =>
            if x187 = 0 then
              f_X2_shipAtRank_87 K13 (f_X2_shipAtRank_49 K13 n) a0 a1 a2 a3 a5 0 a4 h188
            else
              f_X2_shipAtRank_87 K13 (f_X2_shipAtRank_49 K13 n) a0 a1 a2 a3 a5 1 a4 h188
          else
          none
        else
        if ztg h144 a5 = some 24 then
          zcR (f_J21_next a5 h144) zX fun r181 h182 =>
          zcast h182 [5] r181 <|
          if ztg h182 r181 = some 5 then
            zcI (f_X6_isAhead r181 a3 h182) zX fun x189 h190 =>
            if x189 = 0 then
              f_X2_shipAtRank_87 K13 (f_X2_shipAtRank_49 K13 n) a0 a1 a2 a3 a5 0 a4 h190
            else
              f_X2_shipAtRank_87 K13 (f_X2_shipAtRank_49 K13 n) a0 a1 a2 a3 a5 1 a4 h190
          else
          none
        else
        if ztg h144 a5 = some 25 then
          zcR (f_J22_next a5 h144) zX fun r181 h182 =>
          zcast h182 [5] r181 <|
          if ztg h182 r181 = some 5 then
            zcI (f_X6_isAhead r181 a3 h182) zX fun x191 h192 =>
            if x191 = 0 then
              f_X2_shipAtRank_87 K13 (f_X2_shipAtRank_49 K13 n) a0 a1 a2 a3 a5 0 a4 h192
            else
              f_X2_shipAtRank_87 K13 (f_X2_shipAtRank_49 K13 n) a0 a1 a2 a3 a5 1 a4 h192
          else
          none
        else
        none
    else
    if ztg h a5 = some 25 then
      zcI (f_J20_hasNext a5 h) zX fun x143 h144 =>
      if x143 = 0 then
        f_X2_shipAtRank_93 K13 a0 a1 a2 a3 a4 h144
      else
        if ztg h144 a5 = some 8 then
          zcR (f_X9_next a5 h144) zX fun r193 h194 =>
          zcast h194 [5] r193 <|
          if ztg h194 r193 = some 5 then
            zcI (f_X6_isAhead r193 a3 h194) zX fun x195 h196 =>
            if x195 = 0 then
              f_X2_shipAtRank_87 K13 (f_X2_shipAtRank_49 K13 n) a0 a1 a2 a3 a5 0 a4 h196
            else
              f_X2_shipAtRank_87 K13 (f_X2_shipAtRank_49 K13 n) a0 a1 a2 a3 a5 1 a4 h196
          else
          none
        else
        if ztg h144 a5 = some 20 then
          zcR (f_J15_next a5 h144) zX fun r193 h194 =>
          zcast h194 [5] r193 <|
          if ztg h194 r193 = some 5 then
            zcI (f_X6_isAhead r193 a3 h194) zX fun x197 h198 =>
            if x197 = 0 then
              f_X2_shipAtRank_87 K13 (f_X2_shipAtRank_49 K13 n) a0 a1 a2 a3 a5 0 a4 h198
            else
              f_X2_shipAtRank_87 K13 (f_X2_shipAtRank_49 K13 n) a0 a1 a2 a3 a5 1 a4 h198
          else
          none
        else
        if ztg h144 a5 = some 21 then
          zcR (f_J17_next a5 h144) zX fun r193 h194 =>
          zcast h194 [5] r193 <|
          if ztg h194 r193 = some 5 then
            zcI (f_X6_isAhead r193 a3 h194) zX fun x199 h200 =>
            if x199 = 0 then
              f_X2_shipAtRank_87 K13 (f_X2_shipAtRank_49 K13 n) a0 a1 a2 a3 a5 0 a4 h200
            else
              f_X2_shipAtRank_87 K13 (f_X2_shipAtRank_49 K13 n) a0 a1 a2 a3 a5 1 a4 h200
          else
          none
        else
        if ztg h144 a5 = some 24 then
          zcR (f_J21_next a5 h144) zX fun r193 h194 =>
          zcast h194 [5] r193 <|
          if ztg h194 r193 = some 5 then
            zcI (f_X6_isAhead r193 a3 h194) zX fun x201 h202 =>
            if x201 = 0 then
              f_X2_shipAtRank_87 K13 (f_X2_shipAtRank_49 K13 n) a0 a1 a2 a3 a5 0 a4 h202
            else
              f_X2_shipAtRank_87 K13 (f_X2_shipAtRank_49 K13 n) a0 a1 a2 a3 a5 1 a4 h202
          else
          none
        else
        if ztg h144 a5 = some 25 then
          zcR (f_J22_next a5 h144) zX fun r193 h194 =>
          zcast h194 [5] r193 <|
          if ztg h194 r193 = some 5 then
            zcI (f_X6_isAhead r193 a3 h194) zX fun x203 h204 =>
            if x203 = 0 then
              f_X2_shipAtRank_87 K13 (f_X2_shipAtRank_49 K13 n) a0 a1 a2 a3 a5 0 a4 h204
            else
              f_X2_shipAtRank_87 K13 (f_X2_shipAtRank_49 K13 n) a0 a1 a2 a3 a5 1 a4 h204
          else
          none
        else
        none
    else
    none
def f_X2_shipAtRank_107   (h : zH) : zO :=
  znE h 31 fun r207 h208 =>
  zth h208 [31] r207 zX
def f_X2_shipAtRank_13  : Nat → Option Nat → Int32 → Option Nat → zH → zO
  | 0, _, _, _, _ => none
  | n + 1, a0, a1, a2, h =>
    if ztg h a2 = some 8 then
      zcI (f_X9_hasNext a2 h) zX fun x6 h7 =>
      if x6 = 0 then
        f_X2_shipAtRank_107 h7
      else
        if ztg h7 a2 = some 8 then
          zcR (f_X9_next a2 h7) zX fun r8 h9 =>
          zcast h9 [5] r8 <|
          zgR h9 [1] 0 a0 fun r10 =>
          if ztg h9 r10 = some 13 then
            zcR (f_J2_values r10 h9) zX fun r11 h12 =>
            if ztg h12 r11 = some 19 then
              zcR (f_J13_iterator r11 h12) zX fun r13 h14 =>
              f_X2_shipAtRank_49 (f_X2_shipAtRank_13 n) zfuel a0 a1 a2 r8 0 r13 h14
            else
            none
          else
          none
        else
        if ztg h7 a2 = some 20 then
          zcR (f_J15_next a2 h7) zX fun r8 h9 =>
          zcast h9 [5] r8 <|
          zgR h9 [1] 0 a0 fun r15 =>
          if ztg h9 r15 = some 13 then
            zcR (f_J2_values r15 h9) zX fun r16 h17 =>
            if ztg h17 r16 = some 19 then
              zcR (f_J13_iterator r16 h17) zX fun r18 h19 =>
              f_X2_shipAtRank_49 (f_X2_shipAtRank_13 n) zfuel a0 a1 a2 r8 0 r18 h19
            else
            none
          else
          none
        else
        if ztg h7 a2 = some 21 then
          zcR (f_J17_next a2 h7) zX fun r8 h9 =>
          zcast h9 [5] r8 <|
          zgR h9 [1] 0 a0 fun r20 =>
          if ztg h9 r20 = some 13 then
            zcR (f_J2_values r20 h9) zX fun r21 h22 =>
            if ztg h22 r21 = some 19 then
              zcR (f_J13_iterator r21 h22) zX fun r23 h24 =>
              f_X2_shipAtRank_49 (f_X2_shipAtRank_13 n) zfuel a0 a1 a2 r8 0 r23 h24
            else
            none
          else
          none
        else
        if ztg h7 a2 = some 24 then
          zcR (f_J21_next a2 h7) zX fun r8 h9 =>
          zcast h9 [5] r8 <|
          zgR h9 [1] 0 a0 fun r25 =>
          if ztg h9 r25 = some 13 then
            zcR (f_J2_values r25 h9) zX fun r26 h27 =>
            if ztg h27 r26 = some 19 then
              zcR (f_J13_iterator r26 h27) zX fun r28 h29 =>
              f_X2_shipAtRank_49 (f_X2_shipAtRank_13 n) zfuel a0 a1 a2 r8 0 r28 h29
            else
            none
          else
          none
        else
        if ztg h7 a2 = some 25 then
          zcR (f_J22_next a2 h7) zX fun r8 h9 =>
          zcast h9 [5] r8 <|
          zgR h9 [1] 0 a0 fun r30 =>
          if ztg h9 r30 = some 13 then
            zcR (f_J2_values r30 h9) zX fun r31 h32 =>
            if ztg h32 r31 = some 19 then
              zcR (f_J13_iterator r31 h32) zX fun r33 h34 =>
              f_X2_shipAtRank_49 (f_X2_shipAtRank_13 n) zfuel a0 a1 a2 r8 0 r33 h34
            else
            none
          else
          none
        else
        none
    else
    if ztg h a2 = some 20 then
      zcI (f_J15_hasNext a2 h) zX fun x6 h7 =>
      if x6 = 0 then
        f_X2_shipAtRank_107 h7
      else
        if ztg h7 a2 = some 8 then
          zcR (f_X9_next a2 h7) zX fun r35 h36 =>
          zcast h36 [5] r35 <|
          zgR h36 [1] 0 a0 fun r37 =>
          if ztg h36 r37 = some 13 then
            zcR (f_J2_values r37 h36) zX fun r38 h39 =>
            if ztg h39 r38 = some 19 then
              zcR (f_J13_iterator r38 h39) zX fun r40 h41 =>
              f_X2_shipAtRank_49 (f_X2_shipAtRank_13 n) zfuel a0 a1 a2 r35 0 r40 h41
            else
            none
          else
          none
        else
        if ztg h7 a2 = some 20 then
          zcR (f_J15_next a2 h7) zX fun r35 h36 =>
          zcast h36 [5] r35 <|
          zgR h36 [1] 0 a0 fun r42 =>
          if ztg h36 r42 = some 13 then
            zcR (f_J2_values r42 h36) zX fun r43 h44 =>
            if ztg h44 r43 = some 19 then
              zcR (f_J13_iterator r43 h44) zX fun r45 h46 =>
              f_X2_shipAtRank_49 (f_X2_shipAtRank_13 n) zfuel a0 a1 a2 r35 0 r45 h46
            else
            none
          else
          none
        else
        if ztg h7 a2 = some 21 then
          zcR (f_J17_next a2 h7) zX fun r35 h36 =>
          zcast h36 [5] r35 <|
          zgR h36 [1] 0 a0 fun r47 =>
          if ztg h36 r47 = some 13 then
            zcR (f_J2_values r47 h36) zX fun r48 h49 =>
            if ztg h49 r48 = some 19 then
              zcR (f_J13_iterator r48 h49) zX fun r50 h51 =>
              f_X2_shipAtRank_49 (f_X2_shipAtRank_13 n) zfuel a0 a1 a2 r35 0 r50 h51
            else
            none
          else
          none
        else
        if ztg h7 a2 = some 24 then
          zcR (f_J21_next a2 h7) zX fun r35 h36 =>
          zcast h36 [5] r35 <|
          zgR h36 [1] 0 a0 fun r52 =>
          if ztg h36 r52 = some 13 then
            zcR (f_J2_values r52 h36) zX fun r53 h54 =>
            if ztg h54 r53 = some 19 then
              zcR (f_J13_iterator r53 h54) zX fun r55 h56 =>
              f_X2_shipAtRank_49 (f_X2_shipAtRank_13 n) zfuel a0 a1 a2 r35 0 r55 h56
            else
            none
          else
          none
        else
        if ztg h7 a2 = some 25 then
          zcR (f_J22_next a2 h7) zX fun r35 h36 =>
          zcast h36 [5] r35 <|
          zgR h36 [1] 0 a0 fun r57 =>
          if ztg h36 r57 = some 13 then
            zcR (f_J2_values r57 h36) zX fun r58 h59 =>
            if ztg h59 r58 = some 19 then
              zcR (f_J13_iterator r58 h59) zX fun r60 h61 =>
              f_X2_shipAtRank_49 (f_X2_shipAtRank_13 n) zfuel a0 a1 a2 r35 0 r60 h61
            else
            none
          else
          none
        else
        none
    else
    if ztg h a2 = some 21 then
      zcI (f_J16_hasNext a2 h) zX fun x6 h7 =>
      if x6 = 0 then
        f_X2_shipAtRank_107 h7
      else
        if ztg h7 a2 = some 8 then
          zcR (f_X9_next a2 h7) zX fun r62 h63 =>
          zcast h63 [5] r62 <|
          zgR h63 [1] 0 a0 fun r64 =>
          if ztg h63 r64 = some 13 then
            zcR (f_J2_values r64 h63) zX fun r65 h66 =>
            if ztg h66 r65 = some 19 then
              zcR (f_J13_iterator r65 h66) zX fun r67 h68 =>
              f_X2_shipAtRank_49 (f_X2_shipAtRank_13 n) zfuel a0 a1 a2 r62 0 r67 h68
            else
            none
          else
          none
        else
        if ztg h7 a2 = some 20 then
          zcR (f_J15_next a2 h7) zX fun r62 h63 =>
          zcast h63 [5] r62 <|
          zgR h63 [1] 0 a0 fun r69 =>
          if ztg h63 r69 = some 13 then
            zcR (f_J2_values r69 h63) zX fun r70 h71 =>
            if ztg h71 r70 = some 19 then
              zcR (f_J13_iterator r70 h71) zX fun r72 h73 =>
              f_X2_shipAtRank_49 (f_X2_shipAtRank_13 n) zfuel a0 a1 a2 r62 0 r72 h73
            else
            none
          else
          none
        else
        if ztg h7 a2 = some 21 then
          zcR (f_J17_next a2 h7) zX fun r62 h63 =>
          zcast h63 [5] r62 <|
          zgR h63 [1] 0 a0 fun r74 =>
          if ztg h63 r74 = some 13 then
            zcR (f_J2_values r74 h63) zX fun r75 h76 =>
            if ztg h76 r75 = some 19 then
              zcR (f_J13_iterator r75 h76) zX fun r77 h78 =>
              f_X2_shipAtRank_49 (f_X2_shipAtRank_13 n) zfuel a0 a1 a2 r62 0 r77 h78
            else
            none
          else
          none
        else
        if ztg h7 a2 = some 24 then
          zcR (f_J21_next a2 h7) zX fun r62 h63 =>
          zcast h63 [5] r62 <|
          zgR h63 [1] 0 a0 fun r79 =>
          if ztg h63 r79 = some 13 then
            zcR (f_J2_values r79 h63) zX fun r80 h81 =>
            if ztg h81 r80 = some 19 then
              zcR (f_J13_iterator r80 h81) zX fun r82 h83 =>
              f_X2_shipAtRank_49 (f_X2_shipAtRank_13 n) zfuel a0 a1 a2 r62 0 r82 h83
            else
            none
          else
          none
        else
        if ztg h7 a2 = some 25 then
          zcR (f_J22_next a2 h7) zX fun r62 h63 =>
          zcast h63 [5] r62 <|
          zgR h63 [1] 0 a0 fun r84 =>
          if ztg h63 r84 = some 13 then
            zcR (f_J2_values r84 h63) zX fun r85 h86 =>
            if ztg h86 r85 = some 19 then
              zcR (f_J13_iterator r85 h86) zX fun r87 h88 =>
              f_X2_shipAtRank_49 (f_X2_shipAtRank_13 n) zfuel a0 a1 a2 r62 0 r87 h88
            else
            none
          else
          none
        else
        none
    else
    if ztg h a2 = some 24 then
      zcI (f_J20_hasNext a2 h) zX fun x6 h7 =>
      if x6 = 0 then
        f_X2_shipAtRank_107 h7
      else
        if ztg h7 a2 = some 8 then
          zcR (f_X9_next a2 h7) zX fun r89 h90 =>
          zcast h90 [5] r89 <|
          zgR h90 [1] 0 a0 fun r91 =>
          if ztg h90 r91 = some 13 then
            zcR (f_J2_values r91 h90) zX fun r92 h93 =>
            if ztg h93 r92 = some 19 then
              zcR (f_J13_iterator r92 h93) zX fun r94 h95 =>
              f_X2_shipAtRank_49 (f_X2_shipAtRank_13 n) zfuel a0 a1 a2 r89 0 r94 h95
            else
            none
          else
          none
        else
        if ztg h7 a2 = some 20 then
          zcR (f_J15_next a2 h7) zX fun r89 h90 =>
          zcast h90 [5] r89 <|
          zgR h90 [1] 0 a0 fun r96 =>
          if ztg h90 r96 = some 13 then
            zcR (f_J2_values r96 h90) zX fun r97 h98 =>
            if ztg h98 r97 = some 19 then
              zcR (f_J13_iterator r97 h98) zX fun r99 h100 =>
              f_X2_shipAtRank_49 (f_X2_shipAtRank_13 n) zfuel a0 a1 a2 r89 0 r99 h100
            else
            none
          else
          none
        else
        if ztg h7 a2 = some 21 then
          zcR (f_J17_next a2 h7) zX fun r89 h90 =>
          zcast h90 [5] r89 <|
          zgR h90 [1] 0 a0 fun r101 =>
          if ztg h90 r101 = some 13 then
            zcR (f_J2_values r101 h90) zX fun r102 h103 =>
            if ztg h103 r102 = some 19 then
              zcR (f_J13_iterator r102 h103) zX fun r104 h105 =>
              f_X2_shipAtRank_49 (f_X2_shipAtRank_13 n) zfuel a0 a1 a2 r89 0 r104 h105
            else
            none
          else
          none
        else
        if ztg h7 a2 = some 24 then
          zcR (f_J21_next a2 h7) zX fun r89 h90 =>
          zcast h90 [5] r89 <|
          zgR h90 [1] 0 a0 fun r106 =>
          if ztg h90 r106 = some 13 then
            zcR (f_J2_values r106 h90) zX fun r107 h108 =>
            if ztg h108 r107 = some 19 then
              zcR (f_J13_iterator r107 h108) zX fun r109 h110 =>
              f_X2_shipAtRank_49 (f_X2_shipAtRank_13 n) zfuel a0 a1 a2 r89 0 r109 h110
            else
            none
          else
          none
        else
        if ztg h7 a2 = some 25 then
          zcR (f_J22_next a2 h7) zX fun r89 h90 =>
          zcast h90 [5] r89 <|
          zgR h90 [1] 0 a0 fun r111 =>
          if ztg h90 r111 = some 13 then
            zcR (f_J2_values r111 h90) zX fun r112 h113 =>
            if ztg h113 r112 = some 19 then
              zcR (f_J13_iterator r112 h113) zX fun r114 h115 =>
              f_X2_shipAtRank_49 (f_X2_shipAtRank_13 n) zfuel a0 a1 a2 r89 0 r114 h115
            else
            none
          else
          none
        else
        none
    else
    if ztg h a2 = some 25 then
      zcI (f_J20_hasNext a2 h) zX fun x6 h7 =>
      if x6 = 0 then
        f_X2_shipAtRank_107 h7
      else
        if ztg h7 a2 = some 8 then
          zcR (f_X9_next a2 h7) zX fun r116 h117 =>
          zcast h117 [5] r116 <|
          zgR h117 [1] 0 a0 fun r118 =>
          if ztg h117 r118 = some 13 then
            zcR (f_J2_values r118 h117) zX fun r119 h120 =>
            if ztg h120 r119 = some 19 then
              zcR (f_J13_iterator r119 h120) zX fun r121 h122 =>
              f_X2_shipAtRank_49 (f_X2_shipAtRank_13 n) zfuel a0 a1 a2 r116 0 r121 h122
            else
            none
          else
          none
        else
        if ztg h7 a2 = some 20 then
          zcR (f_J15_next a2 h7) zX fun r116 h117 =>
          zcast h117 [5] r116 <|
          zgR h117 [1] 0 a0 fun r123 =>
          if ztg h117 r123 = some 13 then
            zcR (f_J2_values r123 h117) zX fun r124 h125 =>
            if ztg h125 r124 = some 19 then
              zcR (f_J13_iterator r124 h125) zX fun r126 h127 =>
              f_X2_shipAtRank_49 (f_X2_shipAtRank_13 n) zfuel a0 a1 a2 r116 0 r126 h127
            else
            none
          else
          none
        else
        if ztg h7 a2 = some 21 then
          zcR (f_J17_next a2 h7) zX fun r116 h117 =>
          zcast h117 [5] r116 <|
          zgR h117 [1] 0 a0 fun r128 =>
          if ztg h117 r128 = some 13 then
            zcR (f_J2_values r128 h117) zX fun r129 h130 =>
            if ztg h130 r129 = some 19 then
              zcR (f_J13_iterator r129 h130) zX fun r131 h132 =>
              f_X2_shipAtRank_49 (f_X2_shipAtRank_13 n) zfuel a0 a1 a2 r116 0 r131 h132
            else
            none
          else
          none
        else
        if ztg h7 a2 = some 24 then
          zcR (f_J21_next a2 h7) zX fun r116 h117 =>
          zcast h117 [5] r116 <|
          zgR h117 [1] 0 a0 fun r133 =>
          if ztg h117 r133 = some 13 then
            zcR (f_J2_values r133 h117) zX fun r134 h135 =>
            if ztg h135 r134 = some 19 then
              zcR (f_J13_iterator r134 h135) zX fun r136 h137 =>
              f_X2_shipAtRank_49 (f_X2_shipAtRank_13 n) zfuel a0 a1 a2 r116 0 r136 h137
            else
            none
          else
          none
        else
        if ztg h7 a2 = some 25 then
          zcR (f_J22_next a2 h7) zX fun r116 h117 =>
          zcast h117 [5] r116 <|
          zgR h117 [1] 0 a0 fun r138 =>
          if ztg h117 r138 = some 13 then
            zcR (f_J2_values r138 h117) zX fun r139 h140 =>
            if ztg h140 r139 = some 19 then
              zcR (f_J13_iterator r139 h140) zX fun r141 h142 =>
              f_X2_shipAtRank_49 (f_X2_shipAtRank_13 n) zfuel a0 a1 a2 r116 0 r141 h142
            else
            none
          else
          none
        else
        none
    else
    none
def f_X2_shipAtRank (v0 : Option Nat) (v1 : Int32) (h : zH) : zO :=
  zgR h [1] 0 v0 fun r1 =>
  if ztg h r1 = some 13 then
    zcR (f_J2_values r1 h) zX fun r2 h3 =>
    if ztg h3 r2 = some 19 then
      zcR (f_J13_iterator r2 h3) zX fun r4 h5 =>
      f_X2_shipAtRank_13 zfuel v0 v1 r4 h5
    else
    none
  else
  none
def f_X1_shipAtRank (v0 : Option Nat) (v1 : Int32) (h : zH) : zO :=
  zgR h [0] 3 v0 fun r1 =>
  if ztg h r1 = some 1 then
    zcI (f_X2_shipAtRank r1 v1 h) zX fun x2 h3 =>
    zrI x2 h3
  else
  none
def f_X0_shipAtRank_12  (s0 : Option Nat) (h : zH) : zO :=
  zrI 1 h
def f_X0_shipAtRank (v0 : Option Nat) (v1 : Int32) (v2 : Option Nat) (h : zH) : zO :=
  if ztg h v0 = some 0 then
    zcI (f_X1_shipAtRank v0 v1 h) (fun e2 h1 => if e2.1 = 32 then zX e2 h1 else if e2.1 = 33 then zX e2 h1 else if e2.1 = 30 then zX e2 h1 else if e2.1 = 34 then zX e2 h1 else if e2.1 = 31 then f_X0_shipAtRank_12 (some e2.2) h1 else if e2.1 = 35 then zX e2 h1 else if e2.1 = 6 then zX e2 h1 else if e2.1 = 11 then zX e2 h1 else none) fun x3 h4 =>
    zaS h4 [202] v2 0 (.long (x3.toInt64)) fun h5 =>
    zrI 0 h5
  else
  none
def f_J33_canEncode (v0 : Int32) (h : zH) : zO :=
  if 255 < v0 then
    zrN .boolean 0 h
  else
    zrN .boolean 1 h
def f_J7_append_3_56  (a0 : Option Nat) (a1 : Int32) (h : zH) : zO :=
  zgR h [16] 0 a0 fun r14 =>
  zgI h [16] 3 a0 fun x15 =>
  zpF h [16] 3 a0 (.int (x15 + 1)) fun h16 =>
  none
def f_J7_append_3_45  (a0 : Option Nat) (a1 : Int32) (h : zH) : zO :=
  if ztg h a0 = some 16 then
    zcI (f_J7_isLatin1 a0 h) zX fun x11 h12 =>
    if x11 = 0 then
      f_J7_append_3_56 a0 a1 h12
    else
      none
  else
  none
def f_J7_append_3 (v0 : Option Nat) (v1 : Int32) (h : zH) : zO :=
  zgI h [16] 3 v0 fun x1 =>
  if ztg h v0 = some 16 then
    zcV (f_J7_ensureCapacityInternal v0 (x1 + 1) h) zX fun h2 =>
    if ztg h2 v0 = some 16 then
      zcI (f_J7_isLatin1 v0 h2) zX fun x3 h4 =>
      if x3 = 0 then
        f_J7_append_3_45 v0 v1 h4
      else
        zcI (f_J33_canEncode v1 h4) zX fun x5 h6 =>
        if x5 = 0 then
          f_J7_append_3_45 v0 v1 h6
        else
          zgR h6 [16] 0 v0 fun r7 =>
          zgI h6 [16] 3 v0 fun x8 =>
          zpF h6 [16] 3 v0 (.int (x8 + 1)) fun h9 =>
          zaS h9 [204] r7 x8 (.int (v1.toInt8.toInt32).toInt8.toInt32) fun h10 =>
          zrR v0 h10
    else
    none
  else
  none
def f_J8_append_3 (v0 : Option Nat) (v1 : Int32) (h : zH) : zO :=
  if ztg h v0 = some 16 then
    zcR (f_J7_append_3 v0 v1 h) zX fun r1 h2 =>
    zrR v0 h2
  else
  none
def f_X1_append_28  (a0 : Option Nat) (a1 : Int32) (s0 : Int32) (h : zH) : zO :=
  zcV (f_X1_checkState s0 h) zX fun h7 =>
  zgR h7 [0] 6 a0 fun r8 =>
  if ztg h7 r8 = some 16 then
    zcR (f_J8_append_3 r8 a1 h7) zX fun r9 h10 =>
    zgR h10 [0] 6 a0 fun r11 =>
    if ztg h10 r11 = some 16 then
      zcI (f_J8_length r11 h10) zX fun x12 h13 =>
      zrI x12 h13
    else
    none
  else
  none
def f_X1_append (v0 : Option Nat) (v1 : Int32) (h : zH) : zO :=
  zcI (f_X1_isBetween v1 32 126 h) zX fun x1 h2 =>
  zcV (f_X1_checkArgument x1 h2) zX fun h3 =>
  zgR h3 [0] 6 v0 fun r4 =>
  if ztg h3 r4 = some 16 then
    zcI (f_J8_length r4 h3) zX fun x5 h6 =>
    if 60 ≤ x5 then
      f_X1_append_28 v0 v1 0 h6
    else
      f_X1_append_28 v0 v1 1 h6
  else
  none
def f_X0_append_12  (s0 : Option Nat) (h : zH) : zO :=
  zrI 1 h
def f_X0_append_15  (s0 : Option Nat) (h : zH) : zO :=
  zrI 2 h
def f_X0_append (v0 : Option Nat) (v1 : Int32) (v2 : Option Nat) (h : zH) : zO :=
  if ztg h v0 = some 0 then
    zcI (f_X1_append v0 v1 h) (fun e2 h1 => if e2.1 = 32 then f_X0_append_12 (some e2.2) h1 else if e2.1 = 33 then f_X0_append_15 (some e2.2) h1 else if e2.1 = 30 then zX e2 h1 else if e2.1 = 34 then zX e2 h1 else if e2.1 = 31 then zX e2 h1 else if e2.1 = 35 then zX e2 h1 else if e2.1 = 6 then zX e2 h1 else if e2.1 = 11 then zX e2 h1 else none) fun x3 h4 =>
    zaS h4 [202] v2 0 (.long (x3.toInt64)) fun h5 =>
    zrI 0 h5
  else
  none
def f_X10_init (v0 : Option Nat) (v1 : Option Nat) (h : zH) : zO :=
  zpF h [9] 1 v0 (va_rf v1) fun h1 =>
  if ¬ v0 = none then
    zrV h1
  else none
def f_X11_init (v0 : Option Nat) (h : zH) : zO :=
  if ¬ v0 = none then
    znA h 210 4 .null 60 fun r1 h2 =>
    zpF h2 [10] 0 v0 (va_rf r1) fun h3 =>
    zrV h3
  else none
def f_J9_checkIndex (v0 : Int32) (v1 : Int32) (h : zH) : zO :=
  zcI (f_J32_checkIndex v0 v1 (if zG h 6 = 0 then none else some (zG h 6 - 1)) h) zX fun x1 h2 =>
  zrV h2
def f_J7_charAt (v0 : Option Nat) (v1 : Int32) (h : zH) : zO :=
  zgI h [16] 1 v0 fun x1 =>
  zgR h [16] 0 v0 fun r2 =>
  zgI h [16] 3 v0 fun x3 =>
  zaN h zarrs r2 fun x4 =>
  zcI (f_J11_min x3 (x4 >>> (x1 &&& 31)) h) zX fun x5 h6 =>
  zcV (f_J9_checkIndex v1 x5 h6) zX fun h7 =>
  if ¬ x1 = 0 then
    none
  else
    zaI h7 [204] r2 v1 fun x10 =>
    zrN .char (((x10 &&& 255).toUInt32 % 65536).toInt32) h7
def f_J8_charAt (v0 : Option Nat) (v1 : Int32) (h : zH) : zO :=
  if ztg h v0 = some 16 then
    zcI (f_J7_charAt v0 v1 h) zX fun x1 h2 =>
    zrN .char x1 h2
  else
  none
def f_J9_isLatin1 (v0 : Option Nat) (h : zH) : zO :=
  if (1 : Int32) = 0 then
    zrN .boolean 0 h
  else
    zgI h [17] 1 v0 fun x1 =>
    if ¬ x1 = 0 then
      zrN .boolean 0 h
    else
      zrN .boolean 1 h
def f_J33_charAt (v0 : Option Nat) (v1 : Int32) (h : zH) : zO :=
  zaN h zarrs v0 fun x1 =>
  zcV (f_J9_checkIndex v1 x1 h) zX fun h2 =>
  zaI h2 [204] v0 v1 fun x3 =>
  zrN .char (((x3 &&& 255).toUInt32 % 65536).toInt32) h2
def f_J9_charAt (v0 : Option Nat) (v1 : Int32) (h : zH) : zO :=
  if ztg h v0 = some 17 then
    zcI (f_J9_isLatin1 v0 h) zX fun x1 h2 =>
    if x1 = 0 then
      zgR h2 [17] 0 v0 fun r3 =>
      none
    else
      zgR h2 [17] 0 v0 fun r6 =>
      zcI (f_J33_charAt r6 v1 h2) zX fun x7 h8 =>
      zrN .char x7 h8
  else
  none
def f_X10_commonPrefix_2  : Nat → Option Nat → Option Nat → Int32 → zH → zO
  | 0, _, _, _, _ => none
  | n + 1, a0, a1, a2, h =>
    if ztg h a1 = some 17 then
      zcI (f_J9_length a1 h) zX fun x1 h2 =>
      if x1 ≤ a2 then
        zrI a2 h2
      else
        zgI h2 [9] 0 a0 fun x3 =>
        zgR h2 [9] 1 a0 fun r4 =>
        zgR h2 [0] 6 r4 fun r5 =>
        if ztg h2 r5 = some 16 then
          zcI (f_J8_length r5 h2) zX fun x6 h7 =>
          if x6 ≤ (x3 + a2) then
            zrI a2 h7
          else
            zgR h7 [9] 1 a0 fun r8 =>
            zgR h7 [0] 6 r8 fun r9 =>
            zgI h7 [9] 0 a0 fun x10 =>
            if ztg h7 r9 = some 16 then
              zcI (f_J8_charAt r9 (x10 + a2) h7) zX fun x11 h12 =>
              if ztg h12 a1 = some 17 then
                zcI (f_J9_charAt a1 a2 h12) zX fun x13 h14 =>
                if ¬ x11 = x13 then
                  zrI a2 h14
                else
                  znm (a2 + 1) fun x15 =>
                  f_X10_commonPrefix_2 n a0 a1 x15 h14
              else
              none
            else
            none
        else
        none
    else
    none
def f_X10_commonPrefix (v0 : Option Nat) (v1 : Option Nat) (h : zH) : zO :=
  f_X10_commonPrefix_2 zfuel v0 v1 0 h
def f_X12_init (v0 : Option Nat) (v1 : Int32) (h : zH) : zO :=
  if ¬ v0 = none then
    zcV (f_J26_init_3 v0 none none 0 0 h) zX fun h1 =>
    zpF h1 [11] 6 v0 (.int v1) fun h2 =>
    zrV h2
  else none
def f_X10_keyword_69  (a0 : Option Nat) (a2 : Int32) (h : zH) : zO :=
  znO h 11 [.null, .null, .null, .null, .null, .int 0, .int 0] fun r12 h13 =>
  zgI h13 [9] 0 a0 fun x14 =>
  if ¬ r12 = none then
    zcV (f_X12_init r12 (x14 + a2) h13) zX fun h15 =>
    zth h15 [11] r12 zX
  else none
def f_X10_keyword_11  : Nat → Option Nat → Int32 → Option Nat → Int32 → Int32 → zH → zO
  | 0, _, _, _, _, _, _ => none
  | n + 1, a0, a2, a3, a4, a5, h =>
    if a4 ≤ a5 then
      f_X10_keyword_69 a0 a2 h
    else
      zaR h zrefs a3 a5 fun r2 =>
      if ztg h a0 = some 9 then
        zcI (f_X10_commonPrefix a0 r2 h) zX fun x3 h4 =>
        if ztg h4 r2 = some 17 then
          zcI (f_J9_length r2 h4) zX fun x5 h6 =>
          if ¬ x3 = x5 then
            zcI (f_J11_max a2 x3 h6) zX fun x7 h8 =>
            znm (a5 + 1) fun x9 =>
            f_X10_keyword_11 n a0 x7 a3 a4 x9 h8
          else
            zgI h6 [9] 0 a0 fun x10 =>
            zpF h6 [9] 0 a0 (.int (x10 + x3)) fun h11 =>
            zrR r2 h11
        else
        none
      else
      none
def f_X10_keyword (v0 : Option Nat) (v1 : Option Nat) (h : zH) : zO :=
  zaN h zarrs v1 fun x1 =>
  f_X10_keyword_11 zfuel v0 0 v1 x1 0 h
def f_J30_signedHashCode_8  : Nat → Int32 → Option Nat → Int32 → Int32 → zH → zO
  | 0, _, _, _, _, _ => none
  | n + 1, a0, a1, a4, a5, h =>
    if a4 ≤ a5 then
      zrI a0 h
    else
      zaI h [204] a1 a5 fun x2 =>
      znm (((31 : Int32) * a0) + (x2 &&& 255)) fun x3 =>
      znm (a5 + 1) fun x4 =>
      f_J30_signedHashCode_8 n x3 a1 a4 x4 h
def f_J30_signedHashCode (v0 : Int32) (v1 : Option Nat) (v2 : Int32) (v3 : Int32) (h : zH) : zO :=
  znm (v2 + v3) fun x1 =>
  f_J30_signedHashCode_8 zfuel v0 v1 x1 v2 h
def f_J30_utf16hashCode_8  : Nat → Int32 → Option Nat → Int32 → Int32 → zH → zO
  | 0, _, _, _, _, _ => none
  | n + 1, a0, a1, a4, a5, h =>
    if a4 ≤ a5 then
      zrI a0 h
    else
      none
def f_J30_utf16hashCode (v0 : Int32) (v1 : Option Nat) (v2 : Int32) (v3 : Int32) (h : zH) : zO :=
  znm (v2 + v3) fun x1 =>
  f_J30_utf16hashCode_8 zfuel v0 v1 x1 v2 h
def f_J30_hashCode_2_8  : Nat → Int32 → Option Nat → Int32 → Int32 → zH → zO
  | 0, _, _, _, _, _ => none
  | n + 1, a0, a1, a4, a5, h =>
    if a4 ≤ a5 then
      zrI a0 h
    else
      zaI h [204] a1 a5 fun x2 =>
      znm (((31 : Int32) * a0) + x2) fun x3 =>
      znm (a5 + 1) fun x4 =>
      f_J30_hashCode_2_8 n x3 a1 a4 x4 h
def f_J30_hashCode_2 (v0 : Int32) (v1 : Option Nat) (v2 : Int32) (v3 : Int32) (h : zH) : zO :=
  znm (v2 + v3) fun x1 =>
  f_J30_hashCode_2_8 zfuel v0 v1 x1 v2 h
def f_J30_hashCode_3_8  : Nat → Int32 → Option Nat → Int32 → Int32 → zH → zO
  | 0, _, _, _, _, _ => none
  | n + 1, a0, a1, a4, a5, h =>
    if a4 ≤ a5 then
      zrI a0 h
    else
      none
def f_J30_hashCode_3 (v0 : Int32) (v1 : Option Nat) (v2 : Int32) (v3 : Int32) (h : zH) : zO :=
  znm (v2 + v3) fun x1 =>
  f_J30_hashCode_3_8 zfuel v0 v1 x1 v2 h
def f_J30_hashCode_4_8  : Nat → Int32 → Option Nat → Int32 → Int32 → zH → zO
  | 0, _, _, _, _, _ => none
  | n + 1, a0, a1, a4, a5, h =>
    if a4 ≤ a5 then
      zrI a0 h
    else
      zaI h [200] a1 a5 fun x2 =>
      znm (((31 : Int32) * a0) + x2) fun x3 =>
      znm (a5 + 1) fun x4 =>
      f_J30_hashCode_4_8 n x3 a1 a4 x4 h
def f_J30_hashCode_4 (v0 : Int32) (v1 : Option Nat) (v2 : Int32) (v3 : Int32) (h : zH) : zO :=
  znm (v2 + v3) fun x1 =>
  f_J30_hashCode_4_8 zfuel v0 v1 x1 v2 h
def f_J33_hashCode (v0 : Option Nat) (h : zH) : zO :=
  zaN h zarrs v0 fun x1 =>
  if x1 = 0 then
    zrI 0 h
  else
  if x1 = 1 then
    zaI h [204] v0 0 fun x2 =>
    zrI (x2 &&& 255) h
  else
  zaN h zarrs v0 fun x3 =>
  none
def f_J9_hashCode_40  (a0 : Option Nat) (s0 : Int32) (h : zH) : zO :=
  if ¬ s0 = 0 then
    zpF h [17] 2 a0 (.int s0) fun h11 =>
    zrI s0 h11
  else
    zpN h [17] 3 a0 .boolean (.int 1) fun h12 =>
    zrI s0 h12
def f_J9_hashCode (v0 : Option Nat) (h : zH) : zO :=
  zgI h [17] 2 v0 fun x1 =>
  if ¬ x1 = 0 then
    zrI x1 h
  else
    zgI h [17] 3 v0 fun x2 =>
    if ¬ x2 = 0 then
      zrI x1 h
    else
      if ztg h v0 = some 17 then
        zcI (f_J9_isLatin1 v0 h) zX fun x3 h4 =>
        if x3 = 0 then
          zgR h4 [17] 0 v0 fun r5 =>
          none
        else
          zgR h4 [17] 0 v0 fun r8 =>
          zcI (f_J33_hashCode r8 h4) zX fun x9 h10 =>
          f_J9_hashCode_40 v0 x9 h10
      else
      none
def f_J33_equals_9  : Nat → Option Nat → Option Nat → Int32 → zH → zO
  | 0, _, _, _, _ => none
  | n + 1, a0, a1, a2, h =>
    zaN h zarrs a0 fun x3 =>
    if x3 ≤ a2 then
      zrN .boolean 1 h
    else
      zaI h [204] a0 a2 fun x4 =>
      zaI h [204] a1 a2 fun x5 =>
      if x4 = x5 then
        znm (a2 + 1) fun x6 =>
        f_J33_equals_9 n a0 a1 x6 h
      else
        zrN .boolean 0 h
def f_J33_equals (v0 : Option Nat) (v1 : Option Nat) (h : zH) : zO :=
  zaN h zarrs v0 fun x1 =>
  zaN h zarrs v1 fun x2 =>
  if ¬ x1 = x2 then
    zrN .boolean 0 h
  else
    f_J33_equals_9 zfuel v0 v1 0 h
def f_J9_equals_36  (a0 : Option Nat) (a2 : Option Nat) (h : zH) : zO :=
  zgR h [17] 0 a0 fun r4 =>
  zgR h [17] 0 a2 fun r5 =>
  zcI (f_J33_equals r4 r5 h) zX fun x6 h7 =>
  if x6 = 0 then
    zrN .boolean 0 h7
  else
    zrN .boolean 1 h7
def f_J9_equals (v0 : Option Nat) (v1 : Option Nat) (h : zH) : zO :=
  if ¬ v0 = v1 then
    zinst h [17] [] v1 fun x1 =>
    if x1 = 0 then
      zrN .boolean 0 h
    else
      zcast h [17] v1 <|
      if (1 : Int32) = 0 then
        f_J9_equals_36 v0 v1 h
      else
        zgI h [17] 1 v0 fun x2 =>
        zgI h [17] 1 v1 fun x3 =>
        if ¬ x2 = x3 then
          zrN .boolean 0 h
        else
          f_J9_equals_36 v0 v1 h
  else
    zrN .boolean 1 h
def f_X10_current (v0 : Option Nat) (h : zH) : zO :=
  zgI h [9] 0 v0 fun x1 =>
  zgR h [9] 1 v0 fun r2 =>
  zgR h [0] 6 r2 fun r3 =>
  if ztg h r3 = some 16 then
    zcI (f_J8_length r3 h) zX fun x4 h5 =>
    if x4 ≤ x1 then
      zrI (-1) h5
    else
      zgR h5 [9] 1 v0 fun r6 =>
      zgR h5 [0] 6 r6 fun r7 =>
      zgI h5 [9] 0 v0 fun x8 =>
      if ztg h5 r7 = some 16 then
        zcI (f_J8_charAt r7 x8 h5) zX fun x9 h10 =>
        zrI x9 h10
      else
      none
  else
  none
def f_X10_require (v0 : Option Nat) (v1 : Int32) (h : zH) : zO :=
  if ¬ v1 = 0 then
    zrV h
  else
    znO h 11 [.null, .null, .null, .null, .null, .int 0, .int 0] fun r1 h2 =>
    zgI h2 [9] 0 v0 fun x3 =>
    if ¬ r1 = none then
      zcV (f_X12_init r1 x3 h2) zX fun h4 =>
      zth h4 [11] r1 zX
    else none
def f_X10_number_19  : Nat → Option Nat → Int32 → Int32 → zH → zO
  | 0, _, _, _, _ => none
  | n + 1, a0, a1, a2, h =>
    if 3 ≤ a2 then
      zrI a1 h
    else
      if ztg h a0 = some 9 then
        zcI (f_X10_current a0 h) zX fun x6 h7 =>
        zcI (f_X1_isBetween x6 48 57 h7) zX fun x8 h9 =>
        if x8 = 0 then
          zrI a1 h9
        else
          if ztg h9 a0 = some 9 then
            zcI (f_X10_current a0 h9) zX fun x10 h11 =>
            znm ((((10 : Int32) * a1) + x10) - 48) fun x12 =>
            zgI h11 [9] 0 a0 fun x13 =>
            zpF h11 [9] 0 a0 (.int (x13 + 1)) fun h14 =>
            znm (a2 + 1) fun x15 =>
            f_X10_number_19 n a0 x12 x15 h14
          else
          none
      else
      none
def f_X10_number (v0 : Option Nat) (h : zH) : zO :=
  if ztg h v0 = some 9 then
    zcI (f_X10_current v0 h) zX fun x1 h2 =>
    zcI (f_X1_isBetween x1 48 57 h2) zX fun x3 h4 =>
    if ztg h4 v0 = some 9 then
      zcV (f_X10_require v0 x3 h4) zX fun h5 =>
      f_X10_number_19 zfuel v0 0 0 h5
    else
    none
  else
  none
def f_X10_accept_13  (a0 : Option Nat) (s0 : Int32) (h : zH) : zO :=
  zgI h [9] 0 a0 fun x3 =>
  if s0 = 0 then
    zpF h [9] 0 a0 (.int (x3 + 0)) fun h4 =>
    zrN .boolean s0 h4
  else
    zpF h [9] 0 a0 (.int (x3 + 1)) fun h5 =>
    zrN .boolean s0 h5
def f_X10_accept (v0 : Option Nat) (v1 : Int32) (h : zH) : zO :=
  if ztg h v0 = some 9 then
    zcI (f_X10_current v0 h) zX fun x1 h2 =>
    if ¬ x1 = v1 then
      f_X10_accept_13 v0 0 h2
    else
      f_X10_accept_13 v0 1 h2
  else
  none
def f_X10_behind (v0 : Option Nat) (v1 : Int32) (h : zH) : zO :=
  if ztg h v0 = some 9 then
    zcI (f_X10_accept v0 v1 h) zX fun x1 h2 =>
    if ztg h2 v0 = some 9 then
      zcV (f_X10_require v0 x1 h2) zX fun h3 =>
      if ztg h3 v0 = some 9 then
        zcI (f_X10_number v0 h3) zX fun x4 h5 =>
        zrI x4 h5
      else
      none
    else
    none
  else
  none
def f_X10_shipOperation (v0 : Option Nat) (h : zH) : zO :=
  if ztg h v0 = some 9 then
    zcI (f_X10_number v0 h) zX fun x1 h2 =>
    if ztg h2 v0 = some 9 then
      zcI (f_X10_behind v0 32 h2) zX fun x3 h4 =>
      if ztg h4 v0 = some 9 then
        zcI (f_X10_behind v0 32 h4) zX fun x5 h6 =>
        znO h6 318 [.int x1, .int x3, .int x5] fun r7 h8 =>
        zrR r7 h8
      else
      none
    else
    none
  else
  none
def f_X10_enterOperation (v0 : Option Nat) (h : zH) : zO :=
  if ztg h v0 = some 9 then
    zcI (f_X10_number v0 h) zX fun x1 h2 =>
    if ztg h2 v0 = some 9 then
      zcI (f_X10_behind v0 64 h2) zX fun x3 h4 =>
      znO h4 319 [.int x1, .int x3] fun r5 h6 =>
      zrR r5 h6
    else
    none
  else
  none
def f_X10_payOperation (v0 : Option Nat) (h : zH) : zO :=
  if ztg h v0 = some 9 then
    zcI (f_X10_number v0 h) zX fun x1 h2 =>
    if ztg h2 v0 = some 9 then
      zcI (f_X10_behind v0 43 h2) zX fun x3 h4 =>
      znO h4 320 [.int x1, .int x3] fun r5 h6 =>
      zrR r5 h6
    else
    none
  else
  none
def f_X10_signed (v0 : Option Nat) (h : zH) : zO :=
  if ztg h v0 = some 9 then
    zcI (f_X10_accept v0 45 h) zX fun x1 h2 =>
    if x1 = 0 then
      if ztg h2 v0 = some 9 then
        zcI (f_X10_number v0 h2) zX fun x3 h4 =>
        zrI x3 h4
      else
      none
    else
      if ztg h2 v0 = some 9 then
        zcI (f_X10_number v0 h2) zX fun x5 h6 =>
        zrI (-x5) h6
      else
      none
  else
  none
def f_X10_pumpOperation (v0 : Option Nat) (h : zH) : zO :=
  if ztg h v0 = some 9 then
    zcI (f_X10_signed v0 h) zX fun x1 h2 =>
    znO h2 321 [.int x1] fun r3 h4 =>
    zrR r3 h4
  else
  none
def f_X10_numberOperation_136  (a0 : Option Nat) (a2 : Int32) (a4 : Int32) (h : zH) : zO :=
  if a4 = 0 then
    znO h 324 [.int a2] fun r15 h16 =>
    zrR r15 h16
  else
  if a4 = 1 then
    znO h 325 [.int a2] fun r17 h18 =>
    zrR r17 h18
  else
  if a4 = 2 then
    znO h 326 [.int a2] fun r19 h20 =>
    zrR r19 h20
  else
  if a4 = 3 then
    znO h 327 [va_rf a0, .int a2] fun r21 h22 =>
    zrR r21 h22
  else
  if a4 = 4 then
    znO h 328 [.int a2] fun r23 h24 =>
    zrR r23 h24
  else
  znO h 329 [.int a2] fun r25 h26 =>
  zrR r25 h26
def f_X10_numberOperation (v0 : Option Nat) (v1 : Option Nat) (h : zH) : zO :=
  if ztg h v0 = some 9 then
    zcI (f_X10_number v0 h) zX fun x1 h2 =>
    if ztg h2 v1 = some 17 then
      zcI (f_J9_hashCode v1 h2) zX fun x3 h4 =>
      if x3 = -1386164941 then
        if ztg h4 v1 = some 17 then
          zcI (f_J9_equals v1 (some (zG h4 22)) h4) zX fun x5 h6 =>
          if x5 = 0 then
            f_X10_numberOperation_136 v0 x1 (-1) h6
          else
            f_X10_numberOperation_136 v0 x1 4 h6
        else
        none
      else
      if x3 = -1357835529 then
        if ztg h4 v1 = some 17 then
          zcI (f_J9_equals v1 (some (zG h4 16)) h4) zX fun x7 h8 =>
          if x7 = 0 then
            f_X10_numberOperation_136 v0 x1 (-1) h8
          else
            f_X10_numberOperation_136 v0 x1 1 h8
        else
        none
      else
      if x3 = -1106737079 then
        if ztg h4 v1 = some 17 then
          zcI (f_J9_equals v1 (some (zG h4 15)) h4) zX fun x9 h10 =>
          if x9 = 0 then
            f_X10_numberOperation_136 v0 x1 (-1) h10
          else
            f_X10_numberOperation_136 v0 x1 0 h10
        else
        none
      else
      if x3 = 106438191 then
        if ztg h4 v1 = some 17 then
          zcI (f_J9_equals v1 (some (zG h4 21)) h4) zX fun x11 h12 =>
          if x11 = 0 then
            f_X10_numberOperation_136 v0 x1 (-1) h12
          else
            f_X10_numberOperation_136 v0 x1 3 h12
        else
        none
      else
      if x3 = 109770846 then
        if ztg h4 v1 = some 17 then
          zcI (f_J9_equals v1 (some (zG h4 17)) h4) zX fun x13 h14 =>
          if x13 = 0 then
            f_X10_numberOperation_136 v0 x1 (-1) h14
          else
            f_X10_numberOperation_136 v0 x1 2 h14
        else
        none
      else
      f_X10_numberOperation_136 v0 x1 (-1) h4
    else
    none
  else
  none
def f_X10_operation_225  (a0 : Option Nat) (a1 : Option Nat) (a3 : Int32) (h : zH) : zO :=
  if a3 = 0 then
    if ztg h a0 = some 9 then
      zcR (f_X10_shipOperation a0 h) zX fun r31 h32 =>
      zrR r31 h32
    else
    none
  else
  if a3 = 1 then
    if ztg h a0 = some 9 then
      zcR (f_X10_enterOperation a0 h) zX fun r33 h34 =>
      zrR r33 h34
    else
    none
  else
  if a3 = 2 then
    if ztg h a0 = some 9 then
      zcR (f_X10_payOperation a0 h) zX fun r35 h36 =>
      zrR r35 h36
    else
    none
  else
  if a3 = 3 then
    if ztg h a0 = some 9 then
      zcR (f_X10_pumpOperation a0 h) zX fun r37 h38 =>
      zrR r37 h38
    else
    none
  else
  if a3 = 4 then
    zrR (some (zG h 322)) h
  else
  if a3 = 5 then
    zrR (some (zG h 323)) h
  else
  if ztg h a0 = some 9 then
    zcR (f_X10_numberOperation a0 a1 h) zX fun r43 h44 =>
    zrR r43 h44
  else
  none
def f_X10_operation (v0 : Option Nat) (h : zH) : zO :=
  znA h 211 4 .null 12 fun r1 h2 =>
  zaQ h2 [211] [17] r1 0 (some (zG h2 13)) fun h3 =>
  zaQ h3 [211] [17] r1 1 (some (zG h3 14)) fun h4 =>
  zaQ h4 [211] [17] r1 2 (some (zG h4 15)) fun h5 =>
  zaQ h5 [211] [17] r1 3 (some (zG h5 16)) fun h6 =>
  zaQ h6 [211] [17] r1 4 (some (zG h6 17)) fun h7 =>
  zaQ h7 [211] [17] r1 5 (some (zG h7 18)) fun h8 =>
  zaQ h8 [211] [17] r1 6 (some (zG h8 19)) fun h9 =>
  zaQ h9 [211] [17] r1 7 (some (zG h9 20)) fun h10 =>
  zaQ h10 [211] [17] r1 8 (some (zG h10 21)) fun h11 =>
  zaQ h11 [211] [17] r1 9 (some (zG h11 22)) fun h12 =>
  zaQ h12 [211] [17] r1 10 (some (zG h12 23)) fun h13 =>
  zaQ h13 [211] [17] r1 11 (some (zG h13 24)) fun h14 =>
  if ztg h14 v0 = some 9 then
    zcR (f_X10_keyword v0 r1 h14) zX fun r15 h16 =>
    if ztg h16 r15 = some 17 then
      zcI (f_J9_hashCode r15 h16) zX fun x17 h18 =>
      if x17 = -1298279352 then
        if ztg h18 r15 = some 17 then
          zcI (f_J9_equals r15 (some (zG h18 14)) h18) zX fun x19 h20 =>
          if x19 = 0 then
            f_X10_operation_225 v0 r15 (-1) h20
          else
            f_X10_operation_225 v0 r15 1 h20
        else
        none
      else
      if x17 = 3417674 then
        if ztg h18 r15 = some 17 then
          zcI (f_J9_equals r15 (some (zG h18 18)) h18) zX fun x21 h22 =>
          if x21 = 0 then
            f_X10_operation_225 v0 r15 (-1) h22
          else
            f_X10_operation_225 v0 r15 4 h22
        else
        none
      else
      if x17 = 3433592 then
        if ztg h18 r15 = some 17 then
          zcI (f_J9_equals r15 (some (zG h18 24)) h18) zX fun x23 h24 =>
          if x23 = 0 then
            f_X10_operation_225 v0 r15 (-1) h24
          else
            f_X10_operation_225 v0 r15 2 h24
        else
        none
      else
      if x17 = 94756344 then
        if ztg h18 r15 = some 17 then
          zcI (f_J9_equals r15 (some (zG h18 19)) h18) zX fun x25 h26 =>
          if x25 = 0 then
            f_X10_operation_225 v0 r15 (-1) h26
          else
            f_X10_operation_225 v0 r15 5 h26
        else
        none
      else
      if x17 = 107028152 then
        if ztg h18 r15 = some 17 then
          zcI (f_J9_equals r15 (some (zG h18 20)) h18) zX fun x27 h28 =>
          if x27 = 0 then
            f_X10_operation_225 v0 r15 (-1) h28
          else
            f_X10_operation_225 v0 r15 3 h28
        else
        none
      else
      if x17 = 109407588 then
        if ztg h18 r15 = some 17 then
          zcI (f_J9_equals r15 (some (zG h18 13)) h18) zX fun x29 h30 =>
          if x29 = 0 then
            f_X10_operation_225 v0 r15 (-1) h30
          else
            f_X10_operation_225 v0 r15 0 h30
        else
        none
      else
      f_X10_operation_225 v0 r15 (-1) h18
    else
    none
  else
  none
def f_X11_add (v0 : Option Nat) (v1 : Option Nat) (h : zH) : zO :=
  zgR h [10] 0 v0 fun r1 =>
  zgI h [10] 1 v0 fun x2 =>
  zaQ h [210] [307, 308, 309, 310, 311, 312, 313, 314, 315, 316, 317, 318, 319, 320, 321, 322, 323, 324, 325, 326, 327, 328, 329] r1 x2 v1 fun h3 =>
  zgI h3 [10] 1 v0 fun x4 =>
  zpF h3 [10] 1 v0 (.int (x4 + 1)) fun h5 =>
  zrV h5
def f_X10_program_59  (a1 : Option Nat) (s0 : Int32) (s1 : Option Nat) (h : zH) : zO :=
  if ztg h s1 = some 9 then
    zcV (f_X10_require s1 s0 h) zX fun h17 =>
    zrR a1 h17
  else
  none
def f_X10_program_36  (a0 : Option Nat) (a1 : Option Nat) (h : zH) : zO :=
  zgI h [9] 0 a0 fun x12 =>
  zgR h [9] 1 a0 fun r13 =>
  zgR h [0] 6 r13 fun r14 =>
  if ztg h r14 = some 16 then
    zcI (f_J8_length r14 h) zX fun x15 h16 =>
    if ¬ x12 = x15 then
      f_X10_program_59 a1 0 a0 h16
    else
      f_X10_program_59 a1 1 a0 h16
  else
  none
def f_X10_program_16  : Nat → Option Nat → Option Nat → zH → zO
  | 0, _, _, _ => none
  | n + 1, a0, a1, h =>
    if ztg h a0 = some 9 then
      zcI (f_X10_accept a0 59 h) zX fun x7 h8 =>
      if x7 = 0 then
        f_X10_program_36 a0 a1 h8
      else
        if ztg h8 a0 = some 9 then
          zcR (f_X10_operation a0 h8) zX fun r9 h10 =>
          if ztg h10 a1 = some 10 then
            zcV (f_X11_add a1 r9 h10) zX fun h11 =>
            f_X10_program_16 n a0 a1 h11
          else
          none
        else
        none
    else
    none
def f_X10_program (v0 : Option Nat) (h : zH) : zO :=
  znO h 10 [.null, .int 0] fun r1 h2 =>
  if ¬ r1 = none then
    zcV (f_X11_init r1 h2) zX fun h3 =>
    if ztg h3 v0 = some 9 then
      zcR (f_X10_operation v0 h3) zX fun r4 h5 =>
      if ztg h5 r1 = some 10 then
        zcV (f_X11_add r1 r4 h5) zX fun h6 =>
        f_X10_program_16 zfuel v0 r1 h6
      else
      none
    else
    none
  else none
def f_X11_at (v0 : Option Nat) (v1 : Int32) (h : zH) : zO :=
  zgR h [10] 0 v0 fun r1 =>
  zaR h zrefs r1 v1 fun r2 =>
  zrR r2 h
def f_X1_execute_41  (a0 : Option Nat) (a2 : Option Nat) (a3 : Int32) (h : zH) : zO :=
  if ztg h a0 = some 0 then
    zcI (f_X1_finish a0 a2 a3 h) zX fun x23 h24 =>
    zrI x23 h24
  else
  none
def f_X1_execute_44  (a0 : Option Nat) (a3 : Int32) (s0 : Option Nat) (h : zH) : zO :=
  zgI h [6] 6 s0 fun x15 =>
  zpF h [0] 10 a0 (.int x15) fun h16 =>
  zpF h16 [0] 9 a0 (.int a3) fun h17 =>
  znE h17 33 fun r18 h19 =>
  zth h19 [33] r18 zX
def f_X1_execute_68  (a0 : Option Nat) (a3 : Int32) (s0 : Option Nat) (h : zH) : zO :=
  zpF h [0] 9 a0 (.int a3) fun h20 =>
  znE h20 33 fun r21 h22 =>
  zth h22 [33] r21 zX
def f_X1_execute_14  : Nat → Option Nat → Option Nat → Option Nat → Int32 → zH → zO
  | 0, _, _, _, _, _ => none
  | n + 1, a0, a1, a2, a3, h =>
    zgI h [10] 1 a1 fun x5 =>
    if x5 ≤ a3 then
      f_X1_execute_41 a0 a2 a3 h
    else
      if ztg h a1 = some 10 then
        zcR (f_X11_at a1 a3 h) (fun e7 h6 => if e7.1 = 32 then f_X1_execute_68 a0 a3 (some e7.2) h6 else if e7.1 = 33 then f_X1_execute_68 a0 a3 (some e7.2) h6 else if e7.1 = 30 then f_X1_execute_68 a0 a3 (some e7.2) h6 else if e7.1 = 34 then f_X1_execute_68 a0 a3 (some e7.2) h6 else if e7.1 = 31 then f_X1_execute_68 a0 a3 (some e7.2) h6 else if e7.1 = 35 then zX e7 h6 else if e7.1 = 6 then f_X1_execute_44 a0 a3 (some e7.2) h6 else if e7.1 = 11 then zX e7 h6 else none) fun r8 h9 =>
        zcI (f_op_apply r8 a2 h9) (fun e11 h10 => if e11.1 = 32 then f_X1_execute_68 a0 a3 (some e11.2) h10 else if e11.1 = 33 then f_X1_execute_68 a0 a3 (some e11.2) h10 else if e11.1 = 30 then f_X1_execute_68 a0 a3 (some e11.2) h10 else if e11.1 = 34 then f_X1_execute_68 a0 a3 (some e11.2) h10 else if e11.1 = 31 then f_X1_execute_68 a0 a3 (some e11.2) h10 else if e11.1 = 35 then zX e11 h10 else if e11.1 = 6 then f_X1_execute_44 a0 a3 (some e11.2) h10 else if e11.1 = 11 then zX e11 h10 else none) fun x12 h13 =>
        znm (a3 + 1) fun x14 =>
        f_X1_execute_14 n a0 a1 a2 x14 h13
      else
      none
def f_X1_execute (v0 : Option Nat) (v1 : Option Nat) (h : zH) : zO :=
  znO h 1 [.null, .null, .int 0, .int 0, .int 0, .int 0, .int 0, .int 0, .int 0, .int 0] fun r1 h2 =>
  zgR h2 [0] 3 v0 fun r3 =>
  if ¬ r1 = none then
    zcV (f_X2_init_2 r1 r3 h2) zX fun h4 =>
    f_X1_execute_14 zfuel v0 v1 r1 0 h4
  else none
def f_J31_fill (v0 : Option Nat) (v1 : Int32) (v2 : Int32) (v3 : Int32) (h : zH) : zO :=
  zaN h zarrs v0 fun x1 =>
  none
def f_J33_fillNull (v0 : Option Nat) (v1 : Int32) (v2 : Int32) (h : zH) : zO :=
  zcV (f_J31_fill v0 v1 v2 0 h) zX fun h1 =>
  zrV h1
def f_J7_setLength (v0 : Option Nat) (v1 : Int32) (h : zH) : zO :=
  if 0 ≤ v1 then
    if ztg h v0 = some 16 then
      zcV (f_J7_ensureCapacityInternal v0 v1 h) zX fun h1 =>
      zgI h1 [16] 3 v0 fun x2 =>
      if v1 ≤ x2 then
        zgI h1 [16] 3 v0 fun x3 =>
        if x3 ≤ v1 then
          zpF h1 [16] 3 v0 (.int v1) fun h4 =>
          zrV h4
        else
          zpN h1 [16] 2 v0 .boolean (.int 1) fun h5 =>
          zpF h5 [16] 3 v0 (.int v1) fun h6 =>
          zrV h6
      else
        if ztg h1 v0 = some 16 then
          zcI (f_J7_isLatin1 v0 h1) zX fun x7 h8 =>
          if x7 = 0 then
            zgR h8 [16] 0 v0 fun r9 =>
            zgI h8 [16] 3 v0 fun x10 =>
            none
          else
            zgR h8 [16] 0 v0 fun r12 =>
            zgI h8 [16] 3 v0 fun x13 =>
            zcV (f_J33_fillNull r12 x13 v1 h8) zX fun h14 =>
            zpF h14 [16] 3 v0 (.int v1) fun h15 =>
            zrV h15
        else
        none
    else
    none
  else
    none
def f_J8_setLength (v0 : Option Nat) (v1 : Int32) (h : zH) : zO :=
  if ztg h v0 = some 16 then
    zcV (f_J7_setLength v0 v1 h) zX fun h1 =>
    zrV h1
  else
  none
def f_X1_run_43  (a0 : Option Nat) (s0 : Option Nat) (h : zH) : zO :=
  zgR h [0] 6 a0 fun r16 =>
  if ztg h r16 = some 16 then
    zcV (f_J8_setLength r16 0 h) zX fun h17 =>
    zth h17 [30, 31, 32, 33, 34, 35, 6, 11] s0 zX
  else
  none
def f_X1_run_26  (a0 : Option Nat) (s0 : Option Nat) (h : zH) : zO :=
  zgI h [11] 6 s0 fun x18 =>
  zpF h [0] 8 a0 (.int x18) fun h19 =>
  znE h19 32 fun r20 h21 =>
  zth h21 [32] r20 (fun e23 h22 => f_X1_run_43 a0 (some e23.2) h22)
def f_X1_run (v0 : Option Nat) (h : zH) : zO :=
  znO h 9 [.int 0, .null] fun r1 h2 =>
  if ¬ r1 = none then
    zcV (f_X10_init r1 v0 h2) (fun e4 h3 => if e4.1 = 11 then f_X1_run_26 v0 (some e4.2) h3 else none) fun h5 =>
    if ztg h5 r1 = some 9 then
      zcR (f_X10_program r1 h5) (fun e7 h6 => if e7.1 = 11 then f_X1_run_26 v0 (some e7.2) h6 else none) fun r8 h9 =>
      if ztg h9 v0 = some 0 then
        zcI (f_X1_execute v0 r8 h9) (fun e11 h10 => if e11.1 = 11 then f_X1_run_26 v0 (some e11.2) h10 else none) fun x12 h13 =>
        zgR h13 [0] 6 v0 fun r14 =>
        if ztg h13 r14 = some 16 then
          zcV (f_J8_setLength r14 0 h13) zX fun h15 =>
          zrI x12 h15
        else
        none
      else
      none
    else
    none
  else none
def f_X0_run_11  (s0 : Option Nat) (h : zH) : zO :=
  zrI 1 h
def f_X0_run_14  (s0 : Option Nat) (h : zH) : zO :=
  zrI 2 h
def f_X0_run (v0 : Option Nat) (v1 : Option Nat) (h : zH) : zO :=
  if ztg h v0 = some 0 then
    zcI (f_X1_run v0 h) (fun e2 h1 => if e2.1 = 32 then f_X0_run_11 (some e2.2) h1 else if e2.1 = 33 then f_X0_run_14 (some e2.2) h1 else if e2.1 = 30 then zX e2 h1 else if e2.1 = 34 then zX e2 h1 else if e2.1 = 31 then zX e2 h1 else if e2.1 = 35 then zX e2 h1 else if e2.1 = 6 then zX e2 h1 else if e2.1 = 11 then zX e2 h1 else none) fun x3 h4 =>
    zaS h4 [202] v1 0 (.long (x3.toInt64)) fun h5 =>
    zrI 0 h5
  else
  none
def f_X1_errorPosition_12  (a0 : Option Nat) (s0 : Int32) (h : zH) : zO :=
  zcV (f_X1_checkElement s0 h) zX fun h2 =>
  zgI h2 [0] 8 a0 fun x3 =>
  zrI x3 h2
def f_X1_errorPosition (v0 : Option Nat) (h : zH) : zO :=
  zgI h [0] 8 v0 fun x1 =>
  if x1 < 0 then
    f_X1_errorPosition_12 v0 0 h
  else
    f_X1_errorPosition_12 v0 1 h
def f_X0_errorPosition_11  (s0 : Option Nat) (h : zH) : zO :=
  zrI 1 h
def f_X0_errorPosition (v0 : Option Nat) (v1 : Option Nat) (h : zH) : zO :=
  if ztg h v0 = some 0 then
    zcI (f_X1_errorPosition v0 h) (fun e2 h1 => if e2.1 = 32 then zX e2 h1 else if e2.1 = 33 then zX e2 h1 else if e2.1 = 30 then f_X0_errorPosition_11 (some e2.2) h1 else if e2.1 = 34 then zX e2 h1 else if e2.1 = 31 then zX e2 h1 else if e2.1 = 35 then zX e2 h1 else if e2.1 = 6 then zX e2 h1 else if e2.1 = 11 then zX e2 h1 else none) fun x3 h4 =>
    zaS h4 [202] v1 0 (.long (x3.toInt64)) fun h5 =>
    zrI 0 h5
  else
  none
def f_X1_failedCommand_12  (a0 : Option Nat) (s0 : Int32) (h : zH) : zO :=
  zcV (f_X1_checkElement s0 h) zX fun h2 =>
  zgI h2 [0] 9 a0 fun x3 =>
  zrI x3 h2
def f_X1_failedCommand (v0 : Option Nat) (h : zH) : zO :=
  zgI h [0] 9 v0 fun x1 =>
  if x1 < 0 then
    f_X1_failedCommand_12 v0 0 h
  else
    f_X1_failedCommand_12 v0 1 h
def f_X0_failedCommand_11  (s0 : Option Nat) (h : zH) : zO :=
  zrI 1 h
def f_X0_failedCommand (v0 : Option Nat) (v1 : Option Nat) (h : zH) : zO :=
  if ztg h v0 = some 0 then
    zcI (f_X1_failedCommand v0 h) (fun e2 h1 => if e2.1 = 32 then zX e2 h1 else if e2.1 = 33 then zX e2 h1 else if e2.1 = 30 then f_X0_failedCommand_11 (some e2.2) h1 else if e2.1 = 34 then zX e2 h1 else if e2.1 = 31 then zX e2 h1 else if e2.1 = 35 then zX e2 h1 else if e2.1 = 6 then zX e2 h1 else if e2.1 = 11 then zX e2 h1 else none) fun x3 h4 =>
    zaS h4 [202] v1 0 (.long (x3.toInt64)) fun h5 =>
    zrI 0 h5
  else
  none
def f_X6_describeBill_112  (a2 : Option Nat) (h : zH) : zO :=
  if ztg h a2 = some 16 then
    zcR (f_J8_toString a2 h) zX fun r38 h39 =>
    zrR r38 h39
  else
  none
def f_X6_describeBill_108  (a2 : Option Nat) (s0 : Int32) (s1 : Option Nat) (h : zH) : zO :=
  if ztg h s1 = some 16 then
    zcR (f_J8_append_3 s1 s0 h) zX fun r36 h37 =>
    f_X6_describeBill_112 a2 h37
  else
  none
def f_X6_describeBill_81  (a0 : Option Nat) (a1 : Int32) (a2 : Option Nat) (s0 : Option Nat) (s1 : Option Nat) (h : zH) : zO :=
  if ztg h s1 = some 16 then
    zcR (f_J8_append s1 s0 h) zX fun r30 h31 =>
    if ztg h31 a0 = some 5 then
      zcI (f_X6_isInDock a0 h31) zX fun x32 h33 =>
      if x32 = 0 then
        f_X6_describeBill_112 a2 h33
      else
        if ztg h33 a0 = some 5 then
          zcI (f_X6_rests a0 a1 h33) zX fun x34 h35 =>
          if x34 = 0 then
            f_X6_describeBill_108 a2 126 a2 h35
          else
            f_X6_describeBill_108 a2 95 a2 h35
        else
        none
    else
    none
  else
  none
def f_X6_describeBill (v0 : Option Nat) (v1 : Int32) (h : zH) : zO :=
  znO h 16 [.null, .int 0, .int 0, .int 0] fun r1 h2 =>
  if ¬ r1 = none then
    zcV (f_J8_init r1 h2) zX fun h3 =>
    if ztg h3 r1 = some 16 then
      zcR (f_J8_append_3 r1 35 h3) zX fun r4 h5 =>
      zgI h5 [5] 0 v0 fun x6 =>
      if ztg h5 r4 = some 16 then
        zcR (f_J8_append_2 r4 x6 h5) zX fun r7 h8 =>
        if ztg h8 r7 = some 16 then
          zcR (f_J8_append_3 r7 58 h8) zX fun r9 h10 =>
          zgI h10 [5] 5 v0 fun x11 =>
          if ztg h10 r9 = some 16 then
            zcR (f_J8_append_2 r9 x11 h10) zX fun r12 h13 =>
            if ztg h13 r12 = some 16 then
              zcR (f_J8_append_3 r12 47 h13) zX fun r14 h15 =>
              zgI h15 [5] 3 v0 fun x16 =>
              if ztg h15 r14 = some 16 then
                zcR (f_J8_append_2 r14 x16 h15) zX fun r17 h18 =>
                zgI h18 [5] 4 v0 fun x19 =>
                if x19 ≤ 0 then
                  f_X6_describeBill_81 v0 v1 r1 (some (zG h18 12)) r1 h18
                else
                  znO h18 16 [.null, .int 0, .int 0, .int 0] fun r20 h21 =>
                  if ¬ r20 = none then
                    zcV (f_J8_init r20 h21) zX fun h22 =>
                    if ztg h22 r20 = some 16 then
                      zcR (f_J8_append r20 (some (zG h22 11)) h22) zX fun r23 h24 =>
                      zgI h24 [5] 4 v0 fun x25 =>
                      if ztg h24 r23 = some 16 then
                        zcR (f_J8_append_2 r23 x25 h24) zX fun r26 h27 =>
                        if ztg h27 r26 = some 16 then
                          zcR (f_J8_toString r26 h27) zX fun r28 h29 =>
                          f_X6_describeBill_81 v0 v1 r1 r28 r1 h29
                        else
                        none
                      else
                      none
                    else
                    none
                  else none
              else
              none
            else
            none
          else
          none
        else
        none
      else
      none
    else
    none
  else none
def f_X1_describeBill (v0 : Option Nat) (v1 : Int32) (h : zH) : zO :=
  zgR h [0] 3 v0 fun r1 =>
  if ztg h r1 = some 1 then
    zcR (f_X2_ship r1 v1 h) zX fun r2 h3 =>
    zgR h3 [0] 3 v0 fun r4 =>
    zgI h3 [1] 3 r4 fun x5 =>
    if ztg h3 r2 = some 5 then
      zcR (f_X6_describeBill r2 x5 h3) zX fun r6 h7 =>
      zpF h7 [0] 7 v0 (va_rf r6) fun h8 =>
      zgR h8 [0] 7 v0 fun r9 =>
      if ztg h8 r9 = some 17 then
        zcI (f_J9_length r9 h8) zX fun x10 h11 =>
        zrI x10 h11
      else
      none
    else
    none
  else
  none
def f_X0_describeBill_12  (s0 : Option Nat) (h : zH) : zO :=
  zrI 1 h
def f_X0_describeBill (v0 : Option Nat) (v1 : Int32) (v2 : Option Nat) (h : zH) : zO :=
  if ztg h v0 = some 0 then
    zcI (f_X1_describeBill v0 v1 h) (fun e2 h1 => if e2.1 = 32 then zX e2 h1 else if e2.1 = 33 then zX e2 h1 else if e2.1 = 30 then f_X0_describeBill_12 (some e2.2) h1 else if e2.1 = 34 then zX e2 h1 else if e2.1 = 31 then zX e2 h1 else if e2.1 = 35 then zX e2 h1 else if e2.1 = 6 then zX e2 h1 else if e2.1 = 11 then zX e2 h1 else none) fun x3 h4 =>
    zaS h4 [202] v2 0 (.long (x3.toInt64)) fun h5 =>
    zrI 0 h5
  else
  none
def f_X1_lineAt (v0 : Option Nat) (v1 : Int32) (h : zH) : zO :=
  zgR h [0] 7 v0 fun r1 =>
  if ztg h r1 = some 17 then
    zcI (f_J9_length r1 h) zX fun x2 h3 =>
    zcV (f_X1_checkIndex v1 x2 h3) zX fun h4 =>
    zgR h4 [0] 7 v0 fun r5 =>
    if ztg h4 r5 = some 17 then
      zcI (f_J9_charAt r5 v1 h4) zX fun x6 h7 =>
      zrN .char x6 h7
    else
    none
  else
  none
def f_X0_lineAt_12  (s0 : Option Nat) (h : zH) : zO :=
  zrI 1 h
def f_X0_lineAt (v0 : Option Nat) (v1 : Int32) (v2 : Option Nat) (h : zH) : zO :=
  if ztg h v0 = some 0 then
    zcI (f_X1_lineAt v0 v1 h) (fun e2 h1 => if e2.1 = 32 then zX e2 h1 else if e2.1 = 33 then zX e2 h1 else if e2.1 = 30 then zX e2 h1 else if e2.1 = 34 then zX e2 h1 else if e2.1 = 31 then f_X0_lineAt_12 (some e2.2) h1 else if e2.1 = 35 then zX e2 h1 else if e2.1 = 6 then zX e2 h1 else if e2.1 = 11 then zX e2 h1 else none) fun x3 h4 =>
    zaS h4 [202] v2 0 (.long (x3.toInt64)) fun h5 =>
    zrI 0 h5
  else
  none
def f_J1_isEmpty (v0 : Option Nat) (h : zH) : zO :=
  zgI h [12, 13] 4 v0 fun x1 =>
  if ¬ x1 = 0 then
    zrN .boolean 0 h
  else
    zrN .boolean 1 h
def f_J47_init_2 (v0 : Option Nat) (h : zH) : zO :=
  if ¬ v0 = none then
    zcV (f_J27_init v0 h) zX fun h1 =>
    zrV h1
  else none
def f_X2_meanDirt_62  (a0 : Option Nat) (a1 : Int32) (h : zH) : zO :=
  zgR h [1] 0 a0 fun r73 =>
  if ztg h r73 = some 13 then
    zcI (f_J1_size r73 h) zX fun x74 h75 =>
    if (FP.ddiv (FP.i2d a1) (FP.i2d x74)) &&& 0x7fffffffffffffff ≤ 0x7ff0000000000000 then
      zrD (FP.ddiv (FP.i2d a1) (FP.i2d x74)) h75
    else none
  else
  none
def f_X2_meanDirt_33  : Nat → Option Nat → Int32 → Option Nat → zH → zO
  | 0, _, _, _, _ => none
  | n + 1, a0, a1, a2, h =>
    if ztg h a2 = some 8 then
      zcI (f_X9_hasNext a2 h) zX fun x11 h12 =>
      if x11 = 0 then
        f_X2_meanDirt_62 a0 a1 h12
      else
        if ztg h12 a2 = some 8 then
          zcR (f_X9_next a2 h12) zX fun r13 h14 =>
          zcast h14 [5] r13 <|
          zgI h14 [5] 3 r13 fun x15 =>
          znm (a1 + x15) fun x16 =>
          f_X2_meanDirt_33 n a0 x16 a2 h14
        else
        if ztg h12 a2 = some 20 then
          zcR (f_J15_next a2 h12) zX fun r13 h14 =>
          zcast h14 [5] r13 <|
          zgI h14 [5] 3 r13 fun x17 =>
          znm (a1 + x17) fun x18 =>
          f_X2_meanDirt_33 n a0 x18 a2 h14
        else
        if ztg h12 a2 = some 21 then
          zcR (f_J17_next a2 h12) zX fun r13 h14 =>
          zcast h14 [5] r13 <|
          zgI h14 [5] 3 r13 fun x19 =>
          znm (a1 + x19) fun x20 =>
          f_X2_meanDirt_33 n a0 x20 a2 h14
        else
        if ztg h12 a2 = some 24 then
          zcR (f_J21_next a2 h12) zX fun r13 h14 =>
          zcast h14 [5] r13 <|
          zgI h14 [5] 3 r13 fun x21 =>
          znm (a1 + x21) fun x22 =>
          f_X2_meanDirt_33 n a0 x22 a2 h14
        else
        if ztg h12 a2 = some 25 then
          zcR (f_J22_next a2 h12) zX fun r13 h14 =>
          zcast h14 [5] r13 <|
          zgI h14 [5] 3 r13 fun x23 =>
          znm (a1 + x23) fun x24 =>
          f_X2_meanDirt_33 n a0 x24 a2 h14
        else
        none
    else
    if ztg h a2 = some 20 then
      zcI (f_J15_hasNext a2 h) zX fun x11 h12 =>
      if x11 = 0 then
        f_X2_meanDirt_62 a0 a1 h12
      else
        if ztg h12 a2 = some 8 then
          zcR (f_X9_next a2 h12) zX fun r25 h26 =>
          zcast h26 [5] r25 <|
          zgI h26 [5] 3 r25 fun x27 =>
          znm (a1 + x27) fun x28 =>
          f_X2_meanDirt_33 n a0 x28 a2 h26
        else
        if ztg h12 a2 = some 20 then
          zcR (f_J15_next a2 h12) zX fun r25 h26 =>
          zcast h26 [5] r25 <|
          zgI h26 [5] 3 r25 fun x29 =>
          znm (a1 + x29) fun x30 =>
          f_X2_meanDirt_33 n a0 x30 a2 h26
        else
        if ztg h12 a2 = some 21 then
          zcR (f_J17_next a2 h12) zX fun r25 h26 =>
          zcast h26 [5] r25 <|
          zgI h26 [5] 3 r25 fun x31 =>
          znm (a1 + x31) fun x32 =>
          f_X2_meanDirt_33 n a0 x32 a2 h26
        else
        if ztg h12 a2 = some 24 then
          zcR (f_J21_next a2 h12) zX fun r25 h26 =>
          zcast h26 [5] r25 <|
          zgI h26 [5] 3 r25 fun x33 =>
          znm (a1 + x33) fun x34 =>
          f_X2_meanDirt_33 n a0 x34 a2 h26
        else
        if ztg h12 a2 = some 25 then
          zcR (f_J22_next a2 h12) zX fun r25 h26 =>
          zcast h26 [5] r25 <|
          zgI h26 [5] 3 r25 fun x35 =>
          znm (a1 + x35) fun x36 =>
          f_X2_meanDirt_33 n a0 x36 a2 h26
        else
        none
    else
    if ztg h a2 = some 21 then
      zcI (f_J16_hasNext a2 h) zX fun x11 h12 =>
      if x11 = 0 then
        f_X2_meanDirt_62 a0 a1 h12
      else
        if ztg h12 a2 = some 8 then
          zcR (f_X9_next a2 h12) zX fun r37 h38 =>
          zcast h38 [5] r37 <|
          zgI h38 [5] 3 r37 fun x39 =>
          znm (a1 + x39) fun x40 =>
          f_X2_meanDirt_33 n a0 x40 a2 h38
        else
        if ztg h12 a2 = some 20 then
          zcR (f_J15_next a2 h12) zX fun r37 h38 =>
          zcast h38 [5] r37 <|
          zgI h38 [5] 3 r37 fun x41 =>
          znm (a1 + x41) fun x42 =>
          f_X2_meanDirt_33 n a0 x42 a2 h38
        else
        if ztg h12 a2 = some 21 then
          zcR (f_J17_next a2 h12) zX fun r37 h38 =>
          zcast h38 [5] r37 <|
          zgI h38 [5] 3 r37 fun x43 =>
          znm (a1 + x43) fun x44 =>
          f_X2_meanDirt_33 n a0 x44 a2 h38
        else
        if ztg h12 a2 = some 24 then
          zcR (f_J21_next a2 h12) zX fun r37 h38 =>
          zcast h38 [5] r37 <|
          zgI h38 [5] 3 r37 fun x45 =>
          znm (a1 + x45) fun x46 =>
          f_X2_meanDirt_33 n a0 x46 a2 h38
        else
        if ztg h12 a2 = some 25 then
          zcR (f_J22_next a2 h12) zX fun r37 h38 =>
          zcast h38 [5] r37 <|
          zgI h38 [5] 3 r37 fun x47 =>
          znm (a1 + x47) fun x48 =>
          f_X2_meanDirt_33 n a0 x48 a2 h38
        else
        none
    else
    if ztg h a2 = some 24 then
      zcI (f_J20_hasNext a2 h) zX fun x11 h12 =>
      if x11 = 0 then
        f_X2_meanDirt_62 a0 a1 h12
      else
        if ztg h12 a2 = some 8 then
          zcR (f_X9_next a2 h12) zX fun r49 h50 =>
          zcast h50 [5] r49 <|
          zgI h50 [5] 3 r49 fun x51 =>
          znm (a1 + x51) fun x52 =>
          f_X2_meanDirt_33 n a0 x52 a2 h50
        else
        if ztg h12 a2 = some 20 then
          zcR (f_J15_next a2 h12) zX fun r49 h50 =>
          zcast h50 [5] r49 <|
          zgI h50 [5] 3 r49 fun x53 =>
          znm (a1 + x53) fun x54 =>
          f_X2_meanDirt_33 n a0 x54 a2 h50
        else
        if ztg h12 a2 = some 21 then
          zcR (f_J17_next a2 h12) zX fun r49 h50 =>
          zcast h50 [5] r49 <|
          zgI h50 [5] 3 r49 fun x55 =>
          znm (a1 + x55) fun x56 =>
          f_X2_meanDirt_33 n a0 x56 a2 h50
        else
        if ztg h12 a2 = some 24 then
          zcR (f_J21_next a2 h12) zX fun r49 h50 =>
          zcast h50 [5] r49 <|
          zgI h50 [5] 3 r49 fun x57 =>
          znm (a1 + x57) fun x58 =>
          f_X2_meanDirt_33 n a0 x58 a2 h50
        else
        if ztg h12 a2 = some 25 then
          zcR (f_J22_next a2 h12) zX fun r49 h50 =>
          zcast h50 [5] r49 <|
          zgI h50 [5] 3 r49 fun x59 =>
          znm (a1 + x59) fun x60 =>
          f_X2_meanDirt_33 n a0 x60 a2 h50
        else
        none
    else
    if ztg h a2 = some 25 then
      zcI (f_J20_hasNext a2 h) zX fun x11 h12 =>
      if x11 = 0 then
        f_X2_meanDirt_62 a0 a1 h12
      else
        if ztg h12 a2 = some 8 then
          zcR (f_X9_next a2 h12) zX fun r61 h62 =>
          zcast h62 [5] r61 <|
          zgI h62 [5] 3 r61 fun x63 =>
          znm (a1 + x63) fun x64 =>
          f_X2_meanDirt_33 n a0 x64 a2 h62
        else
        if ztg h12 a2 = some 20 then
          zcR (f_J15_next a2 h12) zX fun r61 h62 =>
          zcast h62 [5] r61 <|
          zgI h62 [5] 3 r61 fun x65 =>
          znm (a1 + x65) fun x66 =>
          f_X2_meanDirt_33 n a0 x66 a2 h62
        else
        if ztg h12 a2 = some 21 then
          zcR (f_J17_next a2 h12) zX fun r61 h62 =>
          zcast h62 [5] r61 <|
          zgI h62 [5] 3 r61 fun x67 =>
          znm (a1 + x67) fun x68 =>
          f_X2_meanDirt_33 n a0 x68 a2 h62
        else
        if ztg h12 a2 = some 24 then
          zcR (f_J21_next a2 h12) zX fun r61 h62 =>
          zcast h62 [5] r61 <|
          zgI h62 [5] 3 r61 fun x69 =>
          znm (a1 + x69) fun x70 =>
          f_X2_meanDirt_33 n a0 x70 a2 h62
        else
        if ztg h12 a2 = some 25 then
          zcR (f_J22_next a2 h12) zX fun r61 h62 =>
          zcast h62 [5] r61 <|
          zgI h62 [5] 3 r61 fun x71 =>
          znm (a1 + x71) fun x72 =>
          f_X2_meanDirt_33 n a0 x72 a2 h62
        else
        none
    else
    none
def f_X2_meanDirt (v0 : Option Nat) (h : zH) : zO :=
  zgR h [1] 0 v0 fun r1 =>
  if ztg h r1 = some 13 then
    zcI (f_J1_isEmpty r1 h) zX fun x2 h3 =>
    if x2 = 0 then
      zgR h3 [1] 0 v0 fun r4 =>
      if ztg h3 r4 = some 13 then
        zcR (f_J2_values r4 h3) zX fun r5 h6 =>
        if ztg h6 r5 = some 19 then
          zcR (f_J13_iterator r5 h6) zX fun r7 h8 =>
          f_X2_meanDirt_33 zfuel v0 0 r7 h8
        else
        none
      else
      none
    else
      znE h3 35 fun r9 h10 =>
      zth h10 [35] r9 zX
  else
  none
def f_X1_meanDirt (v0 : Option Nat) (h : zH) : zO :=
  zgR h [0] 3 v0 fun r1 =>
  if ztg h r1 = some 1 then
    zcD (f_X2_meanDirt r1 h) zX fun x2 h3 =>
    zrD x2 h3
  else
  none
def f_X0_meanDirt_10  (s0 : Option Nat) (h : zH) : zO :=
  zrI 1 h
def f_X0_meanDirt (v0 : Option Nat) (v1 : Option Nat) (h : zH) : zO :=
  if ztg h v0 = some 0 then
    zcD (f_X1_meanDirt v0 h) (fun e2 h1 => if e2.1 = 32 then zX e2 h1 else if e2.1 = 33 then zX e2 h1 else if e2.1 = 30 then zX e2 h1 else if e2.1 = 34 then zX e2 h1 else if e2.1 = 31 then zX e2 h1 else if e2.1 = 35 then f_X0_meanDirt_10 (some e2.2) h1 else if e2.1 = 6 then zX e2 h1 else if e2.1 = 11 then zX e2 h1 else none) fun x3 h4 =>
    zaS h4 [203] v1 0 (.double x3) fun h5 =>
    zrI 0 h5
  else
  none
def f_J6_isEmpty (v0 : Option Nat) (h : zH) : zO :=
  zgI h [15] 1 v0 fun x1 =>
  zgI h [15] 2 v0 fun x2 =>
  if ¬ x1 = x2 then
    zrN .boolean 0 h
  else
    zrN .boolean 1 h
def f_J6_dec (v0 : Int32) (v1 : Int32) (h : zH) : zO :=
  znm (v0 + (-1)) fun x1 =>
  if 0 ≤ x1 then
    zrI x1 h
  else
    znm (v1 - 1) fun x2 =>
    zrI x2 h
def f_J6_pollLast (v0 : Option Nat) (h : zH) : zO :=
  zgR h [15] 0 v0 fun r1 =>
  zgI h [15] 2 v0 fun x2 =>
  zaN h zarrs r1 fun x3 =>
  zcI (f_J6_dec x2 x3 h) zX fun x4 h5 =>
  zcR (f_J6_elementAt r1 x4 h5) zX fun r6 h7 =>
  if r6 = none then
    zrR r6 h7
  else
    zpF h7 [15] 2 v0 (.int x4) fun h8 =>
    zaQ h8 [205] [0, 1, 2, 3, 4, 5, 6, 7, 8, 9, 10, 11, 12, 13, 14, 15, 16, 17, 18, 19, 20, 21, 22, 23, 24, 25, 26, 27, 28, 29, 30, 31, 32, 33, 34, 35] r1 x4 none fun h9 =>
    zrR r6 h9
def f_J6_removeLast (v0 : Option Nat) (h : zH) : zO :=
  if ztg h v0 = some 15 then
    zcR (f_J6_pollLast v0 h) zX fun r1 h2 =>
    if ¬ r1 = none then
      zrR r1 h2
    else
      znE h2 30 fun r3 h4 =>
      zth h4 [30] r3 zX
  else
  none
def f_X1_undo_15  (a0 : Option Nat) (s0 : Int32) (h : zH) : zO :=
  zcV (f_X1_checkState s0 h) zX fun h4 =>
  zgR h4 [0] 5 a0 fun r5 =>
  if ztg h4 r5 = some 15 then
    zcR (f_J6_removeLast r5 h4) zX fun r6 h7 =>
    zcast h7 [1] r6 <|
    zpF h7 [0] 3 a0 (va_rf r6) fun h8 =>
    zgR h8 [0] 5 a0 fun r9 =>
    if ztg h8 r9 = some 15 then
      zcI (f_J6_size r9 h8) zX fun x10 h11 =>
      zrI x10 h11
    else
    none
  else
  none
def f_X1_undo (v0 : Option Nat) (h : zH) : zO :=
  zgR h [0] 5 v0 fun r1 =>
  if ztg h r1 = some 15 then
    zcI (f_J6_isEmpty r1 h) zX fun x2 h3 =>
    if ¬ x2 = 0 then
      f_X1_undo_15 v0 0 h3
    else
      f_X1_undo_15 v0 1 h3
  else
  none
def f_X0_undo_11  (s0 : Option Nat) (h : zH) : zO :=
  zrI 1 h
def f_X0_undo (v0 : Option Nat) (v1 : Option Nat) (h : zH) : zO :=
  if ztg h v0 = some 0 then
    zcI (f_X1_undo v0 h) (fun e2 h1 => if e2.1 = 32 then zX e2 h1 else if e2.1 = 33 then f_X0_undo_11 (some e2.2) h1 else if e2.1 = 30 then zX e2 h1 else if e2.1 = 34 then zX e2 h1 else if e2.1 = 31 then zX e2 h1 else if e2.1 = 35 then zX e2 h1 else if e2.1 = 6 then zX e2 h1 else if e2.1 = 11 then zX e2 h1 else none) fun x3 h4 =>
    zaS h4 [202] v1 0 (.long (x3.toInt64)) fun h5 =>
    zrI 0 h5
  else
  none
def f_J6_circularClear_12  : Nat → Option Nat → Int32 → Int32 → Int32 → zH → zO
  | 0, _, _, _, _, _ => none
  | n + 1, a0, a1, a2, a3, h =>
    if a3 ≤ a1 then
      if ¬ a3 = a2 then
        f_J6_circularClear_12 n a0 0 a2 a2 h
      else
        zrV h
    else
      zaQ h [205] [0, 1, 2, 3, 4, 5, 6, 7, 8, 9, 10, 11, 12, 13, 14, 15, 16, 17, 18, 19, 20, 21, 22, 23, 24, 25, 26, 27, 28, 29, 30, 31, 32, 33, 34, 35] a0 a1 none fun h2 =>
      znm (a1 + 1) fun x3 =>
      f_J6_circularClear_12 n a0 x3 a2 a3 h2
def f_J6_circularClear_11  (a0 : Option Nat) (a1 : Int32) (a2 : Int32) (s0 : Int32) (h : zH) : zO :=
  f_J6_circularClear_12 zfuel a0 a1 a2 s0 h
def f_J6_circularClear (v0 : Option Nat) (v1 : Int32) (v2 : Int32) (h : zH) : zO :=
  if v2 < v1 then
    zaN h zarrs v0 fun x1 =>
    f_J6_circularClear_11 v0 v1 v2 x1 h
  else
    f_J6_circularClear_11 v0 v1 v2 v2 h
def f_J6_clear (v0 : Option Nat) (h : zH) : zO :=
  zgR h [15] 0 v0 fun r1 =>
  zgI h [15] 1 v0 fun x2 =>
  zgI h [15] 2 v0 fun x3 =>
  zcV (f_J6_circularClear r1 x2 x3 h) zX fun h4 =>
  zpF h4 [15] 2 v0 (.int 0) fun h5 =>
  zpF h5 [15] 1 v0 (.int 0) fun h6 =>
  zrV h6
def f_X1_restore_12  (a0 : Option Nat) (s0 : Int32) (h : zH) : zO :=
  zcV (f_X1_checkState s0 h) zX fun h2 =>
  znO h2 1 [.null, .null, .int 0, .int 0, .int 0, .int 0, .int 0, .int 0, .int 0, .int 0] fun r3 h4 =>
  zgR h4 [0] 4 a0 fun r5 =>
  if ¬ r3 = none then
    zcV (f_X2_init_2 r3 r5 h4) zX fun h6 =>
    zpF h6 [0] 3 a0 (va_rf r3) fun h7 =>
    zgR h7 [0] 5 a0 fun r8 =>
    if ztg h7 r8 = some 15 then
      zcV (f_J6_clear r8 h7) zX fun h9 =>
      zgR h9 [0] 3 a0 fun r10 =>
      zgR h9 [1] 0 r10 fun r11 =>
      if ztg h9 r11 = some 13 then
        zcI (f_J1_size r11 h9) zX fun x12 h13 =>
        zrI x12 h13
      else
      none
    else
    none
  else none
def f_X1_restore (v0 : Option Nat) (h : zH) : zO :=
  zgR h [0] 4 v0 fun r1 =>
  if r1 = none then
    f_X1_restore_12 v0 0 h
  else
    f_X1_restore_12 v0 1 h
def f_X0_restore_11  (s0 : Option Nat) (h : zH) : zO :=
  zrI 1 h
def f_X0_restore (v0 : Option Nat) (v1 : Option Nat) (h : zH) : zO :=
  if ztg h v0 = some 0 then
    zcI (f_X1_restore v0 h) (fun e2 h1 => if e2.1 = 32 then zX e2 h1 else if e2.1 = 33 then f_X0_restore_11 (some e2.2) h1 else if e2.1 = 30 then zX e2 h1 else if e2.1 = 34 then zX e2 h1 else if e2.1 = 31 then zX e2 h1 else if e2.1 = 35 then zX e2 h1 else if e2.1 = 6 then zX e2 h1 else if e2.1 = 11 then zX e2 h1 else none) fun x3 h4 =>
    zaS h4 [202] v1 0 (.long (x3.toInt64)) fun h5 =>
    zrI 0 h5
  else
  none
def f_X2_init (v0 : Option Nat) (h : zH) : zO :=
  if ¬ v0 = none then
    znO h 13 [.null, .null, .null, .null, .int 0, .int 0, .int 0, .float 0, .null, .null, .int 0, .int 0] fun r1 h2 =>
    if ¬ r1 = none then
      zcV (f_J2_init r1 h2) zX fun h3 =>
      zpF h3 [1] 0 v0 (va_rf r1) fun h4 =>
      znO h4 14 [.null] fun r5 h6 =>
      if ¬ r5 = none then
        zcV (f_J5_init r5 h6) zX fun h7 =>
        zpF h7 [1] 1 v0 (va_rf r5) fun h8 =>
        zpF h8 [1] 3 v0 (.int 100) fun h9 =>
        zpF h9 [1] 4 v0 (.int 3) fun h10 =>
        zpN h10 [1] 6 v0 .boolean (.int 1) fun h11 =>
        zrV h11
      else none
    else none
  else none
def f_J6_init (v0 : Option Nat) (h : zH) : zO :=
  if ¬ v0 = none then
    zcV (f_J3_init v0 h) zX fun h1 =>
    znA h1 205 4 .null 17 fun r2 h3 =>
    zpF h3 [15] 0 v0 (va_rf r2) fun h4 =>
    zrV h4
  else none
def f_X1_init (v0 : Option Nat) (h : zH) : zO :=
  if ¬ v0 = none then
    znA h 207 4 .null 3 fun r1 h2 =>
    zpF h2 [0] 0 v0 (va_rf r1) fun h3 =>
    znA h3 208 4 .null 2 fun r4 h5 =>
    zpF h5 [0] 1 v0 (va_rf r4) fun h6 =>
    znA h6 209 4 .null 2 fun r7 h8 =>
    zpF h8 [0] 2 v0 (va_rf r7) fun h9 =>
    znO h9 1 [.null, .null, .int 0, .int 0, .int 0, .int 0, .int 0, .int 0, .int 0, .int 0] fun r10 h11 =>
    if ¬ r10 = none then
      zcV (f_X2_init r10 h11) zX fun h12 =>
      zpF h12 [0] 3 v0 (va_rf r10) fun h13 =>
      znO h13 15 [.null, .int 0, .int 0] fun r14 h15 =>
      if ¬ r14 = none then
        zcV (f_J6_init r14 h15) zX fun h16 =>
        zpF h16 [0] 5 v0 (va_rf r14) fun h17 =>
        znO h17 16 [.null, .int 0, .int 0, .int 0] fun r18 h19 =>
        if ¬ r18 = none then
          zcV (f_J8_init r18 h19) zX fun h20 =>
          zpF h20 [0] 6 v0 (va_rf r18) fun h21 =>
          zpF h21 [0] 7 v0 (va_rf (some (zG h21 10))) fun h22 =>
          zpF h22 [0] 8 v0 (.int (-1)) fun h23 =>
          zpF h23 [0] 9 v0 (.int (-1)) fun h24 =>
          zgR h24 [0] 0 v0 fun r25 =>
          znO h24 300 [.int 2] fun r26 h27 =>
          zaQ h27 [207] [300, 301, 302] r25 0 r26 fun h28 =>
          zgR h28 [0] 0 v0 fun r29 =>
          znO h28 301 [.int 2] fun r30 h31 =>
          zaQ h31 [207] [300, 301, 302] r29 1 r30 fun h32 =>
          zgR h32 [0] 0 v0 fun r33 =>
          znO h32 302 [.int 2, .int 3, .int 3] fun r34 h35 =>
          zaQ h35 [207] [300, 301, 302] r33 2 r34 fun h36 =>
          zgR h36 [0] 1 v0 fun r37 =>
          zaQ h36 [208] [303, 304] r37 0 (some (zG h36 303)) fun h40 =>
          zgR h40 [0] 1 v0 fun r41 =>
          zaQ h40 [208] [303, 304] r41 1 (some (zG h40 304)) fun h44 =>
          zgR h44 [0] 2 v0 fun r45 =>
          zaQ h44 [209] [305, 306] r45 0 (some (zG h44 305)) fun h48 =>
          zgR h48 [0] 2 v0 fun r49 =>
          zaQ h48 [209] [305, 306] r49 1 (some (zG h48 306)) fun h52 =>
          zrV h52
        else none
      else none
    else none
  else none
