set_option maxRecDepth 100000
def f_X2_waiting_66 (K23 : Option Nat → Option Nat → Option Nat → zH → zO) (a0 : Option Nat) (a1 : Option Nat) (a2 : Option Nat) (h : zH) : zO :=
  K23 a0 a1 a2 h
def f_X2_waiting_23  : Nat → Option Nat → Option Nat → Option Nat → zH → zO
  | 0, _, _, _, _ => none
  | n + 1, a0, a1, a2, h =>
    if ztg h a2 = some 8 then
      zcI (f_X9_hasNext a2 h) zX fun x9 h10 =>
      if x9 = 0 then
        zrR a1 h10
      else
        if ztg h10 a2 = some 8 then
          zcR (f_X9_next a2 h10) zX fun r11 h12 =>
          zcast h12 [5] r11 <|
          if ztg h12 r11 = some 5 then
            zcI (f_X6_isInDock r11 h12) zX fun x13 h14 =>
            if ¬ x13 = 0 then
              f_X2_waiting_66 (f_X2_waiting_23 n) a0 a1 a2 h14
            else
              zgI h14 [1] 3 a0 fun x15 =>
              if ztg h14 r11 = some 5 then
                zcI (f_X6_isDeepEnough r11 x15 h14) zX fun x16 h17 =>
                if x16 = 0 then
                  f_X2_waiting_66 (f_X2_waiting_23 n) a0 a1 a2 h17
                else
                  if ztg h17 a1 = some 27 then
                    zcI (f_J37_add_2 a1 r11 h17) zX fun x18 h19 =>
                    f_X2_waiting_66 (f_X2_waiting_23 n) a0 a1 a2 h19
                  else
                  none
              else
              none
          else
          none
        else
        if ztg h10 a2 = some 20 then
          zcR (f_J15_next a2 h10) zX fun r11 h12 =>
          zcast h12 [5] r11 <|
          if ztg h12 r11 = some 5 then
            zcI (f_X6_isInDock r11 h12) zX fun x20 h21 =>
            if ¬ x20 = 0 then
              f_X2_waiting_66 (f_X2_waiting_23 n) a0 a1 a2 h21
            else
              zgI h21 [1] 3 a0 fun x22 =>
              if ztg h21 r11 = some 5 then
                zcI (f_X6_isDeepEnough r11 x22 h21) zX fun x23 h24 =>
                if x23 = 0 then
                  f_X2_waiting_66 (f_X2_waiting_23 n) a0 a1 a2 h24
                else
                  if ztg h24 a1 = some 27 then
                    zcI (f_J37_add_2 a1 r11 h24) zX fun x25 h26 =>
                    f_X2_waiting_66 (f_X2_waiting_23 n) a0 a1 a2 h26
                  else
                  none
              else
              none
          else
          none
        else
        if ztg h10 a2 = some 21 then
          zcR (f_J17_next a2 h10) zX fun r11 h12 =>
          zcast h12 [5] r11 <|
          if ztg h12 r11 = some 5 then
            zcI (f_X6_isInDock r11 h12) zX fun x27 h28 =>
            if ¬ x27 = 0 then
              f_X2_waiting_66 (f_X2_waiting_23 n) a0 a1 a2 h28
            else
              zgI h28 [1] 3 a0 fun x29 =>
              if ztg h28 r11 = some 5 then
                zcI (f_X6_isDeepEnough r11 x29 h28) zX fun x30 h31 =>
                if x30 = 0 then
                  f_X2_waiting_66 (f_X2_waiting_23 n) a0 a1 a2 h31
                else
                  if ztg h31 a1 = some 27 then
                    zcI (f_J37_add_2 a1 r11 h31) zX fun x32 h33 =>
                    f_X2_waiting_66 (f_X2_waiting_23 n) a0 a1 a2 h33
                  else
                  none
              else
              none
          else
          none
        else
        if ztg h10 a2 = some 24 then
          zcR (f_J21_next a2 h10) zX fun r11 h12 =>
          zcast h12 [5] r11 <|
          if ztg h12 r11 = some 5 then
            zcI (f_X6_isInDock r11 h12) zX fun x34 h35 =>
            if ¬ x34 = 0 then
              f_X2_waiting_66 (f_X2_waiting_23 n) a0 a1 a2 h35
            else
              zgI h35 [1] 3 a0 fun x36 =>
              if ztg h35 r11 = some 5 then
                zcI (f_X6_isDeepEnough r11 x36 h35) zX fun x37 h38 =>
                if x37 = 0 then
                  f_X2_waiting_66 (f_X2_waiting_23 n) a0 a1 a2 h38
                else
                  if ztg h38 a1 = some 27 then
                    zcI (f_J37_add_2 a1 r11 h38) zX fun x39 h40 =>
                    f_X2_waiting_66 (f_X2_waiting_23 n) a0 a1 a2 h40
                  else
                  none
              else
              none
          else
          none
        else
        if ztg h10 a2 = some 25 then
          zcR (f_J22_next a2 h10) zX fun r11 h12 =>
          zcast h12 [5] r11 <|
          if ztg h12 r11 = some 5 then
            zcI (f_X6_isInDock r11 h12) zX fun x41 h42 =>
            if ¬ x41 = 0 then
              f_X2_waiting_66 (f_X2_waiting_23 n) a0 a1 a2 h42
            else
              zgI h42 [1] 3 a0 fun x43 =>
              if ztg h42 r11 = some 5 then
                zcI (f_X6_isDeepEnough r11 x43 h42) zX fun x44 h45 =>
                if x44 = 0 then
                  f_X2_waiting_66 (f_X2_waiting_23 n) a0 a1 a2 h45
                else
                  if ztg h45 a1 = some 27 then
                    zcI (f_J37_add_2 a1 r11 h45) zX fun x46 h47 =>
                    f_X2_waiting_66 (f_X2_waiting_23 n) a0 a1 a2 h47
                  else
                  none
              else
              none
          else
          none
        else
        none
    else
    if ztg h a2 = some 20 then
      zcI (f_J15_hasNext a2 h) zX fun x9 h10 =>
      if x9 = 0 then
        zrR a1 h10
      else
        if ztg h10 a2 = some 8 then
          zcR (f_X9_next a2 h10) zX fun r48 h49 =>
          zcast h49 [5] r48 <|
          if ztg h49 r48 = some 5 then
            zcI (f_X6_isInDock r48 h49) zX fun x50 h51 =>
            if ¬ x50 = 0 then
              f_X2_waiting_66 (f_X2_waiting_23 n) a0 a1 a2 h51
            else
              zgI h51 [1] 3 a0 fun x52 =>
              if ztg h51 r48 = some 5 then
                zcI (f_X6_isDeepEnough r48 x52 h51) zX fun x53 h54 =>
                if x53 = 0 then
                  f_X2_waiting_66 (f_X2_waiting_23 n) a0 a1 a2 h54
                else
                  if ztg h54 a1 = some 27 then
                    zcI (f_J37_add_2 a1 r48 h54) zX fun x55 h56 =>
                    f_X2_waiting_66 (f_X2_waiting_23 n) a0 a1 a2 h56
                  else
                  none
              else
              none
          else
          none
        else
        if ztg h10 a2 = some 20 then
          zcR (f_J15_next a2 h10) zX fun r48 h49 =>
          zcast h49 [5] r48 <|
          if ztg h49 r48 = some 5 then
            zcI (f_X6_isInDock r48 h49) zX fun x57 h58 =>
            if ¬ x57 = 0 then
              f_X2_waiting_66 (f_X2_waiting_23 n) a0 a1 a2 h58
            else
              zgI h58 [1] 3 a0 fun x59 =>
              if ztg h58 r48 = some 5 then
                zcI (f_X6_isDeepEnough r48 x59 h58) zX fun x60 h61 =>
                if x60 = 0 then
                  f_X2_waiting_66 (f_X2_waiting_23 n) a0 a1 a2 h61
                else
                  if ztg h61 a1 = some 27 then
                    zcI (f_J37_add_2 a1 r48 h61) zX fun x62 h63 =>
                    f_X2_waiting_66 (f_X2_waiting_23 n) a0 a1 a2 h63
                  else
                  none
              else
              none
          else
          none
        else
        if ztg h10 a2 = some 21 then
          zcR (f_J17_next a2 h10) zX fun r48 h49 =>
          zcast h49 [5] r48 <|
          if ztg h49 r48 = some 5 then
            zcI (f_X6_isInDock r48 h49) zX fun x64 h65 =>
            if ¬ x64 = 0 then
              f_X2_waiting_66 (f_X2_waiting_23 n) a0 a1 a2 h65
            else
              zgI h65 [1] 3 a0 fun x66 =>
              if ztg h65 r48 = some 5 then
                zcI (f_X6_isDeepEnough r48 x66 h65) zX fun x67 h68 =>
                if x67 = 0 then
                  f_X2_waiting_66 (f_X2_waiting_23 n) a0 a1 a2 h68
                else
                  if ztg h68 a1 = some 27 then
                    zcI (f_J37_add_2 a1 r48 h68) zX fun x69 h70 =>
                    f_X2_waiting_66 (f_X2_waiting_23 n) a0 a1 a2 h70
                  else
                  none
              else
              none
          else
          none
        else
        if ztg h10 a2 = some 24 then
          zcR (f_J21_next a2 h10) zX fun r48 h49 =>
          zcast h49 [5] r48 <|
          if ztg h49 r48 = some 5 then
            zcI (f_X6_isInDock r48 h49) zX fun x71 h72 =>
            if ¬ x71 = 0 then
              f_X2_waiting_66 (f_X2_waiting_23 n) a0 a1 a2 h72
            else
              zgI h72 [1] 3 a0 fun x73 =>
              if ztg h72 r48 = some 5 then
                zcI (f_X6_isDeepEnough r48 x73 h72) zX fun x74 h75 =>
                if x74 = 0 then
                  f_X2_waiting_66 (f_X2_waiting_23 n) a0 a1 a2 h75
                else
                  if ztg h75 a1 = some 27 then
                    zcI (f_J37_add_2 a1 r48 h75) zX fun x76 h77 =>
                    f_X2_waiting_66 (f_X2_waiting_23 n) a0 a1 a2 h77
                  else
                  none
              else
              none
          else
          none
        else
        if ztg h10 a2 = some 25 then
          zcR (f_J22_next a2 h10) zX fun r48 h49 =>
          zcast h49 [5] r48 <|
          if ztg h49 r48 = some 5 then
            zcI (f_X6_isInDock r48 h49) zX fun x78 h79 =>
            if ¬ x78 = 0 then
              f_X2_waiting_66 (f_X2_waiting_23 n) a0 a1 a2 h79
            else
              zgI h79 [1] 3 a0 fun x80 =>
              if ztg h79 r48 = some 5 then
                zcI (f_X6_isDeepEnough r48 x80 h79) zX fun x81 h82 =>
                if x81 = 0 then
                  f_X2_waiting_66 (f_X2_waiting_23 n) a0 a1 a2 h82
                else
                  if ztg h82 a1 = some 27 then
                    zcI (f_J37_add_2 a1 r48 h82) zX fun x83 h84 =>
                    f_X2_waiting_66 (f_X2_waiting_23 n) a0 a1 a2 h84
                  else
                  none
              else
              none
          else
          none
        else
        none
    else
    if ztg h a2 = some 21 then
      zcI (f_J16_hasNext a2 h) zX fun x9 h10 =>
      if x9 = 0 then
        zrR a1 h10
      else
        if ztg h10 a2 = some 8 then
          zcR (f_X9_next a2 h10) zX fun r85 h86 =>
          zcast h86 [5] r85 <|
          if ztg h86 r85 = some 5 then
            zcI (f_X6_isInDock r85 h86) zX fun x87 h88 =>
            if ¬ x87 = 0 then
              f_X2_waiting_66 (f_X2_waiting_23 n) a0 a1 a2 h88
            else
              zgI h88 [1] 3 a0 fun x89 =>
              if ztg h88 r85 = some 5 then
                zcI (f_X6_isDeepEnough r85 x89 h88) zX fun x90 h91 =>
                if x90 = 0 then
                  f_X2_waiting_66 (f_X2_waiting_23 n) a0 a1 a2 h91
                else
                  if ztg h91 a1 = some 27 then
                    zcI (f_J37_add_2 a1 r85 h91) zX fun x92 h93 =>
                    f_X2_waiting_66 (f_X2_waiting_23 n) a0 a1 a2 h93
                  else
                  none
              else
              none
          else
          none
        else
        if ztg h10 a2 = some 20 then
          zcR (f_J15_next a2 h10) zX fun r85 h86 =>
          zcast h86 [5] r85 <|
          if ztg h86 r85 = some 5 then
            zcI (f_X6_isInDock r85 h86) zX fun x94 h95 =>
            if ¬ x94 = 0 then
              f_X2_waiting_66 (f_X2_waiting_23 n) a0 a1 a2 h95
            else
              zgI h95 [1] 3 a0 fun x96 =>
              if ztg h95 r85 = some 5 then
                zcI (f_X6_isDeepEnough r85 x96 h95) zX fun x97 h98 =>
                if x97 = 0 then
                  f_X2_waiting_66 (f_X2_waiting_23 n) a0 a1 a2 h98
                else
                  if ztg h98 a1 = some 27 then
                    zcI (f_J37_add_2 a1 r85 h98) zX fun x99 h100 =>
                    f_X2_waiting_66 (f_X2_waiting_23 n) a0 a1 a2 h100
                  else
                  none
              else
              none
          else
          none
        else
        if ztg h10 a2 = some 21 then
          zcR (f_J17_next a2 h10) zX fun r85 h86 =>
          zcast h86 [5] r85 <|
          if ztg h86 r85 = some 5 then
            zcI (f_X6_isInDock r85 h86) zX fun x101 h102 =>
            if ¬ x101 = 0 then
              f_X2_waiting_66 (f_X2_waiting_23 n) a0 a1 a2 h102
            else
              zgI h102 [1] 3 a0 fun x103 =>
              if ztg h102 r85 = some 5 then
                zcI (f_X6_isDeepEnough r85 x103 h102) zX fun x104 h105 =>
                if x104 = 0 then
                  f_X2_waiting_66 (f_X2_waiting_23 n) a0 a1 a2 h105
                else
                  if ztg h105 a1 = some 27 then
                    zcI (f_J37_add_2 a1 r85 h105) zX fun x106 h107 =>
                    f_X2_waiting_66 (f_X2_waiting_23 n) a0 a1 a2 h107
                  else
                  none
              else
              none
          else
          none
        else
        if ztg h10 a2 = some 24 then
          zcR (f_J21_next a2 h10) zX fun r85 h86 =>
          zcast h86 [5] r85 <|
          if ztg h86 r85 = some 5 then
            zcI (f_X6_isInDock r85 h86) zX fun x108 h109 =>
            if ¬ x108 = 0 then
              f_X2_waiting_66 (f_X2_waiting_23 n) a0 a1 a2 h109
            else
              zgI h109 [1] 3 a0 fun x110 =>
              if ztg h109 r85 = some 5 then
                zcI (f_X6_isDeepEnough r85 x110 h109) zX fun x111 h112 =>
                if x111 = 0 then
                  f_X2_waiting_66 (f_X2_waiting_23 n) a0 a1 a2 h112
                else
                  if ztg h112 a1 = some 27 then
                    zcI (f_J37_add_2 a1 r85 h112) zX fun x113 h114 =>
                    f_X2_waiting_66 (f_X2_waiting_23 n) a0 a1 a2 h114
                  else
                  none
              else
              none
          else
          none
        else
        if ztg h10 a2 = some 25 then
          zcR (f_J22_next a2 h10) zX fun r85 h86 =>
          zcast h86 [5] r85 <|
          if ztg h86 r85 = some 5 then
            zcI (f_X6_isInDock r85 h86) zX fun x115 h116 =>
            if ¬ x115 = 0 then
              f_X2_waiting_66 (f_X2_waiting_23 n) a0 a1 a2 h116
            else
              zgI h116 [1] 3 a0 fun x117 =>
              if ztg h116 r85 = some 5 then
                zcI (f_X6_isDeepEnough r85 x117 h116) zX fun x118 h119 =>
                if x118 = 0 then
                  f_X2_waiting_66 (f_X2_waiting_23 n) a0 a1 a2 h119
                else
                  if ztg h119 a1 = some 27 then
                    zcI (f_J37_add_2 a1 r85 h119) zX fun x120 h121 =>
                    f_X2_waiting_66 (f_X2_waiting_23 n) a0 a1 a2 h121
                  else
                  none
              else
              none
          else
          none
        else
        none
    else
    if ztg h a2 = some 24 then
      zcI (f_J20_hasNext a2 h) zX fun x9 h10 =>
      if x9 = 0 then
        zrR a1 h10
      else
        if ztg h10 a2 = some 8 then
          zcR (f_X9_next a2 h10) zX fun r122 h123 =>
          zcast h123 [5] r122 <|
          if ztg h123 r122 = some 5 then
            zcI (f_X6_isInDock r122 h123) zX fun x124 h125 =>
            if ¬ x124 = 0 then
              f_X2_waiting_66 (f_X2_waiting_23 n) a0 a1 a2 h125
            else
              zgI h125 [1] 3 a0 fun x126 =>
              if ztg h125 r122 = some 5 then
                zcI (f_X6_isDeepEnough r122 x126 h125) zX fun x127 h128 =>
                if x127 = 0 then
                  f_X2_waiting_66 (f_X2_waiting_23 n) a0 a1 a2 h128
                else
                  if ztg h128 a1 = some 27 then
                    zcI (f_J37_add_2 a1 r122 h128) zX fun x129 h130 =>
                    f_X2_waiting_66 (f_X2_waiting_23 n) a0 a1 a2 h130
                  else
                  none
              else
              none
          else
          none
        else
        if ztg h10 a2 = some 20 then
          zcR (f_J15_next a2 h10) zX fun r122 h123 =>
          zcast h123 [5] r122 <|
          if ztg h123 r122 = some 5 then
            zcI (f_X6_isInDock r122 h123) zX fun x131 h132 =>
            if ¬ x131 = 0 then
              f_X2_waiting_66 (f_X2_waiting_23 n) a0 a1 a2 h132
            else
              zgI h132 [1] 3 a0 fun x133 =>
              if ztg h132 r122 = some 5 then
                zcI (f_X6_isDeepEnough r122 x133 h132) zX fun x134 h135 =>
                if x134 = 0 then
                  f_X2_waiting_66 (f_X2_waiting_23 n) a0 a1 a2 h135
                else
                  if ztg h135 a1 = some 27 then
                    zcI (f_J37_add_2 a1 r122 h135) zX fun x136 h137 =>
                    f_X2_waiting_66 (f_X2_waiting_23 n) a0 a1 a2 h137
                  else
                  none
              else
              none
          else
          none
        else
        if ztg h10 a2 = some 21 then
          zcR (f_J17_next a2 h10) zX fun r122 h123 =>
          zcast h123 [5] r122 <|
          if ztg h123 r122 = some 5 then
            zcI (f_X6_isInDock r122 h123) zX fun x138 h139 =>
            if ¬ x138 = 0 then
              f_X2_waiting_66 (f_X2_waiting_23 n) a0 a1 a2 h139
            else
              zgI h139 [1] 3 a0 fun x140 =>
              if ztg h139 r122 = some 5 then
                zcI (f_X6_isDeepEnough r122 x140 h139) zX fun x141 h142 =>
                if x141 = 0 then
                  f_X2_waiting_66 (f_X2_waiting_23 n) a0 a1 a2 h142
                else
                  if ztg h142 a1 = some 27 then
                    zcI (f_J37_add_2 a1 r122 h142) zX fun x143 h144 =>
                    f_X2_waiting_66 (f_X2_waiting_23 n) a0 a1 a2 h144
                  else
                  none
              else
              none
          else
          none
        else
        if ztg h10 a2 = some 24 then
          zcR (f_J21_next a2 h10) zX fun r122 h123 =>
          zcast h123 [5] r122 <|
          if ztg h123 r122 = some 5 then
            zcI (f_X6_isInDock r122 h123) zX fun x145 h146 =>
            if ¬ x145 = 0 then
              f_X2_waiting_66 (f_X2_waiting_23 n) a0 a1 a2 h146
            else
              zgI h146 [1] 3 a0 fun x147 =>
              if ztg h146 r122 = some 5 then
                zcI (f_X6_isDeepEnough r122 x147 h146) zX fun x148 h149 =>
                if x148 = 0 then
                  f_X2_waiting_66 (f_X2_waiting_23 n) a0 a1 a2 h149
                else
                  if ztg h149 a1 = some 27 then
                    zcI (f_J37_add_2 a1 r122 h149) zX fun x150 h151 =>
                    f_X2_waiting_66 (f_X2_waiting_23 n) a0 a1 a2 h151
                  else
                  none
              else
              none
          else
          none
        else
        if ztg h10 a2 = some 25 then
          zcR (f_J22_next a2 h10) zX fun r122 h123 =>
          zcast h123 [5] r122 <|
          if ztg h123 r122 = some 5 then
            zcI (f_X6_isInDock r122 h123) zX fun x152 h153 =>
            if ¬ x152 = 0 then
              f_X2_waiting_66 (f_X2_waiting_23 n) a0 a1 a2 h153
            else
              zgI h153 [1] 3 a0 fun x154 =>
              if ztg h153 r122 = some 5 then
                zcI (f_X6_isDeepEnough r122 x154 h153) zX fun x155 h156 =>
                if x155 = 0 then
                  f_X2_waiting_66 (f_X2_waiting_23 n) a0 a1 a2 h156
                else
                  if ztg h156 a1 = some 27 then
                    zcI (f_J37_add_2 a1 r122 h156) zX fun x157 h158 =>
                    f_X2_waiting_66 (f_X2_waiting_23 n) a0 a1 a2 h158
                  else
                  none
              else
              none
          else
          none
        else
        none
    else
    if ztg h a2 = some 25 then
      zcI (f_J20_hasNext a2 h) zX fun x9 h10 =>
      if x9 = 0 then
        zrR a1 h10
      else
        if ztg h10 a2 = some 8 then
          zcR (f_X9_next a2 h10) zX fun r159 h160 =>
          zcast h160 [5] r159 <|
          if ztg h160 r159 = some 5 then
            zcI (f_X6_isInDock r159 h160) zX fun x161 h162 =>
            if ¬ x161 = 0 then
              f_X2_waiting_66 (f_X2_waiting_23 n) a0 a1 a2 h162
            else
              zgI h162 [1] 3 a0 fun x163 =>
              if ztg h162 r159 = some 5 then
                zcI (f_X6_isDeepEnough r159 x163 h162) zX fun x164 h165 =>
                if x164 = 0 then
                  f_X2_waiting_66 (f_X2_waiting_23 n) a0 a1 a2 h165
                else
                  if ztg h165 a1 = some 27 then
                    zcI (f_J37_add_2 a1 r159 h165) zX fun x166 h167 =>
                    f_X2_waiting_66 (f_X2_waiting_23 n) a0 a1 a2 h167
                  else
                  none
              else
              none
          else
          none
        else
        if ztg h10 a2 = some 20 then
          zcR (f_J15_next a2 h10) zX fun r159 h160 =>
          zcast h160 [5] r159 <|
          if ztg h160 r159 = some 5 then
            zcI (f_X6_isInDock r159 h160) zX fun x168 h169 =>
            if ¬ x168 = 0 then
              f_X2_waiting_66 (f_X2_waiting_23 n) a0 a1 a2 h169
            else
              zgI h169 [1] 3 a0 fun x170 =>
              if ztg h169 r159 = some 5 then
                zcI (f_X6_isDeepEnough r159 x170 h169) zX fun x171 h172 =>
                if x171 = 0 then
                  f_X2_waiting_66 (f_X2_waiting_23 n) a0 a1 a2 h172
                else
                  if ztg h172 a1 = some 27 then
                    zcI (f_J37_add_2 a1 r159 h172) zX fun x173 h174 =>
                    f_X2_waiting_66 (f_X2_waiting_23 n) a0 a1 a2 h174
                  else
                  none
              else
              none
          else
          none
        else
        if ztg h10 a2 = some 21 then
          zcR (f_J17_next a2 h10) zX fun r159 h160 =>
          zcast h160 [5] r159 <|
          if ztg h160 r159 = some 5 then
            zcI (f_X6_isInDock r159 h160) zX fun x175 h176 =>
            if ¬ x175 = 0 then
              f_X2_waiting_66 (f_X2_waiting_23 n) a0 a1 a2 h176
            else
              zgI h176 [1] 3 a0 fun x177 =>
              if ztg h176 r159 = some 5 then
                zcI (f_X6_isDeepEnough r159 x177 h176) zX fun x178 h179 =>
                if x178 = 0 then
                  f_X2_waiting_66 (f_X2_waiting_23 n) a0 a1 a2 h179
                else
                  if ztg h179 a1 = some 27 then
                    zcI (f_J37_add_2 a1 r159 h179) zX fun x180 h181 =>
                    f_X2_waiting_66 (f_X2_waiting_23 n) a0 a1 a2 h181
                  else
                  none
              else
              none
          else
          none
        else
        if ztg h10 a2 = some 24 then
          zcR (f_J21_next a2 h10) zX fun r159 h160 =>
          zcast h160 [5] r159 <|
          if ztg h160 r159 = some 5 then
            zcI (f_X6_isInDock r159 h160) zX fun x182 h183 =>
            if ¬ x182 = 0 then
              f_X2_waiting_66 (f_X2_waiting_23 n) a0 a1 a2 h183
            else
              zgI h183 [1] 3 a0 fun x184 =>
              if ztg h183 r159 = some 5 then
                zcI (f_X6_isDeepEnough r159 x184 h183) zX fun x185 h186 =>
                if x185 = 0 then
                  f_X2_waiting_66 (f_X2_waiting_23 n) a0 a1 a2 h186
                else
                  if ztg h186 a1 = some 27 then
                    zcI (f_J37_add_2 a1 r159 h186) zX fun x187 h188 =>
                    f_X2_waiting_66 (f_X2_waiting_23 n) a0 a1 a2 h188
                  else
                  none
              else
              none
          else
          none
        else
        if ztg h10 a2 = some 25 then
          zcR (f_J22_next a2 h10) zX fun r159 h160 =>
          zcast h160 [5] r159 <|
          if ztg h160 r159 = some 5 then
            zcI (f_X6_isInDock r159 h160) zX fun x189 h190 =>
            if ¬ x189 = 0 then
              f_X2_waiting_66 (f_X2_waiting_23 n) a0 a1 a2 h190
            else
              zgI h190 [1] 3 a0 fun x191 =>
              if ztg h190 r159 = some 5 then
                zcI (f_X6_isDeepEnough r159 x191 h190) zX fun x192 h193 =>
                if x192 = 0 then
                  f_X2_waiting_66 (f_X2_waiting_23 n) a0 a1 a2 h193
                else
                  if ztg h193 a1 = some 27 then
                    zcI (f_J37_add_2 a1 r159 h193) zX fun x194 h195 =>
                    f_X2_waiting_66 (f_X2_waiting_23 n) a0 a1 a2 h195
                  else
                  none
              else
              none
          else
          none
        else
        none
    else
    none
def f_X2_waiting (v0 : Option Nat) (h : zH) : zO :=
  znO h 27 [.int 0, .null, .int 0] fun r1 h2 =>
  if ¬ r1 = none then
    zcV (f_J37_init r1 8 h2) zX fun h3 =>
    zgR h3 [1] 0 v0 fun r4 =>
    if ztg h3 r4 = some 13 then
      zcR (f_J2_values r4 h3) zX fun r5 h6 =>
      if ztg h6 r5 = some 19 then
        zcR (f_J13_iterator r5 h6) zX fun r7 h8 =>
        f_X2_waiting_23 zfuel v0 r1 r7 h8
      else
      none
    else
    none
  else none
def f_X4_init_37  : Nat → Option Nat → Option Nat → Int32 → zH → zO
  | 0, _, _, _, _ => none
  | n + 1, a0, a2, a3, h =>
    zgR h [3] 1 a0 fun r13 =>
    zaN h zarrs r13 fun x14 =>
    if x14 ≤ a3 then
      zrV h
    else
      zgR h [3] 1 a0 fun r15 =>
      if ztg h a2 = some 27 then
        zcR (f_J37_get a2 a3 h) zX fun r16 h17 =>
        zcast h17 [2] r16 <|
        zgI h17 [2] 1 r16 fun x18 =>
        zaS h17 [200] r15 a3 (.int x18) fun h19 =>
        znm (a3 + 1) fun x20 =>
        f_X4_init_37 n a0 a2 x20 h19
      else
      none
def f_X4_init (v0 : Option Nat) (v1 : Option Nat) (h : zH) : zO :=
  zpF h [3] 3 v0 (va_rf v1) fun h1 =>
  if ¬ v0 = none then
    zgR h1 [3] 3 v0 fun r2 =>
    if ztg h1 r2 = some 1 then
      zcR (f_X2_waiting r2 h1) zX fun r3 h4 =>
      zpF h4 [3] 0 v0 (va_rf r3) fun h5 =>
      if ztg h5 v1 = some 1 then
        zcR (f_X2_gaps v1 h5) zX fun r6 h7 =>
        if ztg h7 r6 = some 27 then
          zcI (f_J37_size r6 h7) zX fun x8 h9 =>
          znA h9 200 4 (.int 0) x8 fun r10 h11 =>
          zpF h11 [3] 1 v0 (va_rf r10) fun h12 =>
          f_X4_init_37 zfuel v0 r6 0 h12
        else
        none
      else
      none
    else
    none
  else none
def f_X4_pack_113 (RC : Option Nat → Int32 → Int32 → zH → zO) (K60 : Option Nat → Int32 → Int32 → Int32 → Int32 → zH → zO) (a0 : Option Nat) (a1 : Int32) (a2 : Int32) (a3 : Int32) (a4 : Int32) (h : zH) : zO :=
  znm (a4 + 1) fun x27 =>
  K60 a0 a1 a2 a3 x27 h
def f_X4_pack_119 (RC : Option Nat → Int32 → Int32 → zH → zO)  (a0 : Option Nat) (a1 : Int32) (a2 : Int32) (h : zH) : zO :=
  if ztg h a0 = some 3 then
    zcV (RC a0 (a1 + 1) a2 h) zX fun h28 =>
    zrV h28
  else
  none
def f_X4_pack_60 (RC : Option Nat → Int32 → Int32 → zH → zO)  : Nat → Option Nat → Int32 → Int32 → Int32 → Int32 → zH → zO
  | 0, _, _, _, _, _, _ => none
  | n + 1, a0, a1, a2, a3, a4, h =>
    zgR h [3] 1 a0 fun r16 =>
    zaN h zarrs r16 fun x17 =>
    if x17 ≤ a4 then
      f_X4_pack_119 RC a0 a1 a2 h
    else
      zgR h [3] 1 a0 fun r18 =>
      zaI h [200] r18 a4 fun x19 =>
      if x19 < a3 then
        f_X4_pack_113 RC (f_X4_pack_60 RC n) a0 a1 a2 a3 a4 h
      else
        zgR h [3] 1 a0 fun r20 =>
        zaI h [200] r20 a4 fun x21 =>
        zaS h [200] r20 a4 (.int (x21 - a3)) fun h22 =>
        if ztg h22 a0 = some 3 then
          zcV (RC a0 (a1 + 1) (a2 + 1) h22) zX fun h23 =>
          zgR h23 [3] 1 a0 fun r24 =>
          zaI h23 [200] r24 a4 fun x25 =>
          zaS h23 [200] r24 a4 (.int (x25 + a3)) fun h26 =>
          f_X4_pack_113 RC (f_X4_pack_60 RC n) a0 a1 a2 a3 a4 h26
        else
        none
def g_X4_pack (RC : Option Nat → Int32 → Int32 → zH → zO) (v0 : Option Nat) (v1 : Int32) (v2 : Int32) (h : zH) : zO :=
  zgI h [3] 2 v0 fun x1 =>
  zcI (f_J11_max x1 v2 h) zX fun x2 h3 =>
  zpF h3 [3] 2 v0 (.int x2) fun h4 =>
  zgR h4 [3] 0 v0 fun r5 =>
  if ztg h4 r5 = some 27 then
    zcI (f_J37_size r5 h4) zX fun x6 h7 =>
    if v1 = x6 then
      zrV h7
    else
      zgR h7 [3] 0 v0 fun r8 =>
      if ztg h7 r8 = some 27 then
        zcI (f_J37_size r8 h7) zX fun x9 h10 =>
        zgI h10 [3] 2 v0 fun x11 =>
        if x11 < ((v2 + x9) - v1) then
          zgR h10 [3] 0 v0 fun r12 =>
          if ztg h10 r12 = some 27 then
            zcR (f_J37_get r12 v1 h10) zX fun r13 h14 =>
            zcast h14 [5] r13 <|
            zgI h14 [5] 1 r13 fun x15 =>
            f_X4_pack_60 RC zfuel v0 v1 v2 x15 0 h14
          else
          none
        else
          zrV h10
      else
      none
  else
  none
def f_X4_pack : Nat → Option Nat → Int32 → Int32 → zH → zO
  | 0, _, _, _, _ => none
  | n + 1, v0, v1, v2, h => g_X4_pack (f_X4_pack n) v0 v1 v2 h
def f_X2_mostByTrying (v0 : Option Nat) (h : zH) : zO :=
  znO h 3 [.null, .null, .int 0, .null] fun r1 h2 =>
  if ¬ r1 = none then
    zcV (f_X4_init r1 v0 h2) zX fun h3 =>
    if ztg h3 r1 = some 3 then
      zcV (f_X4_pack 12 r1 0 0 h3) zX fun h4 =>
      zgI h4 [3] 2 r1 fun x5 =>
      zrI x5 h4
    else
    none
  else none
def f_X1_lambda_new_5 (v0 : Option Nat) (h : zH) : zO :=
  if ztg h v0 = some 1 then
    zcI (f_X2_mostByTrying v0 h) zX fun x1 h2 =>
    zrI x1 h2
  else
  none
def f_X2_lengths_11  : Nat → Option Nat → Option Nat → Int32 → zH → zO
  | 0, _, _, _, _ => none
  | n + 1, a1, a2, a3, h =>
    zaN h zarrs a2 fun x5 =>
    if x5 ≤ a3 then
      zrR a2 h
    else
      zcI (f_J24_numberOfTrailingZeros a3 h) zX fun x6 h7 =>
      zaI h7 [200] a2 (a3 &&& (a3 - 1)) fun x8 =>
      if ztg h7 a1 = some 27 then
        zcR (f_J37_get a1 x6 h7) zX fun r9 h10 =>
        zcast h10 [5] r9 <|
        zgI h10 [5] 1 r9 fun x11 =>
        zaS h10 [200] a2 a3 (.int (x8 + x11)) fun h12 =>
        znm (a3 + 1) fun x13 =>
        f_X2_lengths_11 n a1 a2 x13 h12
      else
      none
def f_X2_lengths (v0 : Option Nat) (v1 : Option Nat) (h : zH) : zO :=
  if ztg h v1 = some 27 then
    zcI (f_J37_size v1 h) zX fun x1 h2 =>
    znA h2 200 4 (.int 0) ((1 : Int32) <<< (x1 &&& 31)) fun r3 h4 =>
    f_X2_lengths_11 zfuel v1 r3 1 h4
  else
  none
def f_X2_fitting_94 (K17 : Option Nat → Option Nat → Option Nat → zH → zO) (K43 : Option Nat → Option Nat → Option Nat → Option Nat → Int32 → zH → zO) (K52 : Option Nat → Option Nat → Option Nat → Option Nat → Int32 → Int32 → zH → zO) (a1 : Option Nat) (a2 : Option Nat) (a3 : Option Nat) (a4 : Option Nat) (a5 : Int32) (a6 : Int32) (s0 : Int32) (s1 : Int32) (s2 : Option Nat) (h : zH) : zO :=
  zaS h [201] s2 s1 (.int (s0 &&& 1)) fun h75 =>
  znm ((a6 - 1) &&& a5) fun x76 =>
  K52 a1 a2 a3 a4 a5 x76 h75
def f_X2_fitting_93 (K17 : Option Nat → Option Nat → Option Nat → zH → zO) (K43 : Option Nat → Option Nat → Option Nat → Option Nat → Int32 → zH → zO) (K52 : Option Nat → Option Nat → Option Nat → Option Nat → Int32 → Int32 → zH → zO) (a1 : Option Nat) (a2 : Option Nat) (a3 : Option Nat) (a4 : Option Nat) (a5 : Int32) (a6 : Int32) (s0 : Int32) (s1 : Option Nat) (h : zH) : zO :=
  f_X2_fitting_94 K17 K43 K52 a1 a2 a3 a4 a5 a6 0 s0 s1 h
def f_X2_fitting_107 (K17 : Option Nat → Option Nat → Option Nat → zH → zO) (K43 : Option Nat → Option Nat → Option Nat → Option Nat → Int32 → zH → zO) (a1 : Option Nat) (a2 : Option Nat) (a3 : Option Nat) (a4 : Option Nat) (a5 : Int32) (h : zH) : zO :=
  znm (a5 + (-1)) fun x77 =>
  K43 a1 a2 a3 a4 x77 h
def f_X2_fitting_52 (K17 : Option Nat → Option Nat → Option Nat → zH → zO) (K43 : Option Nat → Option Nat → Option Nat → Option Nat → Int32 → zH → zO) : Nat → Option Nat → Option Nat → Option Nat → Option Nat → Int32 → Int32 → zH → zO
  | 0, _, _, _, _, _, _, _ => none
  | n + 1, a1, a2, a3, a4, a5, a6, h =>
    if a6 ≤ 0 then
      f_X2_fitting_107 K17 K43 a1 a2 a3 a4 a5 h
    else
      zaI h [201] a2 a5 fun x71 =>
      if ¬ x71 = 0 then
        f_X2_fitting_107 K17 K43 a1 a2 a3 a4 a5 h
      else
        zaI h [200] a1 a6 fun x72 =>
        zgI h [2] 1 a4 fun x73 =>
        if x73 < x72 then
          f_X2_fitting_93 K17 K43 (f_X2_fitting_52 K17 K43 n) a1 a2 a3 a4 a5 a6 a5 a2 h
        else
          zaI h [201] a2 (a5 ^^^ a6) fun x74 =>
          if x74 = 0 then
            f_X2_fitting_93 K17 K43 (f_X2_fitting_52 K17 K43 n) a1 a2 a3 a4 a5 a6 a5 a2 h
          else
            f_X2_fitting_94 K17 K43 (f_X2_fitting_52 K17 K43 n) a1 a2 a3 a4 a5 a6 1 a5 a2 h
def f_X2_fitting_113 (K17 : Option Nat → Option Nat → Option Nat → zH → zO) (a1 : Option Nat) (a2 : Option Nat) (a3 : Option Nat) (h : zH) : zO :=
  K17 a1 a2 a3 h
def f_X2_fitting_43 (K17 : Option Nat → Option Nat → Option Nat → zH → zO) : Nat → Option Nat → Option Nat → Option Nat → Option Nat → Int32 → zH → zO
  | 0, _, _, _, _, _, _ => none
  | n + 1, a1, a2, a3, a4, a5, h =>
    if a5 ≤ 0 then
      f_X2_fitting_113 K17 a1 a2 a3 h
    else
      f_X2_fitting_52 K17 (f_X2_fitting_43 K17 n) zfuel a1 a2 a3 a4 a5 a5 h
def f_X2_fitting_17  : Nat → Option Nat → Option Nat → Option Nat → zH → zO
  | 0, _, _, _, _ => none
  | n + 1, a1, a2, a3, h =>
    if ztg h a3 = some 8 then
      zcI (f_X9_hasNext a3 h) zX fun x9 h10 =>
      if x9 = 0 then
        zrR a2 h10
      else
        if ztg h10 a3 = some 8 then
          zcR (f_X9_next a3 h10) zX fun r11 h12 =>
          zcast h12 [2] r11 <|
          zaN h12 zarrs a1 fun x13 =>
          znm (x13 - 1) fun x14 =>
          f_X2_fitting_43 (f_X2_fitting_17 n) zfuel a1 a2 a3 r11 x14 h12
        else
        if ztg h10 a3 = some 20 then
          zcR (f_J15_next a3 h10) zX fun r11 h12 =>
          zcast h12 [2] r11 <|
          zaN h12 zarrs a1 fun x15 =>
          znm (x15 - 1) fun x16 =>
          f_X2_fitting_43 (f_X2_fitting_17 n) zfuel a1 a2 a3 r11 x16 h12
        else
        if ztg h10 a3 = some 21 then
          zcR (f_J17_next a3 h10) zX fun r11 h12 =>
          zcast h12 [2] r11 <|
          zaN h12 zarrs a1 fun x17 =>
          znm (x17 - 1) fun x18 =>
          f_X2_fitting_43 (f_X2_fitting_17 n) zfuel a1 a2 a3 r11 x18 h12
        else
        if ztg h10 a3 = some 24 then
          zcR (f_J21_next a3 h10) zX fun r11 h12 =>
          zcast h12 [2] r11 <|
          zaN h12 zarrs a1 fun x19 =>
          znm (x19 - 1) fun x20 =>
          f_X2_fitting_43 (f_X2_fitting_17 n) zfuel a1 a2 a3 r11 x20 h12
        else
        if ztg h10 a3 = some 25 then
          zcR (f_J22_next a3 h10) zX fun r11 h12 =>
          zcast h12 [2] r11 <|
          zaN h12 zarrs a1 fun x21 =>
          znm (x21 - 1) fun x22 =>
          f_X2_fitting_43 (f_X2_fitting_17 n) zfuel a1 a2 a3 r11 x22 h12
        else
        none
    else
    if ztg h a3 = some 20 then
      zcI (f_J15_hasNext a3 h) zX fun x9 h10 =>
      if x9 = 0 then
        zrR a2 h10
      else
        if ztg h10 a3 = some 8 then
          zcR (f_X9_next a3 h10) zX fun r23 h24 =>
          zcast h24 [2] r23 <|
          zaN h24 zarrs a1 fun x25 =>
          znm (x25 - 1) fun x26 =>
          f_X2_fitting_43 (f_X2_fitting_17 n) zfuel a1 a2 a3 r23 x26 h24
        else
        if ztg h10 a3 = some 20 then
          zcR (f_J15_next a3 h10) zX fun r23 h24 =>
          zcast h24 [2] r23 <|
          zaN h24 zarrs a1 fun x27 =>
          znm (x27 - 1) fun x28 =>
          f_X2_fitting_43 (f_X2_fitting_17 n) zfuel a1 a2 a3 r23 x28 h24
        else
        if ztg h10 a3 = some 21 then
          zcR (f_J17_next a3 h10) zX fun r23 h24 =>
          zcast h24 [2] r23 <|
          zaN h24 zarrs a1 fun x29 =>
          znm (x29 - 1) fun x30 =>
          f_X2_fitting_43 (f_X2_fitting_17 n) zfuel a1 a2 a3 r23 x30 h24
        else
        if ztg h10 a3 = some 24 then
          zcR (f_J21_next a3 h10) zX fun r23 h24 =>
          zcast h24 [2] r23 <|
          zaN h24 zarrs a1 fun x31 =>
          znm (x31 - 1) fun x32 =>
          f_X2_fitting_43 (f_X2_fitting_17 n) zfuel a1 a2 a3 r23 x32 h24
        else
        if ztg h10 a3 = some 25 then
          zcR (f_J22_next a3 h10) zX fun r23 h24 =>
          zcast h24 [2] r23 <|
          zaN h24 zarrs a1 fun x33 =>
          znm (x33 - 1) fun x34 =>
          f_X2_fitting_43 (f_X2_fitting_17 n) zfuel a1 a2 a3 r23 x34 h24
        else
        none
    else
    if ztg h a3 = some 21 then
      zcI (f_J16_hasNext a3 h) zX fun x9 h10 =>
      if x9 = 0 then
        zrR a2 h10
      else
        if ztg h10 a3 = some 8 then
          zcR (f_X9_next a3 h10) zX fun r35 h36 =>
          zcast h36 [2] r35 <|
          zaN h36 zarrs a1 fun x37 =>
          znm (x37 - 1) fun x38 =>
          f_X2_fitting_43 (f_X2_fitting_17 n) zfuel a1 a2 a3 r35 x38 h36
        else
        if ztg h10 a3 = some 20 then
          zcR (f_J15_next a3 h10) zX fun r35 h36 =>
          zcast h36 [2] r35 <|
          zaN h36 zarrs a1 fun x39 =>
          znm (x39 - 1) fun x40 =>
          f_X2_fitting_43 (f_X2_fitting_17 n) zfuel a1 a2 a3 r35 x40 h36
        else
        if ztg h10 a3 = some 21 then
          zcR (f_J17_next a3 h10) zX fun r35 h36 =>
          zcast h36 [2] r35 <|
          zaN h36 zarrs a1 fun x41 =>
          znm (x41 - 1) fun x42 =>
          f_X2_fitting_43 (f_X2_fitting_17 n) zfuel a1 a2 a3 r35 x42 h36
        else
        if ztg h10 a3 = some 24 then
          zcR (f_J21_next a3 h10) zX fun r35 h36 =>
          zcast h36 [2] r35 <|
          zaN h36 zarrs a1 fun x43 =>
          znm (x43 - 1) fun x44 =>
          f_X2_fitting_43 (f_X2_fitting_17 n) zfuel a1 a2 a3 r35 x44 h36
        else
        if ztg h10 a3 = some 25 then
          zcR (f_J22_next a3 h10) zX fun r35 h36 =>
          zcast h36 [2] r35 <|
          zaN h36 zarrs a1 fun x45 =>
          znm (x45 - 1) fun x46 =>
          f_X2_fitting_43 (f_X2_fitting_17 n) zfuel a1 a2 a3 r35 x46 h36
        else
        none
    else
    if ztg h a3 = some 24 then
      zcI (f_J20_hasNext a3 h) zX fun x9 h10 =>
      if x9 = 0 then
        zrR a2 h10
      else
        if ztg h10 a3 = some 8 then
          zcR (f_X9_next a3 h10) zX fun r47 h48 =>
          zcast h48 [2] r47 <|
          zaN h48 zarrs a1 fun x49 =>
          znm (x49 - 1) fun x50 =>
          f_X2_fitting_43 (f_X2_fitting_17 n) zfuel a1 a2 a3 r47 x50 h48
        else
        if ztg h10 a3 = some 20 then
          zcR (f_J15_next a3 h10) zX fun r47 h48 =>
          zcast h48 [2] r47 <|
          zaN h48 zarrs a1 fun x51 =>
          znm (x51 - 1) fun x52 =>
          f_X2_fitting_43 (f_X2_fitting_17 n) zfuel a1 a2 a3 r47 x52 h48
        else
        if ztg h10 a3 = some 21 then
          zcR (f_J17_next a3 h10) zX fun r47 h48 =>
          zcast h48 [2] r47 <|
          zaN h48 zarrs a1 fun x53 =>
          znm (x53 - 1) fun x54 =>
          f_X2_fitting_43 (f_X2_fitting_17 n) zfuel a1 a2 a3 r47 x54 h48
        else
        if ztg h10 a3 = some 24 then
          zcR (f_J21_next a3 h10) zX fun r47 h48 =>
          zcast h48 [2] r47 <|
          zaN h48 zarrs a1 fun x55 =>
          znm (x55 - 1) fun x56 =>
          f_X2_fitting_43 (f_X2_fitting_17 n) zfuel a1 a2 a3 r47 x56 h48
        else
        if ztg h10 a3 = some 25 then
          zcR (f_J22_next a3 h10) zX fun r47 h48 =>
          zcast h48 [2] r47 <|
          zaN h48 zarrs a1 fun x57 =>
          znm (x57 - 1) fun x58 =>
          f_X2_fitting_43 (f_X2_fitting_17 n) zfuel a1 a2 a3 r47 x58 h48
        else
        none
    else
    if ztg h a3 = some 25 then
      zcI (f_J20_hasNext a3 h) zX fun x9 h10 =>
      if x9 = 0 then
        zrR a2 h10
      else
        if ztg h10 a3 = some 8 then
          zcR (f_X9_next a3 h10) zX fun r59 h60 =>
          zcast h60 [2] r59 <|
          zaN h60 zarrs a1 fun x61 =>
          znm (x61 - 1) fun x62 =>
          f_X2_fitting_43 (f_X2_fitting_17 n) zfuel a1 a2 a3 r59 x62 h60
        else
        if ztg h10 a3 = some 20 then
          zcR (f_J15_next a3 h10) zX fun r59 h60 =>
          zcast h60 [2] r59 <|
          zaN h60 zarrs a1 fun x63 =>
          znm (x63 - 1) fun x64 =>
          f_X2_fitting_43 (f_X2_fitting_17 n) zfuel a1 a2 a3 r59 x64 h60
        else
        if ztg h10 a3 = some 21 then
          zcR (f_J17_next a3 h10) zX fun r59 h60 =>
          zcast h60 [2] r59 <|
          zaN h60 zarrs a1 fun x65 =>
          znm (x65 - 1) fun x66 =>
          f_X2_fitting_43 (f_X2_fitting_17 n) zfuel a1 a2 a3 r59 x66 h60
        else
        if ztg h10 a3 = some 24 then
          zcR (f_J21_next a3 h10) zX fun r59 h60 =>
          zcast h60 [2] r59 <|
          zaN h60 zarrs a1 fun x67 =>
          znm (x67 - 1) fun x68 =>
          f_X2_fitting_43 (f_X2_fitting_17 n) zfuel a1 a2 a3 r59 x68 h60
        else
        if ztg h10 a3 = some 25 then
          zcR (f_J22_next a3 h10) zX fun r59 h60 =>
          zcast h60 [2] r59 <|
          zaN h60 zarrs a1 fun x69 =>
          znm (x69 - 1) fun x70 =>
          f_X2_fitting_43 (f_X2_fitting_17 n) zfuel a1 a2 a3 r59 x70 h60
        else
        none
    else
    none
def f_X2_fitting (v0 : Option Nat) (v1 : Option Nat) (h : zH) : zO :=
  zaN h zarrs v1 fun x1 =>
  znA h 201 1 (.int 0) x1 fun r2 h3 =>
  zaS h3 [201] r2 0 (.int ((1 : Int32) &&& 1)) fun h4 =>
  if ztg h4 v0 = some 1 then
    zcR (f_X2_gaps v0 h4) zX fun r5 h6 =>
    if ztg h6 r5 = some 27 then
      zcR (f_J37_iterator r5 h6) zX fun r7 h8 =>
      f_X2_fitting_17 zfuel v1 r2 r7 h8
    else
    none
  else
  none
def f_J24_bitCount (v0 : Int32) (h : zH) : zO :=
  znm (v0 - (((v0.toUInt32 >>> ((1 : Int32).toUInt32 &&& Int32.toUInt32 31)).toInt32) &&& 1431655765)) fun x1 =>
  znm ((x1 &&& 858993459) + (((x1.toUInt32 >>> ((2 : Int32).toUInt32 &&& Int32.toUInt32 31)).toInt32) &&& 858993459)) fun x2 =>
  znm ((x2 + ((x2.toUInt32 >>> ((4 : Int32).toUInt32 &&& Int32.toUInt32 31)).toInt32)) &&& 252645135) fun x3 =>
  znm (x3 + ((x3.toUInt32 >>> ((8 : Int32).toUInt32 &&& Int32.toUInt32 31)).toInt32)) fun x4 =>
  znm (x4 + ((x4.toUInt32 >>> ((16 : Int32).toUInt32 &&& Int32.toUInt32 31)).toInt32)) fun x5 =>
  zrI (x5 &&& 63) h
def f_X2_mostByTable_41 (K17 : Option Nat → Int32 → Int32 → zH → zO) (a1 : Option Nat) (a3 : Int32) (s0 : Int32) (h : zH) : zO :=
  znm (a3 + 1) fun x13 =>
  K17 a1 s0 x13 h
def f_X2_mostByTable_17  : Nat → Option Nat → Int32 → Int32 → zH → zO
  | 0, _, _, _, _ => none
  | n + 1, a1, a2, a3, h =>
    zaN h zarrs a1 fun x7 =>
    if x7 ≤ a3 then
      zrI a2 h
    else
      zaI h [201] a1 a3 fun x8 =>
      if x8 = 0 then
        f_X2_mostByTable_41 (f_X2_mostByTable_17 n) a1 a3 a2 h
      else
        zcI (f_J24_bitCount a3 h) zX fun x9 h10 =>
        zcI (f_J11_max a2 x9 h10) zX fun x11 h12 =>
        f_X2_mostByTable_41 (f_X2_mostByTable_17 n) a1 a3 x11 h12
def f_X2_mostByTable (v0 : Option Nat) (h : zH) : zO :=
  if ztg h v0 = some 1 then
    zcR (f_X2_waiting v0 h) zX fun r1 h2 =>
    if ztg h2 v0 = some 1 then
      zcR (f_X2_lengths v0 r1 h2) zX fun r3 h4 =>
      if ztg h4 v0 = some 1 then
        zcR (f_X2_fitting v0 r3 h4) zX fun r5 h6 =>
        f_X2_mostByTable_17 zfuel r5 0 0 h6
      else
      none
    else
    none
  else
  none
def f_X1_lambda_new_6 (v0 : Option Nat) (h : zH) : zO :=
  if ztg h v0 = some 1 then
    zcI (f_X2_mostByTable v0 h) zX fun x1 h2 =>
    zrI x1 h2
  else
  none
def f_X1_shipCount (v0 : Option Nat) (h : zH) : zO :=
  zgR h [0] 3 v0 fun r1 =>
  zgR h [1] 0 r1 fun r2 =>
  if ztg h r2 = some 13 then
    zcI (f_J1_size r2 h) zX fun x3 h4 =>
    zrI x3 h4
  else
  none
def f_X1_isGateOpen (v0 : Option Nat) (h : zH) : zO :=
  zgR h [0] 3 v0 fun r1 =>
  zgI h [1] 6 r1 fun x2 =>
  zrN .boolean x2 h
def f_X1_level (v0 : Option Nat) (h : zH) : zO :=
  zgR h [0] 3 v0 fun r1 =>
  zgI h [1] 3 r1 fun x2 =>
  zrI x2 h
def f_X1_hour (v0 : Option Nat) (h : zH) : zO :=
  zgR h [0] 3 v0 fun r1 =>
  zgI h [1] 4 r1 fun x2 =>
  zrI x2 h
def f_J35_bitCount (v0 : Int64) (h : zH) : zO :=
  znm (v0 - (((v0.toUInt64 >>> ((1 : Int32).toInt64.toUInt64 &&& Int64.toUInt64 63)).toInt64) &&& 6148914691236517205)) fun x1 =>
  znm ((x1 &&& 3689348814741910323) + (((x1.toUInt64 >>> ((2 : Int32).toInt64.toUInt64 &&& Int64.toUInt64 63)).toInt64) &&& 3689348814741910323)) fun x2 =>
  znm ((x2 + ((x2.toUInt64 >>> ((4 : Int32).toInt64.toUInt64 &&& Int64.toUInt64 63)).toInt64)) &&& 1085102592571150095) fun x3 =>
  znm (x3 + ((x3.toUInt64 >>> ((8 : Int32).toInt64.toUInt64 &&& Int64.toUInt64 63)).toInt64)) fun x4 =>
  znm (x4 + ((x4.toUInt64 >>> ((16 : Int32).toInt64.toUInt64 &&& Int64.toUInt64 63)).toInt64)) fun x5 =>
  znm (x5 + ((x5.toUInt64 >>> ((32 : Int32).toInt64.toUInt64 &&& Int64.toUInt64 63)).toInt64)) fun x6 =>
  zrI ((x6.toInt32) &&& 127) h
def f_J12_cardinality_4  : Nat → Option Nat → Int32 → Int32 → zH → zO
  | 0, _, _, _, _ => none
  | n + 1, a0, a1, a2, h =>
    zgI h [18] 1 a0 fun x1 =>
    if x1 ≤ a2 then
      zrI a1 h
    else
      zgR h [18] 0 a0 fun r2 =>
      zaL h [202] r2 a2 fun x3 =>
      zcI (f_J35_bitCount x3 h) zX fun x4 h5 =>
      znm (a1 + x4) fun x6 =>
      znm (a2 + 1) fun x7 =>
      f_J12_cardinality_4 n a0 x6 x7 h5
def f_J12_cardinality (v0 : Option Nat) (h : zH) : zO :=
  f_J12_cardinality_4 zfuel v0 0 0 h
def f_X2_freeMetres (v0 : Option Nat) (h : zH) : zO :=
  if ztg h v0 = some 1 then
    zcR (f_X2_taken v0 h) zX fun r1 h2 =>
    if ztg h2 r1 = some 18 then
      zcI (f_J12_cardinality r1 h2) zX fun x3 h4 =>
      zrI ((60 : Int32) - x3) h4
    else
    none
  else
  none
def f_X1_freeMetres (v0 : Option Nat) (h : zH) : zO :=
  zgR h [0] 3 v0 fun r1 =>
  if ztg h r1 = some 1 then
    zcI (f_X2_freeMetres r1 h) zX fun x2 h3 =>
    zrI x2 h3
  else
  none
def f_pk_most (v0 : Option Nat) (v1 : Option Nat) (h : zH) : zO :=
  if ztg h v0 = some 305 then zlv0 h v0 (zcI (f_X1_lambda_new_5 v1 h) zX fun x h1 => zrI x h1) else
  if ztg h v0 = some 306 then zlv0 h v0 (zcI (f_X1_lambda_new_6 v1 h) zX fun x h1 => zrI x h1) else
  none
def f_X1_mostFitting (v0 : Option Nat) (h : zH) : zO :=
  zgR h [0] 2 v0 fun r1 =>
  zaR h zrefs r1 0 fun r2 =>
  zgR h [0] 3 v0 fun r3 =>
  zcI (f_pk_most r2 r3 h) zX fun x4 h5 =>
  zrI x4 h5
def f_X1_mostFittingByTable (v0 : Option Nat) (h : zH) : zO :=
  zgR h [0] 2 v0 fun r1 =>
  zaR h zrefs r1 1 fun r2 =>
  zgR h [0] 3 v0 fun r3 =>
  zcI (f_pk_most r2 r3 h) zX fun x4 h5 =>
  zrI x4 h5
def f_X2_mostMetres_46 (K20 : Option Nat → Option Nat → Int32 → Int32 → zH → zO) (a1 : Option Nat) (a2 : Option Nat) (a4 : Int32) (s0 : Int32) (h : zH) : zO :=
  znm (a4 + 1) fun x12 =>
  K20 a1 a2 s0 x12 h
def f_X2_mostMetres_20  : Nat → Option Nat → Option Nat → Int32 → Int32 → zH → zO
  | 0, _, _, _, _, _ => none
  | n + 1, a1, a2, a3, a4, h =>
    zaN h zarrs a2 fun x7 =>
    if x7 ≤ a4 then
      zrI a3 h
    else
      zaI h [201] a2 a4 fun x8 =>
      if x8 = 0 then
        f_X2_mostMetres_46 (f_X2_mostMetres_20 n) a1 a2 a4 a3 h
      else
        zaI h [200] a1 a4 fun x9 =>
        zcI (f_J11_max a3 x9 h) zX fun x10 h11 =>
        f_X2_mostMetres_46 (f_X2_mostMetres_20 n) a1 a2 a4 x10 h11
def f_X2_mostMetres (v0 : Option Nat) (h : zH) : zO :=
  if ztg h v0 = some 1 then
    zcR (f_X2_waiting v0 h) zX fun r1 h2 =>
    if ztg h2 v0 = some 1 then
      zcR (f_X2_lengths v0 r1 h2) zX fun r3 h4 =>
      if ztg h4 v0 = some 1 then
        zcR (f_X2_fitting v0 r3 h4) zX fun r5 h6 =>
        f_X2_mostMetres_20 zfuel r3 r5 0 0 h6
      else
      none
    else
    none
  else
  none
def f_X1_mostFittingMetres (v0 : Option Nat) (h : zH) : zO :=
  zgR h [0] 3 v0 fun r1 =>
  if ztg h r1 = some 1 then
    zcI (f_X2_mostMetres r1 h) zX fun x2 h3 =>
    zrI x2 h3
  else
  none
def f_X2_bills_15  : Nat → Int32 → Option Nat → zH → zO
  | 0, _, _, _ => none
  | n + 1, a1, a2, h =>
    if ztg h a2 = some 8 then
      zcI (f_X9_hasNext a2 h) zX fun x6 h7 =>
      if x6 = 0 then
        zrI a1 h7
      else
        if ztg h7 a2 = some 8 then
          zcR (f_X9_next a2 h7) zX fun r8 h9 =>
          zcast h9 [5] r8 <|
          zgI h9 [5] 5 r8 fun x10 =>
          znm (a1 + x10) fun x11 =>
          f_X2_bills_15 n x11 a2 h9
        else
        if ztg h7 a2 = some 20 then
          zcR (f_J15_next a2 h7) zX fun r8 h9 =>
          zcast h9 [5] r8 <|
          zgI h9 [5] 5 r8 fun x12 =>
          znm (a1 + x12) fun x13 =>
          f_X2_bills_15 n x13 a2 h9
        else
        if ztg h7 a2 = some 21 then
          zcR (f_J17_next a2 h7) zX fun r8 h9 =>
          zcast h9 [5] r8 <|
          zgI h9 [5] 5 r8 fun x14 =>
          znm (a1 + x14) fun x15 =>
          f_X2_bills_15 n x15 a2 h9
        else
        if ztg h7 a2 = some 24 then
          zcR (f_J21_next a2 h7) zX fun r8 h9 =>
          zcast h9 [5] r8 <|
          zgI h9 [5] 5 r8 fun x16 =>
          znm (a1 + x16) fun x17 =>
          f_X2_bills_15 n x17 a2 h9
        else
        if ztg h7 a2 = some 25 then
          zcR (f_J22_next a2 h7) zX fun r8 h9 =>
          zcast h9 [5] r8 <|
          zgI h9 [5] 5 r8 fun x18 =>
          znm (a1 + x18) fun x19 =>
          f_X2_bills_15 n x19 a2 h9
        else
        none
    else
    if ztg h a2 = some 20 then
      zcI (f_J15_hasNext a2 h) zX fun x6 h7 =>
      if x6 = 0 then
        zrI a1 h7
      else
        if ztg h7 a2 = some 8 then
          zcR (f_X9_next a2 h7) zX fun r20 h21 =>
          zcast h21 [5] r20 <|
          zgI h21 [5] 5 r20 fun x22 =>
          znm (a1 + x22) fun x23 =>
          f_X2_bills_15 n x23 a2 h21
        else
        if ztg h7 a2 = some 20 then
          zcR (f_J15_next a2 h7) zX fun r20 h21 =>
          zcast h21 [5] r20 <|
          zgI h21 [5] 5 r20 fun x24 =>
          znm (a1 + x24) fun x25 =>
          f_X2_bills_15 n x25 a2 h21
        else
        if ztg h7 a2 = some 21 then
          zcR (f_J17_next a2 h7) zX fun r20 h21 =>
          zcast h21 [5] r20 <|
          zgI h21 [5] 5 r20 fun x26 =>
          znm (a1 + x26) fun x27 =>
          f_X2_bills_15 n x27 a2 h21
        else
        if ztg h7 a2 = some 24 then
          zcR (f_J21_next a2 h7) zX fun r20 h21 =>
          zcast h21 [5] r20 <|
          zgI h21 [5] 5 r20 fun x28 =>
          znm (a1 + x28) fun x29 =>
          f_X2_bills_15 n x29 a2 h21
        else
        if ztg h7 a2 = some 25 then
          zcR (f_J22_next a2 h7) zX fun r20 h21 =>
          zcast h21 [5] r20 <|
          zgI h21 [5] 5 r20 fun x30 =>
          znm (a1 + x30) fun x31 =>
          f_X2_bills_15 n x31 a2 h21
        else
        none
    else
    if ztg h a2 = some 21 then
      zcI (f_J16_hasNext a2 h) zX fun x6 h7 =>
      if x6 = 0 then
        zrI a1 h7
      else
        if ztg h7 a2 = some 8 then
          zcR (f_X9_next a2 h7) zX fun r32 h33 =>
          zcast h33 [5] r32 <|
          zgI h33 [5] 5 r32 fun x34 =>
          znm (a1 + x34) fun x35 =>
          f_X2_bills_15 n x35 a2 h33
        else
        if ztg h7 a2 = some 20 then
          zcR (f_J15_next a2 h7) zX fun r32 h33 =>
          zcast h33 [5] r32 <|
          zgI h33 [5] 5 r32 fun x36 =>
          znm (a1 + x36) fun x37 =>
          f_X2_bills_15 n x37 a2 h33
        else
        if ztg h7 a2 = some 21 then
          zcR (f_J17_next a2 h7) zX fun r32 h33 =>
          zcast h33 [5] r32 <|
          zgI h33 [5] 5 r32 fun x38 =>
          znm (a1 + x38) fun x39 =>
          f_X2_bills_15 n x39 a2 h33
        else
        if ztg h7 a2 = some 24 then
          zcR (f_J21_next a2 h7) zX fun r32 h33 =>
          zcast h33 [5] r32 <|
          zgI h33 [5] 5 r32 fun x40 =>
          znm (a1 + x40) fun x41 =>
          f_X2_bills_15 n x41 a2 h33
        else
        if ztg h7 a2 = some 25 then
          zcR (f_J22_next a2 h7) zX fun r32 h33 =>
          zcast h33 [5] r32 <|
          zgI h33 [5] 5 r32 fun x42 =>
          znm (a1 + x42) fun x43 =>
          f_X2_bills_15 n x43 a2 h33
        else
        none
    else
    if ztg h a2 = some 24 then
      zcI (f_J20_hasNext a2 h) zX fun x6 h7 =>
      if x6 = 0 then
        zrI a1 h7
      else
        if ztg h7 a2 = some 8 then
          zcR (f_X9_next a2 h7) zX fun r44 h45 =>
          zcast h45 [5] r44 <|
          zgI h45 [5] 5 r44 fun x46 =>
          znm (a1 + x46) fun x47 =>
          f_X2_bills_15 n x47 a2 h45
        else
        if ztg h7 a2 = some 20 then
          zcR (f_J15_next a2 h7) zX fun r44 h45 =>
          zcast h45 [5] r44 <|
          zgI h45 [5] 5 r44 fun x48 =>
          znm (a1 + x48) fun x49 =>
          f_X2_bills_15 n x49 a2 h45
        else
        if ztg h7 a2 = some 21 then
          zcR (f_J17_next a2 h7) zX fun r44 h45 =>
          zcast h45 [5] r44 <|
          zgI h45 [5] 5 r44 fun x50 =>
          znm (a1 + x50) fun x51 =>
          f_X2_bills_15 n x51 a2 h45
        else
        if ztg h7 a2 = some 24 then
          zcR (f_J21_next a2 h7) zX fun r44 h45 =>
          zcast h45 [5] r44 <|
          zgI h45 [5] 5 r44 fun x52 =>
          znm (a1 + x52) fun x53 =>
          f_X2_bills_15 n x53 a2 h45
        else
        if ztg h7 a2 = some 25 then
          zcR (f_J22_next a2 h7) zX fun r44 h45 =>
          zcast h45 [5] r44 <|
          zgI h45 [5] 5 r44 fun x54 =>
          znm (a1 + x54) fun x55 =>
          f_X2_bills_15 n x55 a2 h45
        else
        none
    else
    if ztg h a2 = some 25 then
      zcI (f_J20_hasNext a2 h) zX fun x6 h7 =>
      if x6 = 0 then
        zrI a1 h7
      else
        if ztg h7 a2 = some 8 then
          zcR (f_X9_next a2 h7) zX fun r56 h57 =>
          zcast h57 [5] r56 <|
          zgI h57 [5] 5 r56 fun x58 =>
          znm (a1 + x58) fun x59 =>
          f_X2_bills_15 n x59 a2 h57
        else
        if ztg h7 a2 = some 20 then
          zcR (f_J15_next a2 h7) zX fun r56 h57 =>
          zcast h57 [5] r56 <|
          zgI h57 [5] 5 r56 fun x60 =>
          znm (a1 + x60) fun x61 =>
          f_X2_bills_15 n x61 a2 h57
        else
        if ztg h7 a2 = some 21 then
          zcR (f_J17_next a2 h7) zX fun r56 h57 =>
          zcast h57 [5] r56 <|
          zgI h57 [5] 5 r56 fun x62 =>
          znm (a1 + x62) fun x63 =>
          f_X2_bills_15 n x63 a2 h57
        else
        if ztg h7 a2 = some 24 then
          zcR (f_J21_next a2 h7) zX fun r56 h57 =>
          zcast h57 [5] r56 <|
          zgI h57 [5] 5 r56 fun x64 =>
          znm (a1 + x64) fun x65 =>
          f_X2_bills_15 n x65 a2 h57
        else
        if ztg h7 a2 = some 25 then
          zcR (f_J22_next a2 h7) zX fun r56 h57 =>
          zcast h57 [5] r56 <|
          zgI h57 [5] 5 r56 fun x66 =>
          znm (a1 + x66) fun x67 =>
          f_X2_bills_15 n x67 a2 h57
        else
        none
    else
    none
def f_X2_bills (v0 : Option Nat) (h : zH) : zO :=
  zgR h [1] 0 v0 fun r1 =>
  if ztg h r1 = some 13 then
    zcR (f_J2_values r1 h) zX fun r2 h3 =>
    if ztg h3 r2 = some 19 then
      zcR (f_J13_iterator r2 h3) zX fun r4 h5 =>
      f_X2_bills_15 zfuel 0 r4 h5
    else
    none
  else
  none
def f_X1_billTotal (v0 : Option Nat) (h : zH) : zO :=
  zgR h [0] 3 v0 fun r1 =>
  if ztg h r1 = some 1 then
    zcI (f_X2_bills r1 h) zX fun x2 h3 =>
    zrI x2 h3
  else
  none
def f_X1_billTotalByAccount (v0 : Option Nat) (h : zH) : zO :=
  zgR h [0] 3 v0 fun r1 =>
  zgI h [1] 8 r1 fun x2 =>
  zgR h [0] 3 v0 fun r3 =>
  zgI h [1] 9 r3 fun x4 =>
  zrI (x2 - x4) h
def f_X1_paidTotal (v0 : Option Nat) (h : zH) : zO :=
  zgR h [0] 3 v0 fun r1 =>
  zgI h [1] 9 r1 fun x2 =>
  zrI x2 h
def f_X2_describe_61 (K10 : Option Nat → Option Nat → Int32 → zH → zO) (a0 : Option Nat) (a1 : Option Nat) (a2 : Int32) (h : zH) : zO :=
  znm (a2 + 1) fun x11 =>
  K10 a0 a1 x11 h
def f_X2_describe_57 (K10 : Option Nat → Option Nat → Int32 → zH → zO) (a0 : Option Nat) (a1 : Option Nat) (a2 : Int32) (s0 : Int32) (s1 : Option Nat) (h : zH) : zO :=
  if ztg h s1 = some 16 then
    zcR (f_J8_append_3 s1 s0 h) zX fun r12 h13 =>
    f_X2_describe_61 K10 a0 a1 a2 h13
  else
  none
def f_X2_describe_67  (a1 : Option Nat) (h : zH) : zO :=
  if ztg h a1 = some 16 then
    zcR (f_J8_toString a1 h) zX fun r14 h15 =>
    zrR r14 h15
  else
  none
def f_X2_describe_10  : Nat → Option Nat → Option Nat → Int32 → zH → zO
  | 0, _, _, _, _ => none
  | n + 1, a0, a1, a2, h =>
    if 60 ≤ a2 then
      f_X2_describe_67 a1 h
    else
      if ztg h a0 = some 1 then
        zcR (f_X2_shipAtPosition a0 a2 h) zX fun r4 h5 =>
        if r4 = none then
          if ztg h5 a0 = some 1 then
            zcI (f_X2_hasBlock a0 a2 h5) zX fun x6 h7 =>
            if x6 = 0 then
              f_X2_describe_57 (f_X2_describe_10 n) a0 a1 a2 46 a1 h7
            else
              f_X2_describe_57 (f_X2_describe_10 n) a0 a1 a2 94 a1 h7
          else
          none
        else
          zgI h5 [5] 0 r4 fun x8 =>
          if ¬ 10 = 0 then
            if ztg h5 a1 = some 16 then
              zcR (f_J8_append_2 a1 (x8 - x8 / 10 * 10) h5) zX fun r9 h10 =>
              f_X2_describe_61 (f_X2_describe_10 n) a0 a1 a2 h10
            else
            none
          else none
      else
      none
def f_X2_describe (v0 : Option Nat) (h : zH) : zO :=
  znO h 16 [.null, .int 0, .int 0, .int 0] fun r1 h2 =>
  if ¬ r1 = none then
    zcV (f_J8_init r1 h2) zX fun h3 =>
    f_X2_describe_10 zfuel v0 r1 0 h3
  else none
def f_X1_describeDock (v0 : Option Nat) (h : zH) : zO :=
  zgR h [0] 3 v0 fun r1 =>
  if ztg h r1 = some 1 then
    zcR (f_X2_describe r1 h) zX fun r2 h3 =>
    zpF h3 [0] 7 v0 (va_rf r2) fun h4 =>
    zgR h4 [0] 7 v0 fun r5 =>
    if ztg h4 r5 = some 17 then
      zcI (f_J9_length r5 h4) zX fun x6 h7 =>
      zrI x6 h7
    else
    none
  else
  none
def f_X1_takenShare (v0 : Option Nat) (h : zH) : zO :=
  zgR h [0] 3 v0 fun r1 =>
  if ztg h r1 = some 1 then
    zcI (f_X2_freeMetres r1 h) zX fun x2 h3 =>
    if (FP.fdiv (FP.i2f ((60 : Int32) - x2)) 1114636288) &&& 0x7fffffff ≤ 0x7f800000 then
      zrF (FP.fdiv (FP.i2f ((60 : Int32) - x2)) 1114636288) h3
    else none
  else
  none
def f_X2_areApart_50 (K15 : Option Nat → Int32 → Option Nat → zH → zO) (a0 : Option Nat) (a2 : Option Nat) (s0 : Int32) (s1 : Int32) (h : zH) : zO :=
  znm (s1 + s0) fun x93 =>
  K15 a0 x93 a2 h
def f_X2_areApart_55  (a0 : Option Nat) (a1 : Int32) (h : zH) : zO :=
  if ztg h a0 = some 1 then
    zcR (f_X2_taken a0 h) zX fun r94 h95 =>
    if ztg h95 r94 = some 18 then
      zcI (f_J12_cardinality r94 h95) zX fun x96 h97 =>
      if ¬ a1 = x96 then
        zrN .boolean 0 h97
      else
        zrN .boolean 1 h97
    else
    none
  else
  none
def f_X2_areApart_15  : Nat → Option Nat → Int32 → Option Nat → zH → zO
  | 0, _, _, _, _ => none
  | n + 1, a0, a1, a2, h =>
    if ztg h a2 = some 8 then
      zcI (f_X9_hasNext a2 h) zX fun x6 h7 =>
      if x6 = 0 then
        f_X2_areApart_55 a0 a1 h7
      else
        if ztg h7 a2 = some 8 then
          zcR (f_X9_next a2 h7) zX fun r8 h9 =>
          zcast h9 [5] r8 <|
          if ztg h9 r8 = some 5 then
            zcI (f_X6_isInDock r8 h9) zX fun x10 h11 =>
            if x10 = 0 then
              f_X2_areApart_50 (f_X2_areApart_15 n) a0 a2 0 a1 h11
            else
              zgI h11 [5] 1 r8 fun x12 =>
              f_X2_areApart_50 (f_X2_areApart_15 n) a0 a2 x12 a1 h11
          else
          none
        else
        if ztg h7 a2 = some 20 then
          zcR (f_J15_next a2 h7) zX fun r8 h9 =>
          zcast h9 [5] r8 <|
          if ztg h9 r8 = some 5 then
            zcI (f_X6_isInDock r8 h9) zX fun x13 h14 =>
            if x13 = 0 then
              f_X2_areApart_50 (f_X2_areApart_15 n) a0 a2 0 a1 h14
            else
              zgI h14 [5] 1 r8 fun x15 =>
              f_X2_areApart_50 (f_X2_areApart_15 n) a0 a2 x15 a1 h14
          else
          none
        else
        if ztg h7 a2 = some 21 then
          zcR (f_J17_next a2 h7) zX fun r8 h9 =>
          zcast h9 [5] r8 <|
          if ztg h9 r8 = some 5 then
            zcI (f_X6_isInDock r8 h9) zX fun x16 h17 =>
            if x16 = 0 then
              f_X2_areApart_50 (f_X2_areApart_15 n) a0 a2 0 a1 h17
            else
              zgI h17 [5] 1 r8 fun x18 =>
              f_X2_areApart_50 (f_X2_areApart_15 n) a0 a2 x18 a1 h17
          else
          none
        else
        if ztg h7 a2 = some 24 then
          zcR (f_J21_next a2 h7) zX fun r8 h9 =>
          zcast h9 [5] r8 <|
          if ztg h9 r8 = some 5 then
            zcI (f_X6_isInDock r8 h9) zX fun x19 h20 =>
            if x19 = 0 then
              f_X2_areApart_50 (f_X2_areApart_15 n) a0 a2 0 a1 h20
            else
              zgI h20 [5] 1 r8 fun x21 =>
              f_X2_areApart_50 (f_X2_areApart_15 n) a0 a2 x21 a1 h20
          else
          none
        else
        if ztg h7 a2 = some 25 then
          zcR (f_J22_next a2 h7) zX fun r8 h9 =>
          zcast h9 [5] r8 <|
          if ztg h9 r8 = some 5 then
            zcI (f_X6_isInDock r8 h9) zX fun x22 h23 =>
            if x22 = 0 then
              f_X2_areApart_50 (f_X2_areApart_15 n) a0 a2 0 a1 h23
            else
              zgI h23 [5] 1 r8 fun x24 =>
              f_X2_areApart_50 (f_X2_areApart_15 n) a0 a2 x24 a1 h23
          else
          none
        else
        none
    else
    if ztg h a2 = some 20 then
      zcI (f_J15_hasNext a2 h) zX fun x6 h7 =>
      if x6 = 0 then
        f_X2_areApart_55 a0 a1 h7
      else
        if ztg h7 a2 = some 8 then
          zcR (f_X9_next a2 h7) zX fun r25 h26 =>
          zcast h26 [5] r25 <|
          if ztg h26 r25 = some 5 then
            zcI (f_X6_isInDock r25 h26) zX fun x27 h28 =>
            if x27 = 0 then
              f_X2_areApart_50 (f_X2_areApart_15 n) a0 a2 0 a1 h28
            else
              zgI h28 [5] 1 r25 fun x29 =>
              f_X2_areApart_50 (f_X2_areApart_15 n) a0 a2 x29 a1 h28
          else
          none
        else
        if ztg h7 a2 = some 20 then
          zcR (f_J15_next a2 h7) zX fun r25 h26 =>
          zcast h26 [5] r25 <|
          if ztg h26 r25 = some 5 then
            zcI (f_X6_isInDock r25 h26) zX fun x30 h31 =>
            if x30 = 0 then
              f_X2_areApart_50 (f_X2_areApart_15 n) a0 a2 0 a1 h31
            else
              zgI h31 [5] 1 r25 fun x32 =>
              f_X2_areApart_50 (f_X2_areApart_15 n) a0 a2 x32 a1 h31
          else
          none
        else
        if ztg h7 a2 = some 21 then
          zcR (f_J17_next a2 h7) zX fun r25 h26 =>
          zcast h26 [5] r25 <|
          if ztg h26 r25 = some 5 then
            zcI (f_X6_isInDock r25 h26) zX fun x33 h34 =>
            if x33 = 0 then
              f_X2_areApart_50 (f_X2_areApart_15 n) a0 a2 0 a1 h34
            else
              zgI h34 [5] 1 r25 fun x35 =>
              f_X2_areApart_50 (f_X2_areApart_15 n) a0 a2 x35 a1 h34
          else
          none
        else
        if ztg h7 a2 = some 24 then
          zcR (f_J21_next a2 h7) zX fun r25 h26 =>
          zcast h26 [5] r25 <|
          if ztg h26 r25 = some 5 then
            zcI (f_X6_isInDock r25 h26) zX fun x36 h37 =>
            if x36 = 0 then
              f_X2_areApart_50 (f_X2_areApart_15 n) a0 a2 0 a1 h37
            else
              zgI h37 [5] 1 r25 fun x38 =>
              f_X2_areApart_50 (f_X2_areApart_15 n) a0 a2 x38 a1 h37
          else
          none
        else
        if ztg h7 a2 = some 25 then
          zcR (f_J22_next a2 h7) zX fun r25 h26 =>
          zcast h26 [5] r25 <|
          if ztg h26 r25 = some 5 then
            zcI (f_X6_isInDock r25 h26) zX fun x39 h40 =>
            if x39 = 0 then
              f_X2_areApart_50 (f_X2_areApart_15 n) a0 a2 0 a1 h40
            else
              zgI h40 [5] 1 r25 fun x41 =>
              f_X2_areApart_50 (f_X2_areApart_15 n) a0 a2 x41 a1 h40
          else
          none
        else
        none
    else
    if ztg h a2 = some 21 then
      zcI (f_J16_hasNext a2 h) zX fun x6 h7 =>
      if x6 = 0 then
        f_X2_areApart_55 a0 a1 h7
      else
        if ztg h7 a2 = some 8 then
          zcR (f_X9_next a2 h7) zX fun r42 h43 =>
          zcast h43 [5] r42 <|
          if ztg h43 r42 = some 5 then
            zcI (f_X6_isInDock r42 h43) zX fun x44 h45 =>
            if x44 = 0 then
              f_X2_areApart_50 (f_X2_areApart_15 n) a0 a2 0 a1 h45
            else
              zgI h45 [5] 1 r42 fun x46 =>
              f_X2_areApart_50 (f_X2_areApart_15 n) a0 a2 x46 a1 h45
          else
          none
        else
        if ztg h7 a2 = some 20 then
          zcR (f_J15_next a2 h7) zX fun r42 h43 =>
          zcast h43 [5] r42 <|
          if ztg h43 r42 = some 5 then
            zcI (f_X6_isInDock r42 h43) zX fun x47 h48 =>
            if x47 = 0 then
              f_X2_areApart_50 (f_X2_areApart_15 n) a0 a2 0 a1 h48
            else
              zgI h48 [5] 1 r42 fun x49 =>
              f_X2_areApart_50 (f_X2_areApart_15 n) a0 a2 x49 a1 h48
          else
          none
        else
        if ztg h7 a2 = some 21 then
          zcR (f_J17_next a2 h7) zX fun r42 h43 =>
          zcast h43 [5] r42 <|
          if ztg h43 r42 = some 5 then
            zcI (f_X6_isInDock r42 h43) zX fun x50 h51 =>
            if x50 = 0 then
              f_X2_areApart_50 (f_X2_areApart_15 n) a0 a2 0 a1 h51
            else
              zgI h51 [5] 1 r42 fun x52 =>
              f_X2_areApart_50 (f_X2_areApart_15 n) a0 a2 x52 a1 h51
          else
          none
        else
        if ztg h7 a2 = some 24 then
          zcR (f_J21_next a2 h7) zX fun r42 h43 =>
          zcast h43 [5] r42 <|
          if ztg h43 r42 = some 5 then
            zcI (f_X6_isInDock r42 h43) zX fun x53 h54 =>
            if x53 = 0 then
              f_X2_areApart_50 (f_X2_areApart_15 n) a0 a2 0 a1 h54
            else
              zgI h54 [5] 1 r42 fun x55 =>
              f_X2_areApart_50 (f_X2_areApart_15 n) a0 a2 x55 a1 h54
          else
          none
        else
        if ztg h7 a2 = some 25 then
          zcR (f_J22_next a2 h7) zX fun r42 h43 =>
          zcast h43 [5] r42 <|
          if ztg h43 r42 = some 5 then
            zcI (f_X6_isInDock r42 h43) zX fun x56 h57 =>
            if x56 = 0 then
              f_X2_areApart_50 (f_X2_areApart_15 n) a0 a2 0 a1 h57
            else
              zgI h57 [5] 1 r42 fun x58 =>
              f_X2_areApart_50 (f_X2_areApart_15 n) a0 a2 x58 a1 h57
          else
          none
        else
        none
    else
    if ztg h a2 = some 24 then
      zcI (f_J20_hasNext a2 h) zX fun x6 h7 =>
      if x6 = 0 then
        f_X2_areApart_55 a0 a1 h7
      else
        if ztg h7 a2 = some 8 then
          zcR (f_X9_next a2 h7) zX fun r59 h60 =>
          zcast h60 [5] r59 <|
          if ztg h60 r59 = some 5 then
            zcI (f_X6_isInDock r59 h60) zX fun x61 h62 =>
            if x61 = 0 then
              f_X2_areApart_50 (f_X2_areApart_15 n) a0 a2 0 a1 h62
            else
              zgI h62 [5] 1 r59 fun x63 =>
              f_X2_areApart_50 (f_X2_areApart_15 n) a0 a2 x63 a1 h62
          else
          none
        else
        if ztg h7 a2 = some 20 then
          zcR (f_J15_next a2 h7) zX fun r59 h60 =>
          zcast h60 [5] r59 <|
          if ztg h60 r59 = some 5 then
            zcI (f_X6_isInDock r59 h60) zX fun x64 h65 =>
            if x64 = 0 then
              f_X2_areApart_50 (f_X2_areApart_15 n) a0 a2 0 a1 h65
            else
              zgI h65 [5] 1 r59 fun x66 =>
              f_X2_areApart_50 (f_X2_areApart_15 n) a0 a2 x66 a1 h65
          else
          none
        else
        if ztg h7 a2 = some 21 then
          zcR (f_J17_next a2 h7) zX fun r59 h60 =>
          zcast h60 [5] r59 <|
          if ztg h60 r59 = some 5 then
            zcI (f_X6_isInDock r59 h60) zX fun x67 h68 =>
            if x67 = 0 then
              f_X2_areApart_50 (f_X2_areApart_15 n) a0 a2 0 a1 h68
            else
              zgI h68 [5] 1 r59 fun x69 =>
              f_X2_areApart_50 (f_X2_areApart_15 n) a0 a2 x69 a1 h68
          else
          none
        else
        if ztg h7 a2 = some 24 then
          zcR (f_J21_next a2 h7) zX fun r59 h60 =>
          zcast h60 [5] r59 <|
          if ztg h60 r59 = some 5 then
            zcI (f_X6_isInDock r59 h60) zX fun x70 h71 =>
            if x70 = 0 then
              f_X2_areApart_50 (f_X2_areApart_15 n) a0 a2 0 a1 h71
            else
              zgI h71 [5] 1 r59 fun x72 =>
              f_X2_areApart_50 (f_X2_areApart_15 n) a0 a2 x72 a1 h71
          else
          none
        else
        if ztg h7 a2 = some 25 then
          zcR (f_J22_next a2 h7) zX fun r59 h60 =>
          zcast h60 [5] r59 <|
          if ztg h60 r59 = some 5 then
            zcI (f_X6_isInDock r59 h60) zX fun x73 h74 =>
            if x73 = 0 then
              f_X2_areApart_50 (f_X2_areApart_15 n) a0 a2 0 a1 h74
            else
              zgI h74 [5] 1 r59 fun x75 =>
              f_X2_areApart_50 (f_X2_areApart_15 n) a0 a2 x75 a1 h74
          else
          none
        else
        none
    else
    if ztg h a2 = some 25 then
      zcI (f_J20_hasNext a2 h) zX fun x6 h7 =>
      if x6 = 0 then
        f_X2_areApart_55 a0 a1 h7
      else
        if ztg h7 a2 = some 8 then
          zcR (f_X9_next a2 h7) zX fun r76 h77 =>
          zcast h77 [5] r76 <|
          if ztg h77 r76 = some 5 then
            zcI (f_X6_isInDock r76 h77) zX fun x78 h79 =>
            if x78 = 0 then
              f_X2_areApart_50 (f_X2_areApart_15 n) a0 a2 0 a1 h79
            else
              zgI h79 [5] 1 r76 fun x80 =>
              f_X2_areApart_50 (f_X2_areApart_15 n) a0 a2 x80 a1 h79
          else
          none
        else
        if ztg h7 a2 = some 20 then
          zcR (f_J15_next a2 h7) zX fun r76 h77 =>
          zcast h77 [5] r76 <|
          if ztg h77 r76 = some 5 then
            zcI (f_X6_isInDock r76 h77) zX fun x81 h82 =>
            if x81 = 0 then
              f_X2_areApart_50 (f_X2_areApart_15 n) a0 a2 0 a1 h82
            else
              zgI h82 [5] 1 r76 fun x83 =>
              f_X2_areApart_50 (f_X2_areApart_15 n) a0 a2 x83 a1 h82
          else
          none
        else
        if ztg h7 a2 = some 21 then
          zcR (f_J17_next a2 h7) zX fun r76 h77 =>
          zcast h77 [5] r76 <|
          if ztg h77 r76 = some 5 then
            zcI (f_X6_isInDock r76 h77) zX fun x84 h85 =>
            if x84 = 0 then
              f_X2_areApart_50 (f_X2_areApart_15 n) a0 a2 0 a1 h85
            else
              zgI h85 [5] 1 r76 fun x86 =>
              f_X2_areApart_50 (f_X2_areApart_15 n) a0 a2 x86 a1 h85
          else
          none
        else
        if ztg h7 a2 = some 24 then
          zcR (f_J21_next a2 h7) zX fun r76 h77 =>
          zcast h77 [5] r76 <|
          if ztg h77 r76 = some 5 then
            zcI (f_X6_isInDock r76 h77) zX fun x87 h88 =>
            if x87 = 0 then
              f_X2_areApart_50 (f_X2_areApart_15 n) a0 a2 0 a1 h88
            else
              zgI h88 [5] 1 r76 fun x89 =>
              f_X2_areApart_50 (f_X2_areApart_15 n) a0 a2 x89 a1 h88
          else
          none
        else
        if ztg h7 a2 = some 25 then
          zcR (f_J22_next a2 h7) zX fun r76 h77 =>
          zcast h77 [5] r76 <|
          if ztg h77 r76 = some 5 then
            zcI (f_X6_isInDock r76 h77) zX fun x90 h91 =>
            if x90 = 0 then
              f_X2_areApart_50 (f_X2_areApart_15 n) a0 a2 0 a1 h91
            else
              zgI h91 [5] 1 r76 fun x92 =>
              f_X2_areApart_50 (f_X2_areApart_15 n) a0 a2 x92 a1 h91
          else
          none
        else
        none
    else
    none
def f_X2_areApart (v0 : Option Nat) (h : zH) : zO :=
  zgR h [1] 0 v0 fun r1 =>
  if ztg h r1 = some 13 then
    zcR (f_J2_values r1 h) zX fun r2 h3 =>
    if ztg h3 r2 = some 19 then
      zcR (f_J13_iterator r2 h3) zX fun r4 h5 =>
      f_X2_areApart_15 zfuel v0 0 r4 h5
    else
    none
  else
  none
def f_X2_isConsistent_80 (K42 : Option Nat → Int32 → Option Nat → zH → zO) (a0 : Option Nat) (a2 : Option Nat) (s0 : Int32) (s1 : Int32) (h : zH) : zO :=
  znm (s1 &&& s0) fun x124 =>
  K42 a0 x124 a2 h
def f_X2_isConsistent_118 (K90 : Option Nat → Int32 → Int32 → zH → zO) (a0 : Option Nat) (a2 : Int32) (s0 : Int32) (s1 : Int32) (h : zH) : zO :=
  znm (s1 &&& s0) fun x131 =>
  znm (a2 + 1) fun x132 =>
  K90 a0 x131 x132 h
def f_X2_isConsistent_90  : Nat → Option Nat → Int32 → Int32 → zH → zO
  | 0, _, _, _, _ => none
  | n + 1, a0, a1, a2, h =>
    zgI h [1] 4 a0 fun x126 =>
    if (x126 + 24) < a2 then
      zrN .boolean a1 h
    else
      zcI (f_X1_seaLevelOf a2 h) zX fun x127 h128 =>
      zcI (f_X1_seaLevelSteps a2 h128) zX fun x129 h130 =>
      if ¬ x127 = x129 then
        f_X2_isConsistent_118 (f_X2_isConsistent_90 n) a0 a2 0 a1 h130
      else
        f_X2_isConsistent_118 (f_X2_isConsistent_90 n) a0 a2 1 a1 h130
def f_X2_isConsistent_85  (a0 : Option Nat) (a1 : Int32) (h : zH) : zO :=
  zgI h [1] 4 a0 fun x125 =>
  f_X2_isConsistent_90 zfuel a0 a1 x125 h
def f_X2_isConsistent_42  : Nat → Option Nat → Int32 → Option Nat → zH → zO
  | 0, _, _, _, _ => none
  | n + 1, a0, a1, a2, h =>
    if ztg h a2 = some 8 then
      zcI (f_X9_hasNext a2 h) zX fun x12 h13 =>
      if x12 = 0 then
        f_X2_isConsistent_85 a0 a1 h13
      else
        if ztg h13 a2 = some 8 then
          zcR (f_X9_next a2 h13) zX fun r14 h15 =>
          zcast h15 [5] r14 <|
          if ztg h15 a0 = some 1 then
            zcI (f_X2_blocksBeneath a0 r14 h15) zX fun x16 h17 =>
            if ztg h17 a0 = some 1 then
              zcI (f_X2_blocksBeneathByMetres a0 r14 h17) zX fun x18 h19 =>
              if ¬ x16 = x18 then
                f_X2_isConsistent_80 (f_X2_isConsistent_42 n) a0 a2 0 a1 h19
              else
                f_X2_isConsistent_80 (f_X2_isConsistent_42 n) a0 a2 1 a1 h19
            else
            none
          else
          none
        else
        if ztg h13 a2 = some 20 then
          zcR (f_J15_next a2 h13) zX fun r14 h15 =>
          zcast h15 [5] r14 <|
          if ztg h15 a0 = some 1 then
            zcI (f_X2_blocksBeneath a0 r14 h15) zX fun x20 h21 =>
            if ztg h21 a0 = some 1 then
              zcI (f_X2_blocksBeneathByMetres a0 r14 h21) zX fun x22 h23 =>
              if ¬ x20 = x22 then
                f_X2_isConsistent_80 (f_X2_isConsistent_42 n) a0 a2 0 a1 h23
              else
                f_X2_isConsistent_80 (f_X2_isConsistent_42 n) a0 a2 1 a1 h23
            else
            none
          else
          none
        else
        if ztg h13 a2 = some 21 then
          zcR (f_J17_next a2 h13) zX fun r14 h15 =>
          zcast h15 [5] r14 <|
          if ztg h15 a0 = some 1 then
            zcI (f_X2_blocksBeneath a0 r14 h15) zX fun x24 h25 =>
            if ztg h25 a0 = some 1 then
              zcI (f_X2_blocksBeneathByMetres a0 r14 h25) zX fun x26 h27 =>
              if ¬ x24 = x26 then
                f_X2_isConsistent_80 (f_X2_isConsistent_42 n) a0 a2 0 a1 h27
              else
                f_X2_isConsistent_80 (f_X2_isConsistent_42 n) a0 a2 1 a1 h27
            else
            none
          else
          none
        else
        if ztg h13 a2 = some 24 then
          zcR (f_J21_next a2 h13) zX fun r14 h15 =>
          zcast h15 [5] r14 <|
          if ztg h15 a0 = some 1 then
            zcI (f_X2_blocksBeneath a0 r14 h15) zX fun x28 h29 =>
            if ztg h29 a0 = some 1 then
              zcI (f_X2_blocksBeneathByMetres a0 r14 h29) zX fun x30 h31 =>
              if ¬ x28 = x30 then
                f_X2_isConsistent_80 (f_X2_isConsistent_42 n) a0 a2 0 a1 h31
              else
                f_X2_isConsistent_80 (f_X2_isConsistent_42 n) a0 a2 1 a1 h31
            else
            none
          else
          none
        else
        if ztg h13 a2 = some 25 then
          zcR (f_J22_next a2 h13) zX fun r14 h15 =>
          zcast h15 [5] r14 <|
          if ztg h15 a0 = some 1 then
            zcI (f_X2_blocksBeneath a0 r14 h15) zX fun x32 h33 =>
            if ztg h33 a0 = some 1 then
              zcI (f_X2_blocksBeneathByMetres a0 r14 h33) zX fun x34 h35 =>
              if ¬ x32 = x34 then
                f_X2_isConsistent_80 (f_X2_isConsistent_42 n) a0 a2 0 a1 h35
              else
                f_X2_isConsistent_80 (f_X2_isConsistent_42 n) a0 a2 1 a1 h35
            else
            none
          else
          none
        else
        none
    else
    if ztg h a2 = some 20 then
      zcI (f_J15_hasNext a2 h) zX fun x12 h13 =>
      if x12 = 0 then
        f_X2_isConsistent_85 a0 a1 h13
      else
        if ztg h13 a2 = some 8 then
          zcR (f_X9_next a2 h13) zX fun r36 h37 =>
          zcast h37 [5] r36 <|
          if ztg h37 a0 = some 1 then
            zcI (f_X2_blocksBeneath a0 r36 h37) zX fun x38 h39 =>
            if ztg h39 a0 = some 1 then
              zcI (f_X2_blocksBeneathByMetres a0 r36 h39) zX fun x40 h41 =>
              if ¬ x38 = x40 then
                f_X2_isConsistent_80 (f_X2_isConsistent_42 n) a0 a2 0 a1 h41
              else
                f_X2_isConsistent_80 (f_X2_isConsistent_42 n) a0 a2 1 a1 h41
            else
            none
          else
          none
        else
        if ztg h13 a2 = some 20 then
          zcR (f_J15_next a2 h13) zX fun r36 h37 =>
          zcast h37 [5] r36 <|
          if ztg h37 a0 = some 1 then
            zcI (f_X2_blocksBeneath a0 r36 h37) zX fun x42 h43 =>
            if ztg h43 a0 = some 1 then
              zcI (f_X2_blocksBeneathByMetres a0 r36 h43) zX fun x44 h45 =>
              if ¬ x42 = x44 then
                f_X2_isConsistent_80 (f_X2_isConsistent_42 n) a0 a2 0 a1 h45
              else
                f_X2_isConsistent_80 (f_X2_isConsistent_42 n) a0 a2 1 a1 h45
            else
            none
          else
          none
        else
        if ztg h13 a2 = some 21 then
          zcR (f_J17_next a2 h13) zX fun r36 h37 =>
          zcast h37 [5] r36 <|
          if ztg h37 a0 = some 1 then
            zcI (f_X2_blocksBeneath a0 r36 h37) zX fun x46 h47 =>
            if ztg h47 a0 = some 1 then
              zcI (f_X2_blocksBeneathByMetres a0 r36 h47) zX fun x48 h49 =>
              if ¬ x46 = x48 then
                f_X2_isConsistent_80 (f_X2_isConsistent_42 n) a0 a2 0 a1 h49
              else
                f_X2_isConsistent_80 (f_X2_isConsistent_42 n) a0 a2 1 a1 h49
            else
            none
          else
          none
        else
        if ztg h13 a2 = some 24 then
          zcR (f_J21_next a2 h13) zX fun r36 h37 =>
          zcast h37 [5] r36 <|
          if ztg h37 a0 = some 1 then
            zcI (f_X2_blocksBeneath a0 r36 h37) zX fun x50 h51 =>
            if ztg h51 a0 = some 1 then
              zcI (f_X2_blocksBeneathByMetres a0 r36 h51) zX fun x52 h53 =>
              if ¬ x50 = x52 then
                f_X2_isConsistent_80 (f_X2_isConsistent_42 n) a0 a2 0 a1 h53
              else
                f_X2_isConsistent_80 (f_X2_isConsistent_42 n) a0 a2 1 a1 h53
            else
            none
          else
          none
        else
        if ztg h13 a2 = some 25 then
          zcR (f_J22_next a2 h13) zX fun r36 h37 =>
          zcast h37 [5] r36 <|
          if ztg h37 a0 = some 1 then
            zcI (f_X2_blocksBeneath a0 r36 h37) zX fun x54 h55 =>
            if ztg h55 a0 = some 1 then
              zcI (f_X2_blocksBeneathByMetres a0 r36 h55) zX fun x56 h57 =>
              if ¬ x54 = x56 then
                f_X2_isConsistent_80 (f_X2_isConsistent_42 n) a0 a2 0 a1 h57
              else
                f_X2_isConsistent_80 (f_X2_isConsistent_42 n) a0 a2 1 a1 h57
            else
            none
          else
          none
        else
        none
    else
    if ztg h a2 = some 21 then
      zcI (f_J16_hasNext a2 h) zX fun x12 h13 =>
      if x12 = 0 then
        f_X2_isConsistent_85 a0 a1 h13
      else
        if ztg h13 a2 = some 8 then
          zcR (f_X9_next a2 h13) zX fun r58 h59 =>
          zcast h59 [5] r58 <|
          if ztg h59 a0 = some 1 then
            zcI (f_X2_blocksBeneath a0 r58 h59) zX fun x60 h61 =>
            if ztg h61 a0 = some 1 then
              zcI (f_X2_blocksBeneathByMetres a0 r58 h61) zX fun x62 h63 =>
              if ¬ x60 = x62 then
                f_X2_isConsistent_80 (f_X2_isConsistent_42 n) a0 a2 0 a1 h63
              else
                f_X2_isConsistent_80 (f_X2_isConsistent_42 n) a0 a2 1 a1 h63
            else
            none
          else
          none
        else
        if ztg h13 a2 = some 20 then
          zcR (f_J15_next a2 h13) zX fun r58 h59 =>
          zcast h59 [5] r58 <|
          if ztg h59 a0 = some 1 then
            zcI (f_X2_blocksBeneath a0 r58 h59) zX fun x64 h65 =>
            if ztg h65 a0 = some 1 then
              zcI (f_X2_blocksBeneathByMetres a0 r58 h65) zX fun x66 h67 =>
              if ¬ x64 = x66 then
                f_X2_isConsistent_80 (f_X2_isConsistent_42 n) a0 a2 0 a1 h67
              else
                f_X2_isConsistent_80 (f_X2_isConsistent_42 n) a0 a2 1 a1 h67
            else
            none
          else
          none
        else
        if ztg h13 a2 = some 21 then
          zcR (f_J17_next a2 h13) zX fun r58 h59 =>
          zcast h59 [5] r58 <|
          if ztg h59 a0 = some 1 then
            zcI (f_X2_blocksBeneath a0 r58 h59) zX fun x68 h69 =>
            if ztg h69 a0 = some 1 then
              zcI (f_X2_blocksBeneathByMetres a0 r58 h69) zX fun x70 h71 =>
              if ¬ x68 = x70 then
                f_X2_isConsistent_80 (f_X2_isConsistent_42 n) a0 a2 0 a1 h71
              else
                f_X2_isConsistent_80 (f_X2_isConsistent_42 n) a0 a2 1 a1 h71
            else
            none
          else
          none
        else
        if ztg h13 a2 = some 24 then
          zcR (f_J21_next a2 h13) zX fun r58 h59 =>
          zcast h59 [5] r58 <|
          if ztg h59 a0 = some 1 then
            zcI (f_X2_blocksBeneath a0 r58 h59) zX fun x72 h73 =>
            if ztg h73 a0 = some 1 then
              zcI (f_X2_blocksBeneathByMetres a0 r58 h73) zX fun x74 h75 =>
              if ¬ x72 = x74 then
                f_X2_isConsistent_80 (f_X2_isConsistent_42 n) a0 a2 0 a1 h75
              else
                f_X2_isConsistent_80 (f_X2_isConsistent_42 n) a0 a2 1 a1 h75
            else
            none
          else
          none
        else
        if ztg h13 a2 = some 25 then
          zcR (f_J22_next a2 h13) zX fun r58 h59 =>
          zcast h59 [5] r58 <|
          if ztg h59 a0 = some 1 then
            zcI (f_X2_blocksBeneath a0 r58 h59) zX fun x76 h77 =>
            if ztg h77 a0 = some 1 then
              zcI (f_X2_blocksBeneathByMetres a0 r58 h77) zX fun x78 h79 =>
              if ¬ x76 = x78 then
                f_X2_isConsistent_80 (f_X2_isConsistent_42 n) a0 a2 0 a1 h79
              else
                f_X2_isConsistent_80 (f_X2_isConsistent_42 n) a0 a2 1 a1 h79
            else
            none
          else
          none
        else
        none
    else
    if ztg h a2 = some 24 then
      zcI (f_J20_hasNext a2 h) zX fun x12 h13 =>
      if x12 = 0 then
        f_X2_isConsistent_85 a0 a1 h13
      else
        if ztg h13 a2 = some 8 then
          zcR (f_X9_next a2 h13) zX fun r80 h81 =>
          zcast h81 [5] r80 <|
          if ztg h81 a0 = some 1 then
            zcI (f_X2_blocksBeneath a0 r80 h81) zX fun x82 h83 =>
            if ztg h83 a0 = some 1 then
              zcI (f_X2_blocksBeneathByMetres a0 r80 h83) zX fun x84 h85 =>
              if ¬ x82 = x84 then
                f_X2_isConsistent_80 (f_X2_isConsistent_42 n) a0 a2 0 a1 h85
              else
                f_X2_isConsistent_80 (f_X2_isConsistent_42 n) a0 a2 1 a1 h85
            else
            none
          else
          none
        else
        if ztg h13 a2 = some 20 then
          zcR (f_J15_next a2 h13) zX fun r80 h81 =>
          zcast h81 [5] r80 <|
          if ztg h81 a0 = some 1 then
            zcI (f_X2_blocksBeneath a0 r80 h81) zX fun x86 h87 =>
            if ztg h87 a0 = some 1 then
              zcI (f_X2_blocksBeneathByMetres a0 r80 h87) zX fun x88 h89 =>
              if ¬ x86 = x88 then
                f_X2_isConsistent_80 (f_X2_isConsistent_42 n) a0 a2 0 a1 h89
              else
                f_X2_isConsistent_80 (f_X2_isConsistent_42 n) a0 a2 1 a1 h89
            else
            none
          else
          none
        else
        if ztg h13 a2 = some 21 then
          zcR (f_J17_next a2 h13) zX fun r80 h81 =>
          zcast h81 [5] r80 <|
          if ztg h81 a0 = some 1 then
            zcI (f_X2_blocksBeneath a0 r80 h81) zX fun x90 h91 =>
            if ztg h91 a0 = some 1 then
              zcI (f_X2_blocksBeneathByMetres a0 r80 h91) zX fun x92 h93 =>
              if ¬ x90 = x92 then
                f_X2_isConsistent_80 (f_X2_isConsistent_42 n) a0 a2 0 a1 h93
              else
                f_X2_isConsistent_80 (f_X2_isConsistent_42 n) a0 a2 1 a1 h93
            else
            none
          else
          none
        else
        if ztg h13 a2 = some 24 then
          zcR (f_J21_next a2 h13) zX fun r80 h81 =>
          zcast h81 [5] r80 <|
          if ztg h81 a0 = some 1 then
            zcI (f_X2_blocksBeneath a0 r80 h81) zX fun x94 h95 =>
            if ztg h95 a0 = some 1 then
              zcI (f_X2_blocksBeneathByMetres a0 r80 h95) zX fun x96 h97 =>
              if ¬ x94 = x96 then
                f_X2_isConsistent_80 (f_X2_isConsistent_42 n) a0 a2 0 a1 h97
              else
                f_X2_isConsistent_80 (f_X2_isConsistent_42 n) a0 a2 1 a1 h97
            else
            none
          else
          none
        else
        if ztg h13 a2 = some 25 then
          zcR (f_J22_next a2 h13) zX fun r80 h81 =>
          zcast h81 [5] r80 <|
          if ztg h81 a0 = some 1 then
            zcI (f_X2_blocksBeneath a0 r80 h81) zX fun x98 h99 =>
            if ztg h99 a0 = some 1 then
              zcI (f_X2_blocksBeneathByMetres a0 r80 h99) zX fun x100 h101 =>
              if ¬ x98 = x100 then
                f_X2_isConsistent_80 (f_X2_isConsistent_42 n) a0 a2 0 a1 h101
              else
                f_X2_isConsistent_80 (f_X2_isConsistent_42 n) a0 a2 1 a1 h101
            else
            none
          else
          none
        else
        none
    else
    if ztg h a2 = some 25 then
      zcI (f_J20_hasNext a2 h) zX fun x12 h13 =>
      if x12 = 0 then
        f_X2_isConsistent_85 a0 a1 h13
      else
        if ztg h13 a2 = some 8 then
          zcR (f_X9_next a2 h13) zX fun r102 h103 =>
          zcast h103 [5] r102 <|
          if ztg h103 a0 = some 1 then
            zcI (f_X2_blocksBeneath a0 r102 h103) zX fun x104 h105 =>
            if ztg h105 a0 = some 1 then
              zcI (f_X2_blocksBeneathByMetres a0 r102 h105) zX fun x106 h107 =>
              if ¬ x104 = x106 then
                f_X2_isConsistent_80 (f_X2_isConsistent_42 n) a0 a2 0 a1 h107
              else
                f_X2_isConsistent_80 (f_X2_isConsistent_42 n) a0 a2 1 a1 h107
            else
            none
          else
          none
        else
        if ztg h13 a2 = some 20 then
          zcR (f_J15_next a2 h13) zX fun r102 h103 =>
          zcast h103 [5] r102 <|
          if ztg h103 a0 = some 1 then
            zcI (f_X2_blocksBeneath a0 r102 h103) zX fun x108 h109 =>
            if ztg h109 a0 = some 1 then
              zcI (f_X2_blocksBeneathByMetres a0 r102 h109) zX fun x110 h111 =>
              if ¬ x108 = x110 then
                f_X2_isConsistent_80 (f_X2_isConsistent_42 n) a0 a2 0 a1 h111
              else
                f_X2_isConsistent_80 (f_X2_isConsistent_42 n) a0 a2 1 a1 h111
            else
            none
          else
          none
        else
        if ztg h13 a2 = some 21 then
          zcR (f_J17_next a2 h13) zX fun r102 h103 =>
          zcast h103 [5] r102 <|
          if ztg h103 a0 = some 1 then
            zcI (f_X2_blocksBeneath a0 r102 h103) zX fun x112 h113 =>
            if ztg h113 a0 = some 1 then
              zcI (f_X2_blocksBeneathByMetres a0 r102 h113) zX fun x114 h115 =>
              if ¬ x112 = x114 then
                f_X2_isConsistent_80 (f_X2_isConsistent_42 n) a0 a2 0 a1 h115
              else
                f_X2_isConsistent_80 (f_X2_isConsistent_42 n) a0 a2 1 a1 h115
            else
            none
          else
          none
        else
        if ztg h13 a2 = some 24 then
          zcR (f_J21_next a2 h13) zX fun r102 h103 =>
          zcast h103 [5] r102 <|
          if ztg h103 a0 = some 1 then
            zcI (f_X2_blocksBeneath a0 r102 h103) zX fun x116 h117 =>
            if ztg h117 a0 = some 1 then
              zcI (f_X2_blocksBeneathByMetres a0 r102 h117) zX fun x118 h119 =>
              if ¬ x116 = x118 then
                f_X2_isConsistent_80 (f_X2_isConsistent_42 n) a0 a2 0 a1 h119
              else
                f_X2_isConsistent_80 (f_X2_isConsistent_42 n) a0 a2 1 a1 h119
            else
            none
          else
          none
        else
        if ztg h13 a2 = some 25 then
          zcR (f_J22_next a2 h13) zX fun r102 h103 =>
          zcast h103 [5] r102 <|
          if ztg h103 a0 = some 1 then
            zcI (f_X2_blocksBeneath a0 r102 h103) zX fun x120 h121 =>
            if ztg h121 a0 = some 1 then
              zcI (f_X2_blocksBeneathByMetres a0 r102 h121) zX fun x122 h123 =>
              if ¬ x120 = x122 then
                f_X2_isConsistent_80 (f_X2_isConsistent_42 n) a0 a2 0 a1 h123
              else
                f_X2_isConsistent_80 (f_X2_isConsistent_42 n) a0 a2 1 a1 h123
            else
            none
          else
          none
        else
        none
    else
    none
def f_X2_isConsistent_28  (a0 : Option Nat) (s0 : Int32) (h : zH) : zO :=
  zgR h [1] 0 a0 fun r7 =>
  if ztg h r7 = some 13 then
    zcR (f_J2_values r7 h) zX fun r8 h9 =>
    if ztg h9 r8 = some 19 then
      zcR (f_J13_iterator r8 h9) zX fun r10 h11 =>
      f_X2_isConsistent_42 zfuel a0 s0 r10 h11
    else
    none
  else
  none
def f_X2_isConsistent_27  (a0 : Option Nat) (h : zH) : zO :=
  f_X2_isConsistent_28 a0 0 h
def f_X2_isConsistent (v0 : Option Nat) (h : zH) : zO :=
  if ztg h v0 = some 1 then
    zcI (f_X2_areApart v0 h) zX fun x1 h2 =>
    if x1 = 0 then
      f_X2_isConsistent_27 v0 h2
    else
      if ztg h2 v0 = some 1 then
        zcI (f_X2_bills v0 h2) zX fun x3 h4 =>
        zgI h4 [1] 8 v0 fun x5 =>
        zgI h4 [1] 9 v0 fun x6 =>
        if ¬ x3 = (x5 - x6) then
          f_X2_isConsistent_27 v0 h4
        else
          f_X2_isConsistent_28 v0 1 h4
      else
      none
  else
  none
def f_X2_areGapsAlike_63 (K4 : Option Nat → Option Nat → Int32 → Int32 → zH → zO) (K21 : Option Nat → Option Nat → Int32 → Int32 → Option Nat → Int32 → Int32 → zH → zO) (a0 : Option Nat) (a1 : Option Nat) (a3 : Int32) (a4 : Option Nat) (a5 : Int32) (a6 : Int32) (s0 : Int32) (s1 : Int32) (h : zH) : zO :=
  znm (s1 &&& s0) fun x8 =>
  znm (a6 + 1) fun x9 =>
  K21 a0 a1 x8 a3 a4 a5 x9 h
def f_X2_areGapsAlike_71 (K4 : Option Nat → Option Nat → Int32 → Int32 → zH → zO) (a0 : Option Nat) (a1 : Option Nat) (a2 : Int32) (a3 : Int32) (h : zH) : zO :=
  znm (a3 + 1) fun x10 =>
  K4 a0 a1 a2 x10 h
def f_X2_areGapsAlike_21 (K4 : Option Nat → Option Nat → Int32 → Int32 → zH → zO) : Nat → Option Nat → Option Nat → Int32 → Int32 → Option Nat → Int32 → Int32 → zH → zO
  | 0, _, _, _, _, _, _, _, _ => none
  | n + 1, a0, a1, a2, a3, a4, a5, a6, h =>
    if a5 ≤ a6 then
      f_X2_areGapsAlike_71 K4 a0 a1 a2 a3 h
    else
      zaR h zrefs a4 a6 fun r2 =>
      zcI (f_gf_find r2 a0 a3 h) zX fun x3 h4 =>
      zaR h4 zrefs a1 0 fun r5 =>
      zcI (f_gf_find r5 a0 a3 h4) zX fun x6 h7 =>
      if ¬ x3 = x6 then
        f_X2_areGapsAlike_63 K4 (f_X2_areGapsAlike_21 K4 n) a0 a1 a3 a4 a5 a6 0 a2 h7
      else
        f_X2_areGapsAlike_63 K4 (f_X2_areGapsAlike_21 K4 n) a0 a1 a3 a4 a5 a6 1 a2 h7
def f_X2_areGapsAlike_4  : Nat → Option Nat → Option Nat → Int32 → Int32 → zH → zO
  | 0, _, _, _, _, _ => none
  | n + 1, a0, a1, a2, a3, h =>
    if 60 < a3 then
      zrN .boolean a2 h
    else
      zaN h zarrs a1 fun x1 =>
      f_X2_areGapsAlike_21 (f_X2_areGapsAlike_4 n) zfuel a0 a1 a2 a3 a1 x1 0 h
def f_X2_areGapsAlike (v0 : Option Nat) (v1 : Option Nat) (h : zH) : zO :=
  f_X2_areGapsAlike_4 zfuel v0 v1 1 1 h
def f_X1_isConsistent_88 (K41 : Option Nat → Int32 → Option Nat → Int32 → Int32 → zH → zO) (a0 : Option Nat) (a2 : Option Nat) (a3 : Int32) (a4 : Int32) (s0 : Int32) (s1 : Int32) (h : zH) : zO :=
  znm (s1 &&& s0) fun x19 =>
  znm (a4 + 1) fun x20 =>
  K41 a0 x19 a2 a3 x20 h
def f_X1_isConsistent_41  : Nat → Option Nat → Int32 → Option Nat → Int32 → Int32 → zH → zO
  | 0, _, _, _, _, _, _ => none
  | n + 1, a0, a1, a2, a3, a4, h =>
    if a3 ≤ a4 then
      zrN .boolean a1 h
    else
      zaR h zrefs a2 a4 fun r10 =>
      zgR h [0] 3 a0 fun r11 =>
      zcI (f_pk_most r10 r11 h) zX fun x12 h13 =>
      zgR h13 [0] 2 a0 fun r14 =>
      zaR h13 zrefs r14 0 fun r15 =>
      zgR h13 [0] 3 a0 fun r16 =>
      zcI (f_pk_most r15 r16 h13) zX fun x17 h18 =>
      if ¬ x12 = x17 then
        f_X1_isConsistent_88 (f_X1_isConsistent_41 n) a0 a2 a3 a4 0 a1 h18
      else
        f_X1_isConsistent_88 (f_X1_isConsistent_41 n) a0 a2 a3 a4 1 a1 h18
def f_X1_isConsistent_29  (a0 : Option Nat) (s0 : Int32) (h : zH) : zO :=
  zgR h [0] 2 a0 fun r8 =>
  zaN h zarrs r8 fun x9 =>
  f_X1_isConsistent_41 zfuel a0 s0 r8 x9 0 h
def f_X1_isConsistent_28  (a0 : Option Nat) (h : zH) : zO :=
  f_X1_isConsistent_29 a0 0 h
def f_X1_isConsistent (v0 : Option Nat) (h : zH) : zO :=
  zgR h [0] 3 v0 fun r1 =>
  if ztg h r1 = some 1 then
    zcI (f_X2_isConsistent r1 h) zX fun x2 h3 =>
    if x2 = 0 then
      f_X1_isConsistent_28 v0 h3
    else
      zgR h3 [0] 3 v0 fun r4 =>
      zgR h3 [0] 1 v0 fun r5 =>
      if ztg h3 r4 = some 1 then
        zcI (f_X2_areGapsAlike r4 r5 h3) zX fun x6 h7 =>
        if x6 = 0 then
          f_X1_isConsistent_28 v0 h7
        else
          f_X1_isConsistent_29 v0 1 h7
      else
      none
  else
  none
def f_X1_save (v0 : Option Nat) (h : zH) : zO :=
  znO h 1 [.null, .null, .int 0, .int 0, .int 0, .int 0, .int 0, .int 0, .int 0, .int 0] fun r1 h2 =>
  zgR h2 [0] 3 v0 fun r3 =>
  if ¬ r1 = none then
    zcV (f_X2_init_2 r1 r3 h2) zX fun h4 =>
    zpF h4 [0] 4 v0 (va_rf r1) fun h5 =>
    zgR h5 [0] 4 v0 fun r6 =>
    zgR h5 [1] 0 r6 fun r7 =>
    if ztg h5 r7 = some 13 then
      zcI (f_J1_size r7 h5) zX fun x8 h9 =>
      zrI x8 h9
    else
    none
  else none
def f_X5_init (v0 : Option Nat) (h : zH) : zO :=
  if ¬ v0 = none then
    znA h 200 4 (.int 0) 140 fun r1 h2 =>
    zpF h2 [4] 0 v0 (va_rf r1) fun h3 =>
    znA h3 200 4 (.int 0) 140 fun r4 h5 =>
    zpF h5 [4] 1 v0 (va_rf r4) fun h6 =>
    znA h6 200 4 (.int 0) 140 fun r7 h8 =>
    zpF h8 [4] 2 v0 (va_rf r7) fun h9 =>
    znA h9 200 4 (.int 0) 1120 fun r10 h11 =>
    zpF h11 [4] 3 v0 (va_rf r10) fun h12 =>
    zpF h12 [4] 6 v0 (.int (-1)) fun h13 =>
    zpF h13 [4] 7 v0 (.int (-1)) fun h14 =>
    znA h14 200 4 (.int 0) 60 fun r15 h16 =>
    zpF h16 [4] 9 v0 (va_rf r15) fun h17 =>
    znA h17 200 4 (.int 0) 80 fun r18 h19 =>
    zpF h19 [4] 11 v0 (va_rf r18) fun h20 =>
    znA h20 201 1 (.int 0) 256 fun r21 h22 =>
    zpF h22 [4] 14 v0 (va_rf r21) fun h23 =>
    znA h23 200 4 (.int 0) 120 fun r24 h25 =>
    zpF h25 [4] 19 v0 (va_rf r24) fun h26 =>
    zgR h26 [4] 0 v0 fun r27 =>
    zaS h26 [200] r27 0 (.int 3) fun h28 =>
    zgR h28 [4] 0 v0 fun r29 =>
    zaS h28 [200] r29 1 (.int 100) fun h30 =>
    zgR h30 [4] 0 v0 fun r31 =>
    zaS h30 [200] r31 2 (.int 1) fun h32 =>
    zrV h32
  else none
def f_X5_thrown (v0 : Option Nat) (h : zH) : zO :=
  zgI h [4] 13 v0 fun x1 =>
  zrI x1 h
def f_X5_holds_35  (a0 : Option Nat) (s0 : Int32) (s1 : Option Nat) (h : zH) : zO :=
  zpF h [4] 13 s1 (.int s0) fun h1 =>
  zgI h1 [4] 13 a0 fun x2 =>
  if ¬ x2 = 0 then
    zrN .boolean 0 h1
  else
    zrN .boolean 1 h1
def f_X5_holds (v0 : Option Nat) (v1 : Int32) (v2 : Int32) (v3 : Int32) (v4 : Int32) (h : zH) : zO :=
  if ¬ v1 = 0 then
    if ¬ v2 = 0 then
      if ¬ v3 = 0 then
        if ¬ v4 = 0 then
          f_X5_holds_35 v0 0 v0 h
        else
          f_X5_holds_35 v0 4 v0 h
      else
        f_X5_holds_35 v0 3 v0 h
    else
      f_X5_holds_35 v0 2 v0 h
  else
    f_X5_holds_35 v0 1 v0 h
def f_X5_goes (v0 : Option Nat) (v1 : Int32) (h : zH) : zO :=
  if ztg h v0 = some 4 then
    zcI (f_X5_holds v0 v1 1 1 1 h) zX fun x1 h2 =>
    zrN .boolean x1 h2
  else
  none
def f_X5_copies_3  : Nat → Option Nat → Int32 → Option Nat → Int32 → Int32 → zH → zO
  | 0, _, _, _, _, _, _ => none
  | n + 1, a0, a1, a2, a3, a4, h =>
    if 140 ≤ a4 then
      zrV h
    else
      zaI h [200] a0 (a1 + a4) fun x1 =>
      zaS h [200] a2 (a3 + a4) (.int x1) fun h2 =>
      znm (a4 + 1) fun x3 =>
      f_X5_copies_3 n a0 a1 a2 a3 x3 h2
def f_X5_copies (v0 : Option Nat) (v1 : Int32) (v2 : Option Nat) (v3 : Int32) (h : zH) : zO :=
  f_X5_copies_3 zfuel v0 v1 v2 v3 0 h
def f_X5_undo_13  (a0 : Option Nat) (s0 : Int32) (s1 : Option Nat) (h : zH) : zO :=
  if ztg h s1 = some 4 then
    zcI (f_X5_goes s1 s0 h) zX fun x2 h3 =>
    if ¬ x2 = 0 then
      zgI h3 [4] 5 a0 fun x4 =>
      zpF h3 [4] 5 a0 (.int (x4 - 1)) fun h5 =>
      zgR h5 [4] 3 a0 fun r6 =>
      zgI h5 [4] 5 a0 fun x7 =>
      zgR h5 [4] 0 a0 fun r8 =>
      zcV (f_X5_copies r6 (x7 * 140) r8 0 h5) zX fun h9 =>
      zgI h9 [4] 5 a0 fun x10 =>
      zrI x10 h9
    else
      zrI 0 h3
  else
  none
def f_X5_undo (v0 : Option Nat) (h : zH) : zO :=
  zgI h [4] 5 v0 fun x1 =>
  if x1 ≤ 0 then
    f_X5_undo_13 v0 0 v0 h
  else
    f_X5_undo_13 v0 1 v0 h
def f_X5_save (v0 : Option Nat) (h : zH) : zO :=
  zpF h [4] 13 v0 (.int 0) fun h1 =>
  zgR h1 [4] 0 v0 fun r2 =>
  zgR h1 [4] 2 v0 fun r3 =>
  zcV (f_X5_copies r2 0 r3 0 h1) zX fun h4 =>
  zpN h4 [4] 4 v0 .boolean (.int 1) fun h5 =>
  zgR h5 [4] 0 v0 fun r6 =>
  zaI h5 [200] r6 4 fun x7 =>
  zrI x7 h5
def f_X5_restore (v0 : Option Nat) (h : zH) : zO :=
  zgI h [4] 4 v0 fun x1 =>
  if ztg h v0 = some 4 then
    zcI (f_X5_goes v0 x1 h) zX fun x2 h3 =>
    if ¬ x2 = 0 then
      zgR h3 [4] 2 v0 fun r4 =>
      zgR h3 [4] 0 v0 fun r5 =>
      zcV (f_X5_copies r4 0 r5 0 h3) zX fun h6 =>
      zpF h6 [4] 5 v0 (.int 0) fun h7 =>
      zgR h7 [4] 0 v0 fun r8 =>
      zaI h7 [200] r8 4 fun x9 =>
      zrI x9 h7
    else
      zrI 0 h3
  else
  none
def f_X5_begins (v0 : Option Nat) (h : zH) : zO :=
  zgR h [4] 0 v0 fun r1 =>
  zgR h [4] 1 v0 fun r2 =>
  zcV (f_X5_copies r1 0 r2 0 h) zX fun h3 =>
  zrV h3
def f_X5_isIn (v0 : Int32) (v1 : Int32) (v2 : Int32) (h : zH) : zO :=
  if v0 < v1 then
    zrN .boolean 0 h
  else
    if v2 < v0 then
      zrN .boolean 0 h
    else
      zrN .boolean 1 h
def f_X5_place (v0 : Int32) (v1 : Int32) (h : zH) : zO :=
  zcI (f_J11_max 0 v0 h) zX fun x1 h2 =>
  zrI (((8 : Int32) + ((9 : Int32) * x1)) + v1) h2
def f_X5_adds_103  (a0 : Option Nat) (a1 : Int32) (a2 : Int32) (a3 : Int32) (a5 : Int32) (h : zH) : zO :=
  zgR h [4] 0 a0 fun r18 =>
  zcI (f_X5_place a5 0 h) zX fun x19 h20 =>
  zgR h20 [4] 0 a0 fun r21 =>
  zaI h20 [200] r21 5 fun x22 =>
  zaS h20 [200] r18 x19 (.int x22) fun h23 =>
  zgR h23 [4] 0 a0 fun r24 =>
  zcI (f_X5_place a5 1 h23) zX fun x25 h26 =>
  zaS h26 [200] r24 x25 (.int a1) fun h27 =>
  zgR h27 [4] 0 a0 fun r28 =>
  zcI (f_X5_place a5 2 h27) zX fun x29 h30 =>
  zaS h30 [200] r28 x29 (.int a2) fun h31 =>
  zgR h31 [4] 0 a0 fun r32 =>
  zcI (f_X5_place a5 3 h31) zX fun x33 h34 =>
  zaS h34 [200] r32 x33 (.int a3) fun h35 =>
  zgR h35 [4] 0 a0 fun r36 =>
  zcI (f_X5_place a5 4 h35) zX fun x37 h38 =>
  zaS h38 [200] r36 x37 (.int (-1)) fun h39 =>
  zgR h39 [4] 0 a0 fun r40 =>
  zaI h39 [200] r40 4 fun x41 =>
  zaS h39 [200] r40 4 (.int (x41 + 1)) fun h42 =>
  zgR h42 [4] 0 a0 fun r43 =>
  zaI h42 [200] r43 5 fun x44 =>
  zaS h42 [200] r43 5 (.int (x44 + 1)) fun h45 =>
  zgR h45 [4] 0 a0 fun r46 =>
  zaI h45 [200] r46 5 fun x47 =>
  zrI (x47 - 1) h45
def f_X5_adds_77  : Nat → Option Nat → Int32 → Int32 → Int32 → Int32 → Int32 → zH → zO
  | 0, _, _, _, _, _, _, _ => none
  | n + 1, a0, a1, a2, a3, a5, a6, h =>
    if 9 ≤ a6 then
      f_X5_adds_103 a0 a1 a2 a3 a5 h
    else
      zgR h [4] 0 a0 fun r13 =>
      zcI (f_X5_place a5 a6 h) zX fun x14 h15 =>
      zaS h15 [200] r13 x14 (.int 0) fun h16 =>
      znm (a6 + 1) fun x17 =>
      f_X5_adds_77 n a0 a1 a2 a3 a5 x17 h16
def f_X5_adds_56  (a0 : Option Nat) (a1 : Int32) (a2 : Int32) (a3 : Int32) (s0 : Int32) (s1 : Int32) (s2 : Option Nat) (h : zH) : zO :=
  if ztg h s2 = some 4 then
    zcI (f_X5_holds s2 s1 s0 1 1 h) zX fun x9 h10 =>
    if ¬ x9 = 0 then
      zgR h10 [4] 0 a0 fun r11 =>
      zaI h10 [200] r11 4 fun x12 =>
      f_X5_adds_77 zfuel a0 a1 a2 a3 x12 0 h10
    else
      zrI 0 h10
  else
  none
def f_X5_adds_35  (a0 : Option Nat) (a1 : Int32) (a2 : Int32) (a3 : Int32) (s0 : Int32) (h : zH) : zO :=
  zgR h [4] 0 a0 fun r7 =>
  zaI h [200] r7 4 fun x8 =>
  if 8 ≤ x8 then
    f_X5_adds_56 a0 a1 a2 a3 0 s0 a0 h
  else
    f_X5_adds_56 a0 a1 a2 a3 1 s0 a0 h
def f_X5_adds_34  (a0 : Option Nat) (a1 : Int32) (a2 : Int32) (a3 : Int32) (h : zH) : zO :=
  f_X5_adds_35 a0 a1 a2 a3 0 h
def f_X5_adds (v0 : Option Nat) (v1 : Int32) (v2 : Int32) (v3 : Int32) (h : zH) : zO :=
  zcI (f_X5_isIn v1 5 30 h) zX fun x1 h2 =>
  if x1 = 0 then
    f_X5_adds_34 v0 v1 v2 v3 h2
  else
    zcI (f_X5_isIn v2 5 80 h2) zX fun x3 h4 =>
    if x3 = 0 then
      f_X5_adds_34 v0 v1 v2 v3 h4
    else
      zcI (f_X5_isIn v3 0 99 h4) zX fun x5 h6 =>
      if x5 = 0 then
        f_X5_adds_34 v0 v1 v2 v3 h6
      else
        f_X5_adds_35 v0 v1 v2 v3 1 h6
def f_X5_remembers_50  (a0 : Option Nat) (h : zH) : zO :=
  zgR h [4] 1 a0 fun r9 =>
  zgR h [4] 3 a0 fun r10 =>
  zgI h [4] 5 a0 fun x11 =>
  zcV (f_X5_copies r9 0 r10 (x11 * 140) h) zX fun h12 =>
  zgI h12 [4] 5 a0 fun x13 =>
  zpF h12 [4] 5 a0 (.int (x13 + 1)) fun h14 =>
  zrV h14
def f_X5_remembers_40  (a0 : Option Nat) (h : zH) : zO :=
  zgI h [4] 5 a0 fun x7 =>
  zpF h [4] 5 a0 (.int (x7 - 1)) fun h8 =>
  f_X5_remembers_50 a0 h8
def f_X5_remembers_11  : Nat → Option Nat → Int32 → zH → zO
  | 0, _, _, _ => none
  | n + 1, a0, a1, h =>
    if 980 ≤ a1 then
      f_X5_remembers_40 a0 h
    else
      zgR h [4] 3 a0 fun r2 =>
      zgR h [4] 3 a0 fun r3 =>
      zaI h [200] r3 (a1 + 140) fun x4 =>
      zaS h [200] r2 a1 (.int x4) fun h5 =>
      znm (a1 + 1) fun x6 =>
      f_X5_remembers_11 n a0 x6 h5
def f_X5_remembers (v0 : Option Nat) (h : zH) : zO :=
  zgI h [4] 5 v0 fun x1 =>
  if ¬ x1 = 8 then
    f_X5_remembers_50 v0 h
  else
    f_X5_remembers_11 zfuel v0 0 h
def f_X5_ends (v0 : Option Nat) (v1 : Int32) (h : zH) : zO :=
  zgI h [4] 13 v0 fun x1 =>
  if x1 = 0 then
    if ztg h v0 = some 4 then
      zcV (f_X5_remembers v0 h) zX fun h2 =>
      zrI v1 h2
    else
    none
  else
    zgR h [4] 1 v0 fun r3 =>
    zgR h [4] 0 v0 fun r4 =>
    zcV (f_X5_copies r3 0 r4 0 h) zX fun h5 =>
    zrI 0 h5
def f_X5_addShip (v0 : Option Nat) (v1 : Int32) (v2 : Int32) (v3 : Int32) (h : zH) : zO :=
  if ztg h v0 = some 4 then
    zcV (f_X5_begins v0 h) zX fun h1 =>
    if ztg h1 v0 = some 4 then
      zcI (f_X5_adds v0 v1 v2 v3 h1) zX fun x2 h3 =>
      if ztg h3 v0 = some 4 then
        zcI (f_X5_ends v0 x2 h3) zX fun x4 h5 =>
        zrI x4 h5
      else
      none
    else
    none
  else
  none
def f_X5_of (v0 : Option Nat) (v1 : Int32) (v2 : Int32) (h : zH) : zO :=
  zgR h [4] 0 v0 fun r1 =>
  zcI (f_X5_place v1 v2 h) zX fun x2 h3 =>
  zaI h3 [200] r1 x2 fun x4 =>
  zrI x4 h3
def f_X5_find_29 (K4 : Option Nat → Int32 → Int32 → Int32 → zH → zO) (a0 : Option Nat) (a1 : Int32) (a3 : Int32) (s0 : Int32) (h : zH) : zO :=
  znm (a3 + 1) fun x5 =>
  K4 a0 a1 s0 x5 h
def f_X5_find_4  : Nat → Option Nat → Int32 → Int32 → Int32 → zH → zO
  | 0, _, _, _, _, _ => none
  | n + 1, a0, a1, a2, a3, h =>
    zgR h [4] 0 a0 fun r1 =>
    zaI h [200] r1 4 fun x2 =>
    if x2 ≤ a3 then
      zrI a2 h
    else
      if ztg h a0 = some 4 then
        zcI (f_X5_of a0 a3 0 h) zX fun x3 h4 =>
        if ¬ x3 = a1 then
          f_X5_find_29 (f_X5_find_4 n) a0 a1 a3 a2 h4
        else
          f_X5_find_29 (f_X5_find_4 n) a0 a1 a3 a3 h4
      else
      none
def f_X5_find (v0 : Option Nat) (v1 : Int32) (h : zH) : zO :=
  f_X5_find_4 zfuel v0 v1 (-1) 0 h
def f_X5_isDocked (v0 : Option Nat) (v1 : Int32) (h : zH) : zO :=
  if v1 = (-1) then
    zrN .boolean 0 h
  else
    if ztg h v0 = some 4 then
      zcI (f_X5_of v0 v1 4 h) zX fun x1 h2 =>
      if x1 = (-1) then
        zrN .boolean 0 h2
      else
        zrN .boolean 1 h2
    else
    none
def f_X5_removes_64  : Nat → Option Nat → Int32 → Int32 → zH → zO
  | 0, _, _, _, _ => none
  | n + 1, a0, a3, a4, h =>
    if 71 ≤ a4 then
      zgR h [4] 0 a0 fun r13 =>
      zaI h [200] r13 4 fun x14 =>
      zaS h [200] r13 4 (.int (x14 - 1)) fun h15 =>
      zrI a3 h15
    else
      zgR h [4] 0 a0 fun r16 =>
      zgR h [4] 0 a0 fun r17 =>
      zaI h [200] r17 (a4 + 9) fun x18 =>
      zaS h [200] r16 a4 (.int x18) fun h19 =>
      znm (a4 + 1) fun x20 =>
      f_X5_removes_64 n a0 a3 x20 h19
def f_X5_removes_40  (a0 : Option Nat) (a2 : Int32) (s0 : Int32) (s1 : Int32) (s2 : Option Nat) (h : zH) : zO :=
  if ztg h s2 = some 4 then
    zcI (f_X5_holds s2 s1 s0 1 1 h) zX fun x7 h8 =>
    if ¬ x7 = 0 then
      if ztg h8 a0 = some 4 then
        zcI (f_X5_of a0 a2 3 h8) zX fun x9 h10 =>
        zcI (f_X5_place a2 0 h10) zX fun x11 h12 =>
        f_X5_removes_64 zfuel a0 x9 x11 h12
      else
      none
    else
      zrI 0 h8
  else
  none
def f_X5_removes_39  (a0 : Option Nat) (a2 : Int32) (s0 : Int32) (s1 : Option Nat) (h : zH) : zO :=
  f_X5_removes_40 a0 a2 0 s0 s1 h
def f_X5_removes_17  (a0 : Option Nat) (a2 : Int32) (s0 : Int32) (s1 : Option Nat) (h : zH) : zO :=
  if ztg h a0 = some 4 then
    zcI (f_X5_isDocked a0 a2 h) zX fun x3 h4 =>
    if ¬ x3 = 0 then
      f_X5_removes_39 a0 a2 s0 s1 h4
    else
      if ztg h4 a0 = some 4 then
        zcI (f_X5_of a0 a2 8 h4) zX fun x5 h6 =>
        if ¬ x5 = 0 then
          f_X5_removes_39 a0 a2 s0 s1 h6
        else
          f_X5_removes_40 a0 a2 1 s0 s1 h6
      else
      none
  else
  none
def f_X5_removes (v0 : Option Nat) (v1 : Int32) (h : zH) : zO :=
  if ztg h v0 = some 4 then
    zcI (f_X5_find v0 v1 h) zX fun x1 h2 =>
    if x1 = (-1) then
      f_X5_removes_17 v0 x1 0 v0 h2
    else
      f_X5_removes_17 v0 x1 1 v0 h2
  else
  none
def f_X5_removeShip (v0 : Option Nat) (v1 : Int32) (h : zH) : zO :=
  if ztg h v0 = some 4 then
    zcV (f_X5_begins v0 h) zX fun h1 =>
    if ztg h1 v0 = some 4 then
      zcI (f_X5_removes v0 v1 h1) zX fun x2 h3 =>
      if ztg h3 v0 = some 4 then
        zcI (f_X5_ends v0 x2 h3) zX fun x4 h5 =>
        zrI x4 h5
      else
      none
    else
    none
  else
  none
def f_X5_isMetre (v0 : Int32) (h : zH) : zO :=
  zcI (f_X5_isIn v0 0 59 h) zX fun x1 h2 =>
  zrN .boolean x1 h2
def f_X5_at_67 (K4 : Option Nat → Int32 → Int32 → Int32 → zH → zO) (a0 : Option Nat) (a1 : Int32) (a3 : Int32) (s0 : Int32) (h : zH) : zO :=
  znm (a3 + 1) fun x13 =>
  K4 a0 a1 s0 x13 h
def f_X5_at_55 (K4 : Option Nat → Int32 → Int32 → Int32 → zH → zO) (a0 : Option Nat) (a1 : Int32) (a2 : Int32) (a3 : Int32) (s0 : Int32) (h : zH) : zO :=
  if s0 = 0 then
    f_X5_at_67 K4 a0 a1 a3 a2 h
  else
    f_X5_at_67 K4 a0 a1 a3 a3 h
def f_X5_at_54 (K4 : Option Nat → Int32 → Int32 → Int32 → zH → zO) (a0 : Option Nat) (a1 : Int32) (a2 : Int32) (a3 : Int32) (h : zH) : zO :=
  f_X5_at_55 K4 a0 a1 a2 a3 0 h
def f_X5_at_4  : Nat → Option Nat → Int32 → Int32 → Int32 → zH → zO
  | 0, _, _, _, _, _ => none
  | n + 1, a0, a1, a2, a3, h =>
    zgR h [4] 0 a0 fun r1 =>
    zaI h [200] r1 4 fun x2 =>
    if x2 ≤ a3 then
      zrI a2 h
    else
      if ztg h a0 = some 4 then
        zcI (f_X5_isDocked a0 a3 h) zX fun x3 h4 =>
        if x3 = 0 then
          f_X5_at_54 (f_X5_at_4 n) a0 a1 a2 a3 h4
        else
          if ztg h4 a0 = some 4 then
            zcI (f_X5_of a0 a3 4 h4) zX fun x5 h6 =>
            if ztg h6 a0 = some 4 then
              zcI (f_X5_of a0 a3 4 h6) zX fun x7 h8 =>
              if ztg h8 a0 = some 4 then
                zcI (f_X5_of a0 a3 1 h8) zX fun x9 h10 =>
                zcI (f_X5_isIn a1 x5 ((x7 + x9) - 1) h10) zX fun x11 h12 =>
                if x11 = 0 then
                  f_X5_at_54 (f_X5_at_4 n) a0 a1 a2 a3 h12
                else
                  f_X5_at_55 (f_X5_at_4 n) a0 a1 a2 a3 1 h12
              else
              none
            else
            none
          else
          none
      else
      none
def f_X5_at (v0 : Option Nat) (v1 : Int32) (h : zH) : zO :=
  f_X5_at_4 zfuel v0 v1 (-1) 0 h
def f_X5_isFree_32 (K5 : Option Nat → Int32 → Int32 → Int32 → Int32 → zH → zO) (a0 : Option Nat) (a1 : Int32) (a2 : Int32) (a4 : Int32) (s0 : Int32) (h : zH) : zO :=
  znm (a4 + 1) fun x3 =>
  K5 a0 a1 a2 s0 x3 h
def f_X5_isFree_31 (K5 : Option Nat → Int32 → Int32 → Int32 → Int32 → zH → zO) (a0 : Option Nat) (a1 : Int32) (a2 : Int32) (a4 : Int32) (h : zH) : zO :=
  f_X5_isFree_32 K5 a0 a1 a2 a4 0 h
def f_X5_isFree_5  : Nat → Option Nat → Int32 → Int32 → Int32 → Int32 → zH → zO
  | 0, _, _, _, _, _, _ => none
  | n + 1, a0, a1, a2, a3, a4, h =>
    if (a1 + a2) ≤ a4 then
      zrN .boolean a3 h
    else
      if a3 = 0 then
        f_X5_isFree_31 (f_X5_isFree_5 n) a0 a1 a2 a4 h
      else
        if ztg h a0 = some 4 then
          zcI (f_X5_at a0 a4 h) zX fun x1 h2 =>
          if ¬ x1 = (-1) then
            f_X5_isFree_31 (f_X5_isFree_5 n) a0 a1 a2 a4 h2
          else
            f_X5_isFree_32 (f_X5_isFree_5 n) a0 a1 a2 a4 1 h2
        else
        none
def f_X5_isFree (v0 : Option Nat) (v1 : Int32) (v2 : Int32) (h : zH) : zO :=
  f_X5_isFree_5 zfuel v0 v1 v2 1 v1 h
def f_X5_refuses (v0 : Option Nat) (v1 : Int32) (v2 : Int32) (h : zH) : zO :=
  zgI h [4] 13 v0 fun x1 =>
  if ¬ x1 = 0 then
    zrV h
  else
    if v2 = 0 then
      zrV h
    else
      zpF h [4] 13 v0 (.int v1) fun h2 =>
      zpF h2 [4] 8 v0 (.int v2) fun h3 =>
      zrV h3
def f_X5_docked_28 (K4 : Option Nat → Int32 → Int32 → zH → zO) (a0 : Option Nat) (a2 : Int32) (s0 : Int32) (s1 : Int32) (h : zH) : zO :=
  znm (s1 + s0) fun x5 =>
  znm (a2 + 1) fun x6 =>
  K4 a0 x5 x6 h
def f_X5_docked_4  : Nat → Option Nat → Int32 → Int32 → zH → zO
  | 0, _, _, _, _ => none
  | n + 1, a0, a1, a2, h =>
    zgR h [4] 0 a0 fun r1 =>
    zaI h [200] r1 4 fun x2 =>
    if x2 ≤ a2 then
      zrI a1 h
    else
      if ztg h a0 = some 4 then
        zcI (f_X5_isDocked a0 a2 h) zX fun x3 h4 =>
        if x3 = 0 then
          f_X5_docked_28 (f_X5_docked_4 n) a0 a2 0 a1 h4
        else
          f_X5_docked_28 (f_X5_docked_4 n) a0 a2 1 a1 h4
      else
      none
def f_X5_docked (v0 : Option Nat) (h : zH) : zO :=
  f_X5_docked_4 zfuel v0 0 0 h
def f_X5_enters_121  (a0 : Option Nat) (a2 : Int32) (a3 : Int32) (h : zH) : zO :=
  zgI h [4] 13 a0 fun x20 =>
  if x20 = 0 then
    zgR h [4] 0 a0 fun r21 =>
    zcI (f_X5_place a3 4 h) zX fun x22 h23 =>
    zaS h23 [200] r21 x22 (.int a2) fun h24 =>
    zgR h24 [4] 0 a0 fun r25 =>
    zcI (f_X5_place a3 5 h24) zX fun x26 h27 =>
    zaS h27 [200] r25 x26 (.int 0) fun h28 =>
    if ztg h28 a0 = some 4 then
      zcI (f_X5_docked a0 h28) zX fun x29 h30 =>
      zrI x29 h30
    else
    none
  else
    zrI 0 h
def f_X5_enters_118  (a0 : Option Nat) (a2 : Int32) (a3 : Int32) (s0 : Int32) (s1 : Int32) (s2 : Option Nat) (h : zH) : zO :=
  if ztg h s2 = some 4 then
    zcV (f_X5_refuses s2 s1 s0 h) zX fun h19 =>
    f_X5_enters_121 a0 a2 a3 h19
  else
  none
def f_X5_enters_73  (a0 : Option Nat) (a2 : Int32) (a3 : Int32) (a4 : Int32) (s0 : Int32) (s1 : Int32) (s2 : Int32) (s3 : Option Nat) (h : zH) : zO :=
  if ztg h s3 = some 4 then
    zcI (f_X5_holds s3 s2 s1 s0 1 h) zX fun x11 h12 =>
    if x11 = 0 then
      f_X5_enters_121 a0 a2 a3 h12
    else
      zgR h12 [4] 0 a0 fun r13 =>
      zaI h12 [200] r13 1 fun x14 =>
      if ztg h12 a0 = some 4 then
        zcI (f_X5_of a0 a3 2 h12) zX fun x15 h16 =>
        if (x15 + 2) ≤ x14 then
          if ztg h16 a0 = some 4 then
            zcI (f_X5_isFree a0 a2 a4 h16) zX fun x17 h18 =>
            if ¬ x17 = 0 then
              f_X5_enters_118 a0 a2 a3 0 4 a0 h18
            else
              f_X5_enters_118 a0 a2 a3 2 4 a0 h18
          else
          none
        else
          f_X5_enters_118 a0 a2 a3 1 4 a0 h16
      else
      none
  else
  none
def f_X5_enters_72  (a0 : Option Nat) (a2 : Int32) (a3 : Int32) (a4 : Int32) (s0 : Int32) (s1 : Int32) (s2 : Option Nat) (h : zH) : zO :=
  f_X5_enters_73 a0 a2 a3 a4 0 s0 s1 s2 h
def f_X5_enters_48  (a0 : Option Nat) (a2 : Int32) (a3 : Int32) (a4 : Int32) (a5 : Int32) (s0 : Int32) (s1 : Option Nat) (h : zH) : zO :=
  if ztg h a0 = some 4 then
    zcI (f_X5_isDocked a0 a3 h) zX fun x7 h8 =>
    if ¬ x7 = 0 then
      f_X5_enters_72 a0 a2 a3 a4 a5 s0 s1 h8
    else
      zgR h8 [4] 0 a0 fun r9 =>
      zaI h8 [200] r9 2 fun x10 =>
      if ¬ x10 = 1 then
        f_X5_enters_72 a0 a2 a3 a4 a5 s0 s1 h8
      else
        f_X5_enters_73 a0 a2 a3 a4 1 a5 s0 s1 h8
  else
  none
def f_X5_enters_35  (a0 : Option Nat) (a2 : Int32) (a3 : Int32) (a4 : Int32) (s0 : Int32) (h : zH) : zO :=
  if a3 = (-1) then
    f_X5_enters_48 a0 a2 a3 a4 s0 0 a0 h
  else
    f_X5_enters_48 a0 a2 a3 a4 s0 1 a0 h
def f_X5_enters_34  (a0 : Option Nat) (a2 : Int32) (a3 : Int32) (a4 : Int32) (h : zH) : zO :=
  f_X5_enters_35 a0 a2 a3 a4 0 h
def f_X5_enters (v0 : Option Nat) (v1 : Int32) (v2 : Int32) (h : zH) : zO :=
  if ztg h v0 = some 4 then
    zcI (f_X5_find v0 v1 h) zX fun x1 h2 =>
    if ztg h2 v0 = some 4 then
      zcI (f_X5_of v0 x1 1 h2) zX fun x3 h4 =>
      zcI (f_X5_isMetre v2 h4) zX fun x5 h6 =>
      if x5 = 0 then
        f_X5_enters_34 v0 v2 x1 x3 h6
      else
        if ((60 : Int32) - x3) < v2 then
          f_X5_enters_34 v0 v2 x1 x3 h6
        else
          f_X5_enters_35 v0 v2 x1 x3 1 h6
    else
    none
  else
  none
def f_X5_enter (v0 : Option Nat) (v1 : Int32) (v2 : Int32) (h : zH) : zO :=
  if ztg h v0 = some 4 then
    zcV (f_X5_begins v0 h) zX fun h1 =>
    if ztg h1 v0 = some 4 then
      zcI (f_X5_enters v0 v1 v2 h1) zX fun x2 h3 =>
      if ztg h3 v0 = some 4 then
        zcI (f_X5_ends v0 x2 h3) zX fun x4 h5 =>
        zrI x4 h5
      else
      none
    else
    none
  else
  none
def f_X5_floats (v0 : Option Nat) (v1 : Int32) (h : zH) : zO :=
  if ztg h v0 = some 4 then
    zcI (f_X5_isDocked v0 v1 h) zX fun x1 h2 =>
    if x1 = 0 then
      zrN .boolean 1 h2
    else
      zgR h2 [4] 0 v0 fun r3 =>
      zaI h2 [200] r3 1 fun x4 =>
      if ztg h2 v0 = some 4 then
        zcI (f_X5_of v0 v1 2 h2) zX fun x5 h6 =>
        if x4 < x5 then
          zrN .boolean 0 h6
        else
          zrN .boolean 1 h6
      else
      none
  else
  none
def f_X5_leaves_80  (a0 : Option Nat) (a2 : Int32) (h : zH) : zO :=
  zgI h [4] 13 a0 fun x14 =>
  if x14 = 0 then
    zgR h [4] 0 a0 fun r15 =>
    zcI (f_X5_place a2 4 h) zX fun x16 h17 =>
    zaS h17 [200] r15 x16 (.int (-1)) fun h18 =>
    zgR h18 [4] 0 a0 fun r19 =>
    zcI (f_X5_place a2 5 h18) zX fun x20 h21 =>
    zaS h21 [200] r19 x20 (.int 0) fun h22 =>
    if ztg h22 a0 = some 4 then
      zcI (f_X5_docked a0 h22) zX fun x23 h24 =>
      zrI x23 h24
    else
    none
  else
    zrI 0 h
def f_X5_leaves_77  (a0 : Option Nat) (a2 : Int32) (s0 : Int32) (s1 : Int32) (s2 : Option Nat) (h : zH) : zO :=
  if ztg h s2 = some 4 then
    zcV (f_X5_refuses s2 s1 s0 h) zX fun h13 =>
    f_X5_leaves_80 a0 a2 h13
  else
  none
def f_X5_leaves_40  (a0 : Option Nat) (a2 : Int32) (s0 : Int32) (s1 : Int32) (s2 : Option Nat) (h : zH) : zO :=
  if ztg h s2 = some 4 then
    zcI (f_X5_holds s2 s1 s0 1 1 h) zX fun x7 h8 =>
    if x7 = 0 then
      f_X5_leaves_80 a0 a2 h8
    else
      if ztg h8 a0 = some 4 then
        zcI (f_X5_floats a0 a2 h8) zX fun x9 h10 =>
        if ¬ x9 = 0 then
          if ztg h10 a0 = some 4 then
            zcI (f_X5_of a0 a2 8 h10) zX fun x11 h12 =>
            if x11 = 0 then
              f_X5_leaves_77 a0 a2 0 3 a0 h12
            else
              f_X5_leaves_77 a0 a2 4 3 a0 h12
          else
          none
        else
          f_X5_leaves_77 a0 a2 3 3 a0 h10
      else
      none
  else
  none
def f_X5_leaves_39  (a0 : Option Nat) (a2 : Int32) (s0 : Int32) (s1 : Option Nat) (h : zH) : zO :=
  f_X5_leaves_40 a0 a2 0 s0 s1 h
def f_X5_leaves_17  (a0 : Option Nat) (a2 : Int32) (s0 : Int32) (s1 : Option Nat) (h : zH) : zO :=
  if ztg h a0 = some 4 then
    zcI (f_X5_isDocked a0 a2 h) zX fun x3 h4 =>
    if x3 = 0 then
      f_X5_leaves_39 a0 a2 s0 s1 h4
    else
      zgR h4 [4] 0 a0 fun r5 =>
      zaI h4 [200] r5 2 fun x6 =>
      if ¬ x6 = 1 then
        f_X5_leaves_39 a0 a2 s0 s1 h4
      else
        f_X5_leaves_40 a0 a2 1 s0 s1 h4
  else
  none
def f_X5_leaves (v0 : Option Nat) (v1 : Int32) (h : zH) : zO :=
  if ztg h v0 = some 4 then
    zcI (f_X5_find v0 v1 h) zX fun x1 h2 =>
    if x1 = (-1) then
      f_X5_leaves_17 v0 x1 0 v0 h2
    else
      f_X5_leaves_17 v0 x1 1 v0 h2
  else
  none
def f_X5_leave (v0 : Option Nat) (v1 : Int32) (h : zH) : zO :=
  if ztg h v0 = some 4 then
    zcV (f_X5_begins v0 h) zX fun h1 =>
    if ztg h1 v0 = some 4 then
      zcI (f_X5_leaves v0 v1 h1) zX fun x2 h3 =>
      if ztg h3 v0 = some 4 then
        zcI (f_X5_ends v0 x2 h3) zX fun x4 h5 =>
        zrI x4 h5
      else
      none
    else
    none
  else
  none
def f_X5_cleans_17  (a0 : Option Nat) (a2 : Int32) (a3 : Int32) (s0 : Int32) (s1 : Option Nat) (h : zH) : zO :=
  if ztg h a0 = some 4 then
    zcI (f_X5_isDocked a0 a3 h) zX fun x3 h4 =>
    if ztg h4 s1 = some 4 then
      zcI (f_X5_holds s1 s0 x3 1 1 h4) zX fun x5 h6 =>
      if ¬ x5 = 0 then
        if ztg h6 a0 = some 4 then
          zcI (f_X5_of a0 a3 5 h6) zX fun x7 h8 =>
          zgR h8 [4] 0 a0 fun r9 =>
          zcI (f_X5_place a3 5 h8) zX fun x10 h11 =>
          zaS h11 [200] r9 x10 (.int a2) fun h12 =>
          zrI x7 h12
        else
        none
      else
        zrI 0 h6
    else
    none
  else
  none
def f_X5_cleans (v0 : Option Nat) (v1 : Int32) (v2 : Int32) (h : zH) : zO :=
  if ztg h v0 = some 4 then
    zcI (f_X5_find v0 v1 h) zX fun x1 h2 =>
    if x1 = (-1) then
      f_X5_cleans_17 v0 v2 x1 0 v0 h2
    else
      f_X5_cleans_17 v0 v2 x1 1 v0 h2
  else
  none
def f_X5_setCleaning_16  (s0 : Int32) (s1 : Int32) (s2 : Option Nat) (s3 : Option Nat) (h : zH) : zO :=
  if ztg h s2 = some 4 then
    zcI (f_X5_cleans s2 s1 s0 h) zX fun x2 h3 =>
    if ztg h3 s3 = some 4 then
      zcI (f_X5_ends s3 x2 h3) zX fun x4 h5 =>
      if ¬ x4 = 1 then
        zrN .boolean 0 h5
      else
        zrN .boolean 1 h5
    else
    none
  else
  none
def f_X5_setCleaning (v0 : Option Nat) (v1 : Int32) (v2 : Int32) (h : zH) : zO :=
  if ztg h v0 = some 4 then
    zcV (f_X5_begins v0 h) zX fun h1 =>
    if v2 = 0 then
      f_X5_setCleaning_16 0 v1 v0 v0 h1
    else
      f_X5_setCleaning_16 1 v1 v0 v0 h1
  else
  none
def f_X5_pays_50  (a0 : Option Nat) (a2 : Int32) (a3 : Int32) (s0 : Int32) (s1 : Int32) (s2 : Int32) (s3 : Option Nat) (h : zH) : zO :=
  if ztg h s3 = some 4 then
    zcI (f_X5_holds s3 s2 s1 s0 1 h) zX fun x7 h8 =>
    if ¬ x7 = 0 then
      zgR h8 [4] 0 a0 fun r9 =>
      zcI (f_X5_place a3 8 h8) zX fun x10 h11 =>
      zaI h11 [200] r9 x10 fun x12 =>
      zaS h11 [200] r9 x10 (.int (x12 - a2)) fun h13 =>
      zgR h13 [4] 0 a0 fun r14 =>
      zaI h13 [200] r14 7 fun x15 =>
      zaS h13 [200] r14 7 (.int (x15 + a2)) fun h16 =>
      if ztg h16 a0 = some 4 then
        zcI (f_X5_of a0 a3 8 h16) zX fun x17 h18 =>
        zrI x17 h18
      else
      none
    else
      zrI 0 h8
  else
  none
def f_X5_pays_49  (a0 : Option Nat) (a2 : Int32) (a3 : Int32) (s0 : Int32) (s1 : Int32) (s2 : Option Nat) (h : zH) : zO :=
  f_X5_pays_50 a0 a2 a3 0 s0 s1 s2 h
def f_X5_pays_27  (a0 : Option Nat) (a2 : Int32) (a3 : Int32) (a4 : Int32) (s0 : Int32) (s1 : Option Nat) (h : zH) : zO :=
  if a4 = 0 then
    f_X5_pays_49 a0 a2 a3 a4 s0 s1 h
  else
    if ztg h a0 = some 4 then
      zcI (f_X5_of a0 a3 8 h) zX fun x5 h6 =>
      if x5 < a2 then
        f_X5_pays_49 a0 a2 a3 a4 s0 s1 h6
      else
        f_X5_pays_50 a0 a2 a3 1 a4 s0 s1 h6
    else
    none
def f_X5_pays (v0 : Option Nat) (v1 : Int32) (v2 : Int32) (h : zH) : zO :=
  if ztg h v0 = some 4 then
    zcI (f_X5_find v0 v1 h) zX fun x1 h2 =>
    zcI (f_X5_isIn v2 1 999 h2) zX fun x3 h4 =>
    if x1 = (-1) then
      f_X5_pays_27 v0 v2 x1 x3 0 v0 h4
    else
      f_X5_pays_27 v0 v2 x1 x3 1 v0 h4
  else
  none
def f_X5_pay (v0 : Option Nat) (v1 : Int32) (v2 : Int32) (h : zH) : zO :=
  if ztg h v0 = some 4 then
    zcV (f_X5_begins v0 h) zX fun h1 =>
    if ztg h1 v0 = some 4 then
      zcI (f_X5_pays v0 v1 v2 h1) zX fun x2 h3 =>
      if ztg h3 v0 = some 4 then
        zcI (f_X5_ends v0 x2 h3) zX fun x4 h5 =>
        zrI x4 h5
      else
      none
    else
    none
  else
  none
def f_X5_seaAt (v0 : Int32) (h : zH) : zO :=
  if ¬ 12 = 0 then
    znm (v0 - v0 / 12 * 12) fun x1 =>
    if 6 < x1 then
      zrI ((160 : Int32) - ((20 : Int32) * (x1 - 6))) h
    else
      zrI ((40 : Int32) + ((20 : Int32) * x1)) h
  else none
def f_X5_gates_51  (a0 : Option Nat) (a1 : Int32) (a3 : Int32) (s0 : Int32) (s1 : Option Nat) (h : zH) : zO :=
  if ztg h s1 = some 4 then
    zcI (f_X5_goes s1 s0 h) zX fun x11 h12 =>
    if x11 = 0 then
      zrI a3 h12
    else
      zgR h12 [4] 0 a0 fun r13 =>
      zaS h12 [200] r13 2 (.int a1) fun h14 =>
      zrI a3 h14
  else
  none
def f_X5_gates_46  (a0 : Option Nat) (a1 : Int32) (a3 : Int32) (s0 : Option Nat) (h : zH) : zO :=
  f_X5_gates_51 a0 a1 a3 1 s0 h
def f_X5_gates_29  (a0 : Option Nat) (a1 : Int32) (s0 : Int32) (h : zH) : zO :=
  zgR h [4] 0 a0 fun r9 =>
  zaI h [200] r9 2 fun x10 =>
  if a1 = 0 then
    f_X5_gates_46 a0 a1 x10 a0 h
  else
    if s0 = 0 then
      f_X5_gates_51 a0 a1 x10 0 a0 h
    else
      f_X5_gates_46 a0 a1 x10 a0 h
def f_X5_gates (v0 : Option Nat) (v1 : Int32) (h : zH) : zO :=
  zgR h [4] 0 v0 fun r1 =>
  zaI h [200] r1 1 fun x2 =>
  zgR h [4] 0 v0 fun r3 =>
  zaI h [200] r3 0 fun x4 =>
  zcI (f_X5_seaAt x4 h) zX fun x5 h6 =>
  zcI (f_J11_abs (x2 - x5) h6) zX fun x7 h8 =>
  if 20 < x7 then
    f_X5_gates_29 v0 v1 0 h8
  else
    f_X5_gates_29 v0 v1 1 h8
def f_X5_setGate_15  (s0 : Int32) (s1 : Option Nat) (s2 : Option Nat) (h : zH) : zO :=
  if ztg h s1 = some 4 then
    zcI (f_X5_gates s1 s0 h) zX fun x2 h3 =>
    if ztg h3 s2 = some 4 then
      zcI (f_X5_ends s2 x2 h3) zX fun x4 h5 =>
      if ¬ x4 = 1 then
        zrN .boolean 0 h5
      else
        zrN .boolean 1 h5
    else
    none
  else
  none
def f_X5_setGate (v0 : Option Nat) (v1 : Int32) (h : zH) : zO :=
  if ztg h v0 = some 4 then
    zcV (f_X5_begins v0 h) zX fun h1 =>
    if v1 = 0 then
      f_X5_setGate_15 0 v0 v0 h1
    else
      f_X5_setGate_15 1 v0 v0 h1
  else
  none
def f_X5_pumps (v0 : Option Nat) (v1 : Int32) (h : zH) : zO :=
  zgR h [4] 0 v0 fun r1 =>
  zaI h [200] r1 3 fun x2 =>
  zcI (f_X5_isIn v1 (-30) 30 h) zX fun x3 h4 =>
  if ztg h4 v0 = some 4 then
    zcI (f_X5_goes v0 x3 h4) zX fun x5 h6 =>
    if x5 = 0 then
      zrI x2 h6
    else
      zgR h6 [4] 0 v0 fun r7 =>
      zaS h6 [200] r7 3 (.int v1) fun h8 =>
      zrI x2 h8
  else
  none
def f_X5_setPump (v0 : Option Nat) (v1 : Int32) (h : zH) : zO :=
  if ztg h v0 = some 4 then
    zcV (f_X5_begins v0 h) zX fun h1 =>
    if ztg h1 v0 = some 4 then
      zcI (f_X5_pumps v0 v1 h1) zX fun x2 h3 =>
      if ztg h3 v0 = some 4 then
        zcI (f_X5_ends v0 x2 h3) zX fun x4 h5 =>
        zrI x4 h5
      else
      none
    else
    none
  else
  none
def f_X5_blocks_4  : Nat → Option Nat → Int32 → Int32 → zH → zO
  | 0, _, _, _, _ => none
  | n + 1, a0, a1, a2, h =>
    if 60 ≤ a2 then
      zrI a1 h
    else
      zgR h [4] 0 a0 fun r1 =>
      zaI h [200] r1 ((80 : Int32) + a2) fun x2 =>
      znm (a1 + x2) fun x3 =>
      znm (a2 + 1) fun x4 =>
      f_X5_blocks_4 n a0 x3 x4 h
def f_X5_blocks (v0 : Option Nat) (h : zH) : zO :=
  f_X5_blocks_4 zfuel v0 0 0 h
def f_X5_isBlock (v0 : Option Nat) (v1 : Int32) (h : zH) : zO :=
  zcI (f_X5_isMetre v1 h) zX fun x1 h2 =>
  if x1 = 0 then
    zrN .boolean 0 h2
  else
    zgR h2 [4] 0 v0 fun r3 =>
    zaI h2 [200] r3 ((80 : Int32) + v1) fun x4 =>
    if ¬ x4 = 1 then
      zrN .boolean 0 h2
    else
      zrN .boolean 1 h2
def f_X5_lays_54  (a0 : Option Nat) (a1 : Int32) (s0 : Int32) (s1 : Int32) (s2 : Int32) (s3 : Option Nat) (h : zH) : zO :=
  if ztg h s3 = some 4 then
    zcI (f_X5_holds s3 s2 s1 s0 1 h) zX fun x11 h12 =>
    if ¬ x11 = 0 then
      zgR h12 [4] 0 a0 fun r13 =>
      zaS h12 [200] r13 ((80 : Int32) + a1) (.int 1) fun h14 =>
      if ztg h14 a0 = some 4 then
        zcI (f_X5_blocks a0 h14) zX fun x15 h16 =>
        zrI x15 h16
      else
      none
    else
      zrI 0 h12
  else
  none
def f_X5_lays_53  (a0 : Option Nat) (a1 : Int32) (s0 : Int32) (s1 : Int32) (s2 : Option Nat) (h : zH) : zO :=
  f_X5_lays_54 a0 a1 0 s0 s1 s2 h
def f_X5_lays_22  (a0 : Option Nat) (a1 : Int32) (s0 : Int32) (h : zH) : zO :=
  zcI (f_X5_isMetre a1 h) zX fun x5 h6 =>
  zgR h6 [4] 0 a0 fun r7 =>
  zaI h6 [200] r7 1 fun x8 =>
  if 30 < x8 then
    f_X5_lays_53 a0 a1 s0 x5 a0 h6
  else
    if ztg h6 a0 = some 4 then
      zcI (f_X5_at a0 a1 h6) zX fun x9 h10 =>
      if ¬ x9 = (-1) then
        f_X5_lays_53 a0 a1 s0 x5 a0 h10
      else
        f_X5_lays_54 a0 a1 1 s0 x5 a0 h10
    else
    none
def f_X5_lays_21  (a0 : Option Nat) (a1 : Int32) (h : zH) : zO :=
  f_X5_lays_22 a0 a1 0 h
def f_X5_lays (v0 : Option Nat) (v1 : Int32) (h : zH) : zO :=
  if ztg h v0 = some 4 then
    zcI (f_X5_blocks v0 h) zX fun x1 h2 =>
    if 20 ≤ x1 then
      f_X5_lays_21 v0 v1 h2
    else
      if ztg h2 v0 = some 4 then
        zcI (f_X5_isBlock v0 v1 h2) zX fun x3 h4 =>
        if ¬ x3 = 0 then
          f_X5_lays_21 v0 v1 h4
        else
          f_X5_lays_22 v0 v1 1 h4
      else
      none
  else
  none
def f_X5_placeBlock (v0 : Option Nat) (v1 : Int32) (h : zH) : zO :=
  if ztg h v0 = some 4 then
    zcV (f_X5_begins v0 h) zX fun h1 =>
    if ztg h1 v0 = some 4 then
      zcI (f_X5_lays v0 v1 h1) zX fun x2 h3 =>
      if ztg h3 v0 = some 4 then
        zcI (f_X5_ends v0 x2 h3) zX fun x4 h5 =>
        zrI x4 h5
      else
      none
    else
    none
  else
  none
def f_X5_takes_35  (a0 : Option Nat) (a1 : Int32) (s0 : Int32) (s1 : Int32) (s2 : Int32) (s3 : Option Nat) (h : zH) : zO :=
  if ztg h s3 = some 4 then
    zcI (f_X5_holds s3 s2 s1 s0 1 h) zX fun x9 h10 =>
    if ¬ x9 = 0 then
      zgR h10 [4] 0 a0 fun r11 =>
      zaS h10 [200] r11 ((80 : Int32) + a1) (.int 0) fun h12 =>
      if ztg h12 a0 = some 4 then
        zcI (f_X5_blocks a0 h12) zX fun x13 h14 =>
        zrI x13 h14
      else
      none
    else
      zrI 0 h10
  else
  none
def f_X5_takes_34  (a0 : Option Nat) (a1 : Int32) (s0 : Int32) (s1 : Int32) (s2 : Option Nat) (h : zH) : zO :=
  f_X5_takes_35 a0 a1 0 s0 s1 s2 h
def f_X5_takes (v0 : Option Nat) (v1 : Int32) (h : zH) : zO :=
  zcI (f_X5_isMetre v1 h) zX fun x1 h2 =>
  if ztg h2 v0 = some 4 then
    zcI (f_X5_isBlock v0 v1 h2) zX fun x3 h4 =>
    zgR h4 [4] 0 v0 fun r5 =>
    zaI h4 [200] r5 1 fun x6 =>
    if 30 < x6 then
      f_X5_takes_34 v0 v1 x3 x1 v0 h4
    else
      if ztg h4 v0 = some 4 then
        zcI (f_X5_at v0 v1 h4) zX fun x7 h8 =>
        if ¬ x7 = (-1) then
          f_X5_takes_34 v0 v1 x3 x1 v0 h8
        else
          f_X5_takes_35 v0 v1 1 x3 x1 v0 h8
      else
      none
  else
  none
def f_X5_removeBlock (v0 : Option Nat) (v1 : Int32) (h : zH) : zO :=
  if ztg h v0 = some 4 then
    zcV (f_X5_begins v0 h) zX fun h1 =>
    if ztg h1 v0 = some 4 then
      zcI (f_X5_takes v0 v1 h1) zX fun x2 h3 =>
      if ztg h3 v0 = some 4 then
        zcI (f_X5_ends v0 x2 h3) zX fun x4 h5 =>
        zrI x4 h5
      else
      none
    else
    none
  else
  none
def f_X5_levelThen (v0 : Option Nat) (v1 : Int32) (v2 : Int32) (h : zH) : zO :=
  zgR h [4] 0 v0 fun r1 =>
  zaI h [200] r1 2 fun x2 =>
  if ¬ x2 = 0 then
    zcI (f_X5_seaAt v2 h) zX fun x3 h4 =>
    zcI (f_J11_min 20 (x3 - v1) h4) zX fun x5 h6 =>
    zcI (f_J11_max (-20) x5 h6) zX fun x7 h8 =>
    zrI (v1 + x7) h8
  else
    zgR h [4] 0 v0 fun r9 =>
    zaI h [200] r9 3 fun x10 =>
    zcI (f_J11_min 200 (v1 + x10) h) zX fun x11 h12 =>
    zcI (f_J11_max 0 x11 h12) zX fun x13 h14 =>
    zrI x13 h14
def f_X5_beneath_33 (K4 : Option Nat → Int32 → Int32 → Int32 → zH → zO) (a0 : Option Nat) (a1 : Int32) (a3 : Int32) (s0 : Int32) (s1 : Int32) (h : zH) : zO :=
  znm (s1 + s0) fun x5 =>
  znm (a3 + 1) fun x6 =>
  K4 a0 a1 x5 x6 h
def f_X5_beneath_41  (a0 : Option Nat) (a1 : Int32) (a2 : Int32) (h : zH) : zO :=
  if ztg h a0 = some 4 then
    zcI (f_X5_isDocked a0 a1 h) zX fun x7 h8 =>
    if x7 = 0 then
      zrI 0 h8
    else
      zrI a2 h8
  else
  none
def f_X5_beneath_4  : Nat → Option Nat → Int32 → Int32 → Int32 → zH → zO
  | 0, _, _, _, _, _ => none
  | n + 1, a0, a1, a2, a3, h =>
    if 60 ≤ a3 then
      f_X5_beneath_41 a0 a1 a2 h
    else
      if ztg h a0 = some 4 then
        zcI (f_X5_at a0 a3 h) zX fun x1 h2 =>
        if ¬ x1 = a1 then
          f_X5_beneath_33 (f_X5_beneath_4 n) a0 a1 a3 0 a2 h2
        else
          zgR h2 [4] 0 a0 fun r3 =>
          zaI h2 [200] r3 ((80 : Int32) + a3) fun x4 =>
          f_X5_beneath_33 (f_X5_beneath_4 n) a0 a1 a3 x4 a2 h2
      else
      none
def f_X5_beneath (v0 : Option Nat) (v1 : Int32) (h : zH) : zO :=
  f_X5_beneath_4 zfuel v0 v1 0 0 h
def f_X5_charges (v0 : Option Nat) (v1 : Int32) (v2 : Int32) (h : zH) : zO :=
  zgR h [4] 0 v0 fun r1 =>
  zcI (f_X5_place v1 8 h) zX fun x2 h3 =>
  zaI h3 [200] r1 x2 fun x4 =>
  zaS h3 [200] r1 x2 (.int (x4 + v2)) fun h5 =>
  zgR h5 [4] 0 v0 fun r6 =>
  zaI h5 [200] r6 6 fun x7 =>
  zaS h5 [200] r6 6 (.int (x7 + v2)) fun h8 =>
  zrV h8
def f_X5_spends_83  (a0 : Option Nat) (a1 : Int32) (a2 : Int32) (s0 : Int32) (h : zH) : zO :=
  zgR h [4] 0 a0 fun r22 =>
  zcI (f_X5_place a1 3 h) zX fun x23 h24 =>
  zaI h24 [200] r22 x23 fun x25 =>
  zaS h24 [200] r22 x23 (.int (x25 - s0)) fun h26 =>
  if ztg h26 a0 = some 4 then
    zcV (f_X5_charges a0 a1 (a2 + ((3 : Int32) * s0)) h26) zX fun h27 =>
    zrI s0 h27
  else
  none
def f_X5_spends (v0 : Option Nat) (v1 : Int32) (h : zH) : zO :=
  if ztg h v0 = some 4 then
    zcI (f_X5_beneath v0 v1 h) zX fun x1 h2 =>
    if ztg h2 v0 = some 4 then
      zcV (f_X5_charges v0 v1 2 h2) zX fun h3 =>
      if ztg h3 v0 = some 4 then
        zcI (f_X5_floats v0 v1 h3) zX fun x4 h5 =>
        if x4 = 0 then
          if 2 ≤ x1 then
            if ztg h5 v0 = some 4 then
              zcI (f_X5_of v0 v1 5 h5) zX fun x6 h7 =>
              if ¬ x6 = 1 then
                f_X5_spends_83 v0 v1 x1 0 h7
              else
                if ztg h7 v0 = some 4 then
                  zcI (f_X5_of v0 v1 3 h7) zX fun x8 h9 =>
                  zcI (f_J11_min 3 x8 h9) zX fun x10 h11 =>
                  f_X5_spends_83 v0 v1 x1 x10 h11
                else
                none
            else
            none
          else
            zgR h5 [4] 0 v0 fun r12 =>
            zcI (f_X5_place v1 6 h5) zX fun x13 h14 =>
            zaI h14 [200] r12 x13 fun x15 =>
            zaS h14 [200] r12 x13 (.int (x15 + 1)) fun h16 =>
            zrI 0 h16
        else
          zgR h5 [4] 0 v0 fun r17 =>
          zcI (f_X5_place v1 7 h5) zX fun x18 h19 =>
          zaI h19 [200] r17 x18 fun x20 =>
          zaS h19 [200] r17 x18 (.int (x20 + 1)) fun h21 =>
          zrI 0 h21
      else
      none
    else
    none
  else
  none
def f_X5_waits_91 (K20 : Option Nat → Int32 → Int32 → Int32 → zH → zO) (K60 : Option Nat → Int32 → Int32 → Int32 → Int32 → zH → zO) (a0 : Option Nat) (a1 : Int32) (a3 : Int32) (a4 : Int32) (s0 : Int32) (s1 : Int32) (h : zH) : zO :=
  znm (s1 + s0) fun x22 =>
  znm (a4 + 1) fun x23 =>
  K60 a0 a1 x22 a3 x23 h
def f_X5_waits_99 (K20 : Option Nat → Int32 → Int32 → Int32 → zH → zO) (a0 : Option Nat) (a1 : Int32) (a2 : Int32) (a3 : Int32) (h : zH) : zO :=
  znm (a3 + 1) fun x24 =>
  K20 a0 a1 a2 x24 h
def f_X5_waits_60 (K20 : Option Nat → Int32 → Int32 → Int32 → zH → zO) : Nat → Option Nat → Int32 → Int32 → Int32 → Int32 → zH → zO
  | 0, _, _, _, _, _, _ => none
  | n + 1, a0, a1, a2, a3, a4, h =>
    zgR h [4] 0 a0 fun r16 =>
    zaI h [200] r16 4 fun x17 =>
    if x17 ≤ a4 then
      f_X5_waits_99 K20 a0 a1 a2 a3 h
    else
      if ztg h a0 = some 4 then
        zcI (f_X5_isDocked a0 a4 h) zX fun x18 h19 =>
        if x18 = 0 then
          f_X5_waits_91 K20 (f_X5_waits_60 K20 n) a0 a1 a3 a4 0 a2 h19
        else
          if ztg h19 a0 = some 4 then
            zcI (f_X5_spends a0 a4 h19) zX fun x20 h21 =>
            f_X5_waits_91 K20 (f_X5_waits_60 K20 n) a0 a1 a3 a4 x20 a2 h21
          else
          none
      else
      none
def f_X5_waits_20  : Nat → Option Nat → Int32 → Int32 → Int32 → zH → zO
  | 0, _, _, _, _, _ => none
  | n + 1, a0, a1, a2, a3, h =>
    if a1 ≤ a3 then
      zrI a2 h
    else
      zgR h [4] 0 a0 fun r5 =>
      zaI h [200] r5 0 fun x6 =>
      zaS h [200] r5 0 (.int (x6 + 1)) fun h7 =>
      zgR h7 [4] 0 a0 fun r8 =>
      zgR h7 [4] 0 a0 fun r9 =>
      zaI h7 [200] r9 1 fun x10 =>
      zgR h7 [4] 0 a0 fun r11 =>
      zaI h7 [200] r11 0 fun x12 =>
      if ztg h7 a0 = some 4 then
        zcI (f_X5_levelThen a0 x10 x12 h7) zX fun x13 h14 =>
        zaS h14 [200] r8 1 (.int x13) fun h15 =>
        f_X5_waits_60 (f_X5_waits_20 n) zfuel a0 a1 a2 a3 0 h15
      else
      none
def f_X5_waits (v0 : Option Nat) (v1 : Int32) (h : zH) : zO :=
  zcI (f_X5_isIn v1 1 48 h) zX fun x1 h2 =>
  if ztg h2 v0 = some 4 then
    zcI (f_X5_goes v0 x1 h2) zX fun x3 h4 =>
    if ¬ x3 = 0 then
      f_X5_waits_20 zfuel v0 v1 0 0 h4
    else
      zrI 0 h4
  else
  none
def f_X5_pass (v0 : Option Nat) (v1 : Int32) (h : zH) : zO :=
  if ztg h v0 = some 4 then
    zcV (f_X5_begins v0 h) zX fun h1 =>
    if ztg h1 v0 = some 4 then
      zcI (f_X5_waits v0 v1 h1) zX fun x2 h3 =>
      if ztg h3 v0 = some 4 then
        zcI (f_X5_ends v0 x2 h3) zX fun x4 h5 =>
        zrI x4 h5
      else
      none
    else
    none
  else
  none
def f_X5_shipCount (v0 : Option Nat) (h : zH) : zO :=
  zpF h [4] 13 v0 (.int 0) fun h1 =>
  zgR h1 [4] 0 v0 fun r2 =>
  zaI h1 [200] r2 4 fun x3 =>
  zrI x3 h1
def f_X5_shipAt (v0 : Option Nat) (v1 : Int32) (h : zH) : zO :=
  zgR h [4] 0 v0 fun r1 =>
  zaI h [200] r1 4 fun x2 =>
  zcI (f_X5_isIn v1 0 (x2 - 1) h) zX fun x3 h4 =>
  if ztg h4 v0 = some 4 then
    zcI (f_X5_goes v0 x3 h4) zX fun x5 h6 =>
    if x5 = 0 then
      zrI 0 h6
    else
      if ztg h6 v0 = some 4 then
        zcI (f_X5_of v0 v1 0 h6) zX fun x7 h8 =>
        zrI x7 h8
      else
      none
  else
  none
def f_X5_asks_17  (a0 : Option Nat) (a2 : Int32) (a3 : Int32) (s0 : Int32) (s1 : Option Nat) (h : zH) : zO :=
  if ztg h s1 = some 4 then
    zcI (f_X5_goes s1 s0 h) zX fun x3 h4 =>
    if x3 = 0 then
      zrI 0 h4
    else
      if ztg h4 a0 = some 4 then
        zcI (f_X5_of a0 a3 a2 h4) zX fun x5 h6 =>
        zrI x5 h6
      else
      none
  else
  none
def f_X5_asks (v0 : Option Nat) (v1 : Int32) (v2 : Int32) (h : zH) : zO :=
  if ztg h v0 = some 4 then
    zcI (f_X5_find v0 v1 h) zX fun x1 h2 =>
    if x1 = (-1) then
      f_X5_asks_17 v0 v2 x1 0 v0 h2
    else
      f_X5_asks_17 v0 v2 x1 1 v0 h2
  else
  none
def f_X5_isInDock (v0 : Option Nat) (v1 : Int32) (h : zH) : zO :=
  if ztg h v0 = some 4 then
    zcI (f_X5_asks v0 v1 4 h) zX fun x1 h2 =>
    if x1 = (-1) then
      zrN .boolean 0 h2
    else
      zgI h2 [4] 13 v0 fun x3 =>
      if ¬ x3 = 0 then
        zrN .boolean 0 h2
      else
        zrN .boolean 1 h2
  else
  none
def f_X5_positionOf_17  (a0 : Option Nat) (a2 : Int32) (s0 : Int32) (s1 : Option Nat) (h : zH) : zO :=
  if ztg h a0 = some 4 then
    zcI (f_X5_isDocked a0 a2 h) zX fun x3 h4 =>
    if ztg h4 s1 = some 4 then
      zcI (f_X5_holds s1 s0 x3 1 1 h4) zX fun x5 h6 =>
      if x5 = 0 then
        zrI 0 h6
      else
        if ztg h6 a0 = some 4 then
          zcI (f_X5_of a0 a2 4 h6) zX fun x7 h8 =>
          zrI x7 h8
        else
        none
    else
    none
  else
  none
def f_X5_positionOf (v0 : Option Nat) (v1 : Int32) (h : zH) : zO :=
  if ztg h v0 = some 4 then
    zcI (f_X5_find v0 v1 h) zX fun x1 h2 =>
    if x1 = (-1) then
      f_X5_positionOf_17 v0 x1 0 v0 h2
    else
      f_X5_positionOf_17 v0 x1 1 v0 h2
  else
  none
def f_X5_dirtOf (v0 : Option Nat) (v1 : Int32) (h : zH) : zO :=
  if ztg h v0 = some 4 then
    zcI (f_X5_asks v0 v1 3 h) zX fun x1 h2 =>
    zrI x1 h2
  else
  none
def f_X5_damageOf (v0 : Option Nat) (v1 : Int32) (h : zH) : zO :=
  if ztg h v0 = some 4 then
    zcI (f_X5_asks v0 v1 6 h) zX fun x1 h2 =>
    zrI x1 h2
  else
  none
def f_X5_hoursAfloat (v0 : Option Nat) (v1 : Int32) (h : zH) : zO :=
  if ztg h v0 = some 4 then
    zcI (f_X5_asks v0 v1 7 h) zX fun x1 h2 =>
    zrI x1 h2
  else
  none
def f_X5_isAfloat_17  (a0 : Option Nat) (a2 : Int32) (s0 : Int32) (s1 : Option Nat) (h : zH) : zO :=
  if ztg h s1 = some 4 then
    zcI (f_X5_goes s1 s0 h) zX fun x3 h4 =>
    if x3 = 0 then
      zrN .boolean 0 h4
    else
      if ztg h4 a0 = some 4 then
        zcI (f_X5_floats a0 a2 h4) zX fun x5 h6 =>
        if x5 = 0 then
          zrN .boolean 0 h6
        else
          zrN .boolean 1 h6
      else
      none
  else
  none
def f_X5_isAfloat (v0 : Option Nat) (v1 : Int32) (h : zH) : zO :=
  if ztg h v0 = some 4 then
    zcI (f_X5_find v0 v1 h) zX fun x1 h2 =>
    if x1 = (-1) then
      f_X5_isAfloat_17 v0 x1 0 v0 h2
    else
      f_X5_isAfloat_17 v0 x1 1 v0 h2
  else
  none
def f_X5_refusalReason_13  (a0 : Option Nat) (s0 : Int32) (s1 : Option Nat) (h : zH) : zO :=
  if ztg h s1 = some 4 then
    zcI (f_X5_goes s1 s0 h) zX fun x2 h3 =>
    if x2 = 0 then
      zrI 0 h3
    else
      zgI h3 [4] 8 a0 fun x4 =>
      zrI x4 h3
  else
  none
def f_X5_refusalReason (v0 : Option Nat) (h : zH) : zO :=
  zgI h [4] 8 v0 fun x1 =>
  if x1 = 0 then
    f_X5_refusalReason_13 v0 0 v0 h
  else
    f_X5_refusalReason_13 v0 1 v0 h
def f_X5_billOf (v0 : Option Nat) (v1 : Int32) (h : zH) : zO :=
  if ztg h v0 = some 4 then
    zcI (f_X5_asks v0 v1 8 h) zX fun x1 h2 =>
    zrI x1 h2
  else
  none
def f_X5_isGateOpen (v0 : Option Nat) (h : zH) : zO :=
  zpF h [4] 13 v0 (.int 0) fun h1 =>
  zgR h1 [4] 0 v0 fun r2 =>
  zaI h1 [200] r2 2 fun x3 =>
  if ¬ x3 = 1 then
    zrN .boolean 0 h1
  else
    zrN .boolean 1 h1
def f_X5_level (v0 : Option Nat) (h : zH) : zO :=
  zpF h [4] 13 v0 (.int 0) fun h1 =>
  zgR h1 [4] 0 v0 fun r2 =>
  zaI h1 [200] r2 1 fun x3 =>
  zrI x3 h1
def f_X5_sea (v0 : Option Nat) (v1 : Int32) (h : zH) : zO :=
  zcI (f_X5_isIn v1 0 9999 h) zX fun x1 h2 =>
  if ztg h2 v0 = some 4 then
    zcI (f_X5_goes v0 x1 h2) zX fun x3 h4 =>
    if x3 = 0 then
      zrI 0 h4
    else
      zcI (f_X5_seaAt v1 h4) zX fun x5 h6 =>
      zrI x5 h6
  else
  none
def f_X5_seaLevel (v0 : Option Nat) (v1 : Int32) (h : zH) : zO :=
  if ztg h v0 = some 4 then
    zcI (f_X5_sea v0 v1 h) zX fun x1 h2 =>
    zrI x1 h2
  else
  none
def f_X5_seaLevelByHours (v0 : Option Nat) (v1 : Int32) (h : zH) : zO :=
  if ztg h v0 = some 4 then
    zcI (f_X5_sea v0 v1 h) zX fun x1 h2 =>
    zrI x1 h2
  else
  none
def f_X5_hour (v0 : Option Nat) (h : zH) : zO :=
  zpF h [4] 13 v0 (.int 0) fun h1 =>
  zgR h1 [4] 0 v0 fun r2 =>
  zaI h1 [200] r2 0 fun x3 =>
  zrI x3 h1
def f_X5_levelAfter_40  (a0 : Option Nat) (a1 : Int32) (a2 : Int32) (h : zH) : zO :=
  zcI (f_X5_isIn a1 0 96 h) zX fun x8 h9 =>
  if ztg h9 a0 = some 4 then
    zcI (f_X5_goes a0 x8 h9) zX fun x10 h11 =>
    if x10 = 0 then
      zrI 0 h11
    else
      zrI a2 h11
  else
  none
def f_X5_levelAfter_9  : Nat → Option Nat → Int32 → Int32 → Int32 → zH → zO
  | 0, _, _, _, _, _ => none
  | n + 1, a0, a1, a2, a3, h =>
    if a1 < a3 then
      f_X5_levelAfter_40 a0 a1 a2 h
    else
      if 96 < a1 then
        f_X5_levelAfter_40 a0 a1 a2 h
      else
        zgR h [4] 0 a0 fun r3 =>
        zaI h [200] r3 0 fun x4 =>
        if ztg h a0 = some 4 then
          zcI (f_X5_levelThen a0 a2 (x4 + a3) h) zX fun x5 h6 =>
          znm (a3 + 1) fun x7 =>
          f_X5_levelAfter_9 n a0 a1 x5 x7 h6
        else
        none
def f_X5_levelAfter (v0 : Option Nat) (v1 : Int32) (h : zH) : zO :=
  zgR h [4] 0 v0 fun r1 =>
  zaI h [200] r1 1 fun x2 =>
  f_X5_levelAfter_9 zfuel v0 v1 x2 1 h
def f_X5_hoursUntilAfloat_77 (K31 : Option Nat → Int32 → Int32 → Int32 → Int32 → zH → zO) (a0 : Option Nat) (a2 : Int32) (a4 : Int32) (a5 : Int32) (s0 : Int32) (h : zH) : zO :=
  znm (a5 + 1) fun x13 =>
  K31 a0 a2 s0 a4 x13 h
def f_X5_hoursUntilAfloat_105  (a3 : Int32) (s0 : Int32) (s1 : Int32) (s2 : Option Nat) (h : zH) : zO :=
  if ztg h s2 = some 4 then
    zcI (f_X5_holds s2 s1 s0 1 1 h) zX fun x14 h15 =>
    if x14 = 0 then
      zrI 0 h15
    else
      zrI a3 h15
  else
  none
def f_X5_hoursUntilAfloat_95  (a3 : Int32) (s0 : Int32) (s1 : Option Nat) (h : zH) : zO :=
  if a3 = (-1) then
    f_X5_hoursUntilAfloat_105 a3 0 s0 s1 h
  else
    f_X5_hoursUntilAfloat_105 a3 1 s0 s1 h
def f_X5_hoursUntilAfloat_84  (a0 : Option Nat) (a2 : Int32) (a3 : Int32) (h : zH) : zO :=
  if a2 = (-1) then
    f_X5_hoursUntilAfloat_95 a3 0 a0 h
  else
    f_X5_hoursUntilAfloat_95 a3 1 a0 h
def f_X5_hoursUntilAfloat_31  : Nat → Option Nat → Int32 → Int32 → Int32 → Int32 → zH → zO
  | 0, _, _, _, _, _, _ => none
  | n + 1, a0, a2, a3, a4, a5, h =>
    if 96 < a5 then
      f_X5_hoursUntilAfloat_84 a0 a2 a3 h
    else
      if ¬ a3 = (-1) then
        f_X5_hoursUntilAfloat_84 a0 a2 a3 h
      else
        zgR h [4] 0 a0 fun r7 =>
        zaI h [200] r7 0 fun x8 =>
        if ztg h a0 = some 4 then
          zcI (f_X5_levelThen a0 a4 (x8 + a5) h) zX fun x9 h10 =>
          if ztg h10 a0 = some 4 then
            zcI (f_X5_of a0 a2 2 h10) zX fun x11 h12 =>
            if x9 < x11 then
              f_X5_hoursUntilAfloat_77 (f_X5_hoursUntilAfloat_31 n) a0 a2 x9 a5 (-1) h12
            else
              f_X5_hoursUntilAfloat_77 (f_X5_hoursUntilAfloat_31 n) a0 a2 x9 a5 a5 h12
          else
          none
        else
        none
def f_X5_hoursUntilAfloat_19  (a0 : Option Nat) (a2 : Int32) (s0 : Int32) (h : zH) : zO :=
  zgR h [4] 0 a0 fun r5 =>
  zaI h [200] r5 1 fun x6 =>
  f_X5_hoursUntilAfloat_31 zfuel a0 a2 s0 x6 1 h
def f_X5_hoursUntilAfloat (v0 : Option Nat) (v1 : Int32) (h : zH) : zO :=
  if ztg h v0 = some 4 then
    zcI (f_X5_find v0 v1 h) zX fun x1 h2 =>
    if ztg h2 v0 = some 4 then
      zcI (f_X5_floats v0 x1 h2) zX fun x3 h4 =>
      if x3 = 0 then
        f_X5_hoursUntilAfloat_19 v0 x1 (-1) h4
      else
        f_X5_hoursUntilAfloat_19 v0 x1 0 h4
    else
    none
  else
  none
def f_X5_hasBlock (v0 : Option Nat) (v1 : Int32) (h : zH) : zO :=
  zcI (f_X5_isMetre v1 h) zX fun x1 h2 =>
  if ztg h2 v0 = some 4 then
    zcI (f_X5_goes v0 x1 h2) zX fun x3 h4 =>
    if x3 = 0 then
      zrN .boolean 0 h4
    else
      if ztg h4 v0 = some 4 then
        zcI (f_X5_isBlock v0 v1 h4) zX fun x5 h6 =>
        if x5 = 0 then
          zrN .boolean 0 h6
        else
          zrN .boolean 1 h6
      else
      none
  else
  none
def f_X5_asksBeneath_17  (a0 : Option Nat) (a2 : Int32) (s0 : Int32) (s1 : Option Nat) (h : zH) : zO :=
  if ztg h s1 = some 4 then
    zcI (f_X5_goes s1 s0 h) zX fun x3 h4 =>
    if x3 = 0 then
      zrI 0 h4
    else
      if ztg h4 a0 = some 4 then
        zcI (f_X5_beneath a0 a2 h4) zX fun x5 h6 =>
        zrI x5 h6
      else
      none
  else
  none
def f_X5_asksBeneath (v0 : Option Nat) (v1 : Int32) (h : zH) : zO :=
  if ztg h v0 = some 4 then
    zcI (f_X5_find v0 v1 h) zX fun x1 h2 =>
    if x1 = (-1) then
      f_X5_asksBeneath_17 v0 x1 0 v0 h2
    else
      f_X5_asksBeneath_17 v0 x1 1 v0 h2
  else
  none
def f_X5_blocksBeneath (v0 : Option Nat) (v1 : Int32) (h : zH) : zO :=
  if ztg h v0 = some 4 then
    zcI (f_X5_asksBeneath v0 v1 h) zX fun x1 h2 =>
    zrI x1 h2
  else
  none
def f_X5_blocksBeneathByBlocks (v0 : Option Nat) (v1 : Int32) (h : zH) : zO :=
  if ztg h v0 = some 4 then
    zcI (f_X5_asksBeneath v0 v1 h) zX fun x1 h2 =>
    zrI x1 h2
  else
  none
def f_X5_shipAtPosition_21  (a0 : Option Nat) (a2 : Int32) (s0 : Int32) (s1 : Int32) (s2 : Option Nat) (h : zH) : zO :=
  if ztg h s2 = some 4 then
    zcI (f_X5_holds s2 s1 s0 1 1 h) zX fun x5 h6 =>
    if x5 = 0 then
      zrI 0 h6
    else
      if ztg h6 a0 = some 4 then
        zcI (f_X5_of a0 a2 0 h6) zX fun x7 h8 =>
        zrI x7 h8
      else
      none
  else
  none
def f_X5_shipAtPosition (v0 : Option Nat) (v1 : Int32) (h : zH) : zO :=
  if ztg h v0 = some 4 then
    zcI (f_X5_at v0 v1 h) zX fun x1 h2 =>
    zcI (f_X5_isMetre v1 h2) zX fun x3 h4 =>
    if x1 = (-1) then
      f_X5_shipAtPosition_21 v0 x1 0 x3 v0 h4
    else
      f_X5_shipAtPosition_21 v0 x1 1 x3 v0 h4
  else
  none
def f_X5_gap_47 (K13 : Option Nat → Int32 → Int32 → Int32 → Int32 → zH → zO) (a0 : Option Nat) (a1 : Int32) (a2 : Int32) (a4 : Int32) (s0 : Int32) (h : zH) : zO :=
  znm (a4 + 1) fun x5 =>
  K13 a0 a1 a2 s0 x5 h
def f_X5_gap_66  (a3 : Int32) (s0 : Int32) (s1 : Int32) (s2 : Option Nat) (h : zH) : zO :=
  if ztg h s2 = some 4 then
    zcI (f_X5_holds s2 s1 s0 1 1 h) zX fun x6 h7 =>
    if x6 = 0 then
      zrI 0 h7
    else
      zrI a3 h7
  else
  none
def f_X5_gap_54  (a0 : Option Nat) (a2 : Int32) (a3 : Int32) (h : zH) : zO :=
  if a3 = (-1) then
    f_X5_gap_66 a3 0 a2 a0 h
  else
    f_X5_gap_66 a3 1 a2 a0 h
def f_X5_gap_13  : Nat → Option Nat → Int32 → Int32 → Int32 → Int32 → zH → zO
  | 0, _, _, _, _, _, _ => none
  | n + 1, a0, a1, a2, a3, a4, h =>
    if a2 = 0 then
      f_X5_gap_54 a0 a2 a3 h
    else
      if 60 < (a4 + a1) then
        f_X5_gap_54 a0 a2 a3 h
      else
        if ¬ a3 = (-1) then
          f_X5_gap_54 a0 a2 a3 h
        else
          if ztg h a0 = some 4 then
            zcI (f_X5_isFree a0 a4 a1 h) zX fun x3 h4 =>
            if x3 = 0 then
              f_X5_gap_47 (f_X5_gap_13 n) a0 a1 a2 a4 (-1) h4
            else
              f_X5_gap_47 (f_X5_gap_13 n) a0 a1 a2 a4 a4 h4
          else
          none
def f_X5_gap (v0 : Option Nat) (v1 : Int32) (h : zH) : zO :=
  zcI (f_X5_isIn v1 1 60 h) zX fun x1 h2 =>
  f_X5_gap_13 zfuel v0 v1 x1 (-1) 0 h2
def f_X5_firstGap (v0 : Option Nat) (v1 : Int32) (h : zH) : zO :=
  if ztg h v0 = some 4 then
    zcI (f_X5_gap v0 v1 h) zX fun x1 h2 =>
    zrI x1 h2
  else
  none
def f_X5_firstGapByShips (v0 : Option Nat) (v1 : Int32) (h : zH) : zO :=
  if ztg h v0 = some 4 then
    zcI (f_X5_gap v0 v1 h) zX fun x1 h2 =>
    zrI x1 h2
  else
  none
def f_X5_freeOnes_25 (K4 : Option Nat → Int32 → Int32 → zH → zO) (a0 : Option Nat) (a2 : Int32) (s0 : Int32) (s1 : Int32) (h : zH) : zO :=
  znm (s1 + s0) fun x3 =>
  znm (a2 + 1) fun x4 =>
  K4 a0 x3 x4 h
def f_X5_freeOnes_4  : Nat → Option Nat → Int32 → Int32 → zH → zO
  | 0, _, _, _, _ => none
  | n + 1, a0, a1, a2, h =>
    if 60 ≤ a2 then
      zrI a1 h
    else
      if ztg h a0 = some 4 then
        zcI (f_X5_at a0 a2 h) zX fun x1 h2 =>
        if ¬ x1 = (-1) then
          f_X5_freeOnes_25 (f_X5_freeOnes_4 n) a0 a2 0 a1 h2
        else
          f_X5_freeOnes_25 (f_X5_freeOnes_4 n) a0 a2 1 a1 h2
      else
      none
def f_X5_freeOnes (v0 : Option Nat) (h : zH) : zO :=
  f_X5_freeOnes_4 zfuel v0 0 0 h
def f_X5_freeMetres (v0 : Option Nat) (h : zH) : zO :=
  zpF h [4] 13 v0 (.int 0) fun h1 =>
  if ztg h1 v0 = some 4 then
    zcI (f_X5_freeOnes v0 h1) zX fun x2 h3 =>
    zrI x2 h3
  else
  none
def f_X5_metres_94 (K4 : Option Nat → Int32 → Int32 → Int32 → zH → zO) (a0 : Option Nat) (a1 : Int32) (a3 : Int32) (s0 : Int32) (s1 : Int32) (h : zH) : zO :=
  znm (s1 + s0) fun x11 =>
  znm (a3 + 1) fun x12 =>
  K4 a0 a1 x11 x12 h
def f_X5_metres_66 (K4 : Option Nat → Int32 → Int32 → Int32 → zH → zO) (a0 : Option Nat) (a1 : Int32) (a2 : Int32) (a3 : Int32) (a4 : Int32) (s0 : Int32) (h : zH) : zO :=
  if ¬ a4 = 0 then
    if s0 = 0 then
      f_X5_metres_94 K4 a0 a1 a3 61 a2 h
    else
      if ztg h a0 = some 4 then
        zcI (f_X5_of a0 a3 1 h) zX fun x9 h10 =>
        f_X5_metres_94 K4 a0 a1 a3 x9 a2 h10
      else
      none
  else
    f_X5_metres_94 K4 a0 a1 a3 0 a2 h
def f_X5_metres_65 (K4 : Option Nat → Int32 → Int32 → Int32 → zH → zO) (a0 : Option Nat) (a1 : Int32) (a2 : Int32) (a3 : Int32) (a4 : Int32) (h : zH) : zO :=
  f_X5_metres_66 K4 a0 a1 a2 a3 a4 0 h
def f_X5_metres_24 (K4 : Option Nat → Int32 → Int32 → Int32 → zH → zO) (a0 : Option Nat) (a1 : Int32) (a2 : Int32) (a3 : Int32) (s0 : Int32) (h : zH) : zO :=
  zgR h [4] 0 a0 fun r1 =>
  zaI h [200] r1 4 fun x2 =>
  if x2 ≤ a3 then
    f_X5_metres_65 K4 a0 a1 a2 a3 s0 h
  else
    if ztg h a0 = some 4 then
      zcI (f_X5_isDocked a0 a3 h) zX fun x3 h4 =>
      if ¬ x3 = 0 then
        f_X5_metres_65 K4 a0 a1 a2 a3 s0 h4
      else
        if ztg h4 a0 = some 4 then
          zcI (f_X5_of a0 a3 2 h4) zX fun x5 h6 =>
          zgR h6 [4] 0 a0 fun r7 =>
          zaI h6 [200] r7 1 fun x8 =>
          if (x8 - 2) < x5 then
            f_X5_metres_65 K4 a0 a1 a2 a3 s0 h6
          else
            f_X5_metres_66 K4 a0 a1 a2 a3 s0 1 h6
        else
        none
    else
    none
def f_X5_metres_4  : Nat → Option Nat → Int32 → Int32 → Int32 → zH → zO
  | 0, _, _, _, _, _ => none
  | n + 1, a0, a1, a2, a3, h =>
    if 8 ≤ a3 then
      zrI a2 h
    else
      if ¬ ((a1 >>> (a3 &&& 31)) &&& 1) = 1 then
        f_X5_metres_24 (f_X5_metres_4 n) a0 a1 a2 a3 0 h
      else
        f_X5_metres_24 (f_X5_metres_4 n) a0 a1 a2 a3 1 h
def f_X5_metres (v0 : Option Nat) (v1 : Int32) (h : zH) : zO :=
  f_X5_metres_4 zfuel v0 v1 0 0 h
def f_X5_takesGap_57 (K8 : Option Nat → Int32 → Int32 → zH → zO) (K14 : Option Nat → Int32 → Int32 → Int32 → zH → zO) (a0 : Option Nat) (a1 : Int32) (a2 : Int32) (a3 : Int32) (s0 : Int32) (s1 : Int32) (s2 : Option Nat) (h : zH) : zO :=
  zaS h [201] s2 s1 (.int (s0 &&& 1)) fun h11 =>
  znm ((a3 - 1) &&& a2) fun x12 =>
  K14 a0 a1 a2 x12 h11
def f_X5_takesGap_56 (K8 : Option Nat → Int32 → Int32 → zH → zO) (K14 : Option Nat → Int32 → Int32 → Int32 → zH → zO) (a0 : Option Nat) (a1 : Int32) (a2 : Int32) (a3 : Int32) (s0 : Int32) (s1 : Option Nat) (h : zH) : zO :=
  f_X5_takesGap_57 K8 K14 a0 a1 a2 a3 0 s0 s1 h
def f_X5_takesGap_67 (K8 : Option Nat → Int32 → Int32 → zH → zO) (a0 : Option Nat) (a1 : Int32) (a2 : Int32) (h : zH) : zO :=
  znm (a2 + (-1)) fun x13 =>
  K8 a0 a1 x13 h
def f_X5_takesGap_14 (K8 : Option Nat → Int32 → Int32 → zH → zO) : Nat → Option Nat → Int32 → Int32 → Int32 → zH → zO
  | 0, _, _, _, _, _ => none
  | n + 1, a0, a1, a2, a3, h =>
    if a3 ≤ 0 then
      f_X5_takesGap_67 K8 a0 a1 a2 h
    else
      zgR h [4] 14 a0 fun r4 =>
      zaI h [201] r4 a2 fun x5 =>
      if ¬ x5 = 0 then
        f_X5_takesGap_67 K8 a0 a1 a2 h
      else
        zgR h [4] 14 a0 fun r6 =>
        zgR h [4] 14 a0 fun r7 =>
        zaI h [201] r7 (a2 ^^^ a3) fun x8 =>
        if x8 = 0 then
          f_X5_takesGap_56 K8 (f_X5_takesGap_14 K8 n) a0 a1 a2 a3 a2 r6 h
        else
          if ztg h a0 = some 4 then
            zcI (f_X5_metres a0 a3 h) zX fun x9 h10 =>
            if a1 < x9 then
              f_X5_takesGap_56 K8 (f_X5_takesGap_14 K8 n) a0 a1 a2 a3 a2 r6 h10
            else
              f_X5_takesGap_57 K8 (f_X5_takesGap_14 K8 n) a0 a1 a2 a3 1 a2 r6 h10
          else
          none
def f_X5_takesGap_8  : Nat → Option Nat → Int32 → Int32 → zH → zO
  | 0, _, _, _, _ => none
  | n + 1, a0, a1, a2, h =>
    if a2 ≤ 0 then
      zrV h
    else
      f_X5_takesGap_14 (f_X5_takesGap_8 n) zfuel a0 a1 a2 a2 h
def f_X5_takesGap (v0 : Option Nat) (v1 : Int32) (h : zH) : zO :=
  zgR h [4] 14 v0 fun r1 =>
  zaN h zarrs r1 fun x2 =>
  znm (x2 - 1) fun x3 =>
  f_X5_takesGap_8 zfuel v0 v1 x3 h
def f_X5_packs_25 (K2 : Option Nat → Int32 → zH → zO) (a0 : Option Nat) (a1 : Int32) (s0 : Int32) (s1 : Int32) (s2 : Option Nat) (h : zH) : zO :=
  zaS h [201] s2 s1 (.int (s0 &&& 1)) fun h4 =>
  znm (a1 + 1) fun x5 =>
  K2 a0 x5 h4
def f_X5_packs_74 (K36 : Option Nat → Int32 → Int32 → zH → zO) (a0 : Option Nat) (a1 : Int32) (a2 : Int32) (h : zH) : zO :=
  znm (a2 + 1) fun x9 =>
  K36 a0 a1 x9 h
def f_X5_packs_63 (K36 : Option Nat → Int32 → Int32 → zH → zO) (a0 : Option Nat) (a1 : Int32) (a2 : Int32) (h : zH) : zO :=
  if a1 ≤ 0 then
    f_X5_packs_74 K36 a0 a1 a2 h
  else
    if ztg h a0 = some 4 then
      zcV (f_X5_takesGap a0 a1 h) zX fun h10 =>
      f_X5_packs_74 K36 a0 0 a2 h10
    else
    none
def f_X5_packs_36  : Nat → Option Nat → Int32 → Int32 → zH → zO
  | 0, _, _, _, _ => none
  | n + 1, a0, a1, a2, h =>
    if 60 < a2 then
      zrV h
    else
      if 60 ≤ a2 then
        f_X5_packs_63 (f_X5_packs_36 n) a0 a1 a2 h
      else
        if ztg h a0 = some 4 then
          zcI (f_X5_at a0 a2 h) zX fun x6 h7 =>
          if ¬ x6 = (-1) then
            f_X5_packs_63 (f_X5_packs_36 n) a0 a1 a2 h7
          else
            znm (a1 + 1) fun x8 =>
            f_X5_packs_74 (f_X5_packs_36 n) a0 x8 a2 h7
        else
        none
def f_X5_packs_32  (a0 : Option Nat) (h : zH) : zO :=
  f_X5_packs_36 zfuel a0 0 0 h
def f_X5_packs_2  : Nat → Option Nat → Int32 → zH → zO
  | 0, _, _, _ => none
  | n + 1, a0, a1, h =>
    zgR h [4] 14 a0 fun r1 =>
    zaN h zarrs r1 fun x2 =>
    if x2 ≤ a1 then
      f_X5_packs_32 a0 h
    else
      zgR h [4] 14 a0 fun r3 =>
      if ¬ a1 = 0 then
        f_X5_packs_25 (f_X5_packs_2 n) a0 a1 0 a1 r3 h
      else
        f_X5_packs_25 (f_X5_packs_2 n) a0 a1 1 a1 r3 h
def f_X5_packs (v0 : Option Nat) (h : zH) : zO :=
  f_X5_packs_2 zfuel v0 0 h
def f_X5_mostOf_55 (K13 : Option Nat → Int32 → Int32 → Int32 → zH → zO) (a0 : Option Nat) (a1 : Int32) (a3 : Int32) (s0 : Int32) (h : zH) : zO :=
  znm (a3 + 1) fun x13 =>
  K13 a0 a1 s0 x13 h
def f_X5_mostOf_48 (K13 : Option Nat → Int32 → Int32 → Int32 → zH → zO) (a0 : Option Nat) (a1 : Int32) (a3 : Int32) (s0 : Int32) (s1 : Int32) (h : zH) : zO :=
  zcI (f_J11_max s1 s0 h) zX fun x11 h12 =>
  f_X5_mostOf_55 K13 a0 a1 a3 x11 h12
def f_X5_mostOf_13  : Nat → Option Nat → Int32 → Int32 → Int32 → zH → zO
  | 0, _, _, _, _, _ => none
  | n + 1, a0, a1, a2, a3, h =>
    zgR h [4] 14 a0 fun r3 =>
    zaN h zarrs r3 fun x4 =>
    if x4 ≤ a3 then
      zrI a2 h
    else
      zgR h [4] 14 a0 fun r5 =>
      zaI h [201] r5 a3 fun x6 =>
      if x6 = 0 then
        f_X5_mostOf_55 (f_X5_mostOf_13 n) a0 a1 a3 a2 h
      else
        if a1 = 0 then
          zcI (f_J24_bitCount a3 h) zX fun x7 h8 =>
          f_X5_mostOf_48 (f_X5_mostOf_13 n) a0 a1 a3 x7 a2 h8
        else
          if ztg h a0 = some 4 then
            zcI (f_X5_metres a0 a3 h) zX fun x9 h10 =>
            f_X5_mostOf_48 (f_X5_mostOf_13 n) a0 a1 a3 x9 a2 h10
          else
          none
def f_X5_mostOf (v0 : Option Nat) (v1 : Int32) (h : zH) : zO :=
  zpF h [4] 13 v0 (.int 0) fun h1 =>
  if ztg h1 v0 = some 4 then
    zcV (f_X5_packs v0 h1) zX fun h2 =>
    f_X5_mostOf_13 zfuel v0 v1 0 0 h2
  else
  none
def f_X5_mostFitting (v0 : Option Nat) (h : zH) : zO :=
  if ztg h v0 = some 4 then
    zcI (f_X5_mostOf v0 0 h) zX fun x1 h2 =>
    zrI x1 h2
  else
  none
def f_X5_mostFittingByTable (v0 : Option Nat) (h : zH) : zO :=
  if ztg h v0 = some 4 then
    zcI (f_X5_mostOf v0 0 h) zX fun x1 h2 =>
    zrI x1 h2
  else
  none
def f_X5_mostFittingMetres (v0 : Option Nat) (h : zH) : zO :=
  if ztg h v0 = some 4 then
    zcI (f_X5_mostOf v0 1 h) zX fun x1 h2 =>
    zrI x1 h2
  else
  none
def f_X5_sum_4  : Nat → Option Nat → Int32 → Int32 → Int32 → zH → zO
  | 0, _, _, _, _, _ => none
  | n + 1, a0, a1, a2, a3, h =>
    zgR h [4] 0 a0 fun r1 =>
    zaI h [200] r1 4 fun x2 =>
    if x2 ≤ a3 then
      zrI a2 h
    else
      if ztg h a0 = some 4 then
        zcI (f_X5_of a0 a3 a1 h) zX fun x3 h4 =>
        znm (a2 + x3) fun x5 =>
        znm (a3 + 1) fun x6 =>
        f_X5_sum_4 n a0 a1 x5 x6 h4
      else
      none
def f_X5_sum (v0 : Option Nat) (v1 : Int32) (h : zH) : zO :=
  f_X5_sum_4 zfuel v0 v1 0 0 h
def f_X5_billTotal (v0 : Option Nat) (h : zH) : zO :=
  zpF h [4] 13 v0 (.int 0) fun h1 =>
  if ztg h1 v0 = some 4 then
    zcI (f_X5_sum v0 8 h1) zX fun x2 h3 =>
    zrI x2 h3
  else
  none
def f_X5_billTotalByAccount (v0 : Option Nat) (h : zH) : zO :=
  zpF h [4] 13 v0 (.int 0) fun h1 =>
  zgR h1 [4] 0 v0 fun r2 =>
  zaI h1 [200] r2 6 fun x3 =>
  zgR h1 [4] 0 v0 fun r4 =>
  zaI h1 [200] r4 7 fun x5 =>
  zrI (x3 - x5) h1
def f_X5_paidTotal (v0 : Option Nat) (h : zH) : zO :=
  zpF h [4] 13 v0 (.int 0) fun h1 =>
  zgR h1 [4] 0 v0 fun r2 =>
  zaI h1 [200] r2 7 fun x3 =>
  zrI x3 h1
def f_X5_shipAtRank_98 (K4 : Option Nat → Int32 → Int32 → Int32 → zH → zO) (K20 : Option Nat → Int32 → Int32 → Int32 → Int32 → Int32 → zH → zO) (a0 : Option Nat) (a1 : Int32) (a2 : Int32) (a3 : Int32) (a5 : Int32) (s0 : Int32) (s1 : Int32) (h : zH) : zO :=
  znm (s1 + s0) fun x15 =>
  znm (a5 + 1) fun x16 =>
  K20 a0 a1 a2 a3 x15 x16 h
def f_X5_shipAtRank_93 (K4 : Option Nat → Int32 → Int32 → Int32 → zH → zO) (K20 : Option Nat → Int32 → Int32 → Int32 → Int32 → Int32 → zH → zO) (a0 : Option Nat) (a1 : Int32) (a2 : Int32) (a3 : Int32) (a5 : Int32) (s0 : Int32) (h : zH) : zO :=
  f_X5_shipAtRank_98 K4 K20 a0 a1 a2 a3 a5 1 s0 h
def f_X5_shipAtRank_97 (K4 : Option Nat → Int32 → Int32 → Int32 → zH → zO) (K20 : Option Nat → Int32 → Int32 → Int32 → Int32 → Int32 → zH → zO) (a0 : Option Nat) (a1 : Int32) (a2 : Int32) (a3 : Int32) (a5 : Int32) (s0 : Int32) (h : zH) : zO :=
  f_X5_shipAtRank_98 K4 K20 a0 a1 a2 a3 a5 0 s0 h
def f_X5_shipAtRank_123 (K4 : Option Nat → Int32 → Int32 → Int32 → zH → zO) (a0 : Option Nat) (a1 : Int32) (a3 : Int32) (s0 : Int32) (h : zH) : zO :=
  znm (a3 + 1) fun x19 =>
  K4 a0 a1 s0 x19 h
def f_X5_shipAtRank_107 (K4 : Option Nat → Int32 → Int32 → Int32 → zH → zO) (a0 : Option Nat) (a1 : Int32) (a2 : Int32) (a3 : Int32) (a4 : Int32) (h : zH) : zO :=
  if ¬ a4 = a1 then
    f_X5_shipAtRank_123 K4 a0 a1 a3 a2 h
  else
    if ztg h a0 = some 4 then
      zcI (f_X5_of a0 a3 0 h) zX fun x17 h18 =>
      f_X5_shipAtRank_123 K4 a0 a1 a3 x17 h18
    else
    none
def f_X5_shipAtRank_20 (K4 : Option Nat → Int32 → Int32 → Int32 → zH → zO) : Nat → Option Nat → Int32 → Int32 → Int32 → Int32 → Int32 → zH → zO
  | 0, _, _, _, _, _, _, _ => none
  | n + 1, a0, a1, a2, a3, a4, a5, h =>
    zgR h [4] 0 a0 fun r3 =>
    zaI h [200] r3 4 fun x4 =>
    if x4 ≤ a5 then
      f_X5_shipAtRank_107 K4 a0 a1 a2 a3 a4 h
    else
      if ztg h a0 = some 4 then
        zcI (f_X5_of a0 a5 8 h) zX fun x5 h6 =>
        if ztg h6 a0 = some 4 then
          zcI (f_X5_of a0 a3 8 h6) zX fun x7 h8 =>
          znm (x5 - x7) fun x9 =>
          if ztg h8 a0 = some 4 then
            zcI (f_X5_of a0 a5 3 h8) zX fun x10 h11 =>
            if ztg h11 a0 = some 4 then
              zcI (f_X5_of a0 a3 3 h11) zX fun x12 h13 =>
              znm (x10 - x12) fun x14 =>
              if 0 < x9 then
                f_X5_shipAtRank_93 K4 (f_X5_shipAtRank_20 K4 n) a0 a1 a2 a3 a5 a4 h13
              else
                if ¬ x9 = 0 then
                  f_X5_shipAtRank_97 K4 (f_X5_shipAtRank_20 K4 n) a0 a1 a2 a3 a5 a4 h13
                else
                  if 0 < x14 then
                    f_X5_shipAtRank_93 K4 (f_X5_shipAtRank_20 K4 n) a0 a1 a2 a3 a5 a4 h13
                  else
                    if ¬ x14 = 0 then
                      f_X5_shipAtRank_97 K4 (f_X5_shipAtRank_20 K4 n) a0 a1 a2 a3 a5 a4 h13
                    else
                      if a3 ≤ a5 then
                        f_X5_shipAtRank_97 K4 (f_X5_shipAtRank_20 K4 n) a0 a1 a2 a3 a5 a4 h13
                      else
                        f_X5_shipAtRank_93 K4 (f_X5_shipAtRank_20 K4 n) a0 a1 a2 a3 a5 a4 h13
            else
            none
          else
          none
        else
        none
      else
      none
def f_X5_shipAtRank_141  (a2 : Int32) (s0 : Int32) (s1 : Option Nat) (h : zH) : zO :=
  if ztg h s1 = some 4 then
    zcI (f_X5_goes s1 s0 h) zX fun x20 h21 =>
    if x20 = 0 then
      zrI 0 h21
    else
      zrI a2 h21
  else
  none
def f_X5_shipAtRank_130  (a0 : Option Nat) (a2 : Int32) (h : zH) : zO :=
  if a2 = (-1) then
    f_X5_shipAtRank_141 a2 0 a0 h
  else
    f_X5_shipAtRank_141 a2 1 a0 h
def f_X5_shipAtRank_4  : Nat → Option Nat → Int32 → Int32 → Int32 → zH → zO
  | 0, _, _, _, _, _ => none
  | n + 1, a0, a1, a2, a3, h =>
    zgR h [4] 0 a0 fun r1 =>
    zaI h [200] r1 4 fun x2 =>
    if x2 ≤ a3 then
      f_X5_shipAtRank_130 a0 a2 h
    else
      f_X5_shipAtRank_20 (f_X5_shipAtRank_4 n) zfuel a0 a1 a2 a3 0 0 h
def f_X5_shipAtRank (v0 : Option Nat) (v1 : Int32) (h : zH) : zO :=
  f_X5_shipAtRank_4 zfuel v0 v1 (-1) 0 h
def f_X5_meanDirt_15  (a0 : Option Nat) (s0 : Int32) (s1 : Option Nat) (h : zH) : zO :=
  if ztg h s1 = some 4 then
    zcI (f_X5_goes s1 s0 h) zX fun x3 h4 =>
    if x3 = 0 then
      zrD FP.dconst0 h4
    else
      if ztg h4 a0 = some 4 then
        zcI (f_X5_sum a0 3 h4) zX fun x5 h6 =>
        zgR h6 [4] 0 a0 fun r7 =>
        zaI h6 [200] r7 4 fun x8 =>
        if (FP.ddiv (FP.i2d x5) (FP.i2d x8)) &&& 0x7fffffffffffffff ≤ 0x7ff0000000000000 then
          zrD (FP.ddiv (FP.i2d x5) (FP.i2d x8)) h6
        else none
      else
      none
  else
  none
def f_X5_meanDirt (v0 : Option Nat) (h : zH) : zO :=
  zgR h [4] 0 v0 fun r1 =>
  zaI h [200] r1 4 fun x2 =>
  if x2 ≤ 0 then
    f_X5_meanDirt_15 v0 0 v0 h
  else
    f_X5_meanDirt_15 v0 1 v0 h
def f_X5_takenShare (v0 : Option Nat) (h : zH) : zO :=
  zpF h [4] 13 v0 (.int 0) fun h1 =>
  if ztg h1 v0 = some 4 then
    zcI (f_X5_freeOnes v0 h1) zX fun x2 h3 =>
    if (FP.fdiv (FP.i2f ((60 : Int32) - x2)) 1114636288) &&& 0x7fffffff ≤ 0x7f800000 then
      zrF (FP.fdiv (FP.i2f ((60 : Int32) - x2)) 1114636288) h3
    else none
  else
  none
def f_X5_isConsistent (v0 : Option Nat) (h : zH) : zO :=
  zpF h [4] 13 v0 (.int 0) fun h1 =>
  zrN .boolean 1 h1
def f_X5_describeDock_59 (K7 : Option Nat → Int32 → zH → zO) (a0 : Option Nat) (a1 : Int32) (s0 : Int32) (s1 : Int32) (s2 : Option Nat) (h : zH) : zO :=
  zaS h [200] s2 s1 (.int s0) fun h10 =>
  znm (a1 + 1) fun x11 =>
  K7 a0 x11 h10
def f_X5_describeDock_7  : Nat → Option Nat → Int32 → zH → zO
  | 0, _, _, _ => none
  | n + 1, a0, a1, h =>
    if 60 ≤ a1 then
      zpF h [4] 12 a0 (.int 60) fun h2 =>
      zrI 60 h2
    else
      if ztg h a0 = some 4 then
        zcI (f_X5_at a0 a1 h) zX fun x3 h4 =>
        zgR h4 [4] 11 a0 fun r5 =>
        if x3 = (-1) then
          if ztg h4 a0 = some 4 then
            zcI (f_X5_isBlock a0 a1 h4) zX fun x6 h7 =>
            if x6 = 0 then
              f_X5_describeDock_59 (f_X5_describeDock_7 n) a0 a1 46 a1 r5 h7
            else
              f_X5_describeDock_59 (f_X5_describeDock_7 n) a0 a1 94 a1 r5 h7
          else
          none
        else
          if ztg h4 a0 = some 4 then
            zcI (f_X5_of a0 x3 0 h4) zX fun x8 h9 =>
            if ¬ 10 = 0 then
              f_X5_describeDock_59 (f_X5_describeDock_7 n) a0 a1 ((48 : Int32) + (x8 - x8 / 10 * 10)) a1 r5 h9
            else none
          else
          none
      else
      none
def f_X5_describeDock (v0 : Option Nat) (h : zH) : zO :=
  zpF h [4] 13 v0 (.int 0) fun h1 =>
  f_X5_describeDock_7 zfuel v0 0 h1
def f_X5_put (v0 : Option Nat) (v1 : Int32) (v2 : Int32) (h : zH) : zO :=
  zgR h [4] 11 v0 fun r1 =>
  zaS h [200] r1 v1 (.int v2) fun h2 =>
  zrI (v1 + 1) h2
def f_X5_writesNumber_28  : Nat → Option Nat → Int32 → Int32 → Int32 → zH → zO
  | 0, _, _, _, _, _ => none
  | n + 1, a0, a2, a3, a5, h =>
    if a5 ≤ 0 then
      zrI a3 h
    else
      if ¬ a5 = 0 then
        if ¬ 10 = 0 then
          if ztg h a0 = some 4 then
            zcI (f_X5_put a0 a3 ((48 : Int32) + ((a2 / a5) - (a2 / a5) / 10 * 10)) h) zX fun x2 h3 =>
            if ¬ 10 = 0 then
              znm (a5 / 10) fun x4 =>
              f_X5_writesNumber_28 n a0 a2 x2 x4 h3
            else none
          else
          none
        else none
      else none
def f_X5_writesNumber_24  (a0 : Option Nat) (a2 : Int32) (a3 : Int32) (a4 : Int32) (h : zH) : zO :=
  f_X5_writesNumber_28 zfuel a0 a2 a3 a4 h
def f_X5_writesNumber_5  : Nat → Option Nat → Int32 → Int32 → Int32 → zH → zO
  | 0, _, _, _, _, _ => none
  | n + 1, a0, a2, a3, a4, h =>
    if ¬ a4 = 0 then
      if (a2 / a4) ≤ 9 then
        f_X5_writesNumber_24 a0 a2 a3 a4 h
      else
        znm (a4 * 10) fun x1 =>
        f_X5_writesNumber_5 n a0 a2 a3 x1 h
    else none
def f_X5_writesNumber (v0 : Option Nat) (v1 : Int32) (v2 : Int32) (h : zH) : zO :=
  f_X5_writesNumber_5 zfuel v0 v2 v1 1 h
def f_X5_describeBill_132  (a0 : Option Nat) (s0 : Int32) (s1 : Int32) (s2 : Option Nat) (s3 : Option Nat) (h : zH) : zO :=
  if ztg h s2 = some 4 then
    zcI (f_X5_put s2 s1 s0 h) zX fun x35 h36 =>
    zpF h36 [4] 12 s3 (.int x35) fun h37 =>
    zgI h37 [4] 12 a0 fun x38 =>
    zrI x38 h37
  else
  none
def f_X5_describeBill_105  (a0 : Option Nat) (a2 : Int32) (s0 : Int32) (h : zH) : zO :=
  if ztg h a0 = some 4 then
    zcI (f_X5_isDocked a0 a2 h) zX fun x29 h30 =>
    if x29 = 0 then
      zpF h30 [4] 12 a0 (.int s0) fun h31 =>
      zgI h31 [4] 12 a0 fun x32 =>
      zrI x32 h31
    else
      if ztg h30 a0 = some 4 then
        zcI (f_X5_floats a0 a2 h30) zX fun x33 h34 =>
        if x33 = 0 then
          f_X5_describeBill_132 a0 95 s0 a0 a0 h34
        else
          f_X5_describeBill_132 a0 126 s0 a0 a0 h34
      else
      none
  else
  none
def f_X5_describeBill_17  (a0 : Option Nat) (a1 : Int32) (a2 : Int32) (s0 : Int32) (s1 : Option Nat) (h : zH) : zO :=
  if ztg h s1 = some 4 then
    zcI (f_X5_goes s1 s0 h) zX fun x3 h4 =>
    if ¬ x3 = 0 then
      if ztg h4 a0 = some 4 then
        zcI (f_X5_put a0 0 35 h4) zX fun x5 h6 =>
        if ztg h6 a0 = some 4 then
          zcI (f_X5_writesNumber a0 x5 a1 h6) zX fun x7 h8 =>
          if ztg h8 a0 = some 4 then
            zcI (f_X5_put a0 x7 58 h8) zX fun x9 h10 =>
            if ztg h10 a0 = some 4 then
              zcI (f_X5_of a0 a2 8 h10) zX fun x11 h12 =>
              if ztg h12 a0 = some 4 then
                zcI (f_X5_writesNumber a0 x9 x11 h12) zX fun x13 h14 =>
                if ztg h14 a0 = some 4 then
                  zcI (f_X5_put a0 x13 47 h14) zX fun x15 h16 =>
                  if ztg h16 a0 = some 4 then
                    zcI (f_X5_of a0 a2 3 h16) zX fun x17 h18 =>
                    if ztg h18 a0 = some 4 then
                      zcI (f_X5_writesNumber a0 x15 x17 h18) zX fun x19 h20 =>
                      if ztg h20 a0 = some 4 then
                        zcI (f_X5_of a0 a2 6 h20) zX fun x21 h22 =>
                        if ¬ x21 = 0 then
                          if ztg h22 a0 = some 4 then
                            zcI (f_X5_put a0 x19 33 h22) zX fun x23 h24 =>
                            if ztg h24 a0 = some 4 then
                              zcI (f_X5_of a0 a2 6 h24) zX fun x25 h26 =>
                              if ztg h26 a0 = some 4 then
                                zcI (f_X5_writesNumber a0 x23 x25 h26) zX fun x27 h28 =>
                                f_X5_describeBill_105 a0 a2 x27 h28
                              else
                              none
                            else
                            none
                          else
                          none
                        else
                          f_X5_describeBill_105 a0 a2 x19 h22
                      else
                      none
                    else
                    none
                  else
                  none
                else
                none
              else
              none
            else
            none
          else
          none
        else
        none
      else
      none
    else
      zrI 0 h4
  else
  none
def f_X5_describeBill (v0 : Option Nat) (v1 : Int32) (h : zH) : zO :=
  if ztg h v0 = some 4 then
    zcI (f_X5_find v0 v1 h) zX fun x1 h2 =>
    if x1 = (-1) then
      f_X5_describeBill_17 v0 v1 x1 0 v0 h2
    else
      f_X5_describeBill_17 v0 v1 x1 1 v0 h2
  else
  none
def f_X5_lineAt (v0 : Option Nat) (v1 : Int32) (h : zH) : zO :=
  zgI h [4] 12 v0 fun x1 =>
  zcI (f_X5_isIn v1 0 (x1 - 1) h) zX fun x2 h3 =>
  if ztg h3 v0 = some 4 then
    zcI (f_X5_goes v0 x2 h3) zX fun x4 h5 =>
    if x4 = 0 then
      zrN .char 0 h5
    else
      zgR h5 [4] 11 v0 fun r6 =>
      zaI h5 [200] r6 v1 fun x7 =>
      zrN .char ((x7.toUInt32 % 65536).toInt32) h5
  else
  none
def f_X5_append_23  (a0 : Option Nat) (a1 : Int32) (s0 : Int32) (s1 : Int32) (s2 : Option Nat) (h : zH) : zO :=
  if ztg h s2 = some 4 then
    zcI (f_X5_holds s2 s1 s0 1 1 h) zX fun x4 h5 =>
    if ¬ x4 = 0 then
      zgR h5 [4] 9 a0 fun r6 =>
      zgI h5 [4] 10 a0 fun x7 =>
      zaS h5 [200] r6 x7 (.int a1) fun h8 =>
      zgI h8 [4] 10 a0 fun x9 =>
      zpF h8 [4] 10 a0 (.int (x9 + 1)) fun h10 =>
      zgI h10 [4] 10 a0 fun x11 =>
      zrI x11 h10
    else
      zrI 0 h5
  else
  none
def f_X5_append (v0 : Option Nat) (v1 : Int32) (h : zH) : zO :=
  zcI (f_X5_isIn v1 32 126 h) zX fun x1 h2 =>
  zgI h2 [4] 10 v0 fun x3 =>
  if 60 ≤ x3 then
    f_X5_append_23 v0 v1 0 x1 v0 h2
  else
    f_X5_append_23 v0 v1 1 x1 v0 h2
def f_X5_startOf (v0 : Int32) (h : zH) : zO :=
  if v0 = 0 then
    zrI 0 h
  else
  if v0 = 1 then
    zrI ((5 : Int32) + ((6 : Int32) * (v0 - 1))) h
  else
  if v0 = 2 then
    zrI ((5 : Int32) + ((6 : Int32) * (v0 - 1))) h
  else
  if v0 = 3 then
    zrI ((5 : Int32) + ((6 : Int32) * (v0 - 1))) h
  else
  if v0 = 4 then
    zrI ((5 : Int32) + ((6 : Int32) * (v0 - 1))) h
  else
  if v0 = 5 then
    zrI 28 h
  else
  if v0 = 6 then
    zrI 32 h
  else
  if v0 = 7 then
    zrI ((37 : Int32) + ((5 : Int32) * (v0 - 7))) h
  else
  if v0 = 8 then
    zrI ((37 : Int32) + ((5 : Int32) * (v0 - 7))) h
  else
  if v0 = 9 then
    zrI ((37 : Int32) + ((5 : Int32) * (v0 - 7))) h
  else
  if v0 = 10 then
    zrI 53 h
  else
  if v0 = 11 then
    zrI 61 h
  else
  zrI 65 h
def f_X5_kindHere_114 (K9 : Option Nat → Int32 → Int32 → Int32 → zH → zO) (a0 : Option Nat) (a1 : Int32) (a3 : Int32) (s0 : Int32) (h : zH) : zO :=
  znm (a3 + 1) fun x20 =>
  K9 a0 a1 s0 x20 h
def f_X5_kindHere_90 (K9 : Option Nat → Int32 → Int32 → Int32 → zH → zO) (a0 : Option Nat) (a1 : Int32) (a2 : Int32) (a3 : Int32) (a4 : Int32) (a5 : Int32) (h : zH) : zO :=
  zgI h [4] 16 a0 fun x17 =>
  zcI (f_J11_max a1 (x17 + a5) h) zX fun x18 h19 =>
  if ¬ a5 = a4 then
    f_X5_kindHere_114 K9 a0 x18 a3 a2 h19
  else
    f_X5_kindHere_114 K9 a0 x18 a3 a3 h19
def f_X5_kindHere_36 (K9 : Option Nat → Int32 → Int32 → Int32 → zH → zO) : Nat → Option Nat → Int32 → Int32 → Int32 → Int32 → Int32 → zH → zO
  | 0, _, _, _, _, _, _, _ => none
  | n + 1, a0, a1, a2, a3, a4, a5, h =>
    if a4 ≤ a5 then
      f_X5_kindHere_90 K9 a0 a1 a2 a3 a4 a5 h
    else
      zgI h [4] 16 a0 fun x7 =>
      zgI h [4] 15 a0 fun x8 =>
      if x8 ≤ (x7 + a5) then
        f_X5_kindHere_90 K9 a0 a1 a2 a3 a4 a5 h
      else
        zgR h [4] 9 a0 fun r9 =>
        zgI h [4] 16 a0 fun x10 =>
        zaI h [200] r9 (x10 + a5) fun x11 =>
        zcI (f_X5_startOf a3 h) zX fun x12 h13 =>
        if ztg h13 (some (zG h 25)) = some 17 then
          zcI (f_J9_charAt (some (zG h 25)) (x12 + a5) h13) zX fun x14 h15 =>
          if ¬ x11 = x14 then
            f_X5_kindHere_90 K9 a0 a1 a2 a3 a4 a5 h15
          else
            znm (a5 + 1) fun x16 =>
            f_X5_kindHere_36 K9 n a0 a1 a2 a3 a4 x16 h15
        else
        none
def f_X5_kindHere_135  (a0 : Option Nat) (a2 : Int32) (s0 : Int32) (s1 : Option Nat) (h : zH) : zO :=
  zpF h [4] 17 s1 (.int s0) fun h22 =>
  zgI h22 [4] 16 a0 fun x23 =>
  if ¬ a2 = (-1) then
    zcI (f_X5_startOf (a2 + 1) h22) zX fun x24 h25 =>
    zcI (f_X5_startOf a2 h25) zX fun x26 h27 =>
    zpF h27 [4] 16 a0 (.int (x23 + (x24 - x26))) fun h28 =>
    zrI a2 h28
  else
    zpF h22 [4] 16 a0 (.int (x23 + 0)) fun h29 =>
    zrI a2 h29
def f_X5_kindHere_121  (a0 : Option Nat) (a1 : Int32) (a2 : Int32) (h : zH) : zO :=
  if ¬ a2 = (-1) then
    zgI h [4] 17 a0 fun x21 =>
    f_X5_kindHere_135 a0 a2 x21 a0 h
  else
    f_X5_kindHere_135 a0 a2 a1 a0 h
def f_X5_kindHere_9  : Nat → Option Nat → Int32 → Int32 → Int32 → zH → zO
  | 0, _, _, _, _, _ => none
  | n + 1, a0, a1, a2, a3, h =>
    if 12 ≤ a3 then
      f_X5_kindHere_121 a0 a1 a2 h
    else
      if ¬ a2 = (-1) then
        f_X5_kindHere_121 a0 a1 a2 h
      else
        zcI (f_X5_startOf (a3 + 1) h) zX fun x2 h3 =>
        zcI (f_X5_startOf a3 h3) zX fun x4 h5 =>
        znm (x2 - x4) fun x6 =>
        f_X5_kindHere_36 (f_X5_kindHere_9 n) zfuel a0 a1 a2 a3 x6 0 h5
def f_X5_kindHere (v0 : Option Nat) (h : zH) : zO :=
  zgI h [4] 16 v0 fun x1 =>
  f_X5_kindHere_9 zfuel v0 x1 (-1) 0 h
def f_X5_letterHere (v0 : Option Nat) (h : zH) : zO :=
  zgI h [4] 16 v0 fun x1 =>
  zgI h [4] 15 v0 fun x2 =>
  if x2 ≤ x1 then
    zrI (-1) h
  else
    zgR h [4] 9 v0 fun r3 =>
    zgI h [4] 16 v0 fun x4 =>
    zaI h [200] r3 x4 fun x5 =>
    zrI x5 h
def f_X5_reads_44  (a0 : Option Nat) (h : zH) : zO :=
  zgI h [4] 17 a0 fun x11 =>
  if ¬ x11 = (-1) then
    zgI h [4] 17 a0 fun x12 =>
    zpF h [4] 17 a0 (.int x12) fun h13 =>
    zrI 0 h13
  else
    zgI h [4] 16 a0 fun x14 =>
    zpF h [4] 17 a0 (.int x14) fun h15 =>
    zrI 0 h15
def f_X5_reads (v0 : Option Nat) (v1 : Int32) (v2 : Int32) (h : zH) : zO :=
  zgI h [4] 17 v0 fun x1 =>
  if ¬ x1 = (-1) then
    f_X5_reads_44 v0 h
  else
    if ztg h v0 = some 4 then
      zcI (f_X5_letterHere v0 h) zX fun x2 h3 =>
      zcI (f_X5_isIn x2 v1 v2 h3) zX fun x4 h5 =>
      if x4 = 0 then
        f_X5_reads_44 v0 h5
      else
        zgI h5 [4] 16 v0 fun x6 =>
        zpF h5 [4] 16 v0 (.int (x6 + 1)) fun h7 =>
        zgR h7 [4] 9 v0 fun r8 =>
        zgI h7 [4] 16 v0 fun x9 =>
        zaI h7 [200] r8 (x9 - 1) fun x10 =>
        zrI (x10 - v1) h7
    else
    none
def f_X5_number_11  : Nat → Option Nat → Int32 → Int32 → zH → zO
  | 0, _, _, _, _ => none
  | n + 1, a0, a1, a2, h =>
    if 3 ≤ a2 then
      zrI a1 h
    else
      zgI h [4] 17 a0 fun x3 =>
      if ¬ x3 = (-1) then
        zrI a1 h
      else
        if ztg h a0 = some 4 then
          zcI (f_X5_letterHere a0 h) zX fun x4 h5 =>
          zcI (f_X5_isIn x4 48 57 h5) zX fun x6 h7 =>
          if x6 = 0 then
            zrI a1 h7
          else
            if ztg h7 a0 = some 4 then
              zcI (f_X5_reads a0 48 57 h7) zX fun x8 h9 =>
              znm (((10 : Int32) * a1) + x8) fun x10 =>
              znm (a2 + 1) fun x11 =>
              f_X5_number_11 n a0 x10 x11 h9
            else
            none
        else
        none
def f_X5_number (v0 : Option Nat) (h : zH) : zO :=
  if ztg h v0 = some 4 then
    zcI (f_X5_reads v0 48 57 h) zX fun x1 h2 =>
    f_X5_number_11 zfuel v0 x1 1 h2
  else
  none
def f_X5_numberBehind (v0 : Option Nat) (v1 : Int32) (h : zH) : zO :=
  if ztg h v0 = some 4 then
    zcI (f_X5_reads v0 v1 v1 h) zX fun x1 h2 =>
    if ztg h2 v0 = some 4 then
      zcI (f_X5_number v0 h2) zX fun x3 h4 =>
      zrI x3 h4
    else
    none
  else
  none
def f_X5_readsCommand_159  (s0 : Int32) (s1 : Option Nat) (s2 : Int32) (s3 : Option Nat) (h : zH) : zO :=
  if ztg h s1 = some 4 then
    zcI (f_X5_numberBehind s1 s0 h) zX fun x27 h28 =>
    zaS h28 [200] s3 s2 (.int x27) fun h29 =>
    zrV h29
  else
  none
def f_X5_readsCommand_139  (a0 : Option Nat) (a1 : Int32) (a2 : Int32) (h : zH) : zO :=
  zgR h [4] 19 a0 fun r26 =>
  if ¬ a2 = 1 then
    f_X5_readsCommand_159 43 a0 (a1 + 2) r26 h
  else
    f_X5_readsCommand_159 64 a0 (a1 + 2) r26 h
def f_X5_readsCommand_128  (a0 : Option Nat) (a1 : Int32) (a2 : Int32) (h : zH) : zO :=
  if a2 = 1 then
    f_X5_readsCommand_139 a0 a1 a2 h
  else
    if ¬ a2 = 11 then
      zrV h
    else
      f_X5_readsCommand_139 a0 a1 a2 h
def f_X5_readsCommand_95  (a0 : Option Nat) (a1 : Int32) (a2 : Int32) (s0 : Int32) (s1 : Int32) (s2 : Option Nat) (h : zH) : zO :=
  zaS h [200] s2 s1 (.int s0) fun h17 =>
  if ¬ a2 = 0 then
    f_X5_readsCommand_128 a0 a1 a2 h17
  else
    zgR h17 [4] 19 a0 fun r18 =>
    if ztg h17 a0 = some 4 then
      zcI (f_X5_numberBehind a0 32 h17) zX fun x19 h20 =>
      zaS h20 [200] r18 (a1 + 2) (.int x19) fun h21 =>
      zgR h21 [4] 19 a0 fun r22 =>
      if ztg h21 a0 = some 4 then
        zcI (f_X5_numberBehind a0 32 h21) zX fun x23 h24 =>
        zaS h24 [200] r22 (a1 + 3) (.int x23) fun h25 =>
        f_X5_readsCommand_128 a0 a1 a2 h25
      else
      none
    else
    none
def f_X5_readsCommand_69  (a0 : Option Nat) (a1 : Int32) (a2 : Int32) (s0 : Int32) (h : zH) : zO :=
  zgR h [4] 19 a0 fun r12 =>
  if s0 = 0 then
    if ztg h a0 = some 4 then
      zcI (f_X5_number a0 h) zX fun x13 h14 =>
      f_X5_readsCommand_95 a0 a1 a2 x13 (a1 + 1) r12 h14
    else
    none
  else
    if ztg h a0 = some 4 then
      zcI (f_X5_numberBehind a0 45 h) zX fun x15 h16 =>
      f_X5_readsCommand_95 a0 a1 a2 (-x15) (a1 + 1) r12 h16
    else
    none
def f_X5_readsCommand_68  (a0 : Option Nat) (a1 : Int32) (a2 : Int32) (h : zH) : zO :=
  f_X5_readsCommand_69 a0 a1 a2 0 h
def f_X5_readsCommand (v0 : Option Nat) (h : zH) : zO :=
  zgI h [4] 18 v0 fun x1 =>
  znm ((4 : Int32) * x1) fun x2 =>
  if ztg h v0 = some 4 then
    zcI (f_X5_kindHere v0 h) zX fun x3 h4 =>
    zgR h4 [4] 19 v0 fun r5 =>
    zaS h4 [200] r5 x2 (.int x3) fun h6 =>
    zgI h6 [4] 18 v0 fun x7 =>
    zpF h6 [4] 18 v0 (.int (x7 + 1)) fun h8 =>
    zgI h8 [4] 17 v0 fun x9 =>
    if ¬ x9 = (-1) then
      zrV h8
    else
      if x3 = 5 then
        zrV h8
      else
        if ¬ x3 = 6 then
          if ¬ x3 = 7 then
            f_X5_readsCommand_68 v0 x2 x3 h8
          else
            if ztg h8 v0 = some 4 then
              zcI (f_X5_letterHere v0 h8) zX fun x10 h11 =>
              if ¬ x10 = 45 then
                f_X5_readsCommand_68 v0 x2 x3 h11
              else
                f_X5_readsCommand_69 v0 x2 x3 1 h11
            else
            none
        else
          zrV h8
  else
  none
def f_X5_readsAll_72 (K32 : Option Nat → zH → zO) (a0 : Option Nat) (h : zH) : zO :=
  K32 a0 h
def f_X5_readsAll_32  : Nat → Option Nat → zH → zO
  | 0, _, _ => none
  | n + 1, a0, h =>
    zgI h [4] 17 a0 fun x8 =>
    if ¬ x8 = (-1) then
      zrV h
    else
      zgI h [4] 16 a0 fun x9 =>
      zgI h [4] 15 a0 fun x10 =>
      if x10 ≤ x9 then
        zrV h
      else
        if ztg h a0 = some 4 then
          zcI (f_X5_reads a0 59 59 h) zX fun x11 h12 =>
          zgI h12 [4] 17 a0 fun x13 =>
          if ¬ x13 = (-1) then
            f_X5_readsAll_72 (f_X5_readsAll_32 n) a0 h12
          else
            if ztg h12 a0 = some 4 then
              zcV (f_X5_readsCommand a0 h12) zX fun h14 =>
              f_X5_readsAll_72 (f_X5_readsAll_32 n) a0 h14
            else
            none
        else
        none
def f_X5_readsAll (v0 : Option Nat) (h : zH) : zO :=
  zgI h [4] 10 v0 fun x1 =>
  zpF h [4] 15 v0 (.int x1) fun h2 =>
  zpF h2 [4] 10 v0 (.int 0) fun h3 =>
  zpF h3 [4] 16 v0 (.int 0) fun h4 =>
  zpF h4 [4] 17 v0 (.int (-1)) fun h5 =>
  zpF h5 [4] 18 v0 (.int 0) fun h6 =>
  if ztg h6 v0 = some 4 then
    zcV (f_X5_readsCommand v0 h6) zX fun h7 =>
    f_X5_readsAll_32 zfuel v0 h7
  else
  none
def f_X5_does (v0 : Option Nat) (v1 : Int32) (h : zH) : zO :=
  zgR h [4] 19 v0 fun r1 =>
  zaI h [200] r1 (v1 + 1) fun x2 =>
  zgR h [4] 19 v0 fun r3 =>
  zaI h [200] r3 (v1 + 2) fun x4 =>
  zgR h [4] 19 v0 fun r5 =>
  zaI h [200] r5 v1 fun x6 =>
  if x6 = 0 then
    zgR h [4] 19 v0 fun r7 =>
    zaI h [200] r7 (v1 + 3) fun x8 =>
    if ztg h v0 = some 4 then
      zcI (f_X5_adds v0 x2 x4 x8 h) zX fun x9 h10 =>
      zrI x9 h10
    else
    none
  else
  if x6 = 1 then
    if ztg h v0 = some 4 then
      zcI (f_X5_enters v0 x2 x4 h) zX fun x11 h12 =>
      zrI x11 h12
    else
    none
  else
  if x6 = 2 then
    if ztg h v0 = some 4 then
      zcI (f_X5_leaves v0 x2 h) zX fun x13 h14 =>
      zrI x13 h14
    else
    none
  else
  if x6 = 3 then
    zgR h [4] 19 v0 fun r15 =>
    zaI h [200] r15 v1 fun x16 =>
    if ztg h v0 = some 4 then
      zcI (f_X5_cleans v0 x2 ((4 : Int32) - x16) h) zX fun x17 h18 =>
      zrI x17 h18
    else
    none
  else
  if x6 = 4 then
    zgR h [4] 19 v0 fun r19 =>
    zaI h [200] r19 v1 fun x20 =>
    if ztg h v0 = some 4 then
      zcI (f_X5_cleans v0 x2 ((4 : Int32) - x20) h) zX fun x21 h22 =>
      zrI x21 h22
    else
    none
  else
  if x6 = 5 then
    zgR h [4] 19 v0 fun r23 =>
    zaI h [200] r23 v1 fun x24 =>
    if ztg h v0 = some 4 then
      zcI (f_X5_gates v0 ((6 : Int32) - x24) h) zX fun x25 h26 =>
      zrI x25 h26
    else
    none
  else
  if x6 = 6 then
    zgR h [4] 19 v0 fun r27 =>
    zaI h [200] r27 v1 fun x28 =>
    if ztg h v0 = some 4 then
      zcI (f_X5_gates v0 ((6 : Int32) - x28) h) zX fun x29 h30 =>
      zrI x29 h30
    else
    none
  else
  if x6 = 7 then
    if ztg h v0 = some 4 then
      zcI (f_X5_pumps v0 x2 h) zX fun x31 h32 =>
      zrI x31 h32
    else
    none
  else
  if x6 = 8 then
    if ztg h v0 = some 4 then
      zcI (f_X5_waits v0 x2 h) zX fun x33 h34 =>
      zrI x33 h34
    else
    none
  else
  if x6 = 9 then
    if ztg h v0 = some 4 then
      zcI (f_X5_lays v0 x2 h) zX fun x35 h36 =>
      zrI x35 h36
    else
    none
  else
  if x6 = 10 then
    if ztg h v0 = some 4 then
      zcI (f_X5_takes v0 x2 h) zX fun x37 h38 =>
      zrI x37 h38
    else
    none
  else
  if ztg h v0 = some 4 then
    zcI (f_X5_pays v0 x2 x4 h) zX fun x39 h40 =>
    zrI x39 h40
  else
  none
def f_X5_run_61  (a0 : Option Nat) (a1 : Int32) (h : zH) : zO :=
  zpF h [4] 7 a0 (.int a1) fun h13 =>
  zpF h13 [4] 13 a0 (.int 2) fun h14 =>
  zgR h14 [4] 1 a0 fun r15 =>
  zgR h14 [4] 0 a0 fun r16 =>
  zcV (f_X5_copies r15 0 r16 0 h14) zX fun h17 =>
  zrI 0 h17
def f_X5_run_92  (a0 : Option Nat) (h : zH) : zO :=
  zgI h [4] 18 a0 fun x18 =>
  if ztg h a0 = some 4 then
    zcI (f_X5_ends a0 x18 h) zX fun x19 h20 =>
    zrI x19 h20
  else
  none
def f_X5_run_38  : Nat → Option Nat → Int32 → zH → zO
  | 0, _, _, _ => none
  | n + 1, a0, a1, h =>
    zgI h [4] 18 a0 fun x8 =>
    if x8 ≤ a1 then
      f_X5_run_92 a0 h
    else
      if ztg h a0 = some 4 then
        zcI (f_X5_does a0 ((4 : Int32) * a1) h) zX fun x9 h10 =>
        zgI h10 [4] 13 a0 fun x11 =>
        if x11 = 0 then
          znm (a1 + 1) fun x12 =>
          f_X5_run_38 n a0 x12 h10
        else
          f_X5_run_61 a0 a1 h10
      else
      none
def f_X5_run (v0 : Option Nat) (h : zH) : zO :=
  if ztg h v0 = some 4 then
    zcV (f_X5_readsAll v0 h) zX fun h1 =>
    zgI h1 [4] 17 v0 fun x2 =>
    if x2 = (-1) then
      if ztg h1 v0 = some 4 then
        zcV (f_X5_begins v0 h1) zX fun h3 =>
        zpF h3 [4] 13 v0 (.int 0) fun h4 =>
        f_X5_run_38 zfuel v0 0 h4
      else
      none
    else
      zgI h1 [4] 17 v0 fun x5 =>
      zpF h1 [4] 6 v0 (.int x5) fun h6 =>
      zpF h6 [4] 13 v0 (.int 1) fun h7 =>
      zrI 0 h7
  else
  none
def f_X5_errorPosition_14  (a0 : Option Nat) (s0 : Int32) (s1 : Option Nat) (h : zH) : zO :=
  if ztg h s1 = some 4 then
    zcI (f_X5_goes s1 s0 h) zX fun x2 h3 =>
    if x2 = 0 then
      zrI 0 h3
    else
      zgI h3 [4] 6 a0 fun x4 =>
      zrI x4 h3
  else
  none
def f_X5_errorPosition (v0 : Option Nat) (h : zH) : zO :=
  zgI h [4] 6 v0 fun x1 =>
  if x1 = (-1) then
    f_X5_errorPosition_14 v0 0 v0 h
  else
    f_X5_errorPosition_14 v0 1 v0 h
def f_X5_failedCommand_14  (a0 : Option Nat) (s0 : Int32) (s1 : Option Nat) (h : zH) : zO :=
  if ztg h s1 = some 4 then
    zcI (f_X5_goes s1 s0 h) zX fun x2 h3 =>
    if x2 = 0 then
      zrI 0 h3
    else
      zgI h3 [4] 7 a0 fun x4 =>
      zrI x4 h3
  else
  none
def f_X5_failedCommand (v0 : Option Nat) (h : zH) : zO :=
  zgI h [4] 7 v0 fun x1 =>
  if x1 = (-1) then
    f_X5_failedCommand_14 v0 0 v0 h
  else
    f_X5_failedCommand_14 v0 1 v0 h
