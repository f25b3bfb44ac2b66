set_option maxRecDepth 100000
theorem gf_X5_232 : zFg RX5 232 [4] 16 := ⟨_, _, _, .inl q3258, ztc ⟨_, rfl, by decide, rfl, rfl, .inl rfl, in_X5⟩ (zt0)⟩
theorem gf_X5_235 : zFg RX5 235 [4] 15 := ⟨_, _, _, .inl q3257, ztc ⟨_, rfl, by decide, rfl, rfl, .inl rfl, in_X5⟩ (zt0)⟩
theorem gf_X5_238 : zFg RX5 238 [4] 17 := ⟨_, _, _, .inl q3259, ztc ⟨_, rfl, by decide, rfl, rfl, .inl rfl, in_X5⟩ (zt0)⟩
theorem pf_X5_238 {nm : String} : zFp RX5 238 [4] 17 nm (.int) := ⟨_, _, _, .inl q3259, by decide +kernel, ztc ⟨_, tyX5, rfl, by decide, rfl, rfl, .inl rfl, in_X5, tyX5_ok, nmX5, .inl rfl⟩ (zt0)⟩
theorem pf_X5_232 {nm : String} : zFp RX5 232 [4] 16 nm (.int) := ⟨_, _, _, .inl q3258, by decide +kernel, ztc ⟨_, tyX5, rfl, by decide, rfl, rfl, .inl rfl, in_X5, tyX5_ok, nmX5, .inl rfl⟩ (zt0)⟩
theorem gf_X5_261 : zFg RX5 261 [4] 18 := ⟨_, _, _, .inl q3260, ztc ⟨_, rfl, by decide, rfl, rfl, .inl rfl, in_X5⟩ (zt0)⟩
theorem gf_X5_39 : zFg RX5 39 [4] 19 := ⟨_, _, _, .inl q3261, ztc ⟨_, rfl, by decide, rfl, rfl, .inl rfl, in_X5⟩ (zt0)⟩
theorem pf_X5_261 {nm : String} : zFp RX5 261 [4] 18 nm (.int) := ⟨_, _, _, .inl q3260, by decide +kernel, ztc ⟨_, tyX5, rfl, by decide, rfl, rfl, .inl rfl, in_X5, tyX5_ok, nmX5, .inl rfl⟩ (zt0)⟩
theorem pf_X5_235 {nm : String} : zFp RX5 235 [4] 15 nm (.int) := ⟨_, _, _, .inl q3257, by decide +kernel, ztc ⟨_, tyX5, rfl, by decide, rfl, rfl, .inl rfl, in_X5, tyX5_ok, nmX5, .inl rfl⟩ (zt0)⟩
theorem gf_X5_22 : zFg RX5 22 [4] 6 := ⟨_, _, _, .inl q3248, ztc ⟨_, rfl, by decide, rfl, rfl, .inl rfl, in_X5⟩ (zt0)⟩
theorem gf_X5_26 : zFg RX5 26 [4] 7 := ⟨_, _, _, .inl q3249, ztc ⟨_, rfl, by decide, rfl, rfl, .inl rfl, in_X5⟩ (zt0)⟩
section WW11
variable {D : va_G} {z : Nat}
theorem w_X5_kindHere_114 (K9 : Option Nat → Int32 → Int32 → Int32 → zH → zO) (hK9 : ∀ (a0 : Option Nat) (a1 : Int32) (a2 : Int32) (a3 : Int32) (h : zH), zS D z yX5_kindHere cX5_kindHere 6 (some .int) [] 5 h 9 [(0, va_rf a0), (1, .int a1), (2, .int a2), (3, .int a3)] [] (K9 a0 a1 a2 a3 h)) (a0 : Option Nat) (a1 : Int32) (a3 : Int32) (s0 : Int32) (h : zH) : zS D z yX5_kindHere cX5_kindHere 6 (some .int) [] 5 h 114 [(0, va_rf a0), (1, .int a1), (3, .int a3)] [.int s0] (f_X5_kindHere_114 K9 a0 a1 a3 s0 h) := by
  unfold f_X5_kindHere_114
  refine s_ist_n (pc := 114) (L2 := [(0, va_rf a0), (1, .int a1), (3, .int a3)]) [0, 1, 2] dX5_kindHere_114 rfl (by decide) rfl rfl (zcB (j := 1) rfl rfl rfl) ?_
  refine s_inc (pc := 115) (v := 1) (L2 := [(2, .int s0), (0, va_rf a0), (1, .int a1)]) 3 [0, 1, 2] dX5_kindHere_115 rfl (by decide) (by decide) rfl rfl (zcB (j := 0) rfl rfl rfl) (fun x20 => ?_)
  refine s_goto (pc := 118) (tgt := 9) dX5_kindHere_118 (by decide) ?_
  exact s_sub (pc := 9) [2, 3, 1, 0] rfl (hK9 a0 a1 s0 x20 h)
theorem w_X5_kindHere_90 (K9 : Option Nat → Int32 → Int32 → Int32 → zH → zO) (hK9 : ∀ (a0 : Option Nat) (a1 : Int32) (a2 : Int32) (a3 : Int32) (h : zH), zS D z yX5_kindHere cX5_kindHere 6 (some .int) [] 5 h 9 [(0, va_rf a0), (1, .int a1), (2, .int a2), (3, .int a3)] [] (K9 a0 a1 a2 a3 h)) (a0 : Option Nat) (a1 : Int32) (a2 : Int32) (a3 : Int32) (a4 : Int32) (a5 : Int32) (h : zH) : zS D z yX5_kindHere cX5_kindHere 6 (some .int) [] 5 h 90 [(0, va_rf a0), (1, .int a1), (2, .int a2), (3, .int a3), (4, .int a4), (5, .int a5)] [] (f_X5_kindHere_90 K9 a0 a1 a2 a3 a4 a5 h) := by
  unfold f_X5_kindHere_90
  refine s_iload_n (pc := 90) 1 dX5_kindHere_90 rfl rfl ?_
  refine s_aload_n (pc := 91) 0 dX5_kindHere_91 rfl rfl ?_
  refine s_gI (pc := 92) dX5_kindHere_92 gf_X5_232 (fun x17 => ?_)
  refine s_iload (pc := 95) 5 dX5_kindHere_95 rfl ?_
  refine s_iadd (pc := 97) dX5_kindHere_97 ?_
  refine s_callSS (pc := 98) (np := 2) (as := [.int a1, .int (x17 + a5)]) (rest := []) dX5_kindHere_98 (c_J11_max (by decide) a1 (x17 + a5) h) rfl rfl q3348 q881 rfl (by decide) (zkI (fun x18 h19 => ?_)) zxo
  refine s_ist_n (pc := 101) (L2 := [(0, va_rf a0), (2, .int a2), (3, .int a3), (4, .int a4), (5, .int a5)]) [0, 2, 3, 4, 5] dX5_kindHere_101 rfl (by decide) rfl rfl (zcB (j := 0) rfl (zcat_rf a0) rfl) ?_
  refine s_iload (pc := 102) 5 dX5_kindHere_102 rfl ?_
  refine s_iload (pc := 104) 4 dX5_kindHere_104 rfl ?_
  refine s_icmp_ne (pc := 106) (tgt := 113) dX5_kindHere_106 (by decide) (fun _ => ?_) (fun _ => ?_)
  · refine s_iload_n (pc := 113) 2 dX5_kindHere_113 rfl rfl ?_
    exact s_sub (pc := 114) [1, 0, 3] rfl (w_X5_kindHere_114 K9 hK9 a0 x18 a3 a2 h19)
  · refine s_iload_n (pc := 109) 3 dX5_kindHere_109 rfl rfl ?_
    refine s_goto (pc := 110) (tgt := 114) dX5_kindHere_110 (by decide) ?_
    exact s_sub (pc := 114) [1, 0, 3] rfl (w_X5_kindHere_114 K9 hK9 a0 x18 a3 a3 h19)
theorem w_X5_kindHere_36 (K9 : Option Nat → Int32 → Int32 → Int32 → zH → zO) (hK9 : ∀ (a0 : Option Nat) (a1 : Int32) (a2 : Int32) (a3 : Int32) (h : zH), zS D z yX5_kindHere cX5_kindHere 6 (some .int) [] 5 h 9 [(0, va_rf a0), (1, .int a1), (2, .int a2), (3, .int a3)] [] (K9 a0 a1 a2 a3 h)) : ∀ (n : Nat) (a0 : Option Nat) (a1 : Int32) (a2 : Int32) (a3 : Int32) (a4 : Int32) (a5 : Int32) (h : zH), zS D z yX5_kindHere cX5_kindHere 6 (some .int) [] 5 h 36 [(0, va_rf a0), (1, .int a1), (2, .int a2), (3, .int a3), (4, .int a4), (5, .int a5)] [] (f_X5_kindHere_36 K9 n a0 a1 a2 a3 a4 a5 h) := by
  intro n
  induction n with
  | zero => intros; exact zS_none
  | succ n ih =>
    intro a0 a1 a2 a3 a4 a5 h
    rw [f_X5_kindHere_36.eq_2]
    refine s_iload (pc := 36) 5 dX5_kindHere_36 rfl ?_
    refine s_iload (pc := 38) 4 dX5_kindHere_38 rfl ?_
    refine s_icmp_ge (pc := 40) (tgt := 90) dX5_kindHere_40 (by decide) (fun _ => ?_) (fun _ => ?_)
    · exact s_sub (pc := 90) [0, 1, 2, 3, 4, 5] rfl (w_X5_kindHere_90 K9 hK9 a0 a1 a2 a3 a4 a5 h)
    · refine s_aload_n (pc := 43) 0 dX5_kindHere_43 rfl rfl ?_
      refine s_gI (pc := 44) dX5_kindHere_44 gf_X5_232 (fun x7 => ?_)
      refine s_iload (pc := 47) 5 dX5_kindHere_47 rfl ?_
      refine s_iadd (pc := 49) dX5_kindHere_49 ?_
      refine s_aload_n (pc := 50) 0 dX5_kindHere_50 rfl rfl ?_
      refine s_gI (pc := 51) dX5_kindHere_51 gf_X5_235 (fun x8 => ?_)
      refine s_icmp_ge (pc := 54) (tgt := 90) dX5_kindHere_54 (by decide) (fun _ => ?_) (fun _ => ?_)
      · exact s_sub (pc := 90) [0, 1, 2, 3, 4, 5] rfl (w_X5_kindHere_90 K9 hK9 a0 a1 a2 a3 a4 a5 h)
      · refine s_aload_n (pc := 57) 0 dX5_kindHere_57 rfl rfl ?_
        refine s_gR (pc := 58) dX5_kindHere_58 gf_X5_29 (fun r9 => ?_)
        refine s_aload_n (pc := 61) 0 dX5_kindHere_61 rfl rfl ?_
        refine s_gI (pc := 62) dX5_kindHere_62 gf_X5_232 (fun x10 => ?_)
        refine s_iload (pc := 65) 5 dX5_kindHere_65 rfl ?_
        refine s_iadd (pc := 67) dX5_kindHere_67 ?_
        refine s_iald (pc := 68) dX5_kindHere_68 (ztc rfl zt0) (fun x11 => ?_)
        refine s_ldcS (pc := 69) (i := 25) (tx := "ship enter leave clean stop openclosepump pass block unblock pay ") dX5_kindHere_69 (List.mem_of_getElem? (i := 15) rfl) ?_
        refine s_iload_n (pc := 71) 3 dX5_kindHere_71 rfl rfl ?_
        refine s_callSS (pc := 72) (np := 1) (as := [.int a3]) (rest := [va_rf (some (zG h 25)), .int x11]) dX5_kindHere_72 (c_X5_startOf (by decide) a3 h) rfl rfl q3719 q3720 rfl (by simp [zcat_rf, zcat_i, zcat_l, zcat_f, zcat_d]) (zkI (fun x12 h13 => ?_)) zxo
        refine s_iload (pc := 75) 5 dX5_kindHere_75 rfl ?_
        refine s_iadd (pc := 77) dX5_kindHere_77 ?_
        refine zS_ite (fun ht => ?_) (fun _ => zS_none)
        refine s_callV (pc := 78) (np := 1) (as := [.int (x12 + a5)]) (rest := [.int x11]) dX5_kindHere_78 ht (q := (RJ9, TJ9, 4)) rfl (c_J9_charAt (by decide) (some (zG h 25)) (x12 + a5) h13) rfl rfl q3723 q2945 q2946 rfl (by simp [zcat_rf, zcat_i, zcat_l, zcat_f, zcat_d]) (zkI (fun x14 h15 => ?_)) zxo
        refine s_icmp_ne (pc := 81) (tgt := 90) dX5_kindHere_81 (by decide) (fun _ => ?_) (fun _ => ?_)
        · exact s_sub (pc := 90) [0, 1, 2, 3, 4, 5] rfl (w_X5_kindHere_90 K9 hK9 a0 a1 a2 a3 a4 a5 h15)
        · refine s_inc (pc := 84) (v := 1) (L2 := [(0, va_rf a0), (1, .int a1), (2, .int a2), (3, .int a3), (4, .int a4)]) 5 [0, 1, 2, 3, 4] dX5_kindHere_84 rfl (by decide) (by decide) rfl rfl (zcB (j := 4) rfl rfl rfl) (fun x16 => ?_)
          refine s_goto (pc := 87) (tgt := 36) dX5_kindHere_87 (by decide) ?_
          exact s_sub (pc := 36) [1, 2, 3, 4, 5, 0] rfl (ih a0 a1 a2 a3 a4 x16 h15)
theorem w_X5_kindHere_135 (a0 : Option Nat) (a2 : Int32) (s0 : Int32) (s1 : Option Nat) (h : zH) : zS D z yX5_kindHere cX5_kindHere 6 (some .int) [] 5 h 135 [(0, va_rf a0), (2, .int a2)] [.int s0, va_rf s1] (f_X5_kindHere_135 a0 a2 s0 s1 h) := by
  unfold f_X5_kindHere_135
  refine s_putI (pc := 135) dX5_kindHere_135 pf_X5_238 (fun h22 => ?_)
  refine s_aload_n (pc := 138) 0 dX5_kindHere_138 rfl rfl ?_
  refine s_dup (pc := 139) dX5_kindHere_139 (zcat_rf _) ?_
  refine s_gI (pc := 140) dX5_kindHere_140 gf_X5_232 (fun x23 => ?_)
  refine s_iload_n (pc := 143) 1 dX5_kindHere_143 rfl rfl ?_
  refine s_iconst (pc := 144) (v := -1) dX5_kindHere_144 (by decide) ?_
  refine s_icmp_ne (pc := 145) (tgt := 152) dX5_kindHere_145 (by decide) (fun _ => ?_) (fun _ => ?_)
  · refine s_iload_n (pc := 152) 1 dX5_kindHere_152 rfl rfl ?_
    refine s_iconst (pc := 153) (v := 1) dX5_kindHere_153 (by decide) ?_
    refine s_iadd (pc := 154) dX5_kindHere_154 ?_
    refine s_callSS (pc := 155) (np := 1) (as := [.int (a2 + 1)]) (rest := [.int x23, va_rf a0]) dX5_kindHere_155 (c_X5_startOf (by decide) (a2 + 1) h22) rfl rfl q3719 q3720 rfl (by simp [zcat_rf, zcat_i, zcat_l, zcat_f, zcat_d]) (zkI (fun x24 h25 => ?_)) zxo
    refine s_iload_n (pc := 158) 1 dX5_kindHere_158 rfl rfl ?_
    refine s_callSS (pc := 159) (np := 1) (as := [.int a2]) (rest := [.int x24, .int x23, va_rf a0]) dX5_kindHere_159 (c_X5_startOf (by decide) a2 h25) rfl rfl q3719 q3720 rfl (by simp [zcat_rf, zcat_i, zcat_l, zcat_f, zcat_d]) (zkI (fun x26 h27 => ?_)) zxo
    refine s_isub (pc := 162) dX5_kindHere_162 ?_
    refine s_iadd (pc := 163) dX5_kindHere_163 ?_
    refine s_putI (pc := 164) dX5_kindHere_164 pf_X5_232 (fun h28 => ?_)
    refine s_iload_n (pc := 167) 1 dX5_kindHere_167 rfl rfl ?_
    exact s_iret (pc := 168) dX5_kindHere_168 rfl
  · refine s_iconst (pc := 148) (v := 0) dX5_kindHere_148 (by decide) ?_
    refine s_goto (pc := 149) (tgt := 163) dX5_kindHere_149 (by decide) ?_
    refine s_iadd (pc := 163) dX5_kindHere_163 ?_
    refine s_putI (pc := 164) dX5_kindHere_164 pf_X5_232 (fun h29 => ?_)
    refine s_iload_n (pc := 167) 1 dX5_kindHere_167 rfl rfl ?_
    exact s_iret (pc := 168) dX5_kindHere_168 rfl
theorem w_X5_kindHere_121 (a0 : Option Nat) (a1 : Int32) (a2 : Int32) (h : zH) : zS D z yX5_kindHere cX5_kindHere 6 (some .int) [] 5 h 121 [(0, va_rf a0), (1, .int a1), (2, .int a2)] [] (f_X5_kindHere_121 a0 a1 a2 h) := by
  unfold f_X5_kindHere_121
  refine s_aload_n (pc := 121) 0 dX5_kindHere_121 rfl rfl ?_
  refine s_iload_n (pc := 122) 2 dX5_kindHere_122 rfl rfl ?_
  refine s_iconst (pc := 123) (v := -1) dX5_kindHere_123 (by decide) ?_
  refine s_icmp_ne (pc := 124) (tgt := 131) dX5_kindHere_124 (by decide) (fun _ => ?_) (fun _ => ?_)
  · refine s_aload_n (pc := 131) 0 dX5_kindHere_131 rfl rfl ?_
    refine s_gI (pc := 132) dX5_kindHere_132 gf_X5_238 (fun x21 => ?_)
    exact s_sub (pc := 135) [0, 2] rfl (w_X5_kindHere_135 a0 a2 x21 a0 h)
  · refine s_iload_n (pc := 127) 1 dX5_kindHere_127 rfl rfl ?_
    refine s_goto (pc := 128) (tgt := 135) dX5_kindHere_128 (by decide) ?_
    exact s_sub (pc := 135) [0, 2] rfl (w_X5_kindHere_135 a0 a2 a1 a0 h)
theorem w_X5_kindHere_9 : ∀ (n : Nat) (a0 : Option Nat) (a1 : Int32) (a2 : Int32) (a3 : Int32) (h : zH), zS D z yX5_kindHere cX5_kindHere 6 (some .int) [] 5 h 9 [(0, va_rf a0), (1, .int a1), (2, .int a2), (3, .int a3)] [] (f_X5_kindHere_9 n a0 a1 a2 a3 h) := by
  intro n
  induction n with
  | zero => intros; exact zS_none
  | succ n ih =>
    intro a0 a1 a2 a3 h
    rw [f_X5_kindHere_9.eq_2]
    refine s_iload_n (pc := 9) 3 dX5_kindHere_9 rfl rfl ?_
    refine s_bipush (pc := 10) (v := 12) dX5_kindHere_10 (by decide) ?_
    refine s_icmp_ge (pc := 12) (tgt := 121) dX5_kindHere_12 (by decide) (fun _ => ?_) (fun _ => ?_)
    · exact s_sub (pc := 121) [0, 1, 2] rfl (w_X5_kindHere_121 a0 a1 a2 h)
    · refine s_iload_n (pc := 15) 2 dX5_kindHere_15 rfl rfl ?_
      refine s_iconst (pc := 16) (v := -1) dX5_kindHere_16 (by decide) ?_
      refine s_icmp_ne (pc := 17) (tgt := 121) dX5_kindHere_17 (by decide) (fun _ => ?_) (fun _ => ?_)
      · exact s_sub (pc := 121) [0, 1, 2] rfl (w_X5_kindHere_121 a0 a1 a2 h)
      · refine s_iload_n (pc := 20) 3 dX5_kindHere_20 rfl rfl ?_
        refine s_iconst (pc := 21) (v := 1) dX5_kindHere_21 (by decide) ?_
        refine s_iadd (pc := 22) dX5_kindHere_22 ?_
        refine s_callSS (pc := 23) (np := 1) (as := [.int (a3 + 1)]) (rest := []) dX5_kindHere_23 (c_X5_startOf (by decide) (a3 + 1) h) rfl rfl q3719 q3720 rfl (by decide) (zkI (fun x2 h3 => ?_)) zxo
        refine s_iload_n (pc := 26) 3 dX5_kindHere_26 rfl rfl ?_
        refine s_callSS (pc := 27) (np := 1) (as := [.int a3]) (rest := [.int x2]) dX5_kindHere_27 (c_X5_startOf (by decide) a3 h3) rfl rfl q3719 q3720 rfl (by simp [zcat_rf, zcat_i, zcat_l, zcat_f, zcat_d]) (zkI (fun x4 h5 => ?_)) zxo
        refine s_isub (pc := 30) dX5_kindHere_30 ?_
        refine s_nm (pc := 31) Value.int (fun x6 => ?_)
        refine s_ist (pc := 31) (L2 := [(0, va_rf a0), (1, .int a1), (2, .int a2), (3, .int a3)]) [0, 1, 2, 3] dX5_kindHere_31 (by decide) rfl rfl (zcB (j := 3) rfl rfl rfl) ?_
        refine s_iconst (pc := 33) (v := 0) dX5_kindHere_33 (by decide) ?_
        refine s_ist (pc := 34) (L2 := [(4, .int x6), (0, va_rf a0), (1, .int a1), (2, .int a2), (3, .int a3)]) [0, 1, 2, 3, 4] dX5_kindHere_34 (by decide) rfl rfl (zcB (j := 0) rfl rfl rfl) ?_
        exact s_sub (pc := 36) [2, 3, 4, 5, 1, 0] rfl (w_X5_kindHere_36 (f_X5_kindHere_9 n) ih zfuel a0 a1 a2 a3 x6 0 h5)
theorem w_X5_kindHere (v0 : Option Nat) (h : zH) : zS D z yX5_kindHere cX5_kindHere 6 (some .int) [] 5 h 0 [(0, va_rf v0)] [] (f_X5_kindHere v0 h) := by
  unfold f_X5_kindHere
  refine s_aload_n (pc := 0) 0 dX5_kindHere_0 rfl rfl ?_
  refine s_gI (pc := 1) dX5_kindHere_1 gf_X5_232 (fun x1 => ?_)
  refine s_ist_n (pc := 4) (L2 := [(0, va_rf v0)]) [0] dX5_kindHere_4 rfl (by decide) rfl rfl (zcB (j := 0) rfl (zcat_rf v0) rfl) ?_
  refine s_iconst (pc := 5) (v := -1) dX5_kindHere_5 (by decide) ?_
  refine s_ist_n (pc := 6) (L2 := [(1, .int x1), (0, va_rf v0)]) [0, 1] dX5_kindHere_6 rfl (by decide) rfl rfl (zcB (j := 0) rfl rfl rfl) ?_
  refine s_iconst (pc := 7) (v := 0) dX5_kindHere_7 (by decide) ?_
  refine s_ist_n (pc := 8) (L2 := [(2, .int (-1)), (1, .int x1), (0, va_rf v0)]) [0, 1, 2] dX5_kindHere_8 rfl (by decide) rfl rfl (zcB (j := 0) rfl rfl rfl) ?_
  exact s_sub (pc := 9) [3, 2, 1, 0] rfl (w_X5_kindHere_9 zfuel v0 x1 (-1) 0 h)
theorem c_X5_kindHere {d0 : Nat} (hd0 : 5 < d0) (v0 : Option Nat) (h : zH) : zCal D z d0 h yX5_kindHere [va_rf v0] (f_X5_kindHere v0 h) :=
  ⟨cX5_kindHere, 6, (some .int), [], 5, (show lv_args 0 [va_rf v0] = [(0, va_rf v0)] by simp [lv_args, zcat_rf, zcat_i, zcat_l, zcat_f, zcat_d]) ▸ w_X5_kindHere v0 h, (plainFor_of_name (by decide)), by simp [lg_sl, zcat_rf, zcat_i, zcat_l, zcat_f, zcat_d], q3718, q140, hd0, by decide, by decide⟩
theorem w_X5_letterHere (v0 : Option Nat) (h : zH) : zS D z yX5_letterHere cX5_letterHere 1 (some .int) [] 1 h 0 [(0, va_rf v0)] [] (f_X5_letterHere v0 h) := by
  unfold f_X5_letterHere
  refine s_aload_n (pc := 0) 0 dX5_letterHere_0 rfl rfl ?_
  refine s_gI (pc := 1) dX5_letterHere_1 gf_X5_232 (fun x1 => ?_)
  refine s_aload_n (pc := 4) 0 dX5_letterHere_4 rfl rfl ?_
  refine s_gI (pc := 5) dX5_letterHere_5 gf_X5_235 (fun x2 => ?_)
  refine s_icmp_ge (pc := 8) (tgt := 23) dX5_letterHere_8 (by decide) (fun _ => ?_) (fun _ => ?_)
  · refine s_iconst (pc := 23) (v := -1) dX5_letterHere_23 (by decide) ?_
    exact s_iret (pc := 24) dX5_letterHere_24 rfl
  · refine s_aload_n (pc := 11) 0 dX5_letterHere_11 rfl rfl ?_
    refine s_gR (pc := 12) dX5_letterHere_12 gf_X5_29 (fun r3 => ?_)
    refine s_aload_n (pc := 15) 0 dX5_letterHere_15 rfl rfl ?_
    refine s_gI (pc := 16) dX5_letterHere_16 gf_X5_232 (fun x4 => ?_)
    refine s_iald (pc := 19) dX5_letterHere_19 (ztc rfl zt0) (fun x5 => ?_)
    refine s_goto (pc := 20) (tgt := 24) dX5_letterHere_20 (by decide) ?_
    exact s_iret (pc := 24) dX5_letterHere_24 rfl
theorem c_X5_letterHere {d0 : Nat} (hd0 : 1 < d0) (v0 : Option Nat) (h : zH) : zCal D z d0 h yX5_letterHere [va_rf v0] (f_X5_letterHere v0 h) :=
  ⟨cX5_letterHere, 1, (some .int), [], 1, (show lv_args 0 [va_rf v0] = [(0, va_rf v0)] by simp [lv_args, zcat_rf, zcat_i, zcat_l, zcat_f, zcat_d]) ▸ w_X5_letterHere v0 h, (plainFor_of_name (by decide)), by simp [lg_sl, zcat_rf, zcat_i, zcat_l, zcat_f, zcat_d], q3727, q140, hd0, by decide, by decide⟩
theorem w_X5_reads_44 (a0 : Option Nat) (h : zH) : zS D z yX5_reads cX5_reads 3 (some .int) [] 2 h 44 [(0, va_rf a0)] [] (f_X5_reads_44 a0 h) := by
  unfold f_X5_reads_44
  refine s_aload_n (pc := 44) 0 dX5_reads_44 rfl rfl ?_
  refine s_aload_n (pc := 45) 0 dX5_reads_45 rfl rfl ?_
  refine s_gI (pc := 46) dX5_reads_46 gf_X5_238 (fun x11 => ?_)
  refine s_iconst (pc := 49) (v := -1) dX5_reads_49 (by decide) ?_
  refine s_icmp_ne (pc := 50) (tgt := 60) dX5_reads_50 (by decide) (fun _ => ?_) (fun _ => ?_)
  · refine s_aload_n (pc := 60) 0 dX5_reads_60 rfl rfl ?_
    refine s_gI (pc := 61) dX5_reads_61 gf_X5_238 (fun x12 => ?_)
    refine s_putI (pc := 64) dX5_reads_64 pf_X5_238 (fun h13 => ?_)
    refine s_iconst (pc := 67) (v := 0) dX5_reads_67 (by decide) ?_
    exact s_iret (pc := 68) dX5_reads_68 rfl
  · refine s_aload_n (pc := 53) 0 dX5_reads_53 rfl rfl ?_
    refine s_gI (pc := 54) dX5_reads_54 gf_X5_232 (fun x14 => ?_)
    refine s_goto (pc := 57) (tgt := 64) dX5_reads_57 (by decide) ?_
    refine s_putI (pc := 64) dX5_reads_64 pf_X5_238 (fun h15 => ?_)
    refine s_iconst (pc := 67) (v := 0) dX5_reads_67 (by decide) ?_
    exact s_iret (pc := 68) dX5_reads_68 rfl
theorem w_X5_reads (v0 : Option Nat) (v1 : Int32) (v2 : Int32) (h : zH) : zS D z yX5_reads cX5_reads 3 (some .int) [] 2 h 0 [(0, va_rf v0), (1, .int v1), (2, .int v2)] [] (f_X5_reads v0 v1 v2 h) := by
  unfold f_X5_reads
  refine s_aload_n (pc := 0) 0 dX5_reads_0 rfl rfl ?_
  refine s_gI (pc := 1) dX5_reads_1 gf_X5_238 (fun x1 => ?_)
  refine s_iconst (pc := 4) (v := -1) dX5_reads_4 (by decide) ?_
  refine s_icmp_ne (pc := 5) (tgt := 44) dX5_reads_5 (by decide) (fun _ => ?_) (fun _ => ?_)
  · exact s_sub (pc := 44) [0] rfl (w_X5_reads_44 v0 h)
  · refine s_aload_n (pc := 8) 0 dX5_reads_8 rfl rfl ?_
    refine zS_ite (fun ht => ?_) (fun _ => zS_none)
    refine s_callV (pc := 9) (np := 0) (as := []) (rest := []) dX5_reads_9 ht (q := (RX5, TX5, 20)) rfl (c_X5_letterHere (by decide) v0 h) rfl rfl q3724 q3726 qs89 rfl (by decide) (zkI (fun x2 h3 => ?_)) zxo
    refine s_iload_n (pc := 12) 1 dX5_reads_12 rfl rfl ?_
    refine s_iload_n (pc := 13) 2 dX5_reads_13 rfl rfl ?_
    refine s_callSS (pc := 14) (np := 3) (as := [.int x2, .int v1, .int v2]) (rest := []) dX5_reads_14 (c_X5_isIn (by decide) x2 v1 v2 h3) rfl rfl q3342 q3343 rfl (by decide) (zkI (fun x4 h5 => ?_)) zxo
    refine s_if_eq (pc := 17) (tgt := 44) dX5_reads_17 (by decide) (fun _ => ?_) (fun _ => ?_)
    · exact s_sub (pc := 44) [0] rfl (w_X5_reads_44 v0 h5)
    · refine s_aload_n (pc := 20) 0 dX5_reads_20 rfl rfl ?_
      refine s_dup (pc := 21) dX5_reads_21 (zcat_rf _) ?_
      refine s_gI (pc := 22) dX5_reads_22 gf_X5_232 (fun x6 => ?_)
      refine s_iconst (pc := 25) (v := 1) dX5_reads_25 (by decide) ?_
      refine s_iadd (pc := 26) dX5_reads_26 ?_
      refine s_putI (pc := 27) dX5_reads_27 pf_X5_232 (fun h7 => ?_)
      refine s_aload_n (pc := 30) 0 dX5_reads_30 rfl rfl ?_
      refine s_gR (pc := 31) dX5_reads_31 gf_X5_29 (fun r8 => ?_)
      refine s_aload_n (pc := 34) 0 dX5_reads_34 rfl rfl ?_
      refine s_gI (pc := 35) dX5_reads_35 gf_X5_232 (fun x9 => ?_)
      refine s_iconst (pc := 38) (v := 1) dX5_reads_38 (by decide) ?_
      refine s_isub (pc := 39) dX5_reads_39 ?_
      refine s_iald (pc := 40) dX5_reads_40 (ztc rfl zt0) (fun x10 => ?_)
      refine s_iload_n (pc := 41) 1 dX5_reads_41 rfl rfl ?_
      refine s_isub (pc := 42) dX5_reads_42 ?_
      exact s_iret (pc := 43) dX5_reads_43 rfl
theorem c_X5_reads {d0 : Nat} (hd0 : 2 < d0) (v0 : Option Nat) (v1 : Int32) (v2 : Int32) (h : zH) : zCal D z d0 h yX5_reads [va_rf v0, .int v1, .int v2] (f_X5_reads v0 v1 v2 h) :=
  ⟨cX5_reads, 3, (some .int), [], 2, (show lv_args 0 [va_rf v0, .int v1, .int v2] = [(0, va_rf v0), (1, .int v1), (2, .int v2)] by simp [lv_args, zcat_rf, zcat_i, zcat_l, zcat_f, zcat_d]) ▸ w_X5_reads v0 v1 v2 h, (plainFor_of_name (by decide)), by simp [lg_sl, zcat_rf, zcat_i, zcat_l, zcat_f, zcat_d], q3735, q140, hd0, by decide, by decide⟩
theorem w_X5_number_11 : ∀ (n : Nat) (a0 : Option Nat) (a1 : Int32) (a2 : Int32) (h : zH), zS D z yX5_number cX5_number 3 (some .int) [] 3 h 11 [(0, va_rf a0), (1, .int a1), (2, .int a2)] [] (f_X5_number_11 n a0 a1 a2 h) := by
  intro n
  induction n with
  | zero => intros; exact zS_none
  | succ n ih =>
    intro a0 a1 a2 h
    rw [f_X5_number_11.eq_2]
    refine s_iload_n (pc := 11) 2 dX5_number_11 rfl rfl ?_
    refine s_iconst (pc := 12) (v := 3) dX5_number_12 (by decide) ?_
    refine s_icmp_ge (pc := 13) (tgt := 58) dX5_number_13 (by decide) (fun _ => ?_) (fun _ => ?_)
    · refine s_iload_n (pc := 58) 1 dX5_number_58 rfl rfl ?_
      exact s_iret (pc := 59) dX5_number_59 rfl
    · refine s_aload_n (pc := 16) 0 dX5_number_16 rfl rfl ?_
      refine s_gI (pc := 17) dX5_number_17 gf_X5_238 (fun x3 => ?_)
      refine s_iconst (pc := 20) (v := -1) dX5_number_20 (by decide) ?_
      refine s_icmp_ne (pc := 21) (tgt := 58) dX5_number_21 (by decide) (fun _ => ?_) (fun _ => ?_)
      · refine s_iload_n (pc := 58) 1 dX5_number_58 rfl rfl ?_
        exact s_iret (pc := 59) dX5_number_59 rfl
      · refine s_aload_n (pc := 24) 0 dX5_number_24 rfl rfl ?_
        refine zS_ite (fun ht => ?_) (fun _ => zS_none)
        refine s_callV (pc := 25) (np := 0) (as := []) (rest := []) dX5_number_25 ht (q := (RX5, TX5, 20)) rfl (c_X5_letterHere (by decide) a0 h) rfl rfl q3724 q3726 qs89 rfl (by decide) (zkI (fun x4 h5 => ?_)) zxo
        refine s_bipush (pc := 28) (v := 48) dX5_number_28 (by decide) ?_
        refine s_bipush (pc := 30) (v := 57) dX5_number_30 (by decide) ?_
        refine s_callSS (pc := 32) (np := 3) (as := [.int x4, .int 48, .int 57]) (rest := []) dX5_number_32 (c_X5_isIn (by decide) x4 48 57 h5) rfl rfl q3342 q3343 rfl (by decide) (zkI (fun x6 h7 => ?_)) zxo
        refine s_if_eq (pc := 35) (tgt := 58) dX5_number_35 (by decide) (fun _ => ?_) (fun _ => ?_)
        · refine s_iload_n (pc := 58) 1 dX5_number_58 rfl rfl ?_
          exact s_iret (pc := 59) dX5_number_59 rfl
        · refine s_bipush (pc := 38) (v := 10) dX5_number_38 (by decide) ?_
          refine s_iload_n (pc := 40) 1 dX5_number_40 rfl rfl ?_
          refine s_imul (pc := 41) dX5_number_41 ?_
          refine s_aload_n (pc := 42) 0 dX5_number_42 rfl rfl ?_
          refine s_bipush (pc := 43) (v := 48) dX5_number_43 (by decide) ?_
          refine s_bipush (pc := 45) (v := 57) dX5_number_45 (by decide) ?_
          refine zS_ite (fun ht => ?_) (fun _ => zS_none)
          refine s_callV (pc := 47) (np := 2) (as := [.int 48, .int 57]) (rest := [.int ((10 : Int32) * a1)]) dX5_number_47 ht (q := (RX5, TX5, 20)) rfl (c_X5_reads (by decide) a0 48 57 h7) rfl rfl q3732 q3734 qs91 rfl (by simp [zcat_rf, zcat_i, zcat_l, zcat_f, zcat_d]) (zkI (fun x8 h9 => ?_)) zxo
          refine s_iadd (pc := 50) dX5_number_50 ?_
          refine s_nm (pc := 51) Value.int (fun x10 => ?_)
          refine s_ist_n (pc := 51) (L2 := [(0, va_rf a0), (2, .int a2)]) [0, 2] dX5_number_51 rfl (by decide) rfl rfl (zcB (j := 0) rfl (zcat_rf a0) rfl) ?_
          refine s_inc (pc := 52) (v := 1) (L2 := [(1, .int x10), (0, va_rf a0)]) 2 [0, 1] dX5_number_52 rfl (by decide) (by decide) rfl rfl (zcB (j := 0) rfl rfl rfl) (fun x11 => ?_)
          refine s_goto (pc := 55) (tgt := 11) dX5_number_55 (by decide) ?_
          exact s_sub (pc := 11) [2, 1, 0] rfl (ih a0 x10 x11 h9)
theorem w_X5_number (v0 : Option Nat) (h : zH) : zS D z yX5_number cX5_number 3 (some .int) [] 3 h 0 [(0, va_rf v0)] [] (f_X5_number v0 h) := by
  unfold f_X5_number
  refine s_aload_n (pc := 0) 0 dX5_number_0 rfl rfl ?_
  refine s_bipush (pc := 1) (v := 48) dX5_number_1 (by decide) ?_
  refine s_bipush (pc := 3) (v := 57) dX5_number_3 (by decide) ?_
  refine zS_ite (fun ht => ?_) (fun _ => zS_none)
  refine s_callV (pc := 5) (np := 2) (as := [.int 48, .int 57]) (rest := []) dX5_number_5 ht (q := (RX5, TX5, 20)) rfl (c_X5_reads (by decide) v0 48 57 h) rfl rfl q3732 q3734 qs91 rfl (by decide) (zkI (fun x1 h2 => ?_)) zxo
  refine s_ist_n (pc := 8) (L2 := [(0, va_rf v0)]) [0] dX5_number_8 rfl (by decide) rfl rfl (zcB (j := 0) rfl (zcat_rf v0) rfl) ?_
  refine s_iconst (pc := 9) (v := 1) dX5_number_9 (by decide) ?_
  refine s_ist_n (pc := 10) (L2 := [(1, .int x1), (0, va_rf v0)]) [0, 1] dX5_number_10 rfl (by decide) rfl rfl (zcB (j := 0) rfl rfl rfl) ?_
  exact s_sub (pc := 11) [2, 1, 0] rfl (w_X5_number_11 zfuel v0 x1 1 h2)
theorem c_X5_number {d0 : Nat} (hd0 : 3 < d0) (v0 : Option Nat) (h : zH) : zCal D z d0 h yX5_number [va_rf v0] (f_X5_number v0 h) :=
  ⟨cX5_number, 3, (some .int), [], 3, (show lv_args 0 [va_rf v0] = [(0, va_rf v0)] by simp [lv_args, zcat_rf, zcat_i, zcat_l, zcat_f, zcat_d]) ▸ w_X5_number v0 h, (plainFor_of_name (by decide)), by simp [lg_sl, zcat_rf, zcat_i, zcat_l, zcat_f, zcat_d], q3739, q140, hd0, by decide, by decide⟩
theorem w_X5_numberBehind (v0 : Option Nat) (v1 : Int32) (h : zH) : zS D z yX5_numberBehind cX5_numberBehind 3 (some .int) [] 4 h 0 [(0, va_rf v0), (1, .int v1)] [] (f_X5_numberBehind v0 v1 h) := by
  unfold f_X5_numberBehind
  refine s_aload_n (pc := 0) 0 dX5_numberBehind_0 rfl rfl ?_
  refine s_iload_n (pc := 1) 1 dX5_numberBehind_1 rfl rfl ?_
  refine s_iload_n (pc := 2) 1 dX5_numberBehind_2 rfl rfl ?_
  refine zS_ite (fun ht => ?_) (fun _ => zS_none)
  refine s_callV (pc := 3) (np := 2) (as := [.int v1, .int v1]) (rest := []) dX5_numberBehind_3 ht (q := (RX5, TX5, 20)) rfl (c_X5_reads (by decide) v0 v1 v1 h) rfl rfl q3732 q3734 qs91 rfl (by decide) (zkI (fun x1 h2 => ?_)) zxo
  refine s_ist_n (pc := 6) (L2 := [(0, va_rf v0)]) [0] dX5_numberBehind_6 rfl (by decide) rfl rfl (zcA rfl) ?_
  refine s_aload_n (pc := 7) 1 dX5_numberBehind_7 rfl rfl ?_
  refine zS_ite (fun ht => ?_) (fun _ => zS_none)
  refine s_callV (pc := 8) (np := 0) (as := []) (rest := []) dX5_numberBehind_8 ht (q := (RX5, TX5, 20)) rfl (c_X5_number (by decide) v0 h2) rfl rfl q3736 q3738 qs92 rfl (by decide) (zkI (fun x3 h4 => ?_)) zxo
  exact s_iret (pc := 11) dX5_numberBehind_11 rfl
theorem c_X5_numberBehind {d0 : Nat} (hd0 : 4 < d0) (v0 : Option Nat) (v1 : Int32) (h : zH) : zCal D z d0 h yX5_numberBehind [va_rf v0, .int v1] (f_X5_numberBehind v0 v1 h) :=
  ⟨cX5_numberBehind, 3, (some .int), [], 4, (show lv_args 0 [va_rf v0, .int v1] = [(0, va_rf v0), (1, .int v1)] by simp [lv_args, zcat_rf, zcat_i, zcat_l, zcat_f, zcat_d]) ▸ w_X5_numberBehind v0 v1 h, (plainFor_of_name (by decide)), by simp [lg_sl, zcat_rf, zcat_i, zcat_l, zcat_f, zcat_d], q3731, q140, hd0, by decide, by decide⟩
theorem w_X5_readsCommand_159 (s0 : Int32) (s1 : Option Nat) (s2 : Int32) (s3 : Option Nat) (h : zH) : zS D z yX5_readsCommand cX5_readsCommand 4 none [] 6 h 159 [] [.int s0, va_rf s1, .int s2, va_rf s3] (f_X5_readsCommand_159 s0 s1 s2 s3 h) := by
  unfold f_X5_readsCommand_159
  refine zS_ite (fun ht => ?_) (fun _ => zS_none)
  refine s_callV (pc := 159) (np := 1) (as := [.int s0]) (rest := [.int s2, va_rf s3]) dX5_readsCommand_159 ht (q := (RX5, TX5, 20)) rfl (c_X5_numberBehind (by decide) s1 s0 h) rfl rfl q3728 q3730 qs90 rfl (by simp [zcat_rf, zcat_i, zcat_l, zcat_f, zcat_d]) (zkI (fun x27 h28 => ?_)) zxo
  refine s_iast (pc := 162) dX5_readsCommand_162 (ztc rfl zt0) (fun h29 => ?_)
  exact s_vret (pc := 163) dX5_readsCommand_163 rfl
theorem w_X5_readsCommand_139 (a0 : Option Nat) (a1 : Int32) (a2 : Int32) (h : zH) : zS D z yX5_readsCommand cX5_readsCommand 4 none [] 6 h 139 [(0, va_rf a0), (1, .int a1), (2, .int a2)] [] (f_X5_readsCommand_139 a0 a1 a2 h) := by
  unfold f_X5_readsCommand_139
  refine s_aload_n (pc := 139) 0 dX5_readsCommand_139 rfl rfl ?_
  refine s_gR (pc := 140) dX5_readsCommand_140 gf_X5_39 (fun r26 => ?_)
  refine s_iload_n (pc := 143) 1 dX5_readsCommand_143 rfl rfl ?_
  refine s_iconst (pc := 144) (v := 2) dX5_readsCommand_144 (by decide) ?_
  refine s_iadd (pc := 145) dX5_readsCommand_145 ?_
  refine s_aload_n (pc := 146) 0 dX5_readsCommand_146 rfl rfl ?_
  refine s_iload_n (pc := 147) 2 dX5_readsCommand_147 rfl rfl ?_
  refine s_iconst (pc := 148) (v := 1) dX5_readsCommand_148 (by decide) ?_
  refine s_icmp_ne (pc := 149) (tgt := 157) dX5_readsCommand_149 (by decide) (fun _ => ?_) (fun _ => ?_)
  · refine s_bipush (pc := 157) (v := 43) dX5_readsCommand_157 (by decide) ?_
    exact s_sub (pc := 159) [] rfl (w_X5_readsCommand_159 43 a0 (a1 + 2) r26 h)
  · refine s_bipush (pc := 152) (v := 64) dX5_readsCommand_152 (by decide) ?_
    refine s_goto (pc := 154) (tgt := 159) dX5_readsCommand_154 (by decide) ?_
    exact s_sub (pc := 159) [] rfl (w_X5_readsCommand_159 64 a0 (a1 + 2) r26 h)
theorem w_X5_readsCommand_128 (a0 : Option Nat) (a1 : Int32) (a2 : Int32) (h : zH) : zS D z yX5_readsCommand cX5_readsCommand 4 none [] 6 h 128 [(0, va_rf a0), (1, .int a1), (2, .int a2)] [] (f_X5_readsCommand_128 a0 a1 a2 h) := by
  unfold f_X5_readsCommand_128
  refine s_iload_n (pc := 128) 2 dX5_readsCommand_128 rfl rfl ?_
  refine s_iconst (pc := 129) (v := 1) dX5_readsCommand_129 (by decide) ?_
  refine s_icmp_eq (pc := 130) (tgt := 139) dX5_readsCommand_130 (by decide) (fun _ => ?_) (fun _ => ?_)
  · exact s_sub (pc := 139) [0, 1, 2] rfl (w_X5_readsCommand_139 a0 a1 a2 h)
  · refine s_iload_n (pc := 133) 2 dX5_readsCommand_133 rfl rfl ?_
    refine s_bipush (pc := 134) (v := 11) dX5_readsCommand_134 (by decide) ?_
    refine s_icmp_ne (pc := 136) (tgt := 163) dX5_readsCommand_136 (by decide) (fun _ => ?_) (fun _ => ?_)
    · exact s_vret (pc := 163) dX5_readsCommand_163 rfl
    · exact s_sub (pc := 139) [0, 1, 2] rfl (w_X5_readsCommand_139 a0 a1 a2 h)
theorem w_X5_readsCommand_95 (a0 : Option Nat) (a1 : Int32) (a2 : Int32) (s0 : Int32) (s1 : Int32) (s2 : Option Nat) (h : zH) : zS D z yX5_readsCommand cX5_readsCommand 4 none [] 6 h 95 [(0, va_rf a0), (1, .int a1), (2, .int a2)] [.int s0, .int s1, va_rf s2] (f_X5_readsCommand_95 a0 a1 a2 s0 s1 s2 h) := by
  unfold f_X5_readsCommand_95
  refine s_iast (pc := 95) dX5_readsCommand_95 (ztc rfl zt0) (fun h17 => ?_)
  refine s_iload_n (pc := 96) 2 dX5_readsCommand_96 rfl rfl ?_
  refine s_if_ne (pc := 97) (tgt := 128) dX5_readsCommand_97 (by decide) (fun _ => ?_) (fun _ => ?_)
  · exact s_sub (pc := 128) [0, 1, 2] rfl (w_X5_readsCommand_128 a0 a1 a2 h17)
  · refine s_aload_n (pc := 100) 0 dX5_readsCommand_100 rfl rfl ?_
    refine s_gR (pc := 101) dX5_readsCommand_101 gf_X5_39 (fun r18 => ?_)
    refine s_iload_n (pc := 104) 1 dX5_readsCommand_104 rfl rfl ?_
    refine s_iconst (pc := 105) (v := 2) dX5_readsCommand_105 (by decide) ?_
    refine s_iadd (pc := 106) dX5_readsCommand_106 ?_
    refine s_aload_n (pc := 107) 0 dX5_readsCommand_107 rfl rfl ?_
    refine s_bipush (pc := 108) (v := 32) dX5_readsCommand_108 (by decide) ?_
    refine zS_ite (fun ht => ?_) (fun _ => zS_none)
    refine s_callV (pc := 110) (np := 1) (as := [.int 32]) (rest := [.int (a1 + 2), va_rf r18]) dX5_readsCommand_110 ht (q := (RX5, TX5, 20)) rfl (c_X5_numberBehind (by decide) a0 32 h17) rfl rfl q3728 q3730 qs90 rfl (by simp [zcat_rf, zcat_i, zcat_l, zcat_f, zcat_d]) (zkI (fun x19 h20 => ?_)) zxo
    refine s_iast (pc := 113) dX5_readsCommand_113 (ztc rfl zt0) (fun h21 => ?_)
    refine s_aload_n (pc := 114) 0 dX5_readsCommand_114 rfl rfl ?_
    refine s_gR (pc := 115) dX5_readsCommand_115 gf_X5_39 (fun r22 => ?_)
    refine s_iload_n (pc := 118) 1 dX5_readsCommand_118 rfl rfl ?_
    refine s_iconst (pc := 119) (v := 3) dX5_readsCommand_119 (by decide) ?_
    refine s_iadd (pc := 120) dX5_readsCommand_120 ?_
    refine s_aload_n (pc := 121) 0 dX5_readsCommand_121 rfl rfl ?_
    refine s_bipush (pc := 122) (v := 32) dX5_readsCommand_122 (by decide) ?_
    refine zS_ite (fun ht => ?_) (fun _ => zS_none)
    refine s_callV (pc := 124) (np := 1) (as := [.int 32]) (rest := [.int (a1 + 3), va_rf r22]) dX5_readsCommand_124 ht (q := (RX5, TX5, 20)) rfl (c_X5_numberBehind (by decide) a0 32 h21) rfl rfl q3728 q3730 qs90 rfl (by simp [zcat_rf, zcat_i, zcat_l, zcat_f, zcat_d]) (zkI (fun x23 h24 => ?_)) zxo
    refine s_iast (pc := 127) dX5_readsCommand_127 (ztc rfl zt0) (fun h25 => ?_)
    exact s_sub (pc := 128) [0, 1, 2] rfl (w_X5_readsCommand_128 a0 a1 a2 h25)
theorem w_X5_readsCommand_69 (a0 : Option Nat) (a1 : Int32) (a2 : Int32) (s0 : Int32) (h : zH) : zS D z yX5_readsCommand cX5_readsCommand 4 none [] 6 h 69 [(0, va_rf a0), (1, .int a1), (2, .int a2)] [.int s0] (f_X5_readsCommand_69 a0 a1 a2 s0 h) := by
  unfold f_X5_readsCommand_69
  refine s_ist_n (pc := 69) (L2 := [(0, va_rf a0), (1, .int a1), (2, .int a2)]) [0, 1, 2] dX5_readsCommand_69 rfl (by decide) rfl rfl (zcB (j := 2) rfl rfl rfl) ?_
  refine s_aload_n (pc := 70) 1 dX5_readsCommand_70 rfl rfl ?_
  refine s_gR (pc := 71) dX5_readsCommand_71 gf_X5_39 (fun r12 => ?_)
  refine s_iload_n (pc := 74) 2 dX5_readsCommand_74 rfl rfl ?_
  refine s_iconst (pc := 75) (v := 1) dX5_readsCommand_75 (by decide) ?_
  refine s_iadd (pc := 76) dX5_readsCommand_76 ?_
  refine s_iload_n (pc := 77) 0 dX5_readsCommand_77 rfl rfl ?_
  refine s_if_eq (pc := 78) (tgt := 91) dX5_readsCommand_78 (by decide) (fun _ => ?_) (fun _ => ?_)
  · refine s_aload_n (pc := 91) 1 dX5_readsCommand_91 rfl rfl ?_
    refine zS_ite (fun ht => ?_) (fun _ => zS_none)
    refine s_callV (pc := 92) (np := 0) (as := []) (rest := [.int (a1 + 1), va_rf r12]) dX5_readsCommand_92 ht (q := (RX5, TX5, 20)) rfl (c_X5_number (by decide) a0 h) rfl rfl q3736 q3738 qs92 rfl (by simp [zcat_rf, zcat_i, zcat_l, zcat_f, zcat_d]) (zkI (fun x13 h14 => ?_)) zxo
    exact s_sub (pc := 95) [1, 2, 3] rfl (w_X5_readsCommand_95 a0 a1 a2 x13 (a1 + 1) r12 h14)
  · refine s_aload_n (pc := 81) 1 dX5_readsCommand_81 rfl rfl ?_
    refine s_bipush (pc := 82) (v := 45) dX5_readsCommand_82 (by decide) ?_
    refine zS_ite (fun ht => ?_) (fun _ => zS_none)
    refine s_callV (pc := 84) (np := 1) (as := [.int 45]) (rest := [.int (a1 + 1), va_rf r12]) dX5_readsCommand_84 ht (q := (RX5, TX5, 20)) rfl (c_X5_numberBehind (by decide) a0 45 h) rfl rfl q3728 q3730 qs90 rfl (by simp [zcat_rf, zcat_i, zcat_l, zcat_f, zcat_d]) (zkI (fun x15 h16 => ?_)) zxo
    refine s_ineg (pc := 87) dX5_readsCommand_87 ?_
    refine s_goto (pc := 88) (tgt := 95) dX5_readsCommand_88 (by decide) ?_
    exact s_sub (pc := 95) [1, 2, 3] rfl (w_X5_readsCommand_95 a0 a1 a2 (-x15) (a1 + 1) r12 h16)
theorem w_X5_readsCommand_68 (a0 : Option Nat) (a1 : Int32) (a2 : Int32) (h : zH) : zS D z yX5_readsCommand cX5_readsCommand 4 none [] 6 h 68 [(0, va_rf a0), (1, .int a1), (2, .int a2)] [] (f_X5_readsCommand_68 a0 a1 a2 h) := by
  unfold f_X5_readsCommand_68
  refine s_iconst (pc := 68) (v := 0) dX5_readsCommand_68 (by decide) ?_
  exact s_sub (pc := 69) [0, 1, 2] rfl (w_X5_readsCommand_69 a0 a1 a2 0 h)
theorem w_X5_readsCommand (v0 : Option Nat) (h : zH) : zS D z yX5_readsCommand cX5_readsCommand 4 none [] 6 h 0 [(0, va_rf v0)] [] (f_X5_readsCommand v0 h) := by
  unfold f_X5_readsCommand
  refine s_iconst (pc := 0) (v := 4) dX5_readsCommand_0 (by decide) ?_
  refine s_aload_n (pc := 1) 0 dX5_readsCommand_1 rfl rfl ?_
  refine s_gI (pc := 2) dX5_readsCommand_2 gf_X5_261 (fun x1 => ?_)
  refine s_imul (pc := 5) dX5_readsCommand_5 ?_
  refine s_nm (pc := 6) Value.int (fun x2 => ?_)
  refine s_ist_n (pc := 6) (L2 := [(0, va_rf v0)]) [0] dX5_readsCommand_6 rfl (by decide) rfl rfl (zcB (j := 0) rfl (zcat_rf v0) rfl) ?_
  refine s_aload_n (pc := 7) 1 dX5_readsCommand_7 rfl rfl ?_
  refine zS_ite (fun ht => ?_) (fun _ => zS_none)
  refine s_callV (pc := 8) (np := 0) (as := []) (rest := []) dX5_readsCommand_8 ht (q := (RX5, TX5, 20)) rfl (c_X5_kindHere (by decide) v0 h) rfl rfl q3715 q3717 qs88 rfl (by decide) (zkI (fun x3 h4 => ?_)) zxo
  refine s_ist_n (pc := 11) (L2 := [(1, .int x2), (0, va_rf v0)]) [0, 1] dX5_readsCommand_11 rfl (by decide) rfl rfl (zcB (j := 0) rfl rfl rfl) ?_
  refine s_aload_n (pc := 12) 2 dX5_readsCommand_12 rfl rfl ?_
  refine s_gR (pc := 13) dX5_readsCommand_13 gf_X5_39 (fun r5 => ?_)
  refine s_iload_n (pc := 16) 1 dX5_readsCommand_16 rfl rfl ?_
  refine s_iload_n (pc := 17) 0 dX5_readsCommand_17 rfl rfl ?_
  refine s_iast (pc := 18) dX5_readsCommand_18 (ztc rfl zt0) (fun h6 => ?_)
  refine s_aload_n (pc := 19) 2 dX5_readsCommand_19 rfl rfl ?_
  refine s_dup (pc := 20) dX5_readsCommand_20 (zcat_rf _) ?_
  refine s_gI (pc := 21) dX5_readsCommand_21 gf_X5_261 (fun x7 => ?_)
  refine s_iconst (pc := 24) (v := 1) dX5_readsCommand_24 (by decide) ?_
  refine s_iadd (pc := 25) dX5_readsCommand_25 ?_
  refine s_putI (pc := 26) dX5_readsCommand_26 pf_X5_261 (fun h8 => ?_)
  refine s_aload_n (pc := 29) 2 dX5_readsCommand_29 rfl rfl ?_
  refine s_gI (pc := 30) dX5_readsCommand_30 gf_X5_238 (fun x9 => ?_)
  refine s_iconst (pc := 33) (v := -1) dX5_readsCommand_33 (by decide) ?_
  refine s_icmp_ne (pc := 34) (tgt := 48) dX5_readsCommand_34 (by decide) (fun _ => ?_) (fun _ => ?_)
  · exact s_vret (pc := 48) dX5_readsCommand_48 rfl
  · refine s_iload_n (pc := 37) 0 dX5_readsCommand_37 rfl rfl ?_
    refine s_iconst (pc := 38) (v := 5) dX5_readsCommand_38 (by decide) ?_
    refine s_icmp_eq (pc := 39) (tgt := 48) dX5_readsCommand_39 (by decide) (fun _ => ?_) (fun _ => ?_)
    · exact s_vret (pc := 48) dX5_readsCommand_48 rfl
    · refine s_iload_n (pc := 42) 0 dX5_readsCommand_42 rfl rfl ?_
      refine s_bipush (pc := 43) (v := 6) dX5_readsCommand_43 (by decide) ?_
      refine s_icmp_ne (pc := 45) (tgt := 49) dX5_readsCommand_45 (by decide) (fun _ => ?_) (fun _ => ?_)
      · refine s_iload_n (pc := 49) 0 dX5_readsCommand_49 rfl rfl ?_
        refine s_bipush (pc := 50) (v := 7) dX5_readsCommand_50 (by decide) ?_
        refine s_icmp_ne (pc := 52) (tgt := 68) dX5_readsCommand_52 (by decide) (fun _ => ?_) (fun _ => ?_)
        · exact s_sub (pc := 68) [2, 1, 0] rfl (w_X5_readsCommand_68 v0 x2 x3 h8)
        · refine s_aload_n (pc := 55) 2 dX5_readsCommand_55 rfl rfl ?_
          refine zS_ite (fun ht => ?_) (fun _ => zS_none)
          refine s_callV (pc := 56) (np := 0) (as := []) (rest := []) dX5_readsCommand_56 ht (q := (RX5, TX5, 20)) rfl (c_X5_letterHere (by decide) v0 h8) rfl rfl q3724 q3726 qs89 rfl (by decide) (zkI (fun x10 h11 => ?_)) zxo
          refine s_bipush (pc := 59) (v := 45) dX5_readsCommand_59 (by decide) ?_
          refine s_icmp_ne (pc := 61) (tgt := 68) dX5_readsCommand_61 (by decide) (fun _ => ?_) (fun _ => ?_)
          · exact s_sub (pc := 68) [2, 1, 0] rfl (w_X5_readsCommand_68 v0 x2 x3 h11)
          · refine s_iconst (pc := 64) (v := 1) dX5_readsCommand_64 (by decide) ?_
            refine s_goto (pc := 65) (tgt := 69) dX5_readsCommand_65 (by decide) ?_
            exact s_sub (pc := 69) [2, 1, 0] rfl (w_X5_readsCommand_69 v0 x2 x3 1 h11)
      · exact s_vret (pc := 48) dX5_readsCommand_48 rfl
theorem c_X5_readsCommand {d0 : Nat} (hd0 : 6 < d0) (v0 : Option Nat) (h : zH) : zCal D z d0 h yX5_readsCommand [va_rf v0] (f_X5_readsCommand v0 h) :=
  ⟨cX5_readsCommand, 4, none, [], 6, (show lv_args 0 [va_rf v0] = [(0, va_rf v0)] by simp [lv_args, zcat_rf, zcat_i, zcat_l, zcat_f, zcat_d]) ▸ w_X5_readsCommand v0 h, (plainFor_of_name (by decide)), by simp [lg_sl, zcat_rf, zcat_i, zcat_l, zcat_f, zcat_d], q3714, q140, hd0, by decide, by decide⟩
theorem w_X5_readsAll_72 (K32 : Option Nat → zH → zO) (hK32 : ∀ (a0 : Option Nat) (h : zH), zS D z yX5_readsAll cX5_readsAll 2 none [] 7 h 32 [(0, va_rf a0)] [] (K32 a0 h)) (a0 : Option Nat) (h : zH) : zS D z yX5_readsAll cX5_readsAll 2 none [] 7 h 72 [(0, va_rf a0)] [] (f_X5_readsAll_72 K32 a0 h) := by
  unfold f_X5_readsAll_72
  refine s_goto (pc := 72) (tgt := 32) dX5_readsAll_72 (by decide) ?_
  exact s_sub (pc := 32) [0] rfl (hK32 a0 h)
theorem w_X5_readsAll_32 : ∀ (n : Nat) (a0 : Option Nat) (h : zH), zS D z yX5_readsAll cX5_readsAll 2 none [] 7 h 32 [(0, va_rf a0)] [] (f_X5_readsAll_32 n a0 h) := by
  intro n
  induction n with
  | zero => intros; exact zS_none
  | succ n ih =>
    intro a0 h
    rw [f_X5_readsAll_32.eq_2]
    refine s_aload_n (pc := 32) 0 dX5_readsAll_32 rfl rfl ?_
    refine s_gI (pc := 33) dX5_readsAll_33 gf_X5_238 (fun x8 => ?_)
    refine s_iconst (pc := 36) (v := -1) dX5_readsAll_36 (by decide) ?_
    refine s_icmp_ne (pc := 37) (tgt := 75) dX5_readsAll_37 (by decide) (fun _ => ?_) (fun _ => ?_)
    · exact s_vret (pc := 75) dX5_readsAll_75 rfl
    · refine s_aload_n (pc := 40) 0 dX5_readsAll_40 rfl rfl ?_
      refine s_gI (pc := 41) dX5_readsAll_41 gf_X5_232 (fun x9 => ?_)
      refine s_aload_n (pc := 44) 0 dX5_readsAll_44 rfl rfl ?_
      refine s_gI (pc := 45) dX5_readsAll_45 gf_X5_235 (fun x10 => ?_)
      refine s_icmp_ge (pc := 48) (tgt := 75) dX5_readsAll_48 (by decide) (fun _ => ?_) (fun _ => ?_)
      · exact s_vret (pc := 75) dX5_readsAll_75 rfl
      · refine s_aload_n (pc := 51) 0 dX5_readsAll_51 rfl rfl ?_
        refine s_bipush (pc := 52) (v := 59) dX5_readsAll_52 (by decide) ?_
        refine s_bipush (pc := 54) (v := 59) dX5_readsAll_54 (by decide) ?_
        refine zS_ite (fun ht => ?_) (fun _ => zS_none)
        refine s_callV (pc := 56) (np := 2) (as := [.int 59, .int 59]) (rest := []) dX5_readsAll_56 ht (q := (RX5, TX5, 20)) rfl (c_X5_reads (by decide) a0 59 59 h) rfl rfl q3732 q3734 qs91 rfl (by decide) (zkI (fun x11 h12 => ?_)) zxo
        refine s_ist_n (pc := 59) (L2 := [(0, va_rf a0)]) [0] dX5_readsAll_59 rfl (by decide) rfl rfl (zcB (j := 0) rfl (zcat_rf a0) rfl) ?_
        refine s_aload_n (pc := 60) 1 dX5_readsAll_60 rfl rfl ?_
        refine s_gI (pc := 61) dX5_readsAll_61 gf_X5_238 (fun x13 => ?_)
        refine s_iconst (pc := 64) (v := -1) dX5_readsAll_64 (by decide) ?_
        refine s_icmp_ne (pc := 65) (tgt := 72) dX5_readsAll_65 (by decide) (fun _ => ?_) (fun _ => ?_)
        · exact s_sub (pc := 72) [1] rfl (w_X5_readsAll_72 (f_X5_readsAll_32 n) ih a0 h12)
        · refine s_aload_n (pc := 68) 1 dX5_readsAll_68 rfl rfl ?_
          refine zS_ite (fun ht => ?_) (fun _ => zS_none)
          refine s_callV (pc := 69) (np := 0) (as := []) (rest := []) dX5_readsAll_69 ht (q := (RX5, TX5, 20)) rfl (c_X5_readsCommand (by decide) a0 h12) rfl rfl q3711 q3713 qs87 rfl (by decide) (zkV (fun h14 => ?_)) zxo
          exact s_sub (pc := 72) [1] rfl (w_X5_readsAll_72 (f_X5_readsAll_32 n) ih a0 h14)
theorem w_X5_readsAll (v0 : Option Nat) (h : zH) : zS D z yX5_readsAll cX5_readsAll 2 none [] 7 h 0 [(0, va_rf v0)] [] (f_X5_readsAll v0 h) := by
  unfold f_X5_readsAll
  refine s_aload_n (pc := 0) 0 dX5_readsAll_0 rfl rfl ?_
  refine s_aload_n (pc := 1) 0 dX5_readsAll_1 rfl rfl ?_
  refine s_gI (pc := 2) dX5_readsAll_2 gf_X5_229 (fun x1 => ?_)
  refine s_putI (pc := 5) dX5_readsAll_5 pf_X5_235 (fun h2 => ?_)
  refine s_aload_n (pc := 8) 0 dX5_readsAll_8 rfl rfl ?_
  refine s_iconst (pc := 9) (v := 0) dX5_readsAll_9 (by decide) ?_
  refine s_putI (pc := 10) dX5_readsAll_10 pf_X5_229 (fun h3 => ?_)
  refine s_aload_n (pc := 13) 0 dX5_readsAll_13 rfl rfl ?_
  refine s_iconst (pc := 14) (v := 0) dX5_readsAll_14 (by decide) ?_
  refine s_putI (pc := 15) dX5_readsAll_15 pf_X5_232 (fun h4 => ?_)
  refine s_aload_n (pc := 18) 0 dX5_readsAll_18 rfl rfl ?_
  refine s_iconst (pc := 19) (v := -1) dX5_readsAll_19 (by decide) ?_
  refine s_putI (pc := 20) dX5_readsAll_20 pf_X5_238 (fun h5 => ?_)
  refine s_aload_n (pc := 23) 0 dX5_readsAll_23 rfl rfl ?_
  refine s_iconst (pc := 24) (v := 0) dX5_readsAll_24 (by decide) ?_
  refine s_putI (pc := 25) dX5_readsAll_25 pf_X5_261 (fun h6 => ?_)
  refine s_aload_n (pc := 28) 0 dX5_readsAll_28 rfl rfl ?_
  refine zS_ite (fun ht => ?_) (fun _ => zS_none)
  refine s_callV (pc := 29) (np := 0) (as := []) (rest := []) dX5_readsAll_29 ht (q := (RX5, TX5, 20)) rfl (c_X5_readsCommand (by decide) v0 h6) rfl rfl q3711 q3713 qs87 rfl (by decide) (zkV (fun h7 => ?_)) zxo
  exact s_sub (pc := 32) [0] rfl (w_X5_readsAll_32 zfuel v0 h7)
theorem c_X5_readsAll {d0 : Nat} (hd0 : 7 < d0) (v0 : Option Nat) (h : zH) : zCal D z d0 h yX5_readsAll [va_rf v0] (f_X5_readsAll v0 h) :=
  ⟨cX5_readsAll, 2, none, [], 7, (show lv_args 0 [va_rf v0] = [(0, va_rf v0)] by simp [lv_args, zcat_rf, zcat_i, zcat_l, zcat_f, zcat_d]) ▸ w_X5_readsAll v0 h, (plainFor_of_name (by decide)), by simp [lg_sl, zcat_rf, zcat_i, zcat_l, zcat_f, zcat_d], q3710, q140, hd0, by decide, by decide⟩
theorem w_X5_does (v0 : Option Nat) (v1 : Int32) (h : zH) : zS D z yX5_does cX5_does 4 (some .int) [] 9 h 0 [(0, va_rf v0), (1, .int v1)] [] (f_X5_does v0 v1 h) := by
  unfold f_X5_does
  refine s_aload_n (pc := 0) 0 dX5_does_0 rfl rfl ?_
  refine s_gR (pc := 1) dX5_does_1 gf_X5_39 (fun r1 => ?_)
  refine s_iload_n (pc := 4) 1 dX5_does_4 rfl rfl ?_
  refine s_iconst (pc := 5) (v := 1) dX5_does_5 (by decide) ?_
  refine s_iadd (pc := 6) dX5_does_6 ?_
  refine s_iald (pc := 7) dX5_does_7 (ztc rfl zt0) (fun x2 => ?_)
  refine s_ist_n (pc := 8) (L2 := [(0, va_rf v0), (1, .int v1)]) [0, 1] dX5_does_8 rfl (by decide) rfl rfl (zcB (j := 1) rfl rfl rfl) ?_
  refine s_aload_n (pc := 9) 1 dX5_does_9 rfl rfl ?_
  refine s_gR (pc := 10) dX5_does_10 gf_X5_39 (fun r3 => ?_)
  refine s_iload_n (pc := 13) 2 dX5_does_13 rfl rfl ?_
  refine s_iconst (pc := 14) (v := 2) dX5_does_14 (by decide) ?_
  refine s_iadd (pc := 15) dX5_does_15 ?_
  refine s_iald (pc := 16) dX5_does_16 (ztc rfl zt0) (fun x4 => ?_)
  refine s_ist_n (pc := 17) (L2 := [(2, .int x2), (0, va_rf v0), (1, .int v1)]) [0, 1, 2] dX5_does_17 rfl (by decide) rfl rfl (zcB (j := 0) rfl rfl rfl) ?_
  refine s_aload_n (pc := 18) 2 dX5_does_18 rfl rfl ?_
  refine s_gR (pc := 19) dX5_does_19 gf_X5_39 (fun r5 => ?_)
  refine s_iload_n (pc := 22) 3 dX5_does_22 rfl rfl ?_
  refine s_iald (pc := 23) dX5_does_23 (ztc rfl zt0) (fun x6 => ?_)
  refine zS_ite (fun hx => ?_) (fun hx0 => ?_)
  · refine s_tabIn (pc := 24) (tgt := 84) (v := 0) dX5_does_24 hx (by decide) (by decide) rfl (by decide) ?_
    refine s_aload_n (pc := 84) 2 dX5_does_84 rfl rfl ?_
    refine s_iload_n (pc := 85) 1 dX5_does_85 rfl rfl ?_
    refine s_iload_n (pc := 86) 0 dX5_does_86 rfl rfl ?_
    refine s_aload_n (pc := 87) 2 dX5_does_87 rfl rfl ?_
    refine s_gR (pc := 88) dX5_does_88 gf_X5_39 (fun r7 => ?_)
    refine s_iload_n (pc := 91) 3 dX5_does_91 rfl rfl ?_
    refine s_iconst (pc := 92) (v := 3) dX5_does_92 (by decide) ?_
    refine s_iadd (pc := 93) dX5_does_93 ?_
    refine s_iald (pc := 94) dX5_does_94 (ztc rfl zt0) (fun x8 => ?_)
    refine zS_ite (fun ht => ?_) (fun _ => zS_none)
    refine s_callV (pc := 95) (np := 3) (as := [.int x2, .int x4, .int x8]) (rest := []) dX5_does_95 ht (q := (RX5, TX5, 20)) rfl (c_X5_adds (by decide) v0 x2 x4 x8 h) rfl rfl q3338 q3340 qs47 rfl (by decide) (zkI (fun x9 h10 => ?_)) zxo
    exact s_iret (pc := 98) dX5_does_98 rfl
  refine zS_ite (fun hx => ?_) (fun hx1 => ?_)
  · refine s_tabIn (pc := 24) (tgt := 99) (v := 1) dX5_does_24 hx (by decide) (by decide) rfl (by decide) ?_
    refine s_aload_n (pc := 99) 2 dX5_does_99 rfl rfl ?_
    refine s_iload_n (pc := 100) 1 dX5_does_100 rfl rfl ?_
    refine s_iload_n (pc := 101) 0 dX5_does_101 rfl rfl ?_
    refine zS_ite (fun ht => ?_) (fun _ => zS_none)
    refine s_callV (pc := 102) (np := 2) (as := [.int x2, .int x4]) (rest := []) dX5_does_102 ht (q := (RX5, TX5, 20)) rfl (c_X5_enters (by decide) v0 x2 x4 h) rfl rfl q3381 q3383 qs54 rfl (by decide) (zkI (fun x11 h12 => ?_)) zxo
    exact s_iret (pc := 105) dX5_does_105 rfl
  refine zS_ite (fun hx => ?_) (fun hx2 => ?_)
  · refine s_tabIn (pc := 24) (tgt := 106) (v := 2) dX5_does_24 hx (by decide) (by decide) rfl (by decide) ?_
    refine s_aload_n (pc := 106) 2 dX5_does_106 rfl rfl ?_
    refine s_iload_n (pc := 107) 1 dX5_does_107 rfl rfl ?_
    refine zS_ite (fun ht => ?_) (fun _ => zS_none)
    refine s_callV (pc := 108) (np := 1) (as := [.int x2]) (rest := []) dX5_does_108 ht (q := (RX5, TX5, 20)) rfl (c_X5_leaves (by decide) v0 x2 h) rfl rfl q3408 q3410 qs59 rfl (by decide) (zkI (fun x13 h14 => ?_)) zxo
    exact s_iret (pc := 111) dX5_does_111 rfl
  refine zS_ite (fun hx => ?_) (fun hx3 => ?_)
  · refine s_tabIn (pc := 24) (tgt := 112) (v := 3) dX5_does_24 hx (by decide) (by decide) rfl (by decide) ?_
    refine s_aload_n (pc := 112) 2 dX5_does_112 rfl rfl ?_
    refine s_iload_n (pc := 113) 1 dX5_does_113 rfl rfl ?_
    refine s_iconst (pc := 114) (v := 4) dX5_does_114 (by decide) ?_
    refine s_aload_n (pc := 115) 2 dX5_does_115 rfl rfl ?_
    refine s_gR (pc := 116) dX5_does_116 gf_X5_39 (fun r15 => ?_)
    refine s_iload_n (pc := 119) 3 dX5_does_119 rfl rfl ?_
    refine s_iald (pc := 120) dX5_does_120 (ztc rfl zt0) (fun x16 => ?_)
    refine s_isub (pc := 121) dX5_does_121 ?_
    refine zS_ite (fun ht => ?_) (fun _ => zS_none)
    refine s_callV (pc := 122) (np := 2) (as := [.int x2, .int ((4 : Int32) - x16)]) (rest := []) dX5_does_122 ht (q := (RX5, TX5, 20)) rfl (c_X5_cleans (by decide) v0 x2 ((4 : Int32) - x16) h) rfl rfl q3420 q3422 qs61 rfl (by decide) (zkI (fun x17 h18 => ?_)) zxo
    exact s_iret (pc := 125) dX5_does_125 rfl
  refine zS_ite (fun hx => ?_) (fun hx4 => ?_)
  · refine s_tabIn (pc := 24) (tgt := 112) (v := 4) dX5_does_24 hx (by decide) (by decide) rfl (by decide) ?_
    refine s_aload_n (pc := 112) 2 dX5_does_112 rfl rfl ?_
    refine s_iload_n (pc := 113) 1 dX5_does_113 rfl rfl ?_
    refine s_iconst (pc := 114) (v := 4) dX5_does_114 (by decide) ?_
    refine s_aload_n (pc := 115) 2 dX5_does_115 rfl rfl ?_
    refine s_gR (pc := 116) dX5_does_116 gf_X5_39 (fun r19 => ?_)
    refine s_iload_n (pc := 119) 3 dX5_does_119 rfl rfl ?_
    refine s_iald (pc := 120) dX5_does_120 (ztc rfl zt0) (fun x20 => ?_)
    refine s_isub (pc := 121) dX5_does_121 ?_
    refine zS_ite (fun ht => ?_) (fun _ => zS_none)
    refine s_callV (pc := 122) (np := 2) (as := [.int x2, .int ((4 : Int32) - x20)]) (rest := []) dX5_does_122 ht (q := (RX5, TX5, 20)) rfl (c_X5_cleans (by decide) v0 x2 ((4 : Int32) - x20) h) rfl rfl q3420 q3422 qs61 rfl (by decide) (zkI (fun x21 h22 => ?_)) zxo
    exact s_iret (pc := 125) dX5_does_125 rfl
  refine zS_ite (fun hx => ?_) (fun hx5 => ?_)
  · refine s_tabIn (pc := 24) (tgt := 126) (v := 5) dX5_does_24 hx (by decide) (by decide) rfl (by decide) ?_
    refine s_aload_n (pc := 126) 2 dX5_does_126 rfl rfl ?_
    refine s_bipush (pc := 127) (v := 6) dX5_does_127 (by decide) ?_
    refine s_aload_n (pc := 129) 2 dX5_does_129 rfl rfl ?_
    refine s_gR (pc := 130) dX5_does_130 gf_X5_39 (fun r23 => ?_)
    refine s_iload_n (pc := 133) 3 dX5_does_133 rfl rfl ?_
    refine s_iald (pc := 134) dX5_does_134 (ztc rfl zt0) (fun x24 => ?_)
    refine s_isub (pc := 135) dX5_does_135 ?_
    refine zS_ite (fun ht => ?_) (fun _ => zS_none)
    refine s_callV (pc := 136) (np := 1) (as := [.int ((6 : Int32) - x24)]) (rest := []) dX5_does_136 ht (q := (RX5, TX5, 20)) rfl (c_X5_gates (by decide) v0 ((6 : Int32) - x24) h) rfl rfl q3436 q3438 qs63 rfl (by decide) (zkI (fun x25 h26 => ?_)) zxo
    exact s_iret (pc := 139) dX5_does_139 rfl
  refine zS_ite (fun hx => ?_) (fun hx6 => ?_)
  · refine s_tabIn (pc := 24) (tgt := 126) (v := 6) dX5_does_24 hx (by decide) (by decide) rfl (by decide) ?_
    refine s_aload_n (pc := 126) 2 dX5_does_126 rfl rfl ?_
    refine s_bipush (pc := 127) (v := 6) dX5_does_127 (by decide) ?_
    refine s_aload_n (pc := 129) 2 dX5_does_129 rfl rfl ?_
    refine s_gR (pc := 130) dX5_does_130 gf_X5_39 (fun r27 => ?_)
    refine s_iload_n (pc := 133) 3 dX5_does_133 rfl rfl ?_
    refine s_iald (pc := 134) dX5_does_134 (ztc rfl zt0) (fun x28 => ?_)
    refine s_isub (pc := 135) dX5_does_135 ?_
    refine zS_ite (fun ht => ?_) (fun _ => zS_none)
    refine s_callV (pc := 136) (np := 1) (as := [.int ((6 : Int32) - x28)]) (rest := []) dX5_does_136 ht (q := (RX5, TX5, 20)) rfl (c_X5_gates (by decide) v0 ((6 : Int32) - x28) h) rfl rfl q3436 q3438 qs63 rfl (by decide) (zkI (fun x29 h30 => ?_)) zxo
    exact s_iret (pc := 139) dX5_does_139 rfl
  refine zS_ite (fun hx => ?_) (fun hx7 => ?_)
  · refine s_tabIn (pc := 24) (tgt := 140) (v := 7) dX5_does_24 hx (by decide) (by decide) rfl (by decide) ?_
    refine s_aload_n (pc := 140) 2 dX5_does_140 rfl rfl ?_
    refine s_iload_n (pc := 141) 1 dX5_does_141 rfl rfl ?_
    refine zS_ite (fun ht => ?_) (fun _ => zS_none)
    refine s_callV (pc := 142) (np := 1) (as := [.int x2]) (rest := []) dX5_does_142 ht (q := (RX5, TX5, 20)) rfl (c_X5_pumps (by decide) v0 x2 h) rfl rfl q3448 q3450 qs64 rfl (by decide) (zkI (fun x31 h32 => ?_)) zxo
    exact s_iret (pc := 145) dX5_does_145 rfl
  refine zS_ite (fun hx => ?_) (fun hx8 => ?_)
  · refine s_tabIn (pc := 24) (tgt := 146) (v := 8) dX5_does_24 hx (by decide) (by decide) rfl (by decide) ?_
    refine s_aload_n (pc := 146) 2 dX5_does_146 rfl rfl ?_
    refine s_iload_n (pc := 147) 1 dX5_does_147 rfl rfl ?_
    refine zS_ite (fun ht => ?_) (fun _ => zS_none)
    refine s_callV (pc := 148) (np := 1) (as := [.int x2]) (rest := []) dX5_does_148 ht (q := (RX5, TX5, 20)) rfl (c_X5_waits (by decide) v0 x2 h) rfl rfl q3480 q3482 qs69 rfl (by decide) (zkI (fun x33 h34 => ?_)) zxo
    exact s_iret (pc := 151) dX5_does_151 rfl
  refine zS_ite (fun hx => ?_) (fun hx9 => ?_)
  · refine s_tabIn (pc := 24) (tgt := 152) (v := 9) dX5_does_24 hx (by decide) (by decide) rfl (by decide) ?_
    refine s_aload_n (pc := 152) 2 dX5_does_152 rfl rfl ?_
    refine s_iload_n (pc := 153) 1 dX5_does_153 rfl rfl ?_
    refine zS_ite (fun ht => ?_) (fun _ => zS_none)
    refine s_callV (pc := 154) (np := 1) (as := [.int x2]) (rest := []) dX5_does_154 ht (q := (RX5, TX5, 20)) rfl (c_X5_lays (by decide) v0 x2 h) rfl rfl q3456 q3458 qs65 rfl (by decide) (zkI (fun x35 h36 => ?_)) zxo
    exact s_iret (pc := 157) dX5_does_157 rfl
  refine zS_ite (fun hx => ?_) (fun hx10 => ?_)
  · refine s_tabIn (pc := 24) (tgt := 158) (v := 10) dX5_does_24 hx (by decide) (by decide) rfl (by decide) ?_
    refine s_aload_n (pc := 158) 2 dX5_does_158 rfl rfl ?_
    refine s_iload_n (pc := 159) 1 dX5_does_159 rfl rfl ?_
    refine zS_ite (fun ht => ?_) (fun _ => zS_none)
    refine s_callV (pc := 160) (np := 1) (as := [.int x2]) (rest := []) dX5_does_160 ht (q := (RX5, TX5, 20)) rfl (c_X5_takes (by decide) v0 x2 h) rfl rfl q3472 q3474 qs68 rfl (by decide) (zkI (fun x37 h38 => ?_)) zxo
    exact s_iret (pc := 163) dX5_does_163 rfl
  have hout : x6.toInt < 0 ∨ 10 < x6.toInt := by
    have q0 := lv_neT (a := 0) hx0 (by decide)
    have q1 := lv_neT (a := 1) hx1 (by decide)
    have q2 := lv_neT (a := 2) hx2 (by decide)
    have q3 := lv_neT (a := 3) hx3 (by decide)
    have q4 := lv_neT (a := 4) hx4 (by decide)
    have q5 := lv_neT (a := 5) hx5 (by decide)
    have q6 := lv_neT (a := 6) hx6 (by decide)
    have q7 := lv_neT (a := 7) hx7 (by decide)
    have q8 := lv_neT (a := 8) hx8 (by decide)
    have q9 := lv_neT (a := 9) hx9 (by decide)
    have q10 := lv_neT (a := 10) hx10 (by decide)
    omega
  refine s_tabOut (pc := 24) (tgt := 164) dX5_does_24 hout (by decide) ?_
  refine s_aload_n (pc := 164) 2 dX5_does_164 rfl rfl ?_
  refine s_iload_n (pc := 165) 1 dX5_does_165 rfl rfl ?_
  refine s_iload_n (pc := 166) 0 dX5_does_166 rfl rfl ?_
  refine zS_ite (fun ht => ?_) (fun _ => zS_none)
  refine s_callV (pc := 167) (np := 2) (as := [.int x2, .int x4]) (rest := []) dX5_does_167 ht (q := (RX5, TX5, 20)) rfl (c_X5_pays (by decide) v0 x2 x4 h) rfl rfl q3428 q3430 qs62 rfl (by decide) (zkI (fun x39 h40 => ?_)) zxo
  exact s_iret (pc := 170) dX5_does_170 rfl
theorem c_X5_does {d0 : Nat} (hd0 : 9 < d0) (v0 : Option Nat) (v1 : Int32) (h : zH) : zCal D z d0 h yX5_does [va_rf v0, .int v1] (f_X5_does v0 v1 h) :=
  ⟨cX5_does, 4, (some .int), [], 9, (show lv_args 0 [va_rf v0, .int v1] = [(0, va_rf v0), (1, .int v1)] by simp [lv_args, zcat_rf, zcat_i, zcat_l, zcat_f, zcat_d]) ▸ w_X5_does v0 v1 h, (plainFor_of_name (by decide)), by simp [lg_sl, zcat_rf, zcat_i, zcat_l, zcat_f, zcat_d], q3743, q140, hd0, by decide, by decide⟩
theorem w_X5_run_61 (a0 : Option Nat) (a1 : Int32) (h : zH) : zS D z yX5_run cX5_run 3 (some .int) [] 10 h 61 [(0, va_rf a0), (1, .int a1)] [] (f_X5_run_61 a0 a1 h) := by
  unfold f_X5_run_61
  refine s_aload_n (pc := 61) 0 dX5_run_61 rfl rfl ?_
  refine s_iload_n (pc := 62) 1 dX5_run_62 rfl rfl ?_
  refine s_putI (pc := 63) dX5_run_63 pf_X5_26 (fun h13 => ?_)
  refine s_aload_n (pc := 66) 0 dX5_run_66 rfl rfl ?_
  refine s_iconst (pc := 67) (v := 2) dX5_run_67 (by decide) ?_
  refine s_putI (pc := 68) dX5_run_68 pf_X5_42 (fun h14 => ?_)
  refine s_aload_n (pc := 71) 0 dX5_run_71 rfl rfl ?_
  refine s_gR (pc := 72) dX5_run_72 gf_X5_13 (fun r15 => ?_)
  refine s_iconst (pc := 75) (v := 0) dX5_run_75 (by decide) ?_
  refine s_aload_n (pc := 76) 0 dX5_run_76 rfl rfl ?_
  refine s_gR (pc := 77) dX5_run_77 gf_X5_9 (fun r16 => ?_)
  refine s_iconst (pc := 80) (v := 0) dX5_run_80 (by decide) ?_
  refine s_callSS (pc := 81) (np := 4) (as := [va_rf r15, .int 0, va_rf r16, .int 0]) (rest := []) dX5_run_81 (c_X5_copies (by decide) r15 0 r16 0 h14) rfl rfl q3319 q3320 rfl (by decide) (zkV (fun h17 => ?_)) zxo
  refine s_iconst (pc := 84) (v := 0) dX5_run_84 (by decide) ?_
  exact s_iret (pc := 85) dX5_run_85 rfl
theorem w_X5_run_92 (a0 : Option Nat) (h : zH) : zS D z yX5_run cX5_run 3 (some .int) [] 10 h 92 [(0, va_rf a0)] [] (f_X5_run_92 a0 h) := by
  unfold f_X5_run_92
  refine s_aload_n (pc := 92) 0 dX5_run_92 rfl rfl ?_
  refine s_aload_n (pc := 93) 0 dX5_run_93 rfl rfl ?_
  refine s_gI (pc := 94) dX5_run_94 gf_X5_261 (fun x18 => ?_)
  refine zS_ite (fun ht => ?_) (fun _ => zS_none)
  refine s_callV (pc := 97) (np := 1) (as := [.int x18]) (rest := []) dX5_run_97 ht (q := (RX5, TX5, 20)) rfl (c_X5_ends (by decide) a0 x18 h) rfl rfl q3349 q3351 qs48 rfl (by decide) (zkI (fun x19 h20 => ?_)) zxo
  exact s_iret (pc := 100) dX5_run_100 rfl
theorem w_X5_run_38 : ∀ (n : Nat) (a0 : Option Nat) (a1 : Int32) (h : zH), zS D z yX5_run cX5_run 3 (some .int) [] 10 h 38 [(0, va_rf a0), (1, .int a1)] [] (f_X5_run_38 n a0 a1 h) := by
  intro n
  induction n with
  | zero => intros; exact zS_none
  | succ n ih =>
    intro a0 a1 h
    rw [f_X5_run_38.eq_2]
    refine s_iload_n (pc := 38) 1 dX5_run_38 rfl rfl ?_
    refine s_aload_n (pc := 39) 0 dX5_run_39 rfl rfl ?_
    refine s_gI (pc := 40) dX5_run_40 gf_X5_261 (fun x8 => ?_)
    refine s_icmp_ge (pc := 43) (tgt := 92) dX5_run_43 (by decide) (fun _ => ?_) (fun _ => ?_)
    · exact s_sub (pc := 92) [0] rfl (w_X5_run_92 a0 h)
    · refine s_aload_n (pc := 46) 0 dX5_run_46 rfl rfl ?_
      refine s_iconst (pc := 47) (v := 4) dX5_run_47 (by decide) ?_
      refine s_iload_n (pc := 48) 1 dX5_run_48 rfl rfl ?_
      refine s_imul (pc := 49) dX5_run_49 ?_
      refine zS_ite (fun ht => ?_) (fun _ => zS_none)
      refine s_callV (pc := 50) (np := 1) (as := [.int ((4 : Int32) * a1)]) (rest := []) dX5_run_50 ht (q := (RX5, TX5, 20)) rfl (c_X5_does (by decide) a0 ((4 : Int32) * a1) h) rfl rfl q3740 q3742 qs93 rfl (by decide) (zkI (fun x9 h10 => ?_)) zxo
      refine s_ist_n (pc := 53) (L2 := [(0, va_rf a0), (1, .int a1)]) [0, 1] dX5_run_53 rfl (by decide) rfl rfl (zcB (j := 1) rfl rfl rfl) ?_
      refine s_aload_n (pc := 54) 1 dX5_run_54 rfl rfl ?_
      refine s_gI (pc := 55) dX5_run_55 gf_X5_42 (fun x11 => ?_)
      refine s_if_eq (pc := 58) (tgt := 86) dX5_run_58 (by decide) (fun _ => ?_) (fun _ => ?_)
      · refine s_inc (pc := 86) (v := 1) (L2 := [(0, va_rf a0)]) 2 [1] dX5_run_86 rfl (by decide) (by decide) rfl rfl (zcB (j := 0) rfl (zcat_rf a0) rfl) (fun x12 => ?_)
        refine s_goto (pc := 89) (tgt := 38) dX5_run_89 (by decide) ?_
        exact s_sub (pc := 38) [1, 0] rfl (ih a0 x12 h10)
      · exact s_sub (pc := 61) [1, 2] rfl (w_X5_run_61 a0 a1 h10)
theorem w_X5_run (v0 : Option Nat) (h : zH) : zS D z yX5_run cX5_run 3 (some .int) [] 10 h 0 [(0, va_rf v0)] [] (f_X5_run v0 h) := by
  unfold f_X5_run
  refine s_aload_n (pc := 0) 0 dX5_run_0 rfl rfl ?_
  refine zS_ite (fun ht => ?_) (fun _ => zS_none)
  refine s_callV (pc := 1) (np := 0) (as := []) (rest := []) dX5_run_1 ht (q := (RX5, TX5, 20)) rfl (c_X5_readsAll (by decide) v0 h) rfl rfl q3707 q3709 qs86 rfl (by decide) (zkV (fun h1 => ?_)) zxo
  refine s_aload_n (pc := 4) 0 dX5_run_4 rfl rfl ?_
  refine s_gI (pc := 5) dX5_run_5 gf_X5_238 (fun x2 => ?_)
  refine s_iconst (pc := 8) (v := -1) dX5_run_8 (by decide) ?_
  refine s_icmp_eq (pc := 9) (tgt := 27) dX5_run_9 (by decide) (fun _ => ?_) (fun _ => ?_)
  · refine s_aload_n (pc := 27) 0 dX5_run_27 rfl rfl ?_
    refine zS_ite (fun ht => ?_) (fun _ => zS_none)
    refine s_callV (pc := 28) (np := 0) (as := []) (rest := []) dX5_run_28 ht (q := (RX5, TX5, 20)) rfl (c_X5_begins (by decide) v0 h1) rfl rfl q3334 q3336 qs46 rfl (by decide) (zkV (fun h3 => ?_)) zxo
    refine s_aload_n (pc := 31) 0 dX5_run_31 rfl rfl ?_
    refine s_iconst (pc := 32) (v := 0) dX5_run_32 (by decide) ?_
    refine s_putI (pc := 33) dX5_run_33 pf_X5_42 (fun h4 => ?_)
    refine s_iconst (pc := 36) (v := 0) dX5_run_36 (by decide) ?_
    refine s_ist_n (pc := 37) (L2 := [(0, va_rf v0)]) [0] dX5_run_37 rfl (by decide) rfl rfl (zcB (j := 0) rfl (zcat_rf v0) rfl) ?_
    exact s_sub (pc := 38) [1, 0] rfl (w_X5_run_38 zfuel v0 0 h4)
  · refine s_aload_n (pc := 12) 0 dX5_run_12 rfl rfl ?_
    refine s_aload_n (pc := 13) 0 dX5_run_13 rfl rfl ?_
    refine s_gI (pc := 14) dX5_run_14 gf_X5_238 (fun x5 => ?_)
    refine s_putI (pc := 17) dX5_run_17 pf_X5_22 (fun h6 => ?_)
    refine s_aload_n (pc := 20) 0 dX5_run_20 rfl rfl ?_
    refine s_iconst (pc := 21) (v := 1) dX5_run_21 (by decide) ?_
    refine s_putI (pc := 22) dX5_run_22 pf_X5_42 (fun h7 => ?_)
    refine s_iconst (pc := 25) (v := 0) dX5_run_25 (by decide) ?_
    exact s_iret (pc := 26) dX5_run_26 rfl
theorem c_X5_run {d0 : Nat} (hd0 : 10 < d0) (v0 : Option Nat) (h : zH) : zCal D z d0 h yX5_run [va_rf v0] (f_X5_run v0 h) :=
  ⟨cX5_run, 3, (some .int), [], 10, (show lv_args 0 [va_rf v0] = [(0, va_rf v0)] by simp [lv_args, zcat_rf, zcat_i, zcat_l, zcat_f, zcat_d]) ▸ w_X5_run v0 h, (plainFor_of_name (by decide)), by simp [lg_sl, zcat_rf, zcat_i, zcat_l, zcat_f, zcat_d], q3706, q140, hd0, by decide, by decide⟩
theorem w_X5_errorPosition_14 (a0 : Option Nat) (s0 : Int32) (s1 : Option Nat) (h : zH) : zS D z yX5_errorPosition cX5_errorPosition 1 (some .int) [] 3 h 14 [(0, va_rf a0)] [.int s0, va_rf s1] (f_X5_errorPosition_14 a0 s0 s1 h) := by
  unfold f_X5_errorPosition_14
  refine zS_ite (fun ht => ?_) (fun _ => zS_none)
  refine s_callV (pc := 14) (np := 1) (as := [.int s0]) (rest := []) dX5_errorPosition_14 ht (q := (RX5, TX5, 20)) rfl (c_X5_goes (by decide) s1 s0 h) rfl rfl q3311 q3313 qs44 rfl (by decide) (zkI (fun x2 h3 => ?_)) zxo
  refine s_if_eq (pc := 17) (tgt := 27) dX5_errorPosition_17 (by decide) (fun _ => ?_) (fun _ => ?_)
  · refine s_iconst (pc := 27) (v := 0) dX5_errorPosition_27 (by decide) ?_
    exact s_iret (pc := 28) dX5_errorPosition_28 rfl
  · refine s_aload_n (pc := 20) 0 dX5_errorPosition_20 rfl rfl ?_
    refine s_gI (pc := 21) dX5_errorPosition_21 gf_X5_22 (fun x4 => ?_)
    refine s_goto (pc := 24) (tgt := 28) dX5_errorPosition_24 (by decide) ?_
    exact s_iret (pc := 28) dX5_errorPosition_28 rfl
theorem w_X5_errorPosition (v0 : Option Nat) (h : zH) : zS D z yX5_errorPosition cX5_errorPosition 1 (some .int) [] 3 h 0 [(0, va_rf v0)] [] (f_X5_errorPosition v0 h) := by
  unfold f_X5_errorPosition
  refine s_aload_n (pc := 0) 0 dX5_errorPosition_0 rfl rfl ?_
  refine s_aload_n (pc := 1) 0 dX5_errorPosition_1 rfl rfl ?_
  refine s_gI (pc := 2) dX5_errorPosition_2 gf_X5_22 (fun x1 => ?_)
  refine s_iconst (pc := 5) (v := -1) dX5_errorPosition_5 (by decide) ?_
  refine s_icmp_eq (pc := 6) (tgt := 13) dX5_errorPosition_6 (by decide) (fun _ => ?_) (fun _ => ?_)
  · refine s_iconst (pc := 13) (v := 0) dX5_errorPosition_13 (by decide) ?_
    exact s_sub (pc := 14) [0] rfl (w_X5_errorPosition_14 v0 0 v0 h)
  · refine s_iconst (pc := 9) (v := 1) dX5_errorPosition_9 (by decide) ?_
    refine s_goto (pc := 10) (tgt := 14) dX5_errorPosition_10 (by decide) ?_
    exact s_sub (pc := 14) [0] rfl (w_X5_errorPosition_14 v0 1 v0 h)
theorem c_X5_errorPosition {d0 : Nat} (hd0 : 3 < d0) (v0 : Option Nat) (h : zH) : zCal D z d0 h yX5_errorPosition [va_rf v0] (f_X5_errorPosition v0 h) :=
  ⟨cX5_errorPosition, 1, (some .int), [], 3, (show lv_args 0 [va_rf v0] = [(0, va_rf v0)] by simp [lv_args, zcat_rf, zcat_i, zcat_l, zcat_f, zcat_d]) ▸ w_X5_errorPosition v0 h, (plainFor_of_name (by decide)), by simp [lg_sl, zcat_rf, zcat_i, zcat_l, zcat_f, zcat_d], q3747, q140, hd0, by decide, by decide⟩
theorem w_X5_failedCommand_14 (a0 : Option Nat) (s0 : Int32) (s1 : Option Nat) (h : zH) : zS D z yX5_failedCommand cX5_failedCommand 1 (some .int) [] 3 h 14 [(0, va_rf a0)] [.int s0, va_rf s1] (f_X5_failedCommand_14 a0 s0 s1 h) := by
  unfold f_X5_failedCommand_14
  refine zS_ite (fun ht => ?_) (fun _ => zS_none)
  refine s_callV (pc := 14) (np := 1) (as := [.int s0]) (rest := []) dX5_failedCommand_14 ht (q := (RX5, TX5, 20)) rfl (c_X5_goes (by decide) s1 s0 h) rfl rfl q3311 q3313 qs44 rfl (by decide) (zkI (fun x2 h3 => ?_)) zxo
  refine s_if_eq (pc := 17) (tgt := 27) dX5_failedCommand_17 (by decide) (fun _ => ?_) (fun _ => ?_)
  · refine s_iconst (pc := 27) (v := 0) dX5_failedCommand_27 (by decide) ?_
    exact s_iret (pc := 28) dX5_failedCommand_28 rfl
  · refine s_aload_n (pc := 20) 0 dX5_failedCommand_20 rfl rfl ?_
    refine s_gI (pc := 21) dX5_failedCommand_21 gf_X5_26 (fun x4 => ?_)
    refine s_goto (pc := 24) (tgt := 28) dX5_failedCommand_24 (by decide) ?_
    exact s_iret (pc := 28) dX5_failedCommand_28 rfl
theorem w_X5_failedCommand (v0 : Option Nat) (h : zH) : zS D z yX5_failedCommand cX5_failedCommand 1 (some .int) [] 3 h 0 [(0, va_rf v0)] [] (f_X5_failedCommand v0 h) := by
  unfold f_X5_failedCommand
  refine s_aload_n (pc := 0) 0 dX5_failedCommand_0 rfl rfl ?_
  refine s_aload_n (pc := 1) 0 dX5_failedCommand_1 rfl rfl ?_
  refine s_gI (pc := 2) dX5_failedCommand_2 gf_X5_26 (fun x1 => ?_)
  refine s_iconst (pc := 5) (v := -1) dX5_failedCommand_5 (by decide) ?_
  refine s_icmp_eq (pc := 6) (tgt := 13) dX5_failedCommand_6 (by decide) (fun _ => ?_) (fun _ => ?_)
  · refine s_iconst (pc := 13) (v := 0) dX5_failedCommand_13 (by decide) ?_
    exact s_sub (pc := 14) [0] rfl (w_X5_failedCommand_14 v0 0 v0 h)
  · refine s_iconst (pc := 9) (v := 1) dX5_failedCommand_9 (by decide) ?_
    refine s_goto (pc := 10) (tgt := 14) dX5_failedCommand_10 (by decide) ?_
    exact s_sub (pc := 14) [0] rfl (w_X5_failedCommand_14 v0 1 v0 h)
theorem c_X5_failedCommand {d0 : Nat} (hd0 : 3 < d0) (v0 : Option Nat) (h : zH) : zCal D z d0 h yX5_failedCommand [va_rf v0] (f_X5_failedCommand v0 h) :=
  ⟨cX5_failedCommand, 1, (some .int), [], 3, (show lv_args 0 [va_rf v0] = [(0, va_rf v0)] by simp [lv_args, zcat_rf, zcat_i, zcat_l, zcat_f, zcat_d]) ▸ w_X5_failedCommand v0 h, (plainFor_of_name (by decide)), by simp [lg_sl, zcat_rf, zcat_i, zcat_l, zcat_f, zcat_d], q3751, q140, hd0, by decide, by decide⟩
end WW11
