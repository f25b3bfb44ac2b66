set_option maxRecDepth 100000
theorem nf_X2_9 : zFn RX2 9 13 [.null, .null, .null, .null, .int 0, .int 0, .int 0, .float 0, .null, .null, .int 0, .int 0] := ⟨_, tyJ2, rfl, q178, q179, q99, in_J2, tyJ2_ok, rfl⟩
theorem pf_X2_12 : zFp RX2 12 [1] 0 "<init>" (.object "java/util/LinkedHashMap") := ⟨_, _, _, .inl q267, by decide +kernel, ztc ⟨_, tyX2, rfl, by decide, rfl, rfl, .inl rfl, in_X2, tyX2_ok, nmX2, .inr ⟨rfl, rfl, rfl, q267⟩⟩ (zt0)⟩
theorem nf_X2_18 : zFn RX2 18 14 [.null] := ⟨_, tyJ5, rfl, q239, q240, q102, in_J5, tyJ5_ok, rfl⟩
theorem pf_X2_21 : zFp RX2 21 [1] 1 "<init>" (.object "java/util/HashSet") := ⟨_, _, _, .inl q269, by decide +kernel, ztc ⟨_, tyX2, rfl, by decide, rfl, rfl, .inl rfl, in_X2, tyX2_ok, nmX2, .inr ⟨rfl, rfl, rfl, q269⟩⟩ (zt0)⟩
theorem pf_X2_25 {nm : String} : zFp RX2 25 [1] 3 nm (.int) := ⟨_, _, _, .inl q271, by decide +kernel, ztc ⟨_, tyX2, rfl, by decide, rfl, rfl, .inl rfl, in_X2, tyX2_ok, nmX2, .inl rfl⟩ (zt0)⟩
theorem pf_X2_29 {nm : String} : zFp RX2 29 [1] 4 nm (.int) := ⟨_, _, _, .inl q273, by decide +kernel, ztc ⟨_, tyX2, rfl, by decide, rfl, rfl, .inl rfl, in_X2, tyX2_ok, nmX2, .inl rfl⟩ (zt0)⟩
theorem pf_X2_32 {nm : String} : zFp RX2 32 [1] 6 nm (.boolean) := ⟨_, _, _, .inl q276, by decide +kernel, ztc ⟨_, tyX2, rfl, by decide, rfl, rfl, .inl rfl, in_X2, tyX2_ok, nmX2, .inl rfl⟩ (zt0)⟩
theorem gf_X2_12 : zFg RX2 12 [1] 0 := ⟨_, _, _, .inl q267, ztc ⟨_, rfl, by decide, rfl, rfl, .inl rfl, in_X2⟩ (zt0)⟩
theorem zcs_FloatingDock_Ship : zcs "FloatingDock$Ship" [5] := ztc (Or.inl ⟨_, rfl, Or.inl rfl⟩) (zt0)
theorem gf_X2_58 : zFg RX2 58 [5] 0 := ⟨_, _, _, .inr ⟨_, q2005⟩, ztc ⟨_, rfl, by decide, rfl, rfl, .inl rfl, in_X6⟩ (zt0)⟩
theorem nf_X2_56 : zFn RX2 56 5 [.int 0, .int 0, .int 0, .int 0, .int 0, .int 0, .int 0, .int 0, .null] := ⟨_, tyX6, rfl, q836, q1996, q142, in_X6, tyX6_ok, rfl⟩
theorem gf_X2_21 : zFg RX2 21 [1] 1 := ⟨_, _, _, .inl q269, ztc ⟨_, rfl, by decide, rfl, rfl, .inl rfl, in_X2⟩ (zt0)⟩
theorem gf_X2_81 : zFg RX2 81 [1] 2 := ⟨_, _, _, .inl q270, ztc ⟨_, rfl, by decide, rfl, rfl, .inl rfl, in_X2⟩ (zt0)⟩
theorem pf_X2_81 {nm : String} : zFp RX2 81 [1] 2 nm (.int) := ⟨_, _, _, .inl q270, by decide +kernel, ztc ⟨_, tyX2, rfl, by decide, rfl, rfl, .inl rfl, in_X2, tyX2_ok, nmX2, .inl rfl⟩ (zt0)⟩
theorem gf_X2_25 : zFg RX2 25 [1] 3 := ⟨_, _, _, .inl q271, ztc ⟨_, rfl, by decide, rfl, rfl, .inl rfl, in_X2⟩ (zt0)⟩
theorem gf_X2_29 : zFg RX2 29 [1] 4 := ⟨_, _, _, .inl q273, ztc ⟨_, rfl, by decide, rfl, rfl, .inl rfl, in_X2⟩ (zt0)⟩
theorem gf_X2_84 : zFg RX2 84 [1] 5 := ⟨_, _, _, .inl q275, ztc ⟨_, rfl, by decide, rfl, rfl, .inl rfl, in_X2⟩ (zt0)⟩
theorem pf_X2_84 {nm : String} : zFp RX2 84 [1] 5 nm (.int) := ⟨_, _, _, .inl q275, by decide +kernel, ztc ⟨_, tyX2, rfl, by decide, rfl, rfl, .inl rfl, in_X2, tyX2_ok, nmX2, .inl rfl⟩ (zt0)⟩
theorem gf_X2_32 : zFg RX2 32 [1] 6 := ⟨_, _, _, .inl q276, ztc ⟨_, rfl, by decide, rfl, rfl, .inl rfl, in_X2⟩ (zt0)⟩
theorem gf_X2_87 : zFg RX2 87 [1] 7 := ⟨_, _, _, .inl q278, ztc ⟨_, rfl, by decide, rfl, rfl, .inl rfl, in_X2⟩ (zt0)⟩
theorem pf_X2_87 {nm : String} : zFp RX2 87 [1] 7 nm (.int) := ⟨_, _, _, .inl q278, by decide +kernel, ztc ⟨_, tyX2, rfl, by decide, rfl, rfl, .inl rfl, in_X2, tyX2_ok, nmX2, .inl rfl⟩ (zt0)⟩
theorem gf_X2_90 : zFg RX2 90 [1] 8 := ⟨_, _, _, .inl q279, ztc ⟨_, rfl, by decide, rfl, rfl, .inl rfl, in_X2⟩ (zt0)⟩
theorem pf_X2_90 {nm : String} : zFp RX2 90 [1] 8 nm (.int) := ⟨_, _, _, .inl q279, by decide +kernel, ztc ⟨_, tyX2, rfl, by decide, rfl, rfl, .inl rfl, in_X2, tyX2_ok, nmX2, .inl rfl⟩ (zt0)⟩
theorem gf_X2_93 : zFg RX2 93 [1] 9 := ⟨_, _, _, .inl q281, ztc ⟨_, rfl, by decide, rfl, rfl, .inl rfl, in_X2⟩ (zt0)⟩
theorem pf_X2_93 {nm : String} : zFp RX2 93 [1] 9 nm (.int) := ⟨_, _, _, .inl q281, by decide +kernel, ztc ⟨_, tyX2, rfl, by decide, rfl, rfl, .inl rfl, in_X2, tyX2_ok, nmX2, .inl rfl⟩ (zt0)⟩
theorem xf_X1_86_88 : zFx RX1 86 88 32 := ⟨RJ34, ["java/lang/RuntimeException", "java/lang/Exception"], TJ34, rfl, by decide +kernel, by decide +kernel, q2282, q133, by decide, lw_in _ [123, 729, 738, 749, 752, 754, 730, 731, 164, 165, 732, 737, 750, 767, 719, 768, 721, 769, 723, 733, 735, 725, 2284, 2285, 2286, 759, 759, 760, 761, 762, 762, 763, 764, 730, 2283, 1038, 1040, 744, 1041, 1042, 1043, 1044, 728, 727, 1045] (by decide +kernel) (by decide +kernel), zin_tbl _ [710, 712, 714, 1039] (by decide +kernel) (by decide +kernel), List.all_eq_true.mp (by decide +kernel)⟩
theorem xf_X1_89_91 : zFx RX1 89 91 33 := ⟨RJ39, ["java/lang/RuntimeException", "java/lang/Exception"], TJ39, rfl, by decide +kernel, by decide +kernel, q2291, q141, by decide, lw_in _ [123, 729, 738, 749, 752, 754, 730, 731, 164, 165, 732, 737, 750, 767, 719, 768, 721, 769, 723, 733, 735, 725, 2301, 2302, 2303, 759, 759, 760, 761, 762, 762, 763, 764, 730, 2300, 2292, 2294, 745, 2295, 2296, 2297, 2298, 728, 727, 2299] (by decide +kernel) (by decide +kernel), zin_tbl _ [710, 712, 714, 2293] (by decide +kernel) (by decide +kernel), List.all_eq_true.mp (by decide +kernel)⟩
theorem xf_X1_92_94 : zFx RX1 92 94 30 := ⟨RJ28, ["java/lang/RuntimeException", "java/lang/Exception"], TJ28, rfl, by decide +kernel, by decide +kernel, q2397, q126, by decide, lw_in _ [123, 729, 738, 749, 752, 754, 730, 731, 164, 165, 732, 737, 750, 767, 719, 768, 721, 769, 723, 733, 735, 725, 756, 757, 758, 759, 759, 760, 761, 762, 762, 763, 764, 730, 2398, 708, 716, 717, 718, 720, 722, 724, 728, 727, 726] (by decide +kernel) (by decide +kernel), zin_tbl _ [710, 712, 714, 709] (by decide +kernel) (by decide +kernel), List.all_eq_true.mp (by decide +kernel)⟩
theorem gf_J2_107 : zFg RJ2 107 [28, 29] 2 := ⟨_, _, _, .inl q2116, ztc ⟨_, rfl, by decide, rfl, rfl, .inl rfl, in_J40⟩ (ztc ⟨_, rfl, by decide, rfl, rfl, .inl rfl, in_J41⟩ (zt0))⟩
theorem gf_X2_170 : zFg RX2 170 [5] 5 := ⟨_, _, _, .inr ⟨_, q2018⟩, ztc ⟨_, rfl, by decide, rfl, rfl, .inl rfl, in_X6⟩ (zt0)⟩
theorem gf_X2_176 : zFg RX2 176 [5] 3 := ⟨_, _, _, .inr ⟨_, q2012⟩, ztc ⟨_, rfl, by decide, rfl, rfl, .inl rfl, in_X6⟩ (zt0)⟩
theorem pf_X3_7 : zFp RX3 7 [2] 0 "<init>" (.int) := ⟨_, _, _, .inl q1293, by decide +kernel, ztc ⟨_, tyX3, rfl, by decide, rfl, rfl, .inl rfl, in_X3, tyX3_ok, nmX3, .inr ⟨rfl, rfl, rfl, q1293⟩⟩ (zt0)⟩
theorem pf_X3_13 : zFp RX3 13 [2] 1 "<init>" (.int) := ⟨_, _, _, .inl q1296, by decide +kernel, ztc ⟨_, tyX3, rfl, by decide, rfl, rfl, .inl rfl, in_X3, tyX3_ok, nmX3, .inr ⟨rfl, rfl, rfl, q1296⟩⟩ (zt0)⟩
theorem pf_J25_31 {nm : String} : zFp RJ25 31 [6, 11] 3 nm (.object "java/lang/String") := ⟨_, _, _, .inl q766, by decide +kernel, ztc ⟨_, tyX7, rfl, by decide, rfl, rfl, .inl rfl, in_X7, tyX7_ok, nmX7, .inl rfl⟩ (ztc ⟨_, tyX12, rfl, by decide, rfl, rfl, .inl rfl, in_X12, tyX12_ok, nmX12, .inl rfl⟩ (zt0))⟩
theorem pf_X7_7 : zFp RX7 7 [6] 6 "<init>" (.int) := ⟨_, _, _, .inl q2469, by decide +kernel, ztc ⟨_, tyX7, rfl, by decide, rfl, rfl, .inl rfl, in_X7, tyX7_ok, nmX7, .inr ⟨rfl, rfl, rfl, q2469⟩⟩ (zt0)⟩
theorem nf_X1_98 : zFn RX1 98 6 [.null, .null, .null, .null, .null, .int 0, .int 0] := ⟨_, tyX7, rfl, q2311, q2452, q149, in_X7, tyX7_ok, rfl⟩
theorem gf_X2_144 : zFg RX2 144 [5] 8 := ⟨_, _, _, .inr ⟨_, q2026⟩, ztc ⟨_, rfl, by decide, rfl, rfl, .inl rfl, in_X6⟩ (zt0)⟩
section WW1
variable {D : va_G} {z : Nat}
theorem w_X2_init_2_144 (a0 : Option Nat) (a1 : Option Nat) (h : zH) : zS D z yX2_init_2 cX2_init_2 5 none [] 10 h 144 [(0, va_rf a0), (1, va_rf a1)] [] (f_X2_init_2_144 a0 a1 h) := by
  unfold f_X2_init_2_144
  refine s_aload_n (pc := 144) 0 dX2_init_2_144 rfl rfl ?_
  refine s_aload_n (pc := 145) 1 dX2_init_2_145 rfl rfl ?_
  refine s_gI (pc := 146) dX2_init_2_146 gf_X2_81 (fun x344 => ?_)
  refine s_putI (pc := 149) dX2_init_2_149 pf_X2_81 (fun h345 => ?_)
  refine s_aload_n (pc := 152) 0 dX2_init_2_152 rfl rfl ?_
  refine s_aload_n (pc := 153) 1 dX2_init_2_153 rfl rfl ?_
  refine s_gI (pc := 154) dX2_init_2_154 gf_X2_25 (fun x346 => ?_)
  refine s_putI (pc := 157) dX2_init_2_157 pf_X2_25 (fun h347 => ?_)
  refine s_aload_n (pc := 160) 0 dX2_init_2_160 rfl rfl ?_
  refine s_aload_n (pc := 161) 1 dX2_init_2_161 rfl rfl ?_
  refine s_gI (pc := 162) dX2_init_2_162 gf_X2_29 (fun x348 => ?_)
  refine s_putI (pc := 165) dX2_init_2_165 pf_X2_29 (fun h349 => ?_)
  refine s_aload_n (pc := 168) 0 dX2_init_2_168 rfl rfl ?_
  refine s_aload_n (pc := 169) 1 dX2_init_2_169 rfl rfl ?_
  refine s_gI (pc := 170) dX2_init_2_170 gf_X2_84 (fun x350 => ?_)
  refine s_putI (pc := 173) dX2_init_2_173 pf_X2_84 (fun h351 => ?_)
  refine s_aload_n (pc := 176) 0 dX2_init_2_176 rfl rfl ?_
  refine s_aload_n (pc := 177) 1 dX2_init_2_177 rfl rfl ?_
  refine s_gI (pc := 178) dX2_init_2_178 gf_X2_32 (fun x352 => ?_)
  refine s_putN (pc := 181) dX2_init_2_181 pf_X2_32 (fun h353 => ?_)
  refine s_aload_n (pc := 184) 0 dX2_init_2_184 rfl rfl ?_
  refine s_aload_n (pc := 185) 1 dX2_init_2_185 rfl rfl ?_
  refine s_gI (pc := 186) dX2_init_2_186 gf_X2_87 (fun x354 => ?_)
  refine s_putI (pc := 189) dX2_init_2_189 pf_X2_87 (fun h355 => ?_)
  refine s_aload_n (pc := 192) 0 dX2_init_2_192 rfl rfl ?_
  refine s_aload_n (pc := 193) 1 dX2_init_2_193 rfl rfl ?_
  refine s_gI (pc := 194) dX2_init_2_194 gf_X2_90 (fun x356 => ?_)
  refine s_putI (pc := 197) dX2_init_2_197 pf_X2_90 (fun h357 => ?_)
  refine s_aload_n (pc := 200) 0 dX2_init_2_200 rfl rfl ?_
  refine s_aload_n (pc := 201) 1 dX2_init_2_201 rfl rfl ?_
  refine s_gI (pc := 202) dX2_init_2_202 gf_X2_93 (fun x358 => ?_)
  refine s_putI (pc := 205) dX2_init_2_205 pf_X2_93 (fun h359 => ?_)
  exact s_vret (pc := 208) dX2_init_2_208 rfl
theorem w_X2_init_2_112 : ∀ (n : Nat) (a0 : Option Nat) (a1 : Option Nat) (a2 : Option Nat) (h : zH), zS D z yX2_init_2 cX2_init_2 5 none [] 10 h 112 [(0, va_rf a0), (1, va_rf a1), (2, va_rf a2)] [] (f_X2_init_2_112 n a0 a1 a2 h) := by
  intro n
  induction n with
  | zero => intros; exact zS_none
  | succ n ih =>
    intro a0 a1 a2 h
    rw [f_X2_init_2_112.eq_2]
    refine s_aload_n (pc := 112) 2 dX2_init_2_112 rfl rfl ?_
    refine zS_ite (fun ht => ?_) (fun _ => ?_)
    · refine s_callF (pc := 113) (np := 0) (as := []) (rest := []) dX2_init_2_113 ht (q := (RX9, TX9, 2)) rfl (c_X9_hasNext (by decide) a2 h) ⟨_, _, _, q637⟩ rfl rfl q629 (by decide +kernel) q635 q633 rfl (by decide) (zkI (fun x257 h258 => ?_)) zxo
      refine s_if_eq (pc := 118) (tgt := 144) dX2_init_2_118 (by decide) (fun _ => ?_) (fun _ => ?_)
      · exact s_sub (pc := 144) [0, 1] rfl (w_X2_init_2_144 a0 a1 h258)
      · refine s_aload_n (pc := 121) 2 dX2_init_2_121 rfl rfl ?_
        refine zS_ite (fun ht => ?_) (fun _ => ?_)
        · refine s_callF (pc := 122) (np := 0) (as := []) (rest := []) dX2_init_2_122 ht (q := (RX9, TX9, 2)) rfl (c_X9_next (by decide) a2 h258) ⟨_, _, _, q677⟩ rfl rfl q670 (by decide +kernel) q675 q673 rfl (by decide) (zkR (fun r259 h260 => ?_)) zxo
          refine s_cast (pc := 127) dX2_init_2_127 q1525 zcs_FloatingDock_Metre ?_
          refine s_ast_n (pc := 130) (L2 := [(0, va_rf a0), (1, va_rf a1), (2, va_rf a2)]) [0, 1, 2] dX2_init_2_130 rfl (by decide) rfl rfl (zcB (j := 2) rfl (zcat_rf a2) rfl) ?_
          refine s_aload_n (pc := 131) 1 dX2_init_2_131 rfl rfl ?_
          refine s_gR (pc := 132) dX2_init_2_132 gf_X2_21 (fun r261 => ?_)
          refine s_aload_n (pc := 135) 0 dX2_init_2_135 rfl rfl ?_
          refine zS_ite (fun ht => ?_) (fun _ => zS_none)
          refine s_callV (pc := 136) (np := 1) (as := [va_rf r259]) (rest := []) dX2_init_2_136 ht (q := (RJ5, TJ5, 1)) rfl (c_J5_add (by decide) r261 r259 h260) rfl rfl q2256 q2257 q2258 rfl (by decide) (zkI (fun x262 h263 => ?_)) zxo
          refine s_ist (pc := 139) (L2 := [(0, va_rf a0), (1, va_rf a1), (2, va_rf a2)]) [1, 2, 3] dX2_init_2_139 (by decide) rfl rfl (zcA rfl) ?_
          refine s_goto (pc := 141) (tgt := 112) dX2_init_2_141 (by decide) ?_
          exact s_sub (pc := 112) [1, 2, 3] rfl (ih a0 a1 a2 h263)
        refine zS_ite (fun ht => ?_) (fun _ => ?_)
        · refine s_callF (pc := 122) (np := 0) (as := []) (rest := []) dX2_init_2_122 ht (q := (RJ15, TJ15, 4)) rfl (c_J15_next (by decide) a2 h258) ⟨_, _, _, q788⟩ rfl rfl q670 (by decide +kernel) q786 q784 rfl (by decide) (zkR (fun r259 h260 => ?_)) zxo
          refine s_cast (pc := 127) dX2_init_2_127 q1525 zcs_FloatingDock_Metre ?_
          refine s_ast_n (pc := 130) (L2 := [(0, va_rf a0), (1, va_rf a1), (2, va_rf a2)]) [0, 1, 2] dX2_init_2_130 rfl (by decide) rfl rfl (zcB (j := 2) rfl (zcat_rf a2) rfl) ?_
          refine s_aload_n (pc := 131) 1 dX2_init_2_131 rfl rfl ?_
          refine s_gR (pc := 132) dX2_init_2_132 gf_X2_21 (fun r264 => ?_)
          refine s_aload_n (pc := 135) 0 dX2_init_2_135 rfl rfl ?_
          refine zS_ite (fun ht => ?_) (fun _ => zS_none)
          refine s_callV (pc := 136) (np := 1) (as := [va_rf r259]) (rest := []) dX2_init_2_136 ht (q := (RJ5, TJ5, 1)) rfl (c_J5_add (by decide) r264 r259 h260) rfl rfl q2256 q2257 q2258 rfl (by decide) (zkI (fun x265 h266 => ?_)) zxo
          refine s_ist (pc := 139) (L2 := [(0, va_rf a0), (1, va_rf a1), (2, va_rf a2)]) [1, 2, 3] dX2_init_2_139 (by decide) rfl rfl (zcA rfl) ?_
          refine s_goto (pc := 141) (tgt := 112) dX2_init_2_141 (by decide) ?_
          exact s_sub (pc := 112) [1, 2, 3] rfl (ih a0 a1 a2 h266)
        refine zS_ite (fun ht => ?_) (fun _ => ?_)
        · refine s_callF (pc := 122) (np := 0) (as := []) (rest := []) dX2_init_2_122 ht (q := (RJ17, TJ17, 5)) rfl (c_J17_next (by decide) a2 h258) ⟨_, _, _, q799⟩ rfl rfl q670 (by decide +kernel) q797 q795 rfl (by decide) (zkR (fun r259 h260 => ?_)) zxo
          refine s_cast (pc := 127) dX2_init_2_127 q1525 zcs_FloatingDock_Metre ?_
          refine s_ast_n (pc := 130) (L2 := [(0, va_rf a0), (1, va_rf a1), (2, va_rf a2)]) [0, 1, 2] dX2_init_2_130 rfl (by decide) rfl rfl (zcB (j := 2) rfl (zcat_rf a2) rfl) ?_
          refine s_aload_n (pc := 131) 1 dX2_init_2_131 rfl rfl ?_
          refine s_gR (pc := 132) dX2_init_2_132 gf_X2_21 (fun r267 => ?_)
          refine s_aload_n (pc := 135) 0 dX2_init_2_135 rfl rfl ?_
          refine zS_ite (fun ht => ?_) (fun _ => zS_none)
          refine s_callV (pc := 136) (np := 1) (as := [va_rf r259]) (rest := []) dX2_init_2_136 ht (q := (RJ5, TJ5, 1)) rfl (c_J5_add (by decide) r267 r259 h260) rfl rfl q2256 q2257 q2258 rfl (by decide) (zkI (fun x268 h269 => ?_)) zxo
          refine s_ist (pc := 139) (L2 := [(0, va_rf a0), (1, va_rf a1), (2, va_rf a2)]) [1, 2, 3] dX2_init_2_139 (by decide) rfl rfl (zcA rfl) ?_
          refine s_goto (pc := 141) (tgt := 112) dX2_init_2_141 (by decide) ?_
          exact s_sub (pc := 112) [1, 2, 3] rfl (ih a0 a1 a2 h269)
        refine zS_ite (fun ht => ?_) (fun _ => ?_)
        · refine s_callF (pc := 122) (np := 0) (as := []) (rest := []) dX2_init_2_122 ht (q := (RJ21, TJ21, 5)) rfl (c_J21_next (by decide) a2 h258) ⟨_, _, _, q812⟩ rfl rfl q670 (by decide +kernel) q810 q808 rfl (by decide) (zkR (fun r259 h260 => ?_)) zxo
          refine s_cast (pc := 127) dX2_init_2_127 q1525 zcs_FloatingDock_Metre ?_
          refine s_ast_n (pc := 130) (L2 := [(0, va_rf a0), (1, va_rf a1), (2, va_rf a2)]) [0, 1, 2] dX2_init_2_130 rfl (by decide) rfl rfl (zcB (j := 2) rfl (zcat_rf a2) rfl) ?_
          refine s_aload_n (pc := 131) 1 dX2_init_2_131 rfl rfl ?_
          refine s_gR (pc := 132) dX2_init_2_132 gf_X2_21 (fun r270 => ?_)
          refine s_aload_n (pc := 135) 0 dX2_init_2_135 rfl rfl ?_
          refine zS_ite (fun ht => ?_) (fun _ => zS_none)
          refine s_callV (pc := 136) (np := 1) (as := [va_rf r259]) (rest := []) dX2_init_2_136 ht (q := (RJ5, TJ5, 1)) rfl (c_J5_add (by decide) r270 r259 h260) rfl rfl q2256 q2257 q2258 rfl (by decide) (zkI (fun x271 h272 => ?_)) zxo
          refine s_ist (pc := 139) (L2 := [(0, va_rf a0), (1, va_rf a1), (2, va_rf a2)]) [1, 2, 3] dX2_init_2_139 (by decide) rfl rfl (zcA rfl) ?_
          refine s_goto (pc := 141) (tgt := 112) dX2_init_2_141 (by decide) ?_
          exact s_sub (pc := 112) [1, 2, 3] rfl (ih a0 a1 a2 h272)
        refine zS_ite (fun ht => ?_) (fun _ => zS_none)
        refine s_callF (pc := 122) (np := 0) (as := []) (rest := []) dX2_init_2_122 ht (q := (RJ22, TJ22, 5)) rfl (c_J22_next (by decide) a2 h258) ⟨_, _, _, q832⟩ rfl rfl q670 (by decide +kernel) q830 q828 rfl (by decide) (zkR (fun r259 h260 => ?_)) zxo
        refine s_cast (pc := 127) dX2_init_2_127 q1525 zcs_FloatingDock_Metre ?_
        refine s_ast_n (pc := 130) (L2 := [(0, va_rf a0), (1, va_rf a1), (2, va_rf a2)]) [0, 1, 2] dX2_init_2_130 rfl (by decide) rfl rfl (zcB (j := 2) rfl (zcat_rf a2) rfl) ?_
        refine s_aload_n (pc := 131) 1 dX2_init_2_131 rfl rfl ?_
        refine s_gR (pc := 132) dX2_init_2_132 gf_X2_21 (fun r273 => ?_)
        refine s_aload_n (pc := 135) 0 dX2_init_2_135 rfl rfl ?_
        refine zS_ite (fun ht => ?_) (fun _ => zS_none)
        refine s_callV (pc := 136) (np := 1) (as := [va_rf r259]) (rest := []) dX2_init_2_136 ht (q := (RJ5, TJ5, 1)) rfl (c_J5_add (by decide) r273 r259 h260) rfl rfl q2256 q2257 q2258 rfl (by decide) (zkI (fun x274 h275 => ?_)) zxo
        refine s_ist (pc := 139) (L2 := [(0, va_rf a0), (1, va_rf a1), (2, va_rf a2)]) [1, 2, 3] dX2_init_2_139 (by decide) rfl rfl (zcA rfl) ?_
        refine s_goto (pc := 141) (tgt := 112) dX2_init_2_141 (by decide) ?_
        exact s_sub (pc := 112) [1, 2, 3] rfl (ih a0 a1 a2 h275)
    refine zS_ite (fun ht => ?_) (fun _ => ?_)
    · refine s_callF (pc := 113) (np := 0) (as := []) (rest := []) dX2_init_2_113 ht (q := (RJ15, TJ15, 4)) rfl (c_J15_hasNext (by decide) a2 h) ⟨_, _, _, q653⟩ rfl rfl q629 (by decide +kernel) q651 q649 rfl (by decide) (zkI (fun x257 h258 => ?_)) zxo
      refine s_if_eq (pc := 118) (tgt := 144) dX2_init_2_118 (by decide) (fun _ => ?_) (fun _ => ?_)
      · exact s_sub (pc := 144) [0, 1] rfl (w_X2_init_2_144 a0 a1 h258)
      · refine s_aload_n (pc := 121) 2 dX2_init_2_121 rfl rfl ?_
        refine zS_ite (fun ht => ?_) (fun _ => ?_)
        · refine s_callF (pc := 122) (np := 0) (as := []) (rest := []) dX2_init_2_122 ht (q := (RX9, TX9, 2)) rfl (c_X9_next (by decide) a2 h258) ⟨_, _, _, q677⟩ rfl rfl q670 (by decide +kernel) q675 q673 rfl (by decide) (zkR (fun r276 h277 => ?_)) zxo
          refine s_cast (pc := 127) dX2_init_2_127 q1525 zcs_FloatingDock_Metre ?_
          refine s_ast_n (pc := 130) (L2 := [(0, va_rf a0), (1, va_rf a1), (2, va_rf a2)]) [0, 1, 2] dX2_init_2_130 rfl (by decide) rfl rfl (zcB (j := 2) rfl (zcat_rf a2) rfl) ?_
          refine s_aload_n (pc := 131) 1 dX2_init_2_131 rfl rfl ?_
          refine s_gR (pc := 132) dX2_init_2_132 gf_X2_21 (fun r278 => ?_)
          refine s_aload_n (pc := 135) 0 dX2_init_2_135 rfl rfl ?_
          refine zS_ite (fun ht => ?_) (fun _ => zS_none)
          refine s_callV (pc := 136) (np := 1) (as := [va_rf r276]) (rest := []) dX2_init_2_136 ht (q := (RJ5, TJ5, 1)) rfl (c_J5_add (by decide) r278 r276 h277) rfl rfl q2256 q2257 q2258 rfl (by decide) (zkI (fun x279 h280 => ?_)) zxo
          refine s_ist (pc := 139) (L2 := [(0, va_rf a0), (1, va_rf a1), (2, va_rf a2)]) [1, 2, 3] dX2_init_2_139 (by decide) rfl rfl (zcA rfl) ?_
          refine s_goto (pc := 141) (tgt := 112) dX2_init_2_141 (by decide) ?_
          exact s_sub (pc := 112) [1, 2, 3] rfl (ih a0 a1 a2 h280)
        refine zS_ite (fun ht => ?_) (fun _ => ?_)
        · refine s_callF (pc := 122) (np := 0) (as := []) (rest := []) dX2_init_2_122 ht (q := (RJ15, TJ15, 4)) rfl (c_J15_next (by decide) a2 h258) ⟨_, _, _, q788⟩ rfl rfl q670 (by decide +kernel) q786 q784 rfl (by decide) (zkR (fun r276 h277 => ?_)) zxo
          refine s_cast (pc := 127) dX2_init_2_127 q1525 zcs_FloatingDock_Metre ?_
          refine s_ast_n (pc := 130) (L2 := [(0, va_rf a0), (1, va_rf a1), (2, va_rf a2)]) [0, 1, 2] dX2_init_2_130 rfl (by decide) rfl rfl (zcB (j := 2) rfl (zcat_rf a2) rfl) ?_
          refine s_aload_n (pc := 131) 1 dX2_init_2_131 rfl rfl ?_
          refine s_gR (pc := 132) dX2_init_2_132 gf_X2_21 (fun r281 => ?_)
          refine s_aload_n (pc := 135) 0 dX2_init_2_135 rfl rfl ?_
          refine zS_ite (fun ht => ?_) (fun _ => zS_none)
          refine s_callV (pc := 136) (np := 1) (as := [va_rf r276]) (rest := []) dX2_init_2_136 ht (q := (RJ5, TJ5, 1)) rfl (c_J5_add (by decide) r281 r276 h277) rfl rfl q2256 q2257 q2258 rfl (by decide) (zkI (fun x282 h283 => ?_)) zxo
          refine s_ist (pc := 139) (L2 := [(0, va_rf a0), (1, va_rf a1), (2, va_rf a2)]) [1, 2, 3] dX2_init_2_139 (by decide) rfl rfl (zcA rfl) ?_
          refine s_goto (pc := 141) (tgt := 112) dX2_init_2_141 (by decide) ?_
          exact s_sub (pc := 112) [1, 2, 3] rfl (ih a0 a1 a2 h283)
        refine zS_ite (fun ht => ?_) (fun _ => ?_)
        · refine s_callF (pc := 122) (np := 0) (as := []) (rest := []) dX2_init_2_122 ht (q := (RJ17, TJ17, 5)) rfl (c_J17_next (by decide) a2 h258) ⟨_, _, _, q799⟩ rfl rfl q670 (by decide +kernel) q797 q795 rfl (by decide) (zkR (fun r276 h277 => ?_)) zxo
          refine s_cast (pc := 127) dX2_init_2_127 q1525 zcs_FloatingDock_Metre ?_
          refine s_ast_n (pc := 130) (L2 := [(0, va_rf a0), (1, va_rf a1), (2, va_rf a2)]) [0, 1, 2] dX2_init_2_130 rfl (by decide) rfl rfl (zcB (j := 2) rfl (zcat_rf a2) rfl) ?_
          refine s_aload_n (pc := 131) 1 dX2_init_2_131 rfl rfl ?_
          refine s_gR (pc := 132) dX2_init_2_132 gf_X2_21 (fun r284 => ?_)
          refine s_aload_n (pc := 135) 0 dX2_init_2_135 rfl rfl ?_
          refine zS_ite (fun ht => ?_) (fun _ => zS_none)
          refine s_callV (pc := 136) (np := 1) (as := [va_rf r276]) (rest := []) dX2_init_2_136 ht (q := (RJ5, TJ5, 1)) rfl (c_J5_add (by decide) r284 r276 h277) rfl rfl q2256 q2257 q2258 rfl (by decide) (zkI (fun x285 h286 => ?_)) zxo
          refine s_ist (pc := 139) (L2 := [(0, va_rf a0), (1, va_rf a1), (2, va_rf a2)]) [1, 2, 3] dX2_init_2_139 (by decide) rfl rfl (zcA rfl) ?_
          refine s_goto (pc := 141) (tgt := 112) dX2_init_2_141 (by decide) ?_
          exact s_sub (pc := 112) [1, 2, 3] rfl (ih a0 a1 a2 h286)
        refine zS_ite (fun ht => ?_) (fun _ => ?_)
        · refine s_callF (pc := 122) (np := 0) (as := []) (rest := []) dX2_init_2_122 ht (q := (RJ21, TJ21, 5)) rfl (c_J21_next (by decide) a2 h258) ⟨_, _, _, q812⟩ rfl rfl q670 (by decide +kernel) q810 q808 rfl (by decide) (zkR (fun r276 h277 => ?_)) zxo
          refine s_cast (pc := 127) dX2_init_2_127 q1525 zcs_FloatingDock_Metre ?_
          refine s_ast_n (pc := 130) (L2 := [(0, va_rf a0), (1, va_rf a1), (2, va_rf a2)]) [0, 1, 2] dX2_init_2_130 rfl (by decide) rfl rfl (zcB (j := 2) rfl (zcat_rf a2) rfl) ?_
          refine s_aload_n (pc := 131) 1 dX2_init_2_131 rfl rfl ?_
          refine s_gR (pc := 132) dX2_init_2_132 gf_X2_21 (fun r287 => ?_)
          refine s_aload_n (pc := 135) 0 dX2_init_2_135 rfl rfl ?_
          refine zS_ite (fun ht => ?_) (fun _ => zS_none)
          refine s_callV (pc := 136) (np := 1) (as := [va_rf r276]) (rest := []) dX2_init_2_136 ht (q := (RJ5, TJ5, 1)) rfl (c_J5_add (by decide) r287 r276 h277) rfl rfl q2256 q2257 q2258 rfl (by decide) (zkI (fun x288 h289 => ?_)) zxo
          refine s_ist (pc := 139) (L2 := [(0, va_rf a0), (1, va_rf a1), (2, va_rf a2)]) [1, 2, 3] dX2_init_2_139 (by decide) rfl rfl (zcA rfl) ?_
          refine s_goto (pc := 141) (tgt := 112) dX2_init_2_141 (by decide) ?_
          exact s_sub (pc := 112) [1, 2, 3] rfl (ih a0 a1 a2 h289)
        refine zS_ite (fun ht => ?_) (fun _ => zS_none)
        refine s_callF (pc := 122) (np := 0) (as := []) (rest := []) dX2_init_2_122 ht (q := (RJ22, TJ22, 5)) rfl (c_J22_next (by decide) a2 h258) ⟨_, _, _, q832⟩ rfl rfl q670 (by decide +kernel) q830 q828 rfl (by decide) (zkR (fun r276 h277 => ?_)) zxo
        refine s_cast (pc := 127) dX2_init_2_127 q1525 zcs_FloatingDock_Metre ?_
        refine s_ast_n (pc := 130) (L2 := [(0, va_rf a0), (1, va_rf a1), (2, va_rf a2)]) [0, 1, 2] dX2_init_2_130 rfl (by decide) rfl rfl (zcB (j := 2) rfl (zcat_rf a2) rfl) ?_
        refine s_aload_n (pc := 131) 1 dX2_init_2_131 rfl rfl ?_
        refine s_gR (pc := 132) dX2_init_2_132 gf_X2_21 (fun r290 => ?_)
        refine s_aload_n (pc := 135) 0 dX2_init_2_135 rfl rfl ?_
        refine zS_ite (fun ht => ?_) (fun _ => zS_none)
        refine s_callV (pc := 136) (np := 1) (as := [va_rf r276]) (rest := []) dX2_init_2_136 ht (q := (RJ5, TJ5, 1)) rfl (c_J5_add (by decide) r290 r276 h277) rfl rfl q2256 q2257 q2258 rfl (by decide) (zkI (fun x291 h292 => ?_)) zxo
        refine s_ist (pc := 139) (L2 := [(0, va_rf a0), (1, va_rf a1), (2, va_rf a2)]) [1, 2, 3] dX2_init_2_139 (by decide) rfl rfl (zcA rfl) ?_
        refine s_goto (pc := 141) (tgt := 112) dX2_init_2_141 (by decide) ?_
        exact s_sub (pc := 112) [1, 2, 3] rfl (ih a0 a1 a2 h292)
    refine zS_ite (fun ht => ?_) (fun _ => ?_)
    · refine s_callF (pc := 113) (np := 0) (as := []) (rest := []) dX2_init_2_113 ht (q := (RJ17, TJ17, 5)) rfl (c_J16_hasNext (by decide) a2 h) ⟨_, _, _, q659⟩ rfl rfl q629 (by decide +kernel) q657 q655 rfl (by decide) (zkI (fun x257 h258 => ?_)) zxo
      refine s_if_eq (pc := 118) (tgt := 144) dX2_init_2_118 (by decide) (fun _ => ?_) (fun _ => ?_)
      · exact s_sub (pc := 144) [0, 1] rfl (w_X2_init_2_144 a0 a1 h258)
      · refine s_aload_n (pc := 121) 2 dX2_init_2_121 rfl rfl ?_
        refine zS_ite (fun ht => ?_) (fun _ => ?_)
        · refine s_callF (pc := 122) (np := 0) (as := []) (rest := []) dX2_init_2_122 ht (q := (RX9, TX9, 2)) rfl (c_X9_next (by decide) a2 h258) ⟨_, _, _, q677⟩ rfl rfl q670 (by decide +kernel) q675 q673 rfl (by decide) (zkR (fun r293 h294 => ?_)) zxo
          refine s_cast (pc := 127) dX2_init_2_127 q1525 zcs_FloatingDock_Metre ?_
          refine s_ast_n (pc := 130) (L2 := [(0, va_rf a0), (1, va_rf a1), (2, va_rf a2)]) [0, 1, 2] dX2_init_2_130 rfl (by decide) rfl rfl (zcB (j := 2) rfl (zcat_rf a2) rfl) ?_
          refine s_aload_n (pc := 131) 1 dX2_init_2_131 rfl rfl ?_
          refine s_gR (pc := 132) dX2_init_2_132 gf_X2_21 (fun r295 => ?_)
          refine s_aload_n (pc := 135) 0 dX2_init_2_135 rfl rfl ?_
          refine zS_ite (fun ht => ?_) (fun _ => zS_none)
          refine s_callV (pc := 136) (np := 1) (as := [va_rf r293]) (rest := []) dX2_init_2_136 ht (q := (RJ5, TJ5, 1)) rfl (c_J5_add (by decide) r295 r293 h294) rfl rfl q2256 q2257 q2258 rfl (by decide) (zkI (fun x296 h297 => ?_)) zxo
          refine s_ist (pc := 139) (L2 := [(0, va_rf a0), (1, va_rf a1), (2, va_rf a2)]) [1, 2, 3] dX2_init_2_139 (by decide) rfl rfl (zcA rfl) ?_
          refine s_goto (pc := 141) (tgt := 112) dX2_init_2_141 (by decide) ?_
          exact s_sub (pc := 112) [1, 2, 3] rfl (ih a0 a1 a2 h297)
        refine zS_ite (fun ht => ?_) (fun _ => ?_)
        · refine s_callF (pc := 122) (np := 0) (as := []) (rest := []) dX2_init_2_122 ht (q := (RJ15, TJ15, 4)) rfl (c_J15_next (by decide) a2 h258) ⟨_, _, _, q788⟩ rfl rfl q670 (by decide +kernel) q786 q784 rfl (by decide) (zkR (fun r293 h294 => ?_)) zxo
          refine s_cast (pc := 127) dX2_init_2_127 q1525 zcs_FloatingDock_Metre ?_
          refine s_ast_n (pc := 130) (L2 := [(0, va_rf a0), (1, va_rf a1), (2, va_rf a2)]) [0, 1, 2] dX2_init_2_130 rfl (by decide) rfl rfl (zcB (j := 2) rfl (zcat_rf a2) rfl) ?_
          refine s_aload_n (pc := 131) 1 dX2_init_2_131 rfl rfl ?_
          refine s_gR (pc := 132) dX2_init_2_132 gf_X2_21 (fun r298 => ?_)
          refine s_aload_n (pc := 135) 0 dX2_init_2_135 rfl rfl ?_
          refine zS_ite (fun ht => ?_) (fun _ => zS_none)
          refine s_callV (pc := 136) (np := 1) (as := [va_rf r293]) (rest := []) dX2_init_2_136 ht (q := (RJ5, TJ5, 1)) rfl (c_J5_add (by decide) r298 r293 h294) rfl rfl q2256 q2257 q2258 rfl (by decide) (zkI (fun x299 h300 => ?_)) zxo
          refine s_ist (pc := 139) (L2 := [(0, va_rf a0), (1, va_rf a1), (2, va_rf a2)]) [1, 2, 3] dX2_init_2_139 (by decide) rfl rfl (zcA rfl) ?_
          refine s_goto (pc := 141) (tgt := 112) dX2_init_2_141 (by decide) ?_
          exact s_sub (pc := 112) [1, 2, 3] rfl (ih a0 a1 a2 h300)
        refine zS_ite (fun ht => ?_) (fun _ => ?_)
        · refine s_callF (pc := 122) (np := 0) (as := []) (rest := []) dX2_init_2_122 ht (q := (RJ17, TJ17, 5)) rfl (c_J17_next (by decide) a2 h258) ⟨_, _, _, q799⟩ rfl rfl q670 (by decide +kernel) q797 q795 rfl (by decide) (zkR (fun r293 h294 => ?_)) zxo
          refine s_cast (pc := 127) dX2_init_2_127 q1525 zcs_FloatingDock_Metre ?_
          refine s_ast_n (pc := 130) (L2 := [(0, va_rf a0), (1, va_rf a1), (2, va_rf a2)]) [0, 1, 2] dX2_init_2_130 rfl (by decide) rfl rfl (zcB (j := 2) rfl (zcat_rf a2) rfl) ?_
          refine s_aload_n (pc := 131) 1 dX2_init_2_131 rfl rfl ?_
          refine s_gR (pc := 132) dX2_init_2_132 gf_X2_21 (fun r301 => ?_)
          refine s_aload_n (pc := 135) 0 dX2_init_2_135 rfl rfl ?_
          refine zS_ite (fun ht => ?_) (fun _ => zS_none)
          refine s_callV (pc := 136) (np := 1) (as := [va_rf r293]) (rest := []) dX2_init_2_136 ht (q := (RJ5, TJ5, 1)) rfl (c_J5_add (by decide) r301 r293 h294) rfl rfl q2256 q2257 q2258 rfl (by decide) (zkI (fun x302 h303 => ?_)) zxo
          refine s_ist (pc := 139) (L2 := [(0, va_rf a0), (1, va_rf a1), (2, va_rf a2)]) [1, 2, 3] dX2_init_2_139 (by decide) rfl rfl (zcA rfl) ?_
          refine s_goto (pc := 141) (tgt := 112) dX2_init_2_141 (by decide) ?_
          exact s_sub (pc := 112) [1, 2, 3] rfl (ih a0 a1 a2 h303)
        refine zS_ite (fun ht => ?_) (fun _ => ?_)
        · refine s_callF (pc := 122) (np := 0) (as := []) (rest := []) dX2_init_2_122 ht (q := (RJ21, TJ21, 5)) rfl (c_J21_next (by decide) a2 h258) ⟨_, _, _, q812⟩ rfl rfl q670 (by decide +kernel) q810 q808 rfl (by decide) (zkR (fun r293 h294 => ?_)) zxo
          refine s_cast (pc := 127) dX2_init_2_127 q1525 zcs_FloatingDock_Metre ?_
          refine s_ast_n (pc := 130) (L2 := [(0, va_rf a0), (1, va_rf a1), (2, va_rf a2)]) [0, 1, 2] dX2_init_2_130 rfl (by decide) rfl rfl (zcB (j := 2) rfl (zcat_rf a2) rfl) ?_
          refine s_aload_n (pc := 131) 1 dX2_init_2_131 rfl rfl ?_
          refine s_gR (pc := 132) dX2_init_2_132 gf_X2_21 (fun r304 => ?_)
          refine s_aload_n (pc := 135) 0 dX2_init_2_135 rfl rfl ?_
          refine zS_ite (fun ht => ?_) (fun _ => zS_none)
          refine s_callV (pc := 136) (np := 1) (as := [va_rf r293]) (rest := []) dX2_init_2_136 ht (q := (RJ5, TJ5, 1)) rfl (c_J5_add (by decide) r304 r293 h294) rfl rfl q2256 q2257 q2258 rfl (by decide) (zkI (fun x305 h306 => ?_)) zxo
          refine s_ist (pc := 139) (L2 := [(0, va_rf a0), (1, va_rf a1), (2, va_rf a2)]) [1, 2, 3] dX2_init_2_139 (by decide) rfl rfl (zcA rfl) ?_
          refine s_goto (pc := 141) (tgt := 112) dX2_init_2_141 (by decide) ?_
          exact s_sub (pc := 112) [1, 2, 3] rfl (ih a0 a1 a2 h306)
        refine zS_ite (fun ht => ?_) (fun _ => zS_none)
        refine s_callF (pc := 122) (np := 0) (as := []) (rest := []) dX2_init_2_122 ht (q := (RJ22, TJ22, 5)) rfl (c_J22_next (by decide) a2 h258) ⟨_, _, _, q832⟩ rfl rfl q670 (by decide +kernel) q830 q828 rfl (by decide) (zkR (fun r293 h294 => ?_)) zxo
        refine s_cast (pc := 127) dX2_init_2_127 q1525 zcs_FloatingDock_Metre ?_
        refine s_ast_n (pc := 130) (L2 := [(0, va_rf a0), (1, va_rf a1), (2, va_rf a2)]) [0, 1, 2] dX2_init_2_130 rfl (by decide) rfl rfl (zcB (j := 2) rfl (zcat_rf a2) rfl) ?_
        refine s_aload_n (pc := 131) 1 dX2_init_2_131 rfl rfl ?_
        refine s_gR (pc := 132) dX2_init_2_132 gf_X2_21 (fun r307 => ?_)
        refine s_aload_n (pc := 135) 0 dX2_init_2_135 rfl rfl ?_
        refine zS_ite (fun ht => ?_) (fun _ => zS_none)
        refine s_callV (pc := 136) (np := 1) (as := [va_rf r293]) (rest := []) dX2_init_2_136 ht (q := (RJ5, TJ5, 1)) rfl (c_J5_add (by decide) r307 r293 h294) rfl rfl q2256 q2257 q2258 rfl (by decide) (zkI (fun x308 h309 => ?_)) zxo
        refine s_ist (pc := 139) (L2 := [(0, va_rf a0), (1, va_rf a1), (2, va_rf a2)]) [1, 2, 3] dX2_init_2_139 (by decide) rfl rfl (zcA rfl) ?_
        refine s_goto (pc := 141) (tgt := 112) dX2_init_2_141 (by decide) ?_
        exact s_sub (pc := 112) [1, 2, 3] rfl (ih a0 a1 a2 h309)
    refine zS_ite (fun ht => ?_) (fun _ => ?_)
    · refine s_callF (pc := 113) (np := 0) (as := []) (rest := []) dX2_init_2_113 ht (q := (RJ21, TJ21, 5)) rfl (c_J20_hasNext (by decide) a2 h) ⟨_, _, _, q665⟩ rfl rfl q629 (by decide +kernel) q663 q661 rfl (by decide) (zkI (fun x257 h258 => ?_)) zxo
      refine s_if_eq (pc := 118) (tgt := 144) dX2_init_2_118 (by decide) (fun _ => ?_) (fun _ => ?_)
      · exact s_sub (pc := 144) [0, 1] rfl (w_X2_init_2_144 a0 a1 h258)
      · refine s_aload_n (pc := 121) 2 dX2_init_2_121 rfl rfl ?_
        refine zS_ite (fun ht => ?_) (fun _ => ?_)
        · refine s_callF (pc := 122) (np := 0) (as := []) (rest := []) dX2_init_2_122 ht (q := (RX9, TX9, 2)) rfl (c_X9_next (by decide) a2 h258) ⟨_, _, _, q677⟩ rfl rfl q670 (by decide +kernel) q675 q673 rfl (by decide) (zkR (fun r310 h311 => ?_)) zxo
          refine s_cast (pc := 127) dX2_init_2_127 q1525 zcs_FloatingDock_Metre ?_
          refine s_ast_n (pc := 130) (L2 := [(0, va_rf a0), (1, va_rf a1), (2, va_rf a2)]) [0, 1, 2] dX2_init_2_130 rfl (by decide) rfl rfl (zcB (j := 2) rfl (zcat_rf a2) rfl) ?_
          refine s_aload_n (pc := 131) 1 dX2_init_2_131 rfl rfl ?_
          refine s_gR (pc := 132) dX2_init_2_132 gf_X2_21 (fun r312 => ?_)
          refine s_aload_n (pc := 135) 0 dX2_init_2_135 rfl rfl ?_
          refine zS_ite (fun ht => ?_) (fun _ => zS_none)
          refine s_callV (pc := 136) (np := 1) (as := [va_rf r310]) (rest := []) dX2_init_2_136 ht (q := (RJ5, TJ5, 1)) rfl (c_J5_add (by decide) r312 r310 h311) rfl rfl q2256 q2257 q2258 rfl (by decide) (zkI (fun x313 h314 => ?_)) zxo
          refine s_ist (pc := 139) (L2 := [(0, va_rf a0), (1, va_rf a1), (2, va_rf a2)]) [1, 2, 3] dX2_init_2_139 (by decide) rfl rfl (zcA rfl) ?_
          refine s_goto (pc := 141) (tgt := 112) dX2_init_2_141 (by decide) ?_
          exact s_sub (pc := 112) [1, 2, 3] rfl (ih a0 a1 a2 h314)
        refine zS_ite (fun ht => ?_) (fun _ => ?_)
        · refine s_callF (pc := 122) (np := 0) (as := []) (rest := []) dX2_init_2_122 ht (q := (RJ15, TJ15, 4)) rfl (c_J15_next (by decide) a2 h258) ⟨_, _, _, q788⟩ rfl rfl q670 (by decide +kernel) q786 q784 rfl (by decide) (zkR (fun r310 h311 => ?_)) zxo
          refine s_cast (pc := 127) dX2_init_2_127 q1525 zcs_FloatingDock_Metre ?_
          refine s_ast_n (pc := 130) (L2 := [(0, va_rf a0), (1, va_rf a1), (2, va_rf a2)]) [0, 1, 2] dX2_init_2_130 rfl (by decide) rfl rfl (zcB (j := 2) rfl (zcat_rf a2) rfl) ?_
          refine s_aload_n (pc := 131) 1 dX2_init_2_131 rfl rfl ?_
          refine s_gR (pc := 132) dX2_init_2_132 gf_X2_21 (fun r315 => ?_)
          refine s_aload_n (pc := 135) 0 dX2_init_2_135 rfl rfl ?_
          refine zS_ite (fun ht => ?_) (fun _ => zS_none)
          refine s_callV (pc := 136) (np := 1) (as := [va_rf r310]) (rest := []) dX2_init_2_136 ht (q := (RJ5, TJ5, 1)) rfl (c_J5_add (by decide) r315 r310 h311) rfl rfl q2256 q2257 q2258 rfl (by decide) (zkI (fun x316 h317 => ?_)) zxo
          refine s_ist (pc := 139) (L2 := [(0, va_rf a0), (1, va_rf a1), (2, va_rf a2)]) [1, 2, 3] dX2_init_2_139 (by decide) rfl rfl (zcA rfl) ?_
          refine s_goto (pc := 141) (tgt := 112) dX2_init_2_141 (by decide) ?_
          exact s_sub (pc := 112) [1, 2, 3] rfl (ih a0 a1 a2 h317)
        refine zS_ite (fun ht => ?_) (fun _ => ?_)
        · refine s_callF (pc := 122) (np := 0) (as := []) (rest := []) dX2_init_2_122 ht (q := (RJ17, TJ17, 5)) rfl (c_J17_next (by decide) a2 h258) ⟨_, _, _, q799⟩ rfl rfl q670 (by decide +kernel) q797 q795 rfl (by decide) (zkR (fun r310 h311 => ?_)) zxo
          refine s_cast (pc := 127) dX2_init_2_127 q1525 zcs_FloatingDock_Metre ?_
          refine s_ast_n (pc := 130) (L2 := [(0, va_rf a0), (1, va_rf a1), (2, va_rf a2)]) [0, 1, 2] dX2_init_2_130 rfl (by decide) rfl rfl (zcB (j := 2) rfl (zcat_rf a2) rfl) ?_
          refine s_aload_n (pc := 131) 1 dX2_init_2_131 rfl rfl ?_
          refine s_gR (pc := 132) dX2_init_2_132 gf_X2_21 (fun r318 => ?_)
          refine s_aload_n (pc := 135) 0 dX2_init_2_135 rfl rfl ?_
          refine zS_ite (fun ht => ?_) (fun _ => zS_none)
          refine s_callV (pc := 136) (np := 1) (as := [va_rf r310]) (rest := []) dX2_init_2_136 ht (q := (RJ5, TJ5, 1)) rfl (c_J5_add (by decide) r318 r310 h311) rfl rfl q2256 q2257 q2258 rfl (by decide) (zkI (fun x319 h320 => ?_)) zxo
          refine s_ist (pc := 139) (L2 := [(0, va_rf a0), (1, va_rf a1), (2, va_rf a2)]) [1, 2, 3] dX2_init_2_139 (by decide) rfl rfl (zcA rfl) ?_
          refine s_goto (pc := 141) (tgt := 112) dX2_init_2_141 (by decide) ?_
          exact s_sub (pc := 112) [1, 2, 3] rfl (ih a0 a1 a2 h320)
        refine zS_ite (fun ht => ?_) (fun _ => ?_)
        · refine s_callF (pc := 122) (np := 0) (as := []) (rest := []) dX2_init_2_122 ht (q := (RJ21, TJ21, 5)) rfl (c_J21_next (by decide) a2 h258) ⟨_, _, _, q812⟩ rfl rfl q670 (by decide +kernel) q810 q808 rfl (by decide) (zkR (fun r310 h311 => ?_)) zxo
          refine s_cast (pc := 127) dX2_init_2_127 q1525 zcs_FloatingDock_Metre ?_
          refine s_ast_n (pc := 130) (L2 := [(0, va_rf a0), (1, va_rf a1), (2, va_rf a2)]) [0, 1, 2] dX2_init_2_130 rfl (by decide) rfl rfl (zcB (j := 2) rfl (zcat_rf a2) rfl) ?_
          refine s_aload_n (pc := 131) 1 dX2_init_2_131 rfl rfl ?_
          refine s_gR (pc := 132) dX2_init_2_132 gf_X2_21 (fun r321 => ?_)
          refine s_aload_n (pc := 135) 0 dX2_init_2_135 rfl rfl ?_
          refine zS_ite (fun ht => ?_) (fun _ => zS_none)
          refine s_callV (pc := 136) (np := 1) (as := [va_rf r310]) (rest := []) dX2_init_2_136 ht (q := (RJ5, TJ5, 1)) rfl (c_J5_add (by decide) r321 r310 h311) rfl rfl q2256 q2257 q2258 rfl (by decide) (zkI (fun x322 h323 => ?_)) zxo
          refine s_ist (pc := 139) (L2 := [(0, va_rf a0), (1, va_rf a1), (2, va_rf a2)]) [1, 2, 3] dX2_init_2_139 (by decide) rfl rfl (zcA rfl) ?_
          refine s_goto (pc := 141) (tgt := 112) dX2_init_2_141 (by decide) ?_
          exact s_sub (pc := 112) [1, 2, 3] rfl (ih a0 a1 a2 h323)
        refine zS_ite (fun ht => ?_) (fun _ => zS_none)
        refine s_callF (pc := 122) (np := 0) (as := []) (rest := []) dX2_init_2_122 ht (q := (RJ22, TJ22, 5)) rfl (c_J22_next (by decide) a2 h258) ⟨_, _, _, q832⟩ rfl rfl q670 (by decide +kernel) q830 q828 rfl (by decide) (zkR (fun r310 h311 => ?_)) zxo
        refine s_cast (pc := 127) dX2_init_2_127 q1525 zcs_FloatingDock_Metre ?_
        refine s_ast_n (pc := 130) (L2 := [(0, va_rf a0), (1, va_rf a1), (2, va_rf a2)]) [0, 1, 2] dX2_init_2_130 rfl (by decide) rfl rfl (zcB (j := 2) rfl (zcat_rf a2) rfl) ?_
        refine s_aload_n (pc := 131) 1 dX2_init_2_131 rfl rfl ?_
        refine s_gR (pc := 132) dX2_init_2_132 gf_X2_21 (fun r324 => ?_)
        refine s_aload_n (pc := 135) 0 dX2_init_2_135 rfl rfl ?_
        refine zS_ite (fun ht => ?_) (fun _ => zS_none)
        refine s_callV (pc := 136) (np := 1) (as := [va_rf r310]) (rest := []) dX2_init_2_136 ht (q := (RJ5, TJ5, 1)) rfl (c_J5_add (by decide) r324 r310 h311) rfl rfl q2256 q2257 q2258 rfl (by decide) (zkI (fun x325 h326 => ?_)) zxo
        refine s_ist (pc := 139) (L2 := [(0, va_rf a0), (1, va_rf a1), (2, va_rf a2)]) [1, 2, 3] dX2_init_2_139 (by decide) rfl rfl (zcA rfl) ?_
        refine s_goto (pc := 141) (tgt := 112) dX2_init_2_141 (by decide) ?_
        exact s_sub (pc := 112) [1, 2, 3] rfl (ih a0 a1 a2 h326)
    refine zS_ite (fun ht => ?_) (fun _ => zS_none)
    refine s_callF (pc := 113) (np := 0) (as := []) (rest := []) dX2_init_2_113 ht (q := (RJ22, TJ22, 5)) rfl (c_J20_hasNext (by decide) a2 h) ⟨_, _, _, q665⟩ rfl rfl q629 (by decide +kernel) q663 q667 rfl (by decide) (zkI (fun x257 h258 => ?_)) zxo
    refine s_if_eq (pc := 118) (tgt := 144) dX2_init_2_118 (by decide) (fun _ => ?_) (fun _ => ?_)
    · exact s_sub (pc := 144) [0, 1] rfl (w_X2_init_2_144 a0 a1 h258)
    · refine s_aload_n (pc := 121) 2 dX2_init_2_121 rfl rfl ?_
      refine zS_ite (fun ht => ?_) (fun _ => ?_)
      · refine s_callF (pc := 122) (np := 0) (as := []) (rest := []) dX2_init_2_122 ht (q := (RX9, TX9, 2)) rfl (c_X9_next (by decide) a2 h258) ⟨_, _, _, q677⟩ rfl rfl q670 (by decide +kernel) q675 q673 rfl (by decide) (zkR (fun r327 h328 => ?_)) zxo
        refine s_cast (pc := 127) dX2_init_2_127 q1525 zcs_FloatingDock_Metre ?_
        refine s_ast_n (pc := 130) (L2 := [(0, va_rf a0), (1, va_rf a1), (2, va_rf a2)]) [0, 1, 2] dX2_init_2_130 rfl (by decide) rfl rfl (zcB (j := 2) rfl (zcat_rf a2) rfl) ?_
        refine s_aload_n (pc := 131) 1 dX2_init_2_131 rfl rfl ?_
        refine s_gR (pc := 132) dX2_init_2_132 gf_X2_21 (fun r329 => ?_)
        refine s_aload_n (pc := 135) 0 dX2_init_2_135 rfl rfl ?_
        refine zS_ite (fun ht => ?_) (fun _ => zS_none)
        refine s_callV (pc := 136) (np := 1) (as := [va_rf r327]) (rest := []) dX2_init_2_136 ht (q := (RJ5, TJ5, 1)) rfl (c_J5_add (by decide) r329 r327 h328) rfl rfl q2256 q2257 q2258 rfl (by decide) (zkI (fun x330 h331 => ?_)) zxo
        refine s_ist (pc := 139) (L2 := [(0, va_rf a0), (1, va_rf a1), (2, va_rf a2)]) [1, 2, 3] dX2_init_2_139 (by decide) rfl rfl (zcA rfl) ?_
        refine s_goto (pc := 141) (tgt := 112) dX2_init_2_141 (by decide) ?_
        exact s_sub (pc := 112) [1, 2, 3] rfl (ih a0 a1 a2 h331)
      refine zS_ite (fun ht => ?_) (fun _ => ?_)
      · refine s_callF (pc := 122) (np := 0) (as := []) (rest := []) dX2_init_2_122 ht (q := (RJ15, TJ15, 4)) rfl (c_J15_next (by decide) a2 h258) ⟨_, _, _, q788⟩ rfl rfl q670 (by decide +kernel) q786 q784 rfl (by decide) (zkR (fun r327 h328 => ?_)) zxo
        refine s_cast (pc := 127) dX2_init_2_127 q1525 zcs_FloatingDock_Metre ?_
        refine s_ast_n (pc := 130) (L2 := [(0, va_rf a0), (1, va_rf a1), (2, va_rf a2)]) [0, 1, 2] dX2_init_2_130 rfl (by decide) rfl rfl (zcB (j := 2) rfl (zcat_rf a2) rfl) ?_
        refine s_aload_n (pc := 131) 1 dX2_init_2_131 rfl rfl ?_
        refine s_gR (pc := 132) dX2_init_2_132 gf_X2_21 (fun r332 => ?_)
        refine s_aload_n (pc := 135) 0 dX2_init_2_135 rfl rfl ?_
        refine zS_ite (fun ht => ?_) (fun _ => zS_none)
        refine s_callV (pc := 136) (np := 1) (as := [va_rf r327]) (rest := []) dX2_init_2_136 ht (q := (RJ5, TJ5, 1)) rfl (c_J5_add (by decide) r332 r327 h328) rfl rfl q2256 q2257 q2258 rfl (by decide) (zkI (fun x333 h334 => ?_)) zxo
        refine s_ist (pc := 139) (L2 := [(0, va_rf a0), (1, va_rf a1), (2, va_rf a2)]) [1, 2, 3] dX2_init_2_139 (by decide) rfl rfl (zcA rfl) ?_
        refine s_goto (pc := 141) (tgt := 112) dX2_init_2_141 (by decide) ?_
        exact s_sub (pc := 112) [1, 2, 3] rfl (ih a0 a1 a2 h334)
      refine zS_ite (fun ht => ?_) (fun _ => ?_)
      · refine s_callF (pc := 122) (np := 0) (as := []) (rest := []) dX2_init_2_122 ht (q := (RJ17, TJ17, 5)) rfl (c_J17_next (by decide) a2 h258) ⟨_, _, _, q799⟩ rfl rfl q670 (by decide +kernel) q797 q795 rfl (by decide) (zkR (fun r327 h328 => ?_)) zxo
        refine s_cast (pc := 127) dX2_init_2_127 q1525 zcs_FloatingDock_Metre ?_
        refine s_ast_n (pc := 130) (L2 := [(0, va_rf a0), (1, va_rf a1), (2, va_rf a2)]) [0, 1, 2] dX2_init_2_130 rfl (by decide) rfl rfl (zcB (j := 2) rfl (zcat_rf a2) rfl) ?_
        refine s_aload_n (pc := 131) 1 dX2_init_2_131 rfl rfl ?_
        refine s_gR (pc := 132) dX2_init_2_132 gf_X2_21 (fun r335 => ?_)
        refine s_aload_n (pc := 135) 0 dX2_init_2_135 rfl rfl ?_
        refine zS_ite (fun ht => ?_) (fun _ => zS_none)
        refine s_callV (pc := 136) (np := 1) (as := [va_rf r327]) (rest := []) dX2_init_2_136 ht (q := (RJ5, TJ5, 1)) rfl (c_J5_add (by decide) r335 r327 h328) rfl rfl q2256 q2257 q2258 rfl (by decide) (zkI (fun x336 h337 => ?_)) zxo
        refine s_ist (pc := 139) (L2 := [(0, va_rf a0), (1, va_rf a1), (2, va_rf a2)]) [1, 2, 3] dX2_init_2_139 (by decide) rfl rfl (zcA rfl) ?_
        refine s_goto (pc := 141) (tgt := 112) dX2_init_2_141 (by decide) ?_
        exact s_sub (pc := 112) [1, 2, 3] rfl (ih a0 a1 a2 h337)
      refine zS_ite (fun ht => ?_) (fun _ => ?_)
      · refine s_callF (pc := 122) (np := 0) (as := []) (rest := []) dX2_init_2_122 ht (q := (RJ21, TJ21, 5)) rfl (c_J21_next (by decide) a2 h258) ⟨_, _, _, q812⟩ rfl rfl q670 (by decide +kernel) q810 q808 rfl (by decide) (zkR (fun r327 h328 => ?_)) zxo
        refine s_cast (pc := 127) dX2_init_2_127 q1525 zcs_FloatingDock_Metre ?_
        refine s_ast_n (pc := 130) (L2 := [(0, va_rf a0), (1, va_rf a1), (2, va_rf a2)]) [0, 1, 2] dX2_init_2_130 rfl (by decide) rfl rfl (zcB (j := 2) rfl (zcat_rf a2) rfl) ?_
        refine s_aload_n (pc := 131) 1 dX2_init_2_131 rfl rfl ?_
        refine s_gR (pc := 132) dX2_init_2_132 gf_X2_21 (fun r338 => ?_)
        refine s_aload_n (pc := 135) 0 dX2_init_2_135 rfl rfl ?_
        refine zS_ite (fun ht => ?_) (fun _ => zS_none)
        refine s_callV (pc := 136) (np := 1) (as := [va_rf r327]) (rest := []) dX2_init_2_136 ht (q := (RJ5, TJ5, 1)) rfl (c_J5_add (by decide) r338 r327 h328) rfl rfl q2256 q2257 q2258 rfl (by decide) (zkI (fun x339 h340 => ?_)) zxo
        refine s_ist (pc := 139) (L2 := [(0, va_rf a0), (1, va_rf a1), (2, va_rf a2)]) [1, 2, 3] dX2_init_2_139 (by decide) rfl rfl (zcA rfl) ?_
        refine s_goto (pc := 141) (tgt := 112) dX2_init_2_141 (by decide) ?_
        exact s_sub (pc := 112) [1, 2, 3] rfl (ih a0 a1 a2 h340)
      refine zS_ite (fun ht => ?_) (fun _ => zS_none)
      refine s_callF (pc := 122) (np := 0) (as := []) (rest := []) dX2_init_2_122 ht (q := (RJ22, TJ22, 5)) rfl (c_J22_next (by decide) a2 h258) ⟨_, _, _, q832⟩ rfl rfl q670 (by decide +kernel) q830 q828 rfl (by decide) (zkR (fun r327 h328 => ?_)) zxo
      refine s_cast (pc := 127) dX2_init_2_127 q1525 zcs_FloatingDock_Metre ?_
      refine s_ast_n (pc := 130) (L2 := [(0, va_rf a0), (1, va_rf a1), (2, va_rf a2)]) [0, 1, 2] dX2_init_2_130 rfl (by decide) rfl rfl (zcB (j := 2) rfl (zcat_rf a2) rfl) ?_
      refine s_aload_n (pc := 131) 1 dX2_init_2_131 rfl rfl ?_
      refine s_gR (pc := 132) dX2_init_2_132 gf_X2_21 (fun r341 => ?_)
      refine s_aload_n (pc := 135) 0 dX2_init_2_135 rfl rfl ?_
      refine zS_ite (fun ht => ?_) (fun _ => zS_none)
      refine s_callV (pc := 136) (np := 1) (as := [va_rf r327]) (rest := []) dX2_init_2_136 ht (q := (RJ5, TJ5, 1)) rfl (c_J5_add (by decide) r341 r327 h328) rfl rfl q2256 q2257 q2258 rfl (by decide) (zkI (fun x342 h343 => ?_)) zxo
      refine s_ist (pc := 139) (L2 := [(0, va_rf a0), (1, va_rf a1), (2, va_rf a2)]) [1, 2, 3] dX2_init_2_139 (by decide) rfl rfl (zcA rfl) ?_
      refine s_goto (pc := 141) (tgt := 112) dX2_init_2_141 (by decide) ?_
      exact s_sub (pc := 112) [1, 2, 3] rfl (ih a0 a1 a2 h343)
theorem w_X2_init_2_104 (a0 : Option Nat) (a1 : Option Nat) (h : zH) : zS D z yX2_init_2 cX2_init_2 5 none [] 10 h 104 [(0, va_rf a0), (1, va_rf a1)] [] (f_X2_init_2_104 a0 a1 h) := by
  unfold f_X2_init_2_104
  refine s_aload_n (pc := 104) 1 dX2_init_2_104 rfl rfl ?_
  refine s_gR (pc := 105) dX2_init_2_105 gf_X2_21 (fun r254 => ?_)
  refine zS_ite (fun ht => ?_) (fun _ => zS_none)
  refine s_callV (pc := 108) (np := 0) (as := []) (rest := []) dX2_init_2_108 ht (q := (RJ5, TJ5, 1)) rfl (c_J5_iterator (by decide) r254 h) rfl rfl q1950 q530 q3765 rfl (by decide) (zkR (fun r255 h256 => ?_)) zxo
  refine s_ast_n (pc := 111) (L2 := [(0, va_rf a0), (1, va_rf a1)]) [0, 1] dX2_init_2_111 rfl (by decide) rfl rfl (zcB (j := 1) rfl (zcat_rf a1) rfl) ?_
  exact s_sub (pc := 112) [1, 2, 0] rfl (w_X2_init_2_112 zfuel a0 a1 r255 h256)
theorem w_X2_init_2_55 : ∀ (n : Nat) (a0 : Option Nat) (a1 : Option Nat) (a2 : Option Nat) (h : zH), zS D z yX2_init_2 cX2_init_2 5 none [] 10 h 55 [(0, va_rf a0), (1, va_rf a1), (2, va_rf a2)] [] (f_X2_init_2_55 n a0 a1 a2 h) := by
  intro n
  induction n with
  | zero => intros; exact zS_none
  | succ n ih =>
    intro a0 a1 a2 h
    rw [f_X2_init_2_55.eq_2]
    refine s_aload_n (pc := 55) 2 dX2_init_2_55 rfl rfl ?_
    refine zS_ite (fun ht => ?_) (fun _ => ?_)
    · refine s_callF (pc := 56) (np := 0) (as := []) (rest := []) dX2_init_2_56 ht (q := (RX9, TX9, 2)) rfl (c_X9_hasNext (by decide) a2 h) ⟨_, _, _, q637⟩ rfl rfl q629 (by decide +kernel) q635 q633 rfl (by decide) (zkI (fun x17 h18 => ?_)) zxo
      refine s_if_eq (pc := 61) (tgt := 104) dX2_init_2_61 (by decide) (fun _ => ?_) (fun _ => ?_)
      · exact s_sub (pc := 104) [0, 1] rfl (w_X2_init_2_104 a0 a1 h18)
      · refine s_aload_n (pc := 64) 2 dX2_init_2_64 rfl rfl ?_
        refine zS_ite (fun ht => ?_) (fun _ => ?_)
        · refine s_callF (pc := 65) (np := 0) (as := []) (rest := []) dX2_init_2_65 ht (q := (RX9, TX9, 2)) rfl (c_X9_next (by decide) a2 h18) ⟨_, _, _, q677⟩ rfl rfl q670 (by decide +kernel) q675 q673 rfl (by decide) (zkR (fun r19 h20 => ?_)) zxo
          refine s_cast (pc := 70) dX2_init_2_70 q836 zcs_FloatingDock_Ship ?_
          refine s_ast_n (pc := 73) (L2 := [(0, va_rf a0), (1, va_rf a1), (2, va_rf a2)]) [0, 1, 2] dX2_init_2_73 rfl (by decide) rfl rfl (zcB (j := 2) rfl (zcat_rf a2) rfl) ?_
          refine s_aload_n (pc := 74) 1 dX2_init_2_74 rfl rfl ?_
          refine s_gR (pc := 75) dX2_init_2_75 gf_X2_12 (fun r21 => ?_)
          refine s_aload_n (pc := 78) 0 dX2_init_2_78 rfl rfl ?_
          refine s_gI (pc := 79) dX2_init_2_79 gf_X2_58 (fun x22 => ?_)
          refine s_callSS (pc := 82) (np := 1) (as := [.int x22]) (rest := [va_rf r21]) dX2_init_2_82 (c_J24_valueOf (by decide) x22 h20) rfl rfl q1995 q683 rfl (by simp [zcat_rf, zcat_i, zcat_l, zcat_f, zcat_d]) (zkR (fun r23 h24 => ?_)) zxo
          refine s_new (pc := 85) dX2_init_2_85 nf_X2_56 (fun r25 h26 => ?_)
          refine s_dup (pc := 88) dX2_init_2_88 (zcat_rf _) ?_
          refine s_aload_n (pc := 89) 0 dX2_init_2_89 rfl rfl ?_
          refine zS_ite (fun hr => ?_) (fun _ => zS_none)
          refine s_callC (pc := 90) (np := 1) (as := [va_rf r19]) (rest := [va_rf r25, va_rf r23, va_rf r21]) dX2_init_2_90 hr (c_X6_init (by decide) r25 r19 h26) ⟨_, _, q1999⟩ rfl rfl rfl q1997 q1998 rfl (by simp [zcat_rf, zcat_i, zcat_l, zcat_f, zcat_d]) (zkV (fun h27 => ?_)) zxo
          refine zS_ite (fun ht => ?_) (fun _ => zS_none)
          refine s_callVU (pc := 93) (np := 2) (as := [va_rf r23, va_rf r25]) (rest := []) (owner := "java/util/HashMap") dX2_init_2_93 ht (q := (RJ2, TJ2, 12)) rfl (c_J1_put (by decide) r21 r23 r25 h27) ⟨_, _, _, q2051⟩ rfl rfl q2046 q2047 (Or.inl ⟨_, _, _, q2050, q2051⟩) (by decide) q2050 q2049 rfl (by decide) (zkR (fun r28 h29 => ?_)) zxo
          refine s_cast (pc := 96) dX2_init_2_96 q836 zcs_FloatingDock_Ship ?_
          refine s_ast (pc := 99) (L2 := [(0, va_rf a0), (1, va_rf a1), (2, va_rf a2)]) [1, 2, 3] dX2_init_2_99 (by decide) rfl rfl (zcA rfl) ?_
          refine s_goto (pc := 101) (tgt := 55) dX2_init_2_101 (by decide) ?_
          exact s_sub (pc := 55) [1, 2, 3] rfl (ih a0 a1 a2 h29)
        refine zS_ite (fun ht => ?_) (fun _ => ?_)
        · refine s_callF (pc := 65) (np := 0) (as := []) (rest := []) dX2_init_2_65 ht (q := (RJ15, TJ15, 4)) rfl (c_J15_next (by decide) a2 h18) ⟨_, _, _, q788⟩ rfl rfl q670 (by decide +kernel) q786 q784 rfl (by decide) (zkR (fun r19 h20 => ?_)) zxo
          refine s_cast (pc := 70) dX2_init_2_70 q836 zcs_FloatingDock_Ship ?_
          refine s_ast_n (pc := 73) (L2 := [(0, va_rf a0), (1, va_rf a1), (2, va_rf a2)]) [0, 1, 2] dX2_init_2_73 rfl (by decide) rfl rfl (zcB (j := 2) rfl (zcat_rf a2) rfl) ?_
          refine s_aload_n (pc := 74) 1 dX2_init_2_74 rfl rfl ?_
          refine s_gR (pc := 75) dX2_init_2_75 gf_X2_12 (fun r30 => ?_)
          refine s_aload_n (pc := 78) 0 dX2_init_2_78 rfl rfl ?_
          refine s_gI (pc := 79) dX2_init_2_79 gf_X2_58 (fun x31 => ?_)
          refine s_callSS (pc := 82) (np := 1) (as := [.int x31]) (rest := [va_rf r30]) dX2_init_2_82 (c_J24_valueOf (by decide) x31 h20) rfl rfl q1995 q683 rfl (by simp [zcat_rf, zcat_i, zcat_l, zcat_f, zcat_d]) (zkR (fun r32 h33 => ?_)) zxo
          refine s_new (pc := 85) dX2_init_2_85 nf_X2_56 (fun r34 h35 => ?_)
          refine s_dup (pc := 88) dX2_init_2_88 (zcat_rf _) ?_
          refine s_aload_n (pc := 89) 0 dX2_init_2_89 rfl rfl ?_
          refine zS_ite (fun hr => ?_) (fun _ => zS_none)
          refine s_callC (pc := 90) (np := 1) (as := [va_rf r19]) (rest := [va_rf r34, va_rf r32, va_rf r30]) dX2_init_2_90 hr (c_X6_init (by decide) r34 r19 h35) ⟨_, _, q1999⟩ rfl rfl rfl q1997 q1998 rfl (by simp [zcat_rf, zcat_i, zcat_l, zcat_f, zcat_d]) (zkV (fun h36 => ?_)) zxo
          refine zS_ite (fun ht => ?_) (fun _ => zS_none)
          refine s_callVU (pc := 93) (np := 2) (as := [va_rf r32, va_rf r34]) (rest := []) (owner := "java/util/HashMap") dX2_init_2_93 ht (q := (RJ2, TJ2, 12)) rfl (c_J1_put (by decide) r30 r32 r34 h36) ⟨_, _, _, q2051⟩ rfl rfl q2046 q2047 (Or.inl ⟨_, _, _, q2050, q2051⟩) (by decide) q2050 q2049 rfl (by decide) (zkR (fun r37 h38 => ?_)) zxo
          refine s_cast (pc := 96) dX2_init_2_96 q836 zcs_FloatingDock_Ship ?_
          refine s_ast (pc := 99) (L2 := [(0, va_rf a0), (1, va_rf a1), (2, va_rf a2)]) [1, 2, 3] dX2_init_2_99 (by decide) rfl rfl (zcA rfl) ?_
          refine s_goto (pc := 101) (tgt := 55) dX2_init_2_101 (by decide) ?_
          exact s_sub (pc := 55) [1, 2, 3] rfl (ih a0 a1 a2 h38)
        refine zS_ite (fun ht => ?_) (fun _ => ?_)
        · refine s_callF (pc := 65) (np := 0) (as := []) (rest := []) dX2_init_2_65 ht (q := (RJ17, TJ17, 5)) rfl (c_J17_next (by decide) a2 h18) ⟨_, _, _, q799⟩ rfl rfl q670 (by decide +kernel) q797 q795 rfl (by decide) (zkR (fun r19 h20 => ?_)) zxo
          refine s_cast (pc := 70) dX2_init_2_70 q836 zcs_FloatingDock_Ship ?_
          refine s_ast_n (pc := 73) (L2 := [(0, va_rf a0), (1, va_rf a1), (2, va_rf a2)]) [0, 1, 2] dX2_init_2_73 rfl (by decide) rfl rfl (zcB (j := 2) rfl (zcat_rf a2) rfl) ?_
          refine s_aload_n (pc := 74) 1 dX2_init_2_74 rfl rfl ?_
          refine s_gR (pc := 75) dX2_init_2_75 gf_X2_12 (fun r39 => ?_)
          refine s_aload_n (pc := 78) 0 dX2_init_2_78 rfl rfl ?_
          refine s_gI (pc := 79) dX2_init_2_79 gf_X2_58 (fun x40 => ?_)
          refine s_callSS (pc := 82) (np := 1) (as := [.int x40]) (rest := [va_rf r39]) dX2_init_2_82 (c_J24_valueOf (by decide) x40 h20) rfl rfl q1995 q683 rfl (by simp [zcat_rf, zcat_i, zcat_l, zcat_f, zcat_d]) (zkR (fun r41 h42 => ?_)) zxo
          refine s_new (pc := 85) dX2_init_2_85 nf_X2_56 (fun r43 h44 => ?_)
          refine s_dup (pc := 88) dX2_init_2_88 (zcat_rf _) ?_
          refine s_aload_n (pc := 89) 0 dX2_init_2_89 rfl rfl ?_
          refine zS_ite (fun hr => ?_) (fun _ => zS_none)
          refine s_callC (pc := 90) (np := 1) (as := [va_rf r19]) (rest := [va_rf r43, va_rf r41, va_rf r39]) dX2_init_2_90 hr (c_X6_init (by decide) r43 r19 h44) ⟨_, _, q1999⟩ rfl rfl rfl q1997 q1998 rfl (by simp [zcat_rf, zcat_i, zcat_l, zcat_f, zcat_d]) (zkV (fun h45 => ?_)) zxo
          refine zS_ite (fun ht => ?_) (fun _ => zS_none)
          refine s_callVU (pc := 93) (np := 2) (as := [va_rf r41, va_rf r43]) (rest := []) (owner := "java/util/HashMap") dX2_init_2_93 ht (q := (RJ2, TJ2, 12)) rfl (c_J1_put (by decide) r39 r41 r43 h45) ⟨_, _, _, q2051⟩ rfl rfl q2046 q2047 (Or.inl ⟨_, _, _, q2050, q2051⟩) (by decide) q2050 q2049 rfl (by decide) (zkR (fun r46 h47 => ?_)) zxo
          refine s_cast (pc := 96) dX2_init_2_96 q836 zcs_FloatingDock_Ship ?_
          refine s_ast (pc := 99) (L2 := [(0, va_rf a0), (1, va_rf a1), (2, va_rf a2)]) [1, 2, 3] dX2_init_2_99 (by decide) rfl rfl (zcA rfl) ?_
          refine s_goto (pc := 101) (tgt := 55) dX2_init_2_101 (by decide) ?_
          exact s_sub (pc := 55) [1, 2, 3] rfl (ih a0 a1 a2 h47)
        refine zS_ite (fun ht => ?_) (fun _ => ?_)
        · refine s_callF (pc := 65) (np := 0) (as := []) (rest := []) dX2_init_2_65 ht (q := (RJ21, TJ21, 5)) rfl (c_J21_next (by decide) a2 h18) ⟨_, _, _, q812⟩ rfl rfl q670 (by decide +kernel) q810 q808 rfl (by decide) (zkR (fun r19 h20 => ?_)) zxo
          refine s_cast (pc := 70) dX2_init_2_70 q836 zcs_FloatingDock_Ship ?_
          refine s_ast_n (pc := 73) (L2 := [(0, va_rf a0), (1, va_rf a1), (2, va_rf a2)]) [0, 1, 2] dX2_init_2_73 rfl (by decide) rfl rfl (zcB (j := 2) rfl (zcat_rf a2) rfl) ?_
          refine s_aload_n (pc := 74) 1 dX2_init_2_74 rfl rfl ?_
          refine s_gR (pc := 75) dX2_init_2_75 gf_X2_12 (fun r48 => ?_)
          refine s_aload_n (pc := 78) 0 dX2_init_2_78 rfl rfl ?_
          refine s_gI (pc := 79) dX2_init_2_79 gf_X2_58 (fun x49 => ?_)
          refine s_callSS (pc := 82) (np := 1) (as := [.int x49]) (rest := [va_rf r48]) dX2_init_2_82 (c_J24_valueOf (by decide) x49 h20) rfl rfl q1995 q683 rfl (by simp [zcat_rf, zcat_i, zcat_l, zcat_f, zcat_d]) (zkR (fun r50 h51 => ?_)) zxo
          refine s_new (pc := 85) dX2_init_2_85 nf_X2_56 (fun r52 h53 => ?_)
          refine s_dup (pc := 88) dX2_init_2_88 (zcat_rf _) ?_
          refine s_aload_n (pc := 89) 0 dX2_init_2_89 rfl rfl ?_
          refine zS_ite (fun hr => ?_) (fun _ => zS_none)
          refine s_callC (pc := 90) (np := 1) (as := [va_rf r19]) (rest := [va_rf r52, va_rf r50, va_rf r48]) dX2_init_2_90 hr (c_X6_init (by decide) r52 r19 h53) ⟨_, _, q1999⟩ rfl rfl rfl q1997 q1998 rfl (by simp [zcat_rf, zcat_i, zcat_l, zcat_f, zcat_d]) (zkV (fun h54 => ?_)) zxo
          refine zS_ite (fun ht => ?_) (fun _ => zS_none)
          refine s_callVU (pc := 93) (np := 2) (as := [va_rf r50, va_rf r52]) (rest := []) (owner := "java/util/HashMap") dX2_init_2_93 ht (q := (RJ2, TJ2, 12)) rfl (c_J1_put (by decide) r48 r50 r52 h54) ⟨_, _, _, q2051⟩ rfl rfl q2046 q2047 (Or.inl ⟨_, _, _, q2050, q2051⟩) (by decide) q2050 q2049 rfl (by decide) (zkR (fun r55 h56 => ?_)) zxo
          refine s_cast (pc := 96) dX2_init_2_96 q836 zcs_FloatingDock_Ship ?_
          refine s_ast (pc := 99) (L2 := [(0, va_rf a0), (1, va_rf a1), (2, va_rf a2)]) [1, 2, 3] dX2_init_2_99 (by decide) rfl rfl (zcA rfl) ?_
          refine s_goto (pc := 101) (tgt := 55) dX2_init_2_101 (by decide) ?_
          exact s_sub (pc := 55) [1, 2, 3] rfl (ih a0 a1 a2 h56)
        refine zS_ite (fun ht => ?_) (fun _ => zS_none)
        refine s_callF (pc := 65) (np := 0) (as := []) (rest := []) dX2_init_2_65 ht (q := (RJ22, TJ22, 5)) rfl (c_J22_next (by decide) a2 h18) ⟨_, _, _, q832⟩ rfl rfl q670 (by decide +kernel) q830 q828 rfl (by decide) (zkR (fun r19 h20 => ?_)) zxo
        refine s_cast (pc := 70) dX2_init_2_70 q836 zcs_FloatingDock_Ship ?_
        refine s_ast_n (pc := 73) (L2 := [(0, va_rf a0), (1, va_rf a1), (2, va_rf a2)]) [0, 1, 2] dX2_init_2_73 rfl (by decide) rfl rfl (zcB (j := 2) rfl (zcat_rf a2) rfl) ?_
        refine s_aload_n (pc := 74) 1 dX2_init_2_74 rfl rfl ?_
        refine s_gR (pc := 75) dX2_init_2_75 gf_X2_12 (fun r57 => ?_)
        refine s_aload_n (pc := 78) 0 dX2_init_2_78 rfl rfl ?_
        refine s_gI (pc := 79) dX2_init_2_79 gf_X2_58 (fun x58 => ?_)
        refine s_callSS (pc := 82) (np := 1) (as := [.int x58]) (rest := [va_rf r57]) dX2_init_2_82 (c_J24_valueOf (by decide) x58 h20) rfl rfl q1995 q683 rfl (by simp [zcat_rf, zcat_i, zcat_l, zcat_f, zcat_d]) (zkR (fun r59 h60 => ?_)) zxo
        refine s_new (pc := 85) dX2_init_2_85 nf_X2_56 (fun r61 h62 => ?_)
        refine s_dup (pc := 88) dX2_init_2_88 (zcat_rf _) ?_
        refine s_aload_n (pc := 89) 0 dX2_init_2_89 rfl rfl ?_
        refine zS_ite (fun hr => ?_) (fun _ => zS_none)
        refine s_callC (pc := 90) (np := 1) (as := [va_rf r19]) (rest := [va_rf r61, va_rf r59, va_rf r57]) dX2_init_2_90 hr (c_X6_init (by decide) r61 r19 h62) ⟨_, _, q1999⟩ rfl rfl rfl q1997 q1998 rfl (by simp [zcat_rf, zcat_i, zcat_l, zcat_f, zcat_d]) (zkV (fun h63 => ?_)) zxo
        refine zS_ite (fun ht => ?_) (fun _ => zS_none)
        refine s_callVU (pc := 93) (np := 2) (as := [va_rf r59, va_rf r61]) (rest := []) (owner := "java/util/HashMap") dX2_init_2_93 ht (q := (RJ2, TJ2, 12)) rfl (c_J1_put (by decide) r57 r59 r61 h63) ⟨_, _, _, q2051⟩ rfl rfl q2046 q2047 (Or.inl ⟨_, _, _, q2050, q2051⟩) (by decide) q2050 q2049 rfl (by decide) (zkR (fun r64 h65 => ?_)) zxo
        refine s_cast (pc := 96) dX2_init_2_96 q836 zcs_FloatingDock_Ship ?_
        refine s_ast (pc := 99) (L2 := [(0, va_rf a0), (1, va_rf a1), (2, va_rf a2)]) [1, 2, 3] dX2_init_2_99 (by decide) rfl rfl (zcA rfl) ?_
        refine s_goto (pc := 101) (tgt := 55) dX2_init_2_101 (by decide) ?_
        exact s_sub (pc := 55) [1, 2, 3] rfl (ih a0 a1 a2 h65)
    refine zS_ite (fun ht => ?_) (fun _ => ?_)
    · refine s_callF (pc := 56) (np := 0) (as := []) (rest := []) dX2_init_2_56 ht (q := (RJ15, TJ15, 4)) rfl (c_J15_hasNext (by decide) a2 h) ⟨_, _, _, q653⟩ rfl rfl q629 (by decide +kernel) q651 q649 rfl (by decide) (zkI (fun x17 h18 => ?_)) zxo
      refine s_if_eq (pc := 61) (tgt := 104) dX2_init_2_61 (by decide) (fun _ => ?_) (fun _ => ?_)
      · exact s_sub (pc := 104) [0, 1] rfl (w_X2_init_2_104 a0 a1 h18)
      · refine s_aload_n (pc := 64) 2 dX2_init_2_64 rfl rfl ?_
        refine zS_ite (fun ht => ?_) (fun _ => ?_)
        · refine s_callF (pc := 65) (np := 0) (as := []) (rest := []) dX2_init_2_65 ht (q := (RX9, TX9, 2)) rfl (c_X9_next (by decide) a2 h18) ⟨_, _, _, q677⟩ rfl rfl q670 (by decide +kernel) q675 q673 rfl (by decide) (zkR (fun r66 h67 => ?_)) zxo
          refine s_cast (pc := 70) dX2_init_2_70 q836 zcs_FloatingDock_Ship ?_
          refine s_ast_n (pc := 73) (L2 := [(0, va_rf a0), (1, va_rf a1), (2, va_rf a2)]) [0, 1, 2] dX2_init_2_73 rfl (by decide) rfl rfl (zcB (j := 2) rfl (zcat_rf a2) rfl) ?_
          refine s_aload_n (pc := 74) 1 dX2_init_2_74 rfl rfl ?_
          refine s_gR (pc := 75) dX2_init_2_75 gf_X2_12 (fun r68 => ?_)
          refine s_aload_n (pc := 78) 0 dX2_init_2_78 rfl rfl ?_
          refine s_gI (pc := 79) dX2_init_2_79 gf_X2_58 (fun x69 => ?_)
          refine s_callSS (pc := 82) (np := 1) (as := [.int x69]) (rest := [va_rf r68]) dX2_init_2_82 (c_J24_valueOf (by decide) x69 h67) rfl rfl q1995 q683 rfl (by simp [zcat_rf, zcat_i, zcat_l, zcat_f, zcat_d]) (zkR (fun r70 h71 => ?_)) zxo
          refine s_new (pc := 85) dX2_init_2_85 nf_X2_56 (fun r72 h73 => ?_)
          refine s_dup (pc := 88) dX2_init_2_88 (zcat_rf _) ?_
          refine s_aload_n (pc := 89) 0 dX2_init_2_89 rfl rfl ?_
          refine zS_ite (fun hr => ?_) (fun _ => zS_none)
          refine s_callC (pc := 90) (np := 1) (as := [va_rf r66]) (rest := [va_rf r72, va_rf r70, va_rf r68]) dX2_init_2_90 hr (c_X6_init (by decide) r72 r66 h73) ⟨_, _, q1999⟩ rfl rfl rfl q1997 q1998 rfl (by simp [zcat_rf, zcat_i, zcat_l, zcat_f, zcat_d]) (zkV (fun h74 => ?_)) zxo
          refine zS_ite (fun ht => ?_) (fun _ => zS_none)
          refine s_callVU (pc := 93) (np := 2) (as := [va_rf r70, va_rf r72]) (rest := []) (owner := "java/util/HashMap") dX2_init_2_93 ht (q := (RJ2, TJ2, 12)) rfl (c_J1_put (by decide) r68 r70 r72 h74) ⟨_, _, _, q2051⟩ rfl rfl q2046 q2047 (Or.inl ⟨_, _, _, q2050, q2051⟩) (by decide) q2050 q2049 rfl (by decide) (zkR (fun r75 h76 => ?_)) zxo
          refine s_cast (pc := 96) dX2_init_2_96 q836 zcs_FloatingDock_Ship ?_
          refine s_ast (pc := 99) (L2 := [(0, va_rf a0), (1, va_rf a1), (2, va_rf a2)]) [1, 2, 3] dX2_init_2_99 (by decide) rfl rfl (zcA rfl) ?_
          refine s_goto (pc := 101) (tgt := 55) dX2_init_2_101 (by decide) ?_
          exact s_sub (pc := 55) [1, 2, 3] rfl (ih a0 a1 a2 h76)
        refine zS_ite (fun ht => ?_) (fun _ => ?_)
        · refine s_callF (pc := 65) (np := 0) (as := []) (rest := []) dX2_init_2_65 ht (q := (RJ15, TJ15, 4)) rfl (c_J15_next (by decide) a2 h18) ⟨_, _, _, q788⟩ rfl rfl q670 (by decide +kernel) q786 q784 rfl (by decide) (zkR (fun r66 h67 => ?_)) zxo
          refine s_cast (pc := 70) dX2_init_2_70 q836 zcs_FloatingDock_Ship ?_
          refine s_ast_n (pc := 73) (L2 := [(0, va_rf a0), (1, va_rf a1), (2, va_rf a2)]) [0, 1, 2] dX2_init_2_73 rfl (by decide) rfl rfl (zcB (j := 2) rfl (zcat_rf a2) rfl) ?_
          refine s_aload_n (pc := 74) 1 dX2_init_2_74 rfl rfl ?_
          refine s_gR (pc := 75) dX2_init_2_75 gf_X2_12 (fun r77 => ?_)
          refine s_aload_n (pc := 78) 0 dX2_init_2_78 rfl rfl ?_
          refine s_gI (pc := 79) dX2_init_2_79 gf_X2_58 (fun x78 => ?_)
          refine s_callSS (pc := 82) (np := 1) (as := [.int x78]) (rest := [va_rf r77]) dX2_init_2_82 (c_J24_valueOf (by decide) x78 h67) rfl rfl q1995 q683 rfl (by simp [zcat_rf, zcat_i, zcat_l, zcat_f, zcat_d]) (zkR (fun r79 h80 => ?_)) zxo
          refine s_new (pc := 85) dX2_init_2_85 nf_X2_56 (fun r81 h82 => ?_)
          refine s_dup (pc := 88) dX2_init_2_88 (zcat_rf _) ?_
          refine s_aload_n (pc := 89) 0 dX2_init_2_89 rfl rfl ?_
          refine zS_ite (fun hr => ?_) (fun _ => zS_none)
          refine s_callC (pc := 90) (np := 1) (as := [va_rf r66]) (rest := [va_rf r81, va_rf r79, va_rf r77]) dX2_init_2_90 hr (c_X6_init (by decide) r81 r66 h82) ⟨_, _, q1999⟩ rfl rfl rfl q1997 q1998 rfl (by simp [zcat_rf, zcat_i, zcat_l, zcat_f, zcat_d]) (zkV (fun h83 => ?_)) zxo
          refine zS_ite (fun ht => ?_) (fun _ => zS_none)
          refine s_callVU (pc := 93) (np := 2) (as := [va_rf r79, va_rf r81]) (rest := []) (owner := "java/util/HashMap") dX2_init_2_93 ht (q := (RJ2, TJ2, 12)) rfl (c_J1_put (by decide) r77 r79 r81 h83) ⟨_, _, _, q2051⟩ rfl rfl q2046 q2047 (Or.inl ⟨_, _, _, q2050, q2051⟩) (by decide) q2050 q2049 rfl (by decide) (zkR (fun r84 h85 => ?_)) zxo
          refine s_cast (pc := 96) dX2_init_2_96 q836 zcs_FloatingDock_Ship ?_
          refine s_ast (pc := 99) (L2 := [(0, va_rf a0), (1, va_rf a1), (2, va_rf a2)]) [1, 2, 3] dX2_init_2_99 (by decide) rfl rfl (zcA rfl) ?_
          refine s_goto (pc := 101) (tgt := 55) dX2_init_2_101 (by decide) ?_
          exact s_sub (pc := 55) [1, 2, 3] rfl (ih a0 a1 a2 h85)
        refine zS_ite (fun ht => ?_) (fun _ => ?_)
        · refine s_callF (pc := 65) (np := 0) (as := []) (rest := []) dX2_init_2_65 ht (q := (RJ17, TJ17, 5)) rfl (c_J17_next (by decide) a2 h18) ⟨_, _, _, q799⟩ rfl rfl q670 (by decide +kernel) q797 q795 rfl (by decide) (zkR (fun r66 h67 => ?_)) zxo
          refine s_cast (pc := 70) dX2_init_2_70 q836 zcs_FloatingDock_Ship ?_
          refine s_ast_n (pc := 73) (L2 := [(0, va_rf a0), (1, va_rf a1), (2, va_rf a2)]) [0, 1, 2] dX2_init_2_73 rfl (by decide) rfl rfl (zcB (j := 2) rfl (zcat_rf a2) rfl) ?_
          refine s_aload_n (pc := 74) 1 dX2_init_2_74 rfl rfl ?_
          refine s_gR (pc := 75) dX2_init_2_75 gf_X2_12 (fun r86 => ?_)
          refine s_aload_n (pc := 78) 0 dX2_init_2_78 rfl rfl ?_
          refine s_gI (pc := 79) dX2_init_2_79 gf_X2_58 (fun x87 => ?_)
          refine s_callSS (pc := 82) (np := 1) (as := [.int x87]) (rest := [va_rf r86]) dX2_init_2_82 (c_J24_valueOf (by decide) x87 h67) rfl rfl q1995 q683 rfl (by simp [zcat_rf, zcat_i, zcat_l, zcat_f, zcat_d]) (zkR (fun r88 h89 => ?_)) zxo
          refine s_new (pc := 85) dX2_init_2_85 nf_X2_56 (fun r90 h91 => ?_)
          refine s_dup (pc := 88) dX2_init_2_88 (zcat_rf _) ?_
          refine s_aload_n (pc := 89) 0 dX2_init_2_89 rfl rfl ?_
          refine zS_ite (fun hr => ?_) (fun _ => zS_none)
          refine s_callC (pc := 90) (np := 1) (as := [va_rf r66]) (rest := [va_rf r90, va_rf r88, va_rf r86]) dX2_init_2_90 hr (c_X6_init (by decide) r90 r66 h91) ⟨_, _, q1999⟩ rfl rfl rfl q1997 q1998 rfl (by simp [zcat_rf, zcat_i, zcat_l, zcat_f, zcat_d]) (zkV (fun h92 => ?_)) zxo
          refine zS_ite (fun ht => ?_) (fun _ => zS_none)
          refine s_callVU (pc := 93) (np := 2) (as := [va_rf r88, va_rf r90]) (rest := []) (owner := "java/util/HashMap") dX2_init_2_93 ht (q := (RJ2, TJ2, 12)) rfl (c_J1_put (by decide) r86 r88 r90 h92) ⟨_, _, _, q2051⟩ rfl rfl q2046 q2047 (Or.inl ⟨_, _, _, q2050, q2051⟩) (by decide) q2050 q2049 rfl (by decide) (zkR (fun r93 h94 => ?_)) zxo
          refine s_cast (pc := 96) dX2_init_2_96 q836 zcs_FloatingDock_Ship ?_
          refine s_ast (pc := 99) (L2 := [(0, va_rf a0), (1, va_rf a1), (2, va_rf a2)]) [1, 2, 3] dX2_init_2_99 (by decide) rfl rfl (zcA rfl) ?_
          refine s_goto (pc := 101) (tgt := 55) dX2_init_2_101 (by decide) ?_
          exact s_sub (pc := 55) [1, 2, 3] rfl (ih a0 a1 a2 h94)
        refine zS_ite (fun ht => ?_) (fun _ => ?_)
        · refine s_callF (pc := 65) (np := 0) (as := []) (rest := []) dX2_init_2_65 ht (q := (RJ21, TJ21, 5)) rfl (c_J21_next (by decide) a2 h18) ⟨_, _, _, q812⟩ rfl rfl q670 (by decide +kernel) q810 q808 rfl (by decide) (zkR (fun r66 h67 => ?_)) zxo
          refine s_cast (pc := 70) dX2_init_2_70 q836 zcs_FloatingDock_Ship ?_
          refine s_ast_n (pc := 73) (L2 := [(0, va_rf a0), (1, va_rf a1), (2, va_rf a2)]) [0, 1, 2] dX2_init_2_73 rfl (by decide) rfl rfl (zcB (j := 2) rfl (zcat_rf a2) rfl) ?_
          refine s_aload_n (pc := 74) 1 dX2_init_2_74 rfl rfl ?_
          refine s_gR (pc := 75) dX2_init_2_75 gf_X2_12 (fun r95 => ?_)
          refine s_aload_n (pc := 78) 0 dX2_init_2_78 rfl rfl ?_
          refine s_gI (pc := 79) dX2_init_2_79 gf_X2_58 (fun x96 => ?_)
          refine s_callSS (pc := 82) (np := 1) (as := [.int x96]) (rest := [va_rf r95]) dX2_init_2_82 (c_J24_valueOf (by decide) x96 h67) rfl rfl q1995 q683 rfl (by simp [zcat_rf, zcat_i, zcat_l, zcat_f, zcat_d]) (zkR (fun r97 h98 => ?_)) zxo
          refine s_new (pc := 85) dX2_init_2_85 nf_X2_56 (fun r99 h100 => ?_)
          refine s_dup (pc := 88) dX2_init_2_88 (zcat_rf _) ?_
          refine s_aload_n (pc := 89) 0 dX2_init_2_89 rfl rfl ?_
          refine zS_ite (fun hr => ?_) (fun _ => zS_none)
          refine s_callC (pc := 90) (np := 1) (as := [va_rf r66]) (rest := [va_rf r99, va_rf r97, va_rf r95]) dX2_init_2_90 hr (c_X6_init (by decide) r99 r66 h100) ⟨_, _, q1999⟩ rfl rfl rfl q1997 q1998 rfl (by simp [zcat_rf, zcat_i, zcat_l, zcat_f, zcat_d]) (zkV (fun h101 => ?_)) zxo
          refine zS_ite (fun ht => ?_) (fun _ => zS_none)
          refine s_callVU (pc := 93) (np := 2) (as := [va_rf r97, va_rf r99]) (rest := []) (owner := "java/util/HashMap") dX2_init_2_93 ht (q := (RJ2, TJ2, 12)) rfl (c_J1_put (by decide) r95 r97 r99 h101) ⟨_, _, _, q2051⟩ rfl rfl q2046 q2047 (Or.inl ⟨_, _, _, q2050, q2051⟩) (by decide) q2050 q2049 rfl (by decide) (zkR (fun r102 h103 => ?_)) zxo
          refine s_cast (pc := 96) dX2_init_2_96 q836 zcs_FloatingDock_Ship ?_
          refine s_ast (pc := 99) (L2 := [(0, va_rf a0), (1, va_rf a1), (2, va_rf a2)]) [1, 2, 3] dX2_init_2_99 (by decide) rfl rfl (zcA rfl) ?_
          refine s_goto (pc := 101) (tgt := 55) dX2_init_2_101 (by decide) ?_
          exact s_sub (pc := 55) [1, 2, 3] rfl (ih a0 a1 a2 h103)
        refine zS_ite (fun ht => ?_) (fun _ => zS_none)
        refine s_callF (pc := 65) (np := 0) (as := []) (rest := []) dX2_init_2_65 ht (q := (RJ22, TJ22, 5)) rfl (c_J22_next (by decide) a2 h18) ⟨_, _, _, q832⟩ rfl rfl q670 (by decide +kernel) q830 q828 rfl (by decide) (zkR (fun r66 h67 => ?_)) zxo
        refine s_cast (pc := 70) dX2_init_2_70 q836 zcs_FloatingDock_Ship ?_
        refine s_ast_n (pc := 73) (L2 := [(0, va_rf a0), (1, va_rf a1), (2, va_rf a2)]) [0, 1, 2] dX2_init_2_73 rfl (by decide) rfl rfl (zcB (j := 2) rfl (zcat_rf a2) rfl) ?_
        refine s_aload_n (pc := 74) 1 dX2_init_2_74 rfl rfl ?_
        refine s_gR (pc := 75) dX2_init_2_75 gf_X2_12 (fun r104 => ?_)
        refine s_aload_n (pc := 78) 0 dX2_init_2_78 rfl rfl ?_
        refine s_gI (pc := 79) dX2_init_2_79 gf_X2_58 (fun x105 => ?_)
        refine s_callSS (pc := 82) (np := 1) (as := [.int x105]) (rest := [va_rf r104]) dX2_init_2_82 (c_J24_valueOf (by decide) x105 h67) rfl rfl q1995 q683 rfl (by simp [zcat_rf, zcat_i, zcat_l, zcat_f, zcat_d]) (zkR (fun r106 h107 => ?_)) zxo
        refine s_new (pc := 85) dX2_init_2_85 nf_X2_56 (fun r108 h109 => ?_)
        refine s_dup (pc := 88) dX2_init_2_88 (zcat_rf _) ?_
        refine s_aload_n (pc := 89) 0 dX2_init_2_89 rfl rfl ?_
        refine zS_ite (fun hr => ?_) (fun _ => zS_none)
        refine s_callC (pc := 90) (np := 1) (as := [va_rf r66]) (rest := [va_rf r108, va_rf r106, va_rf r104]) dX2_init_2_90 hr (c_X6_init (by decide) r108 r66 h109) ⟨_, _, q1999⟩ rfl rfl rfl q1997 q1998 rfl (by simp [zcat_rf, zcat_i, zcat_l, zcat_f, zcat_d]) (zkV (fun h110 => ?_)) zxo
        refine zS_ite (fun ht => ?_) (fun _ => zS_none)
        refine s_callVU (pc := 93) (np := 2) (as := [va_rf r106, va_rf r108]) (rest := []) (owner := "java/util/HashMap") dX2_init_2_93 ht (q := (RJ2, TJ2, 12)) rfl (c_J1_put (by decide) r104 r106 r108 h110) ⟨_, _, _, q2051⟩ rfl rfl q2046 q2047 (Or.inl ⟨_, _, _, q2050, q2051⟩) (by decide) q2050 q2049 rfl (by decide) (zkR (fun r111 h112 => ?_)) zxo
        refine s_cast (pc := 96) dX2_init_2_96 q836 zcs_FloatingDock_Ship ?_
        refine s_ast (pc := 99) (L2 := [(0, va_rf a0), (1, va_rf a1), (2, va_rf a2)]) [1, 2, 3] dX2_init_2_99 (by decide) rfl rfl (zcA rfl) ?_
        refine s_goto (pc := 101) (tgt := 55) dX2_init_2_101 (by decide) ?_
        exact s_sub (pc := 55) [1, 2, 3] rfl (ih a0 a1 a2 h112)
    refine zS_ite (fun ht => ?_) (fun _ => ?_)
    · refine s_callF (pc := 56) (np := 0) (as := []) (rest := []) dX2_init_2_56 ht (q := (RJ17, TJ17, 5)) rfl (c_J16_hasNext (by decide) a2 h) ⟨_, _, _, q659⟩ rfl rfl q629 (by decide +kernel) q657 q655 rfl (by decide) (zkI (fun x17 h18 => ?_)) zxo
      refine s_if_eq (pc := 61) (tgt := 104) dX2_init_2_61 (by decide) (fun _ => ?_) (fun _ => ?_)
      · exact s_sub (pc := 104) [0, 1] rfl (w_X2_init_2_104 a0 a1 h18)
      · refine s_aload_n (pc := 64) 2 dX2_init_2_64 rfl rfl ?_
        refine zS_ite (fun ht => ?_) (fun _ => ?_)
        · refine s_callF (pc := 65) (np := 0) (as := []) (rest := []) dX2_init_2_65 ht (q := (RX9, TX9, 2)) rfl (c_X9_next (by decide) a2 h18) ⟨_, _, _, q677⟩ rfl rfl q670 (by decide +kernel) q675 q673 rfl (by decide) (zkR (fun r113 h114 => ?_)) zxo
          refine s_cast (pc := 70) dX2_init_2_70 q836 zcs_FloatingDock_Ship ?_
          refine s_ast_n (pc := 73) (L2 := [(0, va_rf a0), (1, va_rf a1), (2, va_rf a2)]) [0, 1, 2] dX2_init_2_73 rfl (by decide) rfl rfl (zcB (j := 2) rfl (zcat_rf a2) rfl) ?_
          refine s_aload_n (pc := 74) 1 dX2_init_2_74 rfl rfl ?_
          refine s_gR (pc := 75) dX2_init_2_75 gf_X2_12 (fun r115 => ?_)
          refine s_aload_n (pc := 78) 0 dX2_init_2_78 rfl rfl ?_
          refine s_gI (pc := 79) dX2_init_2_79 gf_X2_58 (fun x116 => ?_)
          refine s_callSS (pc := 82) (np := 1) (as := [.int x116]) (rest := [va_rf r115]) dX2_init_2_82 (c_J24_valueOf (by decide) x116 h114) rfl rfl q1995 q683 rfl (by simp [zcat_rf, zcat_i, zcat_l, zcat_f, zcat_d]) (zkR (fun r117 h118 => ?_)) zxo
          refine s_new (pc := 85) dX2_init_2_85 nf_X2_56 (fun r119 h120 => ?_)
          refine s_dup (pc := 88) dX2_init_2_88 (zcat_rf _) ?_
          refine s_aload_n (pc := 89) 0 dX2_init_2_89 rfl rfl ?_
          refine zS_ite (fun hr => ?_) (fun _ => zS_none)
          refine s_callC (pc := 90) (np := 1) (as := [va_rf r113]) (rest := [va_rf r119, va_rf r117, va_rf r115]) dX2_init_2_90 hr (c_X6_init (by decide) r119 r113 h120) ⟨_, _, q1999⟩ rfl rfl rfl q1997 q1998 rfl (by simp [zcat_rf, zcat_i, zcat_l, zcat_f, zcat_d]) (zkV (fun h121 => ?_)) zxo
          refine zS_ite (fun ht => ?_) (fun _ => zS_none)
          refine s_callVU (pc := 93) (np := 2) (as := [va_rf r117, va_rf r119]) (rest := []) (owner := "java/util/HashMap") dX2_init_2_93 ht (q := (RJ2, TJ2, 12)) rfl (c_J1_put (by decide) r115 r117 r119 h121) ⟨_, _, _, q2051⟩ rfl rfl q2046 q2047 (Or.inl ⟨_, _, _, q2050, q2051⟩) (by decide) q2050 q2049 rfl (by decide) (zkR (fun r122 h123 => ?_)) zxo
          refine s_cast (pc := 96) dX2_init_2_96 q836 zcs_FloatingDock_Ship ?_
          refine s_ast (pc := 99) (L2 := [(0, va_rf a0), (1, va_rf a1), (2, va_rf a2)]) [1, 2, 3] dX2_init_2_99 (by decide) rfl rfl (zcA rfl) ?_
          refine s_goto (pc := 101) (tgt := 55) dX2_init_2_101 (by decide) ?_
          exact s_sub (pc := 55) [1, 2, 3] rfl (ih a0 a1 a2 h123)
        refine zS_ite (fun ht => ?_) (fun _ => ?_)
        · refine s_callF (pc := 65) (np := 0) (as := []) (rest := []) dX2_init_2_65 ht (q := (RJ15, TJ15, 4)) rfl (c_J15_next (by decide) a2 h18) ⟨_, _, _, q788⟩ rfl rfl q670 (by decide +kernel) q786 q784 rfl (by decide) (zkR (fun r113 h114 => ?_)) zxo
          refine s_cast (pc := 70) dX2_init_2_70 q836 zcs_FloatingDock_Ship ?_
          refine s_ast_n (pc := 73) (L2 := [(0, va_rf a0), (1, va_rf a1), (2, va_rf a2)]) [0, 1, 2] dX2_init_2_73 rfl (by decide) rfl rfl (zcB (j := 2) rfl (zcat_rf a2) rfl) ?_
          refine s_aload_n (pc := 74) 1 dX2_init_2_74 rfl rfl ?_
          refine s_gR (pc := 75) dX2_init_2_75 gf_X2_12 (fun r124 => ?_)
          refine s_aload_n (pc := 78) 0 dX2_init_2_78 rfl rfl ?_
          refine s_gI (pc := 79) dX2_init_2_79 gf_X2_58 (fun x125 => ?_)
          refine s_callSS (pc := 82) (np := 1) (as := [.int x125]) (rest := [va_rf r124]) dX2_init_2_82 (c_J24_valueOf (by decide) x125 h114) rfl rfl q1995 q683 rfl (by simp [zcat_rf, zcat_i, zcat_l, zcat_f, zcat_d]) (zkR (fun r126 h127 => ?_)) zxo
          refine s_new (pc := 85) dX2_init_2_85 nf_X2_56 (fun r128 h129 => ?_)
          refine s_dup (pc := 88) dX2_init_2_88 (zcat_rf _) ?_
          refine s_aload_n (pc := 89) 0 dX2_init_2_89 rfl rfl ?_
          refine zS_ite (fun hr => ?_) (fun _ => zS_none)
          refine s_callC (pc := 90) (np := 1) (as := [va_rf r113]) (rest := [va_rf r128, va_rf r126, va_rf r124]) dX2_init_2_90 hr (c_X6_init (by decide) r128 r113 h129) ⟨_, _, q1999⟩ rfl rfl rfl q1997 q1998 rfl (by simp [zcat_rf, zcat_i, zcat_l, zcat_f, zcat_d]) (zkV (fun h130 => ?_)) zxo
          refine zS_ite (fun ht => ?_) (fun _ => zS_none)
          refine s_callVU (pc := 93) (np := 2) (as := [va_rf r126, va_rf r128]) (rest := []) (owner := "java/util/HashMap") dX2_init_2_93 ht (q := (RJ2, TJ2, 12)) rfl (c_J1_put (by decide) r124 r126 r128 h130) ⟨_, _, _, q2051⟩ rfl rfl q2046 q2047 (Or.inl ⟨_, _, _, q2050, q2051⟩) (by decide) q2050 q2049 rfl (by decide) (zkR (fun r131 h132 => ?_)) zxo
          refine s_cast (pc := 96) dX2_init_2_96 q836 zcs_FloatingDock_Ship ?_
          refine s_ast (pc := 99) (L2 := [(0, va_rf a0), (1, va_rf a1), (2, va_rf a2)]) [1, 2, 3] dX2_init_2_99 (by decide) rfl rfl (zcA rfl) ?_
          refine s_goto (pc := 101) (tgt := 55) dX2_init_2_101 (by decide) ?_
          exact s_sub (pc := 55) [1, 2, 3] rfl (ih a0 a1 a2 h132)
        refine zS_ite (fun ht => ?_) (fun _ => ?_)
        · refine s_callF (pc := 65) (np := 0) (as := []) (rest := []) dX2_init_2_65 ht (q := (RJ17, TJ17, 5)) rfl (c_J17_next (by decide) a2 h18) ⟨_, _, _, q799⟩ rfl rfl q670 (by decide +kernel) q797 q795 rfl (by decide) (zkR (fun r113 h114 => ?_)) zxo
          refine s_cast (pc := 70) dX2_init_2_70 q836 zcs_FloatingDock_Ship ?_
          refine s_ast_n (pc := 73) (L2 := [(0, va_rf a0), (1, va_rf a1), (2, va_rf a2)]) [0, 1, 2] dX2_init_2_73 rfl (by decide) rfl rfl (zcB (j := 2) rfl (zcat_rf a2) rfl) ?_
          refine s_aload_n (pc := 74) 1 dX2_init_2_74 rfl rfl ?_
          refine s_gR (pc := 75) dX2_init_2_75 gf_X2_12 (fun r133 => ?_)
          refine s_aload_n (pc := 78) 0 dX2_init_2_78 rfl rfl ?_
          refine s_gI (pc := 79) dX2_init_2_79 gf_X2_58 (fun x134 => ?_)
          refine s_callSS (pc := 82) (np := 1) (as := [.int x134]) (rest := [va_rf r133]) dX2_init_2_82 (c_J24_valueOf (by decide) x134 h114) rfl rfl q1995 q683 rfl (by simp [zcat_rf, zcat_i, zcat_l, zcat_f, zcat_d]) (zkR (fun r135 h136 => ?_)) zxo
          refine s_new (pc := 85) dX2_init_2_85 nf_X2_56 (fun r137 h138 => ?_)
          refine s_dup (pc := 88) dX2_init_2_88 (zcat_rf _) ?_
          refine s_aload_n (pc := 89) 0 dX2_init_2_89 rfl rfl ?_
          refine zS_ite (fun hr => ?_) (fun _ => zS_none)
          refine s_callC (pc := 90) (np := 1) (as := [va_rf r113]) (rest := [va_rf r137, va_rf r135, va_rf r133]) dX2_init_2_90 hr (c_X6_init (by decide) r137 r113 h138) ⟨_, _, q1999⟩ rfl rfl rfl q1997 q1998 rfl (by simp [zcat_rf, zcat_i, zcat_l, zcat_f, zcat_d]) (zkV (fun h139 => ?_)) zxo
          refine zS_ite (fun ht => ?_) (fun _ => zS_none)
          refine s_callVU (pc := 93) (np := 2) (as := [va_rf r135, va_rf r137]) (rest := []) (owner := "java/util/HashMap") dX2_init_2_93 ht (q := (RJ2, TJ2, 12)) rfl (c_J1_put (by decide) r133 r135 r137 h139) ⟨_, _, _, q2051⟩ rfl rfl q2046 q2047 (Or.inl ⟨_, _, _, q2050, q2051⟩) (by decide) q2050 q2049 rfl (by decide) (zkR (fun r140 h141 => ?_)) zxo
          refine s_cast (pc := 96) dX2_init_2_96 q836 zcs_FloatingDock_Ship ?_
          refine s_ast (pc := 99) (L2 := [(0, va_rf a0), (1, va_rf a1), (2, va_rf a2)]) [1, 2, 3] dX2_init_2_99 (by decide) rfl rfl (zcA rfl) ?_
          refine s_goto (pc := 101) (tgt := 55) dX2_init_2_101 (by decide) ?_
          exact s_sub (pc := 55) [1, 2, 3] rfl (ih a0 a1 a2 h141)
        refine zS_ite (fun ht => ?_) (fun _ => ?_)
        · refine s_callF (pc := 65) (np := 0) (as := []) (rest := []) dX2_init_2_65 ht (q := (RJ21, TJ21, 5)) rfl (c_J21_next (by decide) a2 h18) ⟨_, _, _, q812⟩ rfl rfl q670 (by decide +kernel) q810 q808 rfl (by decide) (zkR (fun r113 h114 => ?_)) zxo
          refine s_cast (pc := 70) dX2_init_2_70 q836 zcs_FloatingDock_Ship ?_
          refine s_ast_n (pc := 73) (L2 := [(0, va_rf a0), (1, va_rf a1), (2, va_rf a2)]) [0, 1, 2] dX2_init_2_73 rfl (by decide) rfl rfl (zcB (j := 2) rfl (zcat_rf a2) rfl) ?_
          refine s_aload_n (pc := 74) 1 dX2_init_2_74 rfl rfl ?_
          refine s_gR (pc := 75) dX2_init_2_75 gf_X2_12 (fun r142 => ?_)
          refine s_aload_n (pc := 78) 0 dX2_init_2_78 rfl rfl ?_
          refine s_gI (pc := 79) dX2_init_2_79 gf_X2_58 (fun x143 => ?_)
          refine s_callSS (pc := 82) (np := 1) (as := [.int x143]) (rest := [va_rf r142]) dX2_init_2_82 (c_J24_valueOf (by decide) x143 h114) rfl rfl q1995 q683 rfl (by simp [zcat_rf, zcat_i, zcat_l, zcat_f, zcat_d]) (zkR (fun r144 h145 => ?_)) zxo
          refine s_new (pc := 85) dX2_init_2_85 nf_X2_56 (fun r146 h147 => ?_)
          refine s_dup (pc := 88) dX2_init_2_88 (zcat_rf _) ?_
          refine s_aload_n (pc := 89) 0 dX2_init_2_89 rfl rfl ?_
          refine zS_ite (fun hr => ?_) (fun _ => zS_none)
          refine s_callC (pc := 90) (np := 1) (as := [va_rf r113]) (rest := [va_rf r146, va_rf r144, va_rf r142]) dX2_init_2_90 hr (c_X6_init (by decide) r146 r113 h147) ⟨_, _, q1999⟩ rfl rfl rfl q1997 q1998 rfl (by simp [zcat_rf, zcat_i, zcat_l, zcat_f, zcat_d]) (zkV (fun h148 => ?_)) zxo
          refine zS_ite (fun ht => ?_) (fun _ => zS_none)
          refine s_callVU (pc := 93) (np := 2) (as := [va_rf r144, va_rf r146]) (rest := []) (owner := "java/util/HashMap") dX2_init_2_93 ht (q := (RJ2, TJ2, 12)) rfl (c_J1_put (by decide) r142 r144 r146 h148) ⟨_, _, _, q2051⟩ rfl rfl q2046 q2047 (Or.inl ⟨_, _, _, q2050, q2051⟩) (by decide) q2050 q2049 rfl (by decide) (zkR (fun r149 h150 => ?_)) zxo
          refine s_cast (pc := 96) dX2_init_2_96 q836 zcs_FloatingDock_Ship ?_
          refine s_ast (pc := 99) (L2 := [(0, va_rf a0), (1, va_rf a1), (2, va_rf a2)]) [1, 2, 3] dX2_init_2_99 (by decide) rfl rfl (zcA rfl) ?_
          refine s_goto (pc := 101) (tgt := 55) dX2_init_2_101 (by decide) ?_
          exact s_sub (pc := 55) [1, 2, 3] rfl (ih a0 a1 a2 h150)
        refine zS_ite (fun ht => ?_) (fun _ => zS_none)
        refine s_callF (pc := 65) (np := 0) (as := []) (rest := []) dX2_init_2_65 ht (q := (RJ22, TJ22, 5)) rfl (c_J22_next (by decide) a2 h18) ⟨_, _, _, q832⟩ rfl rfl q670 (by decide +kernel) q830 q828 rfl (by decide) (zkR (fun r113 h114 => ?_)) zxo
        refine s_cast (pc := 70) dX2_init_2_70 q836 zcs_FloatingDock_Ship ?_
        refine s_ast_n (pc := 73) (L2 := [(0, va_rf a0), (1, va_rf a1), (2, va_rf a2)]) [0, 1, 2] dX2_init_2_73 rfl (by decide) rfl rfl (zcB (j := 2) rfl (zcat_rf a2) rfl) ?_
        refine s_aload_n (pc := 74) 1 dX2_init_2_74 rfl rfl ?_
        refine s_gR (pc := 75) dX2_init_2_75 gf_X2_12 (fun r151 => ?_)
        refine s_aload_n (pc := 78) 0 dX2_init_2_78 rfl rfl ?_
        refine s_gI (pc := 79) dX2_init_2_79 gf_X2_58 (fun x152 => ?_)
        refine s_callSS (pc := 82) (np := 1) (as := [.int x152]) (rest := [va_rf r151]) dX2_init_2_82 (c_J24_valueOf (by decide) x152 h114) rfl rfl q1995 q683 rfl (by simp [zcat_rf, zcat_i, zcat_l, zcat_f, zcat_d]) (zkR (fun r153 h154 => ?_)) zxo
        refine s_new (pc := 85) dX2_init_2_85 nf_X2_56 (fun r155 h156 => ?_)
        refine s_dup (pc := 88) dX2_init_2_88 (zcat_rf _) ?_
        refine s_aload_n (pc := 89) 0 dX2_init_2_89 rfl rfl ?_
        refine zS_ite (fun hr => ?_) (fun _ => zS_none)
        refine s_callC (pc := 90) (np := 1) (as := [va_rf r113]) (rest := [va_rf r155, va_rf r153, va_rf r151]) dX2_init_2_90 hr (c_X6_init (by decide) r155 r113 h156) ⟨_, _, q1999⟩ rfl rfl rfl q1997 q1998 rfl (by simp [zcat_rf, zcat_i, zcat_l, zcat_f, zcat_d]) (zkV (fun h157 => ?_)) zxo
        refine zS_ite (fun ht => ?_) (fun _ => zS_none)
        refine s_callVU (pc := 93) (np := 2) (as := [va_rf r153, va_rf r155]) (rest := []) (owner := "java/util/HashMap") dX2_init_2_93 ht (q := (RJ2, TJ2, 12)) rfl (c_J1_put (by decide) r151 r153 r155 h157) ⟨_, _, _, q2051⟩ rfl rfl q2046 q2047 (Or.inl ⟨_, _, _, q2050, q2051⟩) (by decide) q2050 q2049 rfl (by decide) (zkR (fun r158 h159 => ?_)) zxo
        refine s_cast (pc := 96) dX2_init_2_96 q836 zcs_FloatingDock_Ship ?_
        refine s_ast (pc := 99) (L2 := [(0, va_rf a0), (1, va_rf a1), (2, va_rf a2)]) [1, 2, 3] dX2_init_2_99 (by decide) rfl rfl (zcA rfl) ?_
        refine s_goto (pc := 101) (tgt := 55) dX2_init_2_101 (by decide) ?_
        exact s_sub (pc := 55) [1, 2, 3] rfl (ih a0 a1 a2 h159)
    refine zS_ite (fun ht => ?_) (fun _ => ?_)
    · refine s_callF (pc := 56) (np := 0) (as := []) (rest := []) dX2_init_2_56 ht (q := (RJ21, TJ21, 5)) rfl (c_J20_hasNext (by decide) a2 h) ⟨_, _, _, q665⟩ rfl rfl q629 (by decide +kernel) q663 q661 rfl (by decide) (zkI (fun x17 h18 => ?_)) zxo
      refine s_if_eq (pc := 61) (tgt := 104) dX2_init_2_61 (by decide) (fun _ => ?_) (fun _ => ?_)
      · exact s_sub (pc := 104) [0, 1] rfl (w_X2_init_2_104 a0 a1 h18)
      · refine s_aload_n (pc := 64) 2 dX2_init_2_64 rfl rfl ?_
        refine zS_ite (fun ht => ?_) (fun _ => ?_)
        · refine s_callF (pc := 65) (np := 0) (as := []) (rest := []) dX2_init_2_65 ht (q := (RX9, TX9, 2)) rfl (c_X9_next (by decide) a2 h18) ⟨_, _, _, q677⟩ rfl rfl q670 (by decide +kernel) q675 q673 rfl (by decide) (zkR (fun r160 h161 => ?_)) zxo
          refine s_cast (pc := 70) dX2_init_2_70 q836 zcs_FloatingDock_Ship ?_
          refine s_ast_n (pc := 73) (L2 := [(0, va_rf a0), (1, va_rf a1), (2, va_rf a2)]) [0, 1, 2] dX2_init_2_73 rfl (by decide) rfl rfl (zcB (j := 2) rfl (zcat_rf a2) rfl) ?_
          refine s_aload_n (pc := 74) 1 dX2_init_2_74 rfl rfl ?_
          refine s_gR (pc := 75) dX2_init_2_75 gf_X2_12 (fun r162 => ?_)
          refine s_aload_n (pc := 78) 0 dX2_init_2_78 rfl rfl ?_
          refine s_gI (pc := 79) dX2_init_2_79 gf_X2_58 (fun x163 => ?_)
          refine s_callSS (pc := 82) (np := 1) (as := [.int x163]) (rest := [va_rf r162]) dX2_init_2_82 (c_J24_valueOf (by decide) x163 h161) rfl rfl q1995 q683 rfl (by simp [zcat_rf, zcat_i, zcat_l, zcat_f, zcat_d]) (zkR (fun r164 h165 => ?_)) zxo
          refine s_new (pc := 85) dX2_init_2_85 nf_X2_56 (fun r166 h167 => ?_)
          refine s_dup (pc := 88) dX2_init_2_88 (zcat_rf _) ?_
          refine s_aload_n (pc := 89) 0 dX2_init_2_89 rfl rfl ?_
          refine zS_ite (fun hr => ?_) (fun _ => zS_none)
          refine s_callC (pc := 90) (np := 1) (as := [va_rf r160]) (rest := [va_rf r166, va_rf r164, va_rf r162]) dX2_init_2_90 hr (c_X6_init (by decide) r166 r160 h167) ⟨_, _, q1999⟩ rfl rfl rfl q1997 q1998 rfl (by simp [zcat_rf, zcat_i, zcat_l, zcat_f, zcat_d]) (zkV (fun h168 => ?_)) zxo
          refine zS_ite (fun ht => ?_) (fun _ => zS_none)
          refine s_callVU (pc := 93) (np := 2) (as := [va_rf r164, va_rf r166]) (rest := []) (owner := "java/util/HashMap") dX2_init_2_93 ht (q := (RJ2, TJ2, 12)) rfl (c_J1_put (by decide) r162 r164 r166 h168) ⟨_, _, _, q2051⟩ rfl rfl q2046 q2047 (Or.inl ⟨_, _, _, q2050, q2051⟩) (by decide) q2050 q2049 rfl (by decide) (zkR (fun r169 h170 => ?_)) zxo
          refine s_cast (pc := 96) dX2_init_2_96 q836 zcs_FloatingDock_Ship ?_
          refine s_ast (pc := 99) (L2 := [(0, va_rf a0), (1, va_rf a1), (2, va_rf a2)]) [1, 2, 3] dX2_init_2_99 (by decide) rfl rfl (zcA rfl) ?_
          refine s_goto (pc := 101) (tgt := 55) dX2_init_2_101 (by decide) ?_
          exact s_sub (pc := 55) [1, 2, 3] rfl (ih a0 a1 a2 h170)
        refine zS_ite (fun ht => ?_) (fun _ => ?_)
        · refine s_callF (pc := 65) (np := 0) (as := []) (rest := []) dX2_init_2_65 ht (q := (RJ15, TJ15, 4)) rfl (c_J15_next (by decide) a2 h18) ⟨_, _, _, q788⟩ rfl rfl q670 (by decide +kernel) q786 q784 rfl (by decide) (zkR (fun r160 h161 => ?_)) zxo
          refine s_cast (pc := 70) dX2_init_2_70 q836 zcs_FloatingDock_Ship ?_
          refine s_ast_n (pc := 73) (L2 := [(0, va_rf a0), (1, va_rf a1), (2, va_rf a2)]) [0, 1, 2] dX2_init_2_73 rfl (by decide) rfl rfl (zcB (j := 2) rfl (zcat_rf a2) rfl) ?_
          refine s_aload_n (pc := 74) 1 dX2_init_2_74 rfl rfl ?_
          refine s_gR (pc := 75) dX2_init_2_75 gf_X2_12 (fun r171 => ?_)
          refine s_aload_n (pc := 78) 0 dX2_init_2_78 rfl rfl ?_
          refine s_gI (pc := 79) dX2_init_2_79 gf_X2_58 (fun x172 => ?_)
          refine s_callSS (pc := 82) (np := 1) (as := [.int x172]) (rest := [va_rf r171]) dX2_init_2_82 (c_J24_valueOf (by decide) x172 h161) rfl rfl q1995 q683 rfl (by simp [zcat_rf, zcat_i, zcat_l, zcat_f, zcat_d]) (zkR (fun r173 h174 => ?_)) zxo
          refine s_new (pc := 85) dX2_init_2_85 nf_X2_56 (fun r175 h176 => ?_)
          refine s_dup (pc := 88) dX2_init_2_88 (zcat_rf _) ?_
          refine s_aload_n (pc := 89) 0 dX2_init_2_89 rfl rfl ?_
          refine zS_ite (fun hr => ?_) (fun _ => zS_none)
          refine s_callC (pc := 90) (np := 1) (as := [va_rf r160]) (rest := [va_rf r175, va_rf r173, va_rf r171]) dX2_init_2_90 hr (c_X6_init (by decide) r175 r160 h176) ⟨_, _, q1999⟩ rfl rfl rfl q1997 q1998 rfl (by simp [zcat_rf, zcat_i, zcat_l, zcat_f, zcat_d]) (zkV (fun h177 => ?_)) zxo
          refine zS_ite (fun ht => ?_) (fun _ => zS_none)
          refine s_callVU (pc := 93) (np := 2) (as := [va_rf r173, va_rf r175]) (rest := []) (owner := "java/util/HashMap") dX2_init_2_93 ht (q := (RJ2, TJ2, 12)) rfl (c_J1_put (by decide) r171 r173 r175 h177) ⟨_, _, _, q2051⟩ rfl rfl q2046 q2047 (Or.inl ⟨_, _, _, q2050, q2051⟩) (by decide) q2050 q2049 rfl (by decide) (zkR (fun r178 h179 => ?_)) zxo
          refine s_cast (pc := 96) dX2_init_2_96 q836 zcs_FloatingDock_Ship ?_
          refine s_ast (pc := 99) (L2 := [(0, va_rf a0), (1, va_rf a1), (2, va_rf a2)]) [1, 2, 3] dX2_init_2_99 (by decide) rfl rfl (zcA rfl) ?_
          refine s_goto (pc := 101) (tgt := 55) dX2_init_2_101 (by decide) ?_
          exact s_sub (pc := 55) [1, 2, 3] rfl (ih a0 a1 a2 h179)
        refine zS_ite (fun ht => ?_) (fun _ => ?_)
        · refine s_callF (pc := 65) (np := 0) (as := []) (rest := []) dX2_init_2_65 ht (q := (RJ17, TJ17, 5)) rfl (c_J17_next (by decide) a2 h18) ⟨_, _, _, q799⟩ rfl rfl q670 (by decide +kernel) q797 q795 rfl (by decide) (zkR (fun r160 h161 => ?_)) zxo
          refine s_cast (pc := 70) dX2_init_2_70 q836 zcs_FloatingDock_Ship ?_
          refine s_ast_n (pc := 73) (L2 := [(0, va_rf a0), (1, va_rf a1), (2, va_rf a2)]) [0, 1, 2] dX2_init_2_73 rfl (by decide) rfl rfl (zcB (j := 2) rfl (zcat_rf a2) rfl) ?_
          refine s_aload_n (pc := 74) 1 dX2_init_2_74 rfl rfl ?_
          refine s_gR (pc := 75) dX2_init_2_75 gf_X2_12 (fun r180 => ?_)
          refine s_aload_n (pc := 78) 0 dX2_init_2_78 rfl rfl ?_
          refine s_gI (pc := 79) dX2_init_2_79 gf_X2_58 (fun x181 => ?_)
          refine s_callSS (pc := 82) (np := 1) (as := [.int x181]) (rest := [va_rf r180]) dX2_init_2_82 (c_J24_valueOf (by decide) x181 h161) rfl rfl q1995 q683 rfl (by simp [zcat_rf, zcat_i, zcat_l, zcat_f, zcat_d]) (zkR (fun r182 h183 => ?_)) zxo
          refine s_new (pc := 85) dX2_init_2_85 nf_X2_56 (fun r184 h185 => ?_)
          refine s_dup (pc := 88) dX2_init_2_88 (zcat_rf _) ?_
          refine s_aload_n (pc := 89) 0 dX2_init_2_89 rfl rfl ?_
          refine zS_ite (fun hr => ?_) (fun _ => zS_none)
          refine s_callC (pc := 90) (np := 1) (as := [va_rf r160]) (rest := [va_rf r184, va_rf r182, va_rf r180]) dX2_init_2_90 hr (c_X6_init (by decide) r184 r160 h185) ⟨_, _, q1999⟩ rfl rfl rfl q1997 q1998 rfl (by simp [zcat_rf, zcat_i, zcat_l, zcat_f, zcat_d]) (zkV (fun h186 => ?_)) zxo
          refine zS_ite (fun ht => ?_) (fun _ => zS_none)
          refine s_callVU (pc := 93) (np := 2) (as := [va_rf r182, va_rf r184]) (rest := []) (owner := "java/util/HashMap") dX2_init_2_93 ht (q := (RJ2, TJ2, 12)) rfl (c_J1_put (by decide) r180 r182 r184 h186) ⟨_, _, _, q2051⟩ rfl rfl q2046 q2047 (Or.inl ⟨_, _, _, q2050, q2051⟩) (by decide) q2050 q2049 rfl (by decide) (zkR (fun r187 h188 => ?_)) zxo
          refine s_cast (pc := 96) dX2_init_2_96 q836 zcs_FloatingDock_Ship ?_
          refine s_ast (pc := 99) (L2 := [(0, va_rf a0), (1, va_rf a1), (2, va_rf a2)]) [1, 2, 3] dX2_init_2_99 (by decide) rfl rfl (zcA rfl) ?_
          refine s_goto (pc := 101) (tgt := 55) dX2_init_2_101 (by decide) ?_
          exact s_sub (pc := 55) [1, 2, 3] rfl (ih a0 a1 a2 h188)
        refine zS_ite (fun ht => ?_) (fun _ => ?_)
        · refine s_callF (pc := 65) (np := 0) (as := []) (rest := []) dX2_init_2_65 ht (q := (RJ21, TJ21, 5)) rfl (c_J21_next (by decide) a2 h18) ⟨_, _, _, q812⟩ rfl rfl q670 (by decide +kernel) q810 q808 rfl (by decide) (zkR (fun r160 h161 => ?_)) zxo
          refine s_cast (pc := 70) dX2_init_2_70 q836 zcs_FloatingDock_Ship ?_
          refine s_ast_n (pc := 73) (L2 := [(0, va_rf a0), (1, va_rf a1), (2, va_rf a2)]) [0, 1, 2] dX2_init_2_73 rfl (by decide) rfl rfl (zcB (j := 2) rfl (zcat_rf a2) rfl) ?_
          refine s_aload_n (pc := 74) 1 dX2_init_2_74 rfl rfl ?_
          refine s_gR (pc := 75) dX2_init_2_75 gf_X2_12 (fun r189 => ?_)
          refine s_aload_n (pc := 78) 0 dX2_init_2_78 rfl rfl ?_
          refine s_gI (pc := 79) dX2_init_2_79 gf_X2_58 (fun x190 => ?_)
          refine s_callSS (pc := 82) (np := 1) (as := [.int x190]) (rest := [va_rf r189]) dX2_init_2_82 (c_J24_valueOf (by decide) x190 h161) rfl rfl q1995 q683 rfl (by simp [zcat_rf, zcat_i, zcat_l, zcat_f, zcat_d]) (zkR (fun r191 h192 => ?_)) zxo
          refine s_new (pc := 85) dX2_init_2_85 nf_X2_56 (fun r193 h194 => ?_)
          refine s_dup (pc := 88) dX2_init_2_88 (zcat_rf _) ?_
          refine s_aload_n (pc := 89) 0 dX2_init_2_89 rfl rfl ?_
          refine zS_ite (fun hr => ?_) (fun _ => zS_none)
          refine s_callC (pc := 90) (np := 1) (as := [va_rf r160]) (rest := [va_rf r193, va_rf r191, va_rf r189]) dX2_init_2_90 hr (c_X6_init (by decide) r193 r160 h194) ⟨_, _, q1999⟩ rfl rfl rfl q1997 q1998 rfl (by simp [zcat_rf, zcat_i, zcat_l, zcat_f, zcat_d]) (zkV (fun h195 => ?_)) zxo
          refine zS_ite (fun ht => ?_) (fun _ => zS_none)
          refine s_callVU (pc := 93) (np := 2) (as := [va_rf r191, va_rf r193]) (rest := []) (owner := "java/util/HashMap") dX2_init_2_93 ht (q := (RJ2, TJ2, 12)) rfl (c_J1_put (by decide) r189 r191 r193 h195) ⟨_, _, _, q2051⟩ rfl rfl q2046 q2047 (Or.inl ⟨_, _, _, q2050, q2051⟩) (by decide) q2050 q2049 rfl (by decide) (zkR (fun r196 h197 => ?_)) zxo
          refine s_cast (pc := 96) dX2_init_2_96 q836 zcs_FloatingDock_Ship ?_
          refine s_ast (pc := 99) (L2 := [(0, va_rf a0), (1, va_rf a1), (2, va_rf a2)]) [1, 2, 3] dX2_init_2_99 (by decide) rfl rfl (zcA rfl) ?_
          refine s_goto (pc := 101) (tgt := 55) dX2_init_2_101 (by decide) ?_
          exact s_sub (pc := 55) [1, 2, 3] rfl (ih a0 a1 a2 h197)
        refine zS_ite (fun ht => ?_) (fun _ => zS_none)
        refine s_callF (pc := 65) (np := 0) (as := []) (rest := []) dX2_init_2_65 ht (q := (RJ22, TJ22, 5)) rfl (c_J22_next (by decide) a2 h18) ⟨_, _, _, q832⟩ rfl rfl q670 (by decide +kernel) q830 q828 rfl (by decide) (zkR (fun r160 h161 => ?_)) zxo
        refine s_cast (pc := 70) dX2_init_2_70 q836 zcs_FloatingDock_Ship ?_
        refine s_ast_n (pc := 73) (L2 := [(0, va_rf a0), (1, va_rf a1), (2, va_rf a2)]) [0, 1, 2] dX2_init_2_73 rfl (by decide) rfl rfl (zcB (j := 2) rfl (zcat_rf a2) rfl) ?_
        refine s_aload_n (pc := 74) 1 dX2_init_2_74 rfl rfl ?_
        refine s_gR (pc := 75) dX2_init_2_75 gf_X2_12 (fun r198 => ?_)
        refine s_aload_n (pc := 78) 0 dX2_init_2_78 rfl rfl ?_
        refine s_gI (pc := 79) dX2_init_2_79 gf_X2_58 (fun x199 => ?_)
        refine s_callSS (pc := 82) (np := 1) (as := [.int x199]) (rest := [va_rf r198]) dX2_init_2_82 (c_J24_valueOf (by decide) x199 h161) rfl rfl q1995 q683 rfl (by simp [zcat_rf, zcat_i, zcat_l, zcat_f, zcat_d]) (zkR (fun r200 h201 => ?_)) zxo
        refine s_new (pc := 85) dX2_init_2_85 nf_X2_56 (fun r202 h203 => ?_)
        refine s_dup (pc := 88) dX2_init_2_88 (zcat_rf _) ?_
        refine s_aload_n (pc := 89) 0 dX2_init_2_89 rfl rfl ?_
        refine zS_ite (fun hr => ?_) (fun _ => zS_none)
        refine s_callC (pc := 90) (np := 1) (as := [va_rf r160]) (rest := [va_rf r202, va_rf r200, va_rf r198]) dX2_init_2_90 hr (c_X6_init (by decide) r202 r160 h203) ⟨_, _, q1999⟩ rfl rfl rfl q1997 q1998 rfl (by simp [zcat_rf, zcat_i, zcat_l, zcat_f, zcat_d]) (zkV (fun h204 => ?_)) zxo
        refine zS_ite (fun ht => ?_) (fun _ => zS_none)
        refine s_callVU (pc := 93) (np := 2) (as := [va_rf r200, va_rf r202]) (rest := []) (owner := "java/util/HashMap") dX2_init_2_93 ht (q := (RJ2, TJ2, 12)) rfl (c_J1_put (by decide) r198 r200 r202 h204) ⟨_, _, _, q2051⟩ rfl rfl q2046 q2047 (Or.inl ⟨_, _, _, q2050, q2051⟩) (by decide) q2050 q2049 rfl (by decide) (zkR (fun r205 h206 => ?_)) zxo
        refine s_cast (pc := 96) dX2_init_2_96 q836 zcs_FloatingDock_Ship ?_
        refine s_ast (pc := 99) (L2 := [(0, va_rf a0), (1, va_rf a1), (2, va_rf a2)]) [1, 2, 3] dX2_init_2_99 (by decide) rfl rfl (zcA rfl) ?_
        refine s_goto (pc := 101) (tgt := 55) dX2_init_2_101 (by decide) ?_
        exact s_sub (pc := 55) [1, 2, 3] rfl (ih a0 a1 a2 h206)
    refine zS_ite (fun ht => ?_) (fun _ => zS_none)
    refine s_callF (pc := 56) (np := 0) (as := []) (rest := []) dX2_init_2_56 ht (q := (RJ22, TJ22, 5)) rfl (c_J20_hasNext (by decide) a2 h) ⟨_, _, _, q665⟩ rfl rfl q629 (by decide +kernel) q663 q667 rfl (by decide) (zkI (fun x17 h18 => ?_)) zxo
    refine s_if_eq (pc := 61) (tgt := 104) dX2_init_2_61 (by decide) (fun _ => ?_) (fun _ => ?_)
    · exact s_sub (pc := 104) [0, 1] rfl (w_X2_init_2_104 a0 a1 h18)
    · refine s_aload_n (pc := 64) 2 dX2_init_2_64 rfl rfl ?_
      refine zS_ite (fun ht => ?_) (fun _ => ?_)
      · refine s_callF (pc := 65) (np := 0) (as := []) (rest := []) dX2_init_2_65 ht (q := (RX9, TX9, 2)) rfl (c_X9_next (by decide) a2 h18) ⟨_, _, _, q677⟩ rfl rfl q670 (by decide +kernel) q675 q673 rfl (by decide) (zkR (fun r207 h208 => ?_)) zxo
        refine s_cast (pc := 70) dX2_init_2_70 q836 zcs_FloatingDock_Ship ?_
        refine s_ast_n (pc := 73) (L2 := [(0, va_rf a0), (1, va_rf a1), (2, va_rf a2)]) [0, 1, 2] dX2_init_2_73 rfl (by decide) rfl rfl (zcB (j := 2) rfl (zcat_rf a2) rfl) ?_
        refine s_aload_n (pc := 74) 1 dX2_init_2_74 rfl rfl ?_
        refine s_gR (pc := 75) dX2_init_2_75 gf_X2_12 (fun r209 => ?_)
        refine s_aload_n (pc := 78) 0 dX2_init_2_78 rfl rfl ?_
        refine s_gI (pc := 79) dX2_init_2_79 gf_X2_58 (fun x210 => ?_)
        refine s_callSS (pc := 82) (np := 1) (as := [.int x210]) (rest := [va_rf r209]) dX2_init_2_82 (c_J24_valueOf (by decide) x210 h208) rfl rfl q1995 q683 rfl (by simp [zcat_rf, zcat_i, zcat_l, zcat_f, zcat_d]) (zkR (fun r211 h212 => ?_)) zxo
        refine s_new (pc := 85) dX2_init_2_85 nf_X2_56 (fun r213 h214 => ?_)
        refine s_dup (pc := 88) dX2_init_2_88 (zcat_rf _) ?_
        refine s_aload_n (pc := 89) 0 dX2_init_2_89 rfl rfl ?_
        refine zS_ite (fun hr => ?_) (fun _ => zS_none)
        refine s_callC (pc := 90) (np := 1) (as := [va_rf r207]) (rest := [va_rf r213, va_rf r211, va_rf r209]) dX2_init_2_90 hr (c_X6_init (by decide) r213 r207 h214) ⟨_, _, q1999⟩ rfl rfl rfl q1997 q1998 rfl (by simp [zcat_rf, zcat_i, zcat_l, zcat_f, zcat_d]) (zkV (fun h215 => ?_)) zxo
        refine zS_ite (fun ht => ?_) (fun _ => zS_none)
        refine s_callVU (pc := 93) (np := 2) (as := [va_rf r211, va_rf r213]) (rest := []) (owner := "java/util/HashMap") dX2_init_2_93 ht (q := (RJ2, TJ2, 12)) rfl (c_J1_put (by decide) r209 r211 r213 h215) ⟨_, _, _, q2051⟩ rfl rfl q2046 q2047 (Or.inl ⟨_, _, _, q2050, q2051⟩) (by decide) q2050 q2049 rfl (by decide) (zkR (fun r216 h217 => ?_)) zxo
        refine s_cast (pc := 96) dX2_init_2_96 q836 zcs_FloatingDock_Ship ?_
        refine s_ast (pc := 99) (L2 := [(0, va_rf a0), (1, va_rf a1), (2, va_rf a2)]) [1, 2, 3] dX2_init_2_99 (by decide) rfl rfl (zcA rfl) ?_
        refine s_goto (pc := 101) (tgt := 55) dX2_init_2_101 (by decide) ?_
        exact s_sub (pc := 55) [1, 2, 3] rfl (ih a0 a1 a2 h217)
      refine zS_ite (fun ht => ?_) (fun _ => ?_)
      · refine s_callF (pc := 65) (np := 0) (as := []) (rest := []) dX2_init_2_65 ht (q := (RJ15, TJ15, 4)) rfl (c_J15_next (by decide) a2 h18) ⟨_, _, _, q788⟩ rfl rfl q670 (by decide +kernel) q786 q784 rfl (by decide) (zkR (fun r207 h208 => ?_)) zxo
        refine s_cast (pc := 70) dX2_init_2_70 q836 zcs_FloatingDock_Ship ?_
        refine s_ast_n (pc := 73) (L2 := [(0, va_rf a0), (1, va_rf a1), (2, va_rf a2)]) [0, 1, 2] dX2_init_2_73 rfl (by decide) rfl rfl (zcB (j := 2) rfl (zcat_rf a2) rfl) ?_
        refine s_aload_n (pc := 74) 1 dX2_init_2_74 rfl rfl ?_
        refine s_gR (pc := 75) dX2_init_2_75 gf_X2_12 (fun r218 => ?_)
        refine s_aload_n (pc := 78) 0 dX2_init_2_78 rfl rfl ?_
        refine s_gI (pc := 79) dX2_init_2_79 gf_X2_58 (fun x219 => ?_)
        refine s_callSS (pc := 82) (np := 1) (as := [.int x219]) (rest := [va_rf r218]) dX2_init_2_82 (c_J24_valueOf (by decide) x219 h208) rfl rfl q1995 q683 rfl (by simp [zcat_rf, zcat_i, zcat_l, zcat_f, zcat_d]) (zkR (fun r220 h221 => ?_)) zxo
        refine s_new (pc := 85) dX2_init_2_85 nf_X2_56 (fun r222 h223 => ?_)
        refine s_dup (pc := 88) dX2_init_2_88 (zcat_rf _) ?_
        refine s_aload_n (pc := 89) 0 dX2_init_2_89 rfl rfl ?_
        refine zS_ite (fun hr => ?_) (fun _ => zS_none)
        refine s_callC (pc := 90) (np := 1) (as := [va_rf r207]) (rest := [va_rf r222, va_rf r220, va_rf r218]) dX2_init_2_90 hr (c_X6_init (by decide) r222 r207 h223) ⟨_, _, q1999⟩ rfl rfl rfl q1997 q1998 rfl (by simp [zcat_rf, zcat_i, zcat_l, zcat_f, zcat_d]) (zkV (fun h224 => ?_)) zxo
        refine zS_ite (fun ht => ?_) (fun _ => zS_none)
        refine s_callVU (pc := 93) (np := 2) (as := [va_rf r220, va_rf r222]) (rest := []) (owner := "java/util/HashMap") dX2_init_2_93 ht (q := (RJ2, TJ2, 12)) rfl (c_J1_put (by decide) r218 r220 r222 h224) ⟨_, _, _, q2051⟩ rfl rfl q2046 q2047 (Or.inl ⟨_, _, _, q2050, q2051⟩) (by decide) q2050 q2049 rfl (by decide) (zkR (fun r225 h226 => ?_)) zxo
        refine s_cast (pc := 96) dX2_init_2_96 q836 zcs_FloatingDock_Ship ?_
        refine s_ast (pc := 99) (L2 := [(0, va_rf a0), (1, va_rf a1), (2, va_rf a2)]) [1, 2, 3] dX2_init_2_99 (by decide) rfl rfl (zcA rfl) ?_
        refine s_goto (pc := 101) (tgt := 55) dX2_init_2_101 (by decide) ?_
        exact s_sub (pc := 55) [1, 2, 3] rfl (ih a0 a1 a2 h226)
      refine zS_ite (fun ht => ?_) (fun _ => ?_)
      · refine s_callF (pc := 65) (np := 0) (as := []) (rest := []) dX2_init_2_65 ht (q := (RJ17, TJ17, 5)) rfl (c_J17_next (by decide) a2 h18) ⟨_, _, _, q799⟩ rfl rfl q670 (by decide +kernel) q797 q795 rfl (by decide) (zkR (fun r207 h208 => ?_)) zxo
        refine s_cast (pc := 70) dX2_init_2_70 q836 zcs_FloatingDock_Ship ?_
        refine s_ast_n (pc := 73) (L2 := [(0, va_rf a0), (1, va_rf a1), (2, va_rf a2)]) [0, 1, 2] dX2_init_2_73 rfl (by decide) rfl rfl (zcB (j := 2) rfl (zcat_rf a2) rfl) ?_
        refine s_aload_n (pc := 74) 1 dX2_init_2_74 rfl rfl ?_
        refine s_gR (pc := 75) dX2_init_2_75 gf_X2_12 (fun r227 => ?_)
        refine s_aload_n (pc := 78) 0 dX2_init_2_78 rfl rfl ?_
        refine s_gI (pc := 79) dX2_init_2_79 gf_X2_58 (fun x228 => ?_)
        refine s_callSS (pc := 82) (np := 1) (as := [.int x228]) (rest := [va_rf r227]) dX2_init_2_82 (c_J24_valueOf (by decide) x228 h208) rfl rfl q1995 q683 rfl (by simp [zcat_rf, zcat_i, zcat_l, zcat_f, zcat_d]) (zkR (fun r229 h230 => ?_)) zxo
        refine s_new (pc := 85) dX2_init_2_85 nf_X2_56 (fun r231 h232 => ?_)
        refine s_dup (pc := 88) dX2_init_2_88 (zcat_rf _) ?_
        refine s_aload_n (pc := 89) 0 dX2_init_2_89 rfl rfl ?_
        refine zS_ite (fun hr => ?_) (fun _ => zS_none)
        refine s_callC (pc := 90) (np := 1) (as := [va_rf r207]) (rest := [va_rf r231, va_rf r229, va_rf r227]) dX2_init_2_90 hr (c_X6_init (by decide) r231 r207 h232) ⟨_, _, q1999⟩ rfl rfl rfl q1997 q1998 rfl (by simp [zcat_rf, zcat_i, zcat_l, zcat_f, zcat_d]) (zkV (fun h233 => ?_)) zxo
        refine zS_ite (fun ht => ?_) (fun _ => zS_none)
        refine s_callVU (pc := 93) (np := 2) (as := [va_rf r229, va_rf r231]) (rest := []) (owner := "java/util/HashMap") dX2_init_2_93 ht (q := (RJ2, TJ2, 12)) rfl (c_J1_put (by decide) r227 r229 r231 h233) ⟨_, _, _, q2051⟩ rfl rfl q2046 q2047 (Or.inl ⟨_, _, _, q2050, q2051⟩) (by decide) q2050 q2049 rfl (by decide) (zkR (fun r234 h235 => ?_)) zxo
        refine s_cast (pc := 96) dX2_init_2_96 q836 zcs_FloatingDock_Ship ?_
        refine s_ast (pc := 99) (L2 := [(0, va_rf a0), (1, va_rf a1), (2, va_rf a2)]) [1, 2, 3] dX2_init_2_99 (by decide) rfl rfl (zcA rfl) ?_
        refine s_goto (pc := 101) (tgt := 55) dX2_init_2_101 (by decide) ?_
        exact s_sub (pc := 55) [1, 2, 3] rfl (ih a0 a1 a2 h235)
      refine zS_ite (fun ht => ?_) (fun _ => ?_)
      · refine s_callF (pc := 65) (np := 0) (as := []) (rest := []) dX2_init_2_65 ht (q := (RJ21, TJ21, 5)) rfl (c_J21_next (by decide) a2 h18) ⟨_, _, _, q812⟩ rfl rfl q670 (by decide +kernel) q810 q808 rfl (by decide) (zkR (fun r207 h208 => ?_)) zxo
        refine s_cast (pc := 70) dX2_init_2_70 q836 zcs_FloatingDock_Ship ?_
        refine s_ast_n (pc := 73) (L2 := [(0, va_rf a0), (1, va_rf a1), (2, va_rf a2)]) [0, 1, 2] dX2_init_2_73 rfl (by decide) rfl rfl (zcB (j := 2) rfl (zcat_rf a2) rfl) ?_
        refine s_aload_n (pc := 74) 1 dX2_init_2_74 rfl rfl ?_
        refine s_gR (pc := 75) dX2_init_2_75 gf_X2_12 (fun r236 => ?_)
        refine s_aload_n (pc := 78) 0 dX2_init_2_78 rfl rfl ?_
        refine s_gI (pc := 79) dX2_init_2_79 gf_X2_58 (fun x237 => ?_)
        refine s_callSS (pc := 82) (np := 1) (as := [.int x237]) (rest := [va_rf r236]) dX2_init_2_82 (c_J24_valueOf (by decide) x237 h208) rfl rfl q1995 q683 rfl (by simp [zcat_rf, zcat_i, zcat_l, zcat_f, zcat_d]) (zkR (fun r238 h239 => ?_)) zxo
        refine s_new (pc := 85) dX2_init_2_85 nf_X2_56 (fun r240 h241 => ?_)
        refine s_dup (pc := 88) dX2_init_2_88 (zcat_rf _) ?_
        refine s_aload_n (pc := 89) 0 dX2_init_2_89 rfl rfl ?_
        refine zS_ite (fun hr => ?_) (fun _ => zS_none)
        refine s_callC (pc := 90) (np := 1) (as := [va_rf r207]) (rest := [va_rf r240, va_rf r238, va_rf r236]) dX2_init_2_90 hr (c_X6_init (by decide) r240 r207 h241) ⟨_, _, q1999⟩ rfl rfl rfl q1997 q1998 rfl (by simp [zcat_rf, zcat_i, zcat_l, zcat_f, zcat_d]) (zkV (fun h242 => ?_)) zxo
        refine zS_ite (fun ht => ?_) (fun _ => zS_none)
        refine s_callVU (pc := 93) (np := 2) (as := [va_rf r238, va_rf r240]) (rest := []) (owner := "java/util/HashMap") dX2_init_2_93 ht (q := (RJ2, TJ2, 12)) rfl (c_J1_put (by decide) r236 r238 r240 h242) ⟨_, _, _, q2051⟩ rfl rfl q2046 q2047 (Or.inl ⟨_, _, _, q2050, q2051⟩) (by decide) q2050 q2049 rfl (by decide) (zkR (fun r243 h244 => ?_)) zxo
        refine s_cast (pc := 96) dX2_init_2_96 q836 zcs_FloatingDock_Ship ?_
        refine s_ast (pc := 99) (L2 := [(0, va_rf a0), (1, va_rf a1), (2, va_rf a2)]) [1, 2, 3] dX2_init_2_99 (by decide) rfl rfl (zcA rfl) ?_
        refine s_goto (pc := 101) (tgt := 55) dX2_init_2_101 (by decide) ?_
        exact s_sub (pc := 55) [1, 2, 3] rfl (ih a0 a1 a2 h244)
      refine zS_ite (fun ht => ?_) (fun _ => zS_none)
      refine s_callF (pc := 65) (np := 0) (as := []) (rest := []) dX2_init_2_65 ht (q := (RJ22, TJ22, 5)) rfl (c_J22_next (by decide) a2 h18) ⟨_, _, _, q832⟩ rfl rfl q670 (by decide +kernel) q830 q828 rfl (by decide) (zkR (fun r207 h208 => ?_)) zxo
      refine s_cast (pc := 70) dX2_init_2_70 q836 zcs_FloatingDock_Ship ?_
      refine s_ast_n (pc := 73) (L2 := [(0, va_rf a0), (1, va_rf a1), (2, va_rf a2)]) [0, 1, 2] dX2_init_2_73 rfl (by decide) rfl rfl (zcB (j := 2) rfl (zcat_rf a2) rfl) ?_
      refine s_aload_n (pc := 74) 1 dX2_init_2_74 rfl rfl ?_
      refine s_gR (pc := 75) dX2_init_2_75 gf_X2_12 (fun r245 => ?_)
      refine s_aload_n (pc := 78) 0 dX2_init_2_78 rfl rfl ?_
      refine s_gI (pc := 79) dX2_init_2_79 gf_X2_58 (fun x246 => ?_)
      refine s_callSS (pc := 82) (np := 1) (as := [.int x246]) (rest := [va_rf r245]) dX2_init_2_82 (c_J24_valueOf (by decide) x246 h208) rfl rfl q1995 q683 rfl (by simp [zcat_rf, zcat_i, zcat_l, zcat_f, zcat_d]) (zkR (fun r247 h248 => ?_)) zxo
      refine s_new (pc := 85) dX2_init_2_85 nf_X2_56 (fun r249 h250 => ?_)
      refine s_dup (pc := 88) dX2_init_2_88 (zcat_rf _) ?_
      refine s_aload_n (pc := 89) 0 dX2_init_2_89 rfl rfl ?_
      refine zS_ite (fun hr => ?_) (fun _ => zS_none)
      refine s_callC (pc := 90) (np := 1) (as := [va_rf r207]) (rest := [va_rf r249, va_rf r247, va_rf r245]) dX2_init_2_90 hr (c_X6_init (by decide) r249 r207 h250) ⟨_, _, q1999⟩ rfl rfl rfl q1997 q1998 rfl (by simp [zcat_rf, zcat_i, zcat_l, zcat_f, zcat_d]) (zkV (fun h251 => ?_)) zxo
      refine zS_ite (fun ht => ?_) (fun _ => zS_none)
      refine s_callVU (pc := 93) (np := 2) (as := [va_rf r247, va_rf r249]) (rest := []) (owner := "java/util/HashMap") dX2_init_2_93 ht (q := (RJ2, TJ2, 12)) rfl (c_J1_put (by decide) r245 r247 r249 h251) ⟨_, _, _, q2051⟩ rfl rfl q2046 q2047 (Or.inl ⟨_, _, _, q2050, q2051⟩) (by decide) q2050 q2049 rfl (by decide) (zkR (fun r252 h253 => ?_)) zxo
      refine s_cast (pc := 96) dX2_init_2_96 q836 zcs_FloatingDock_Ship ?_
      refine s_ast (pc := 99) (L2 := [(0, va_rf a0), (1, va_rf a1), (2, va_rf a2)]) [1, 2, 3] dX2_init_2_99 (by decide) rfl rfl (zcA rfl) ?_
      refine s_goto (pc := 101) (tgt := 55) dX2_init_2_101 (by decide) ?_
      exact s_sub (pc := 55) [1, 2, 3] rfl (ih a0 a1 a2 h253)
theorem w_X2_init_2 (v0 : Option Nat) (v1 : Option Nat) (h : zH) : zS D z yX2_init_2 cX2_init_2 5 none [] 10 h 0 [(0, va_rf v0), (1, va_rf v1)] [] (f_X2_init_2 v0 v1 h) := by
  unfold f_X2_init_2
  refine s_aload_n (pc := 0) 0 dX2_init_2_0 rfl rfl ?_
  refine zS_ite (fun hr => ?_) (fun _ => zS_none)
  refine s_objinit (pc := 1) dX2_init_2_1 hr q177 q164 q165 (by decide) (by decide) ?_
  refine s_aload_n (pc := 4) 0 dX2_init_2_4 rfl rfl ?_
  refine s_new (pc := 5) dX2_init_2_5 nf_X2_9 (fun r1 h2 => ?_)
  refine s_dup (pc := 8) dX2_init_2_8 (zcat_rf _) ?_
  refine zS_ite (fun hr => ?_) (fun _ => zS_none)
  refine s_callC (pc := 9) (np := 0) (as := []) (rest := [va_rf r1, va_rf v0]) dX2_init_2_9 hr (c_J2_init (by decide) r1 h2) ⟨_, _, q182⟩ rfl rfl rfl q180 q181 rfl (by simp [zcat_rf, zcat_i, zcat_l, zcat_f, zcat_d]) (zkV (fun h3 => ?_)) zxo
  refine s_putR (pc := 12) dX2_init_2_12 pf_X2_12 (fun h4 => ?_)
  refine s_aload_n (pc := 15) 0 dX2_init_2_15 rfl rfl ?_
  refine s_new (pc := 16) dX2_init_2_16 nf_X2_18 (fun r5 h6 => ?_)
  refine s_dup (pc := 19) dX2_init_2_19 (zcat_rf _) ?_
  refine zS_ite (fun hr => ?_) (fun _ => zS_none)
  refine s_callC (pc := 20) (np := 0) (as := []) (rest := [va_rf r5, va_rf v0]) dX2_init_2_20 hr (c_J5_init (by decide) r5 h6) ⟨_, _, q243⟩ rfl rfl rfl q241 q242 rfl (by simp [zcat_rf, zcat_i, zcat_l, zcat_f, zcat_d]) (zkV (fun h7 => ?_)) zxo
  refine s_putR (pc := 23) dX2_init_2_23 pf_X2_21 (fun h8 => ?_)
  refine s_aload_n (pc := 26) 0 dX2_init_2_26 rfl rfl ?_
  refine s_bipush (pc := 27) (v := 100) dX2_init_2_27 (by decide) ?_
  refine s_putI (pc := 29) dX2_init_2_29 pf_X2_25 (fun h9 => ?_)
  refine s_aload_n (pc := 32) 0 dX2_init_2_32 rfl rfl ?_
  refine s_iconst (pc := 33) (v := 3) dX2_init_2_33 (by decide) ?_
  refine s_putI (pc := 34) dX2_init_2_34 pf_X2_29 (fun h10 => ?_)
  refine s_aload_n (pc := 37) 0 dX2_init_2_37 rfl rfl ?_
  refine s_iconst (pc := 38) (v := 1) dX2_init_2_38 (by decide) ?_
  refine s_putN (pc := 39) dX2_init_2_39 pf_X2_32 (fun h11 => ?_)
  refine s_aload_n (pc := 42) 1 dX2_init_2_42 rfl rfl ?_
  refine s_gR (pc := 43) dX2_init_2_43 gf_X2_12 (fun r12 => ?_)
  refine zS_ite (fun ht => ?_) (fun _ => zS_none)
  refine s_callV (pc := 46) (np := 0) (as := []) (rest := []) dX2_init_2_46 ht (q := (RJ2, TJ2, 12)) rfl (c_J2_values (by decide) r12 h11) rfl rfl q413 q414 q415 rfl (by decide) (zkR (fun r13 h14 => ?_)) zxo
  refine zS_ite (fun ht => ?_) (fun _ => zS_none)
  refine s_callF (pc := 49) (np := 0) (as := []) (rest := []) dX2_init_2_49 ht (q := (RJ13, TJ13, 2)) rfl (c_J13_iterator (by decide) r13 h14) ⟨_, _, _, q615⟩ rfl rfl q436 (by decide +kernel) q613 q611 rfl (by decide) (zkR (fun r15 h16 => ?_)) zxo
  refine s_ast_n (pc := 54) (L2 := [(0, va_rf v0), (1, va_rf v1)]) [0, 1] dX2_init_2_54 rfl (by decide) rfl rfl (zcB (j := 1) rfl (zcat_rf v1) rfl) ?_
  exact s_sub (pc := 55) [1, 2, 0] rfl (w_X2_init_2_55 zfuel v0 v1 r15 h16)
theorem c_X2_init_2 {d0 : Nat} (hd0 : 10 < d0) (v0 : Option Nat) (v1 : Option Nat) (h : zH) : zCal D z d0 h yX2_init_2 [va_rf v0, va_rf v1] (f_X2_init_2 v0 v1 h) :=
  ⟨cX2_init_2, 5, none, [], 10, (show lv_args 0 [va_rf v0, va_rf v1] = [(0, va_rf v0), (1, va_rf v1)] by simp [lv_args, zcat_rf, zcat_i, zcat_l, zcat_f, zcat_d]) ▸ w_X2_init_2 v0 v1 h, (plainFor_of_name (by decide)), by simp [lg_sl, zcat_rf, zcat_i, zcat_l, zcat_f, zcat_d], q1994, q96, hd0, by decide, by decide⟩
theorem w_X1_isBetween (v0 : Int32) (v1 : Int32) (v2 : Int32) (h : zH) : zS D z yX1_isBetween cX1_isBetween 3 (some .boolean) [] 1 h 0 [(0, .int v0), (1, .int v1), (2, .int v2)] [] (f_X1_isBetween v0 v1 v2 h) := by
  unfold f_X1_isBetween
  refine s_iload_n (pc := 0) 0 dX1_isBetween_0 rfl rfl ?_
  refine s_iload_n (pc := 1) 1 dX1_isBetween_1 rfl rfl ?_
  refine s_icmp_lt (pc := 2) (tgt := 14) dX1_isBetween_2 (by decide) (fun _ => ?_) (fun _ => ?_)
  · refine s_iconst (pc := 14) (v := 0) dX1_isBetween_14 (by decide) ?_
    exact s_nret (pc := 15) dX1_isBetween_15 rfl
  · refine s_iload_n (pc := 5) 0 dX1_isBetween_5 rfl rfl ?_
    refine s_iload_n (pc := 6) 2 dX1_isBetween_6 rfl rfl ?_
    refine s_icmp_gt (pc := 7) (tgt := 14) dX1_isBetween_7 (by decide) (fun _ => ?_) (fun _ => ?_)
    · refine s_iconst (pc := 14) (v := 0) dX1_isBetween_14 (by decide) ?_
      exact s_nret (pc := 15) dX1_isBetween_15 rfl
    · refine s_iconst (pc := 10) (v := 1) dX1_isBetween_10 (by decide) ?_
      refine s_goto (pc := 11) (tgt := 15) dX1_isBetween_11 (by decide) ?_
      exact s_nret (pc := 15) dX1_isBetween_15 rfl
theorem c_X1_isBetween {d0 : Nat} (hd0 : 1 < d0) (v0 : Int32) (v1 : Int32) (v2 : Int32) (h : zH) : zCal D z d0 h yX1_isBetween [.int v0, .int v1, .int v2] (f_X1_isBetween v0 v1 v2 h) :=
  ⟨cX1_isBetween, 3, (some .boolean), [], 1, (show lv_args 0 [.int v0, .int v1, .int v2] = [(0, .int v0), (1, .int v1), (2, .int v2)] by simp [lv_args, zcat_rf, zcat_i, zcat_l, zcat_f, zcat_d]) ▸ w_X1_isBetween v0 v1 v2 h, (plainFor_of_name (by decide)), by simp [lg_sl, zcat_rf, zcat_i, zcat_l, zcat_f, zcat_d], q1519, q95, hd0, by decide, by decide⟩
theorem w_J34_init_2 (v0 : Option Nat) (h : zH) : zS D z yJ34_init_2 cJ34_init_2 1 none [] 4 h 0 [(0, va_rf v0)] [] (f_J34_init_2 v0 h) := by
  unfold f_J34_init_2
  refine s_aload_n (pc := 0) 0 dJ34_init_2_0 rfl rfl ?_
  refine zS_ite (fun hr => ?_) (fun _ => zS_none)
  refine s_callC (pc := 1) (np := 0) (as := []) (rest := []) dJ34_init_2_1 hr (c_J27_init (by decide) v0 h) ⟨_, _, q760⟩ rfl rfl rfl q2286 q759 rfl (by decide) (zkV (fun h1 => ?_)) zxo
  exact s_vret (pc := 4) dJ34_init_2_4 rfl
theorem c_J34_init_2 {d0 : Nat} (hd0 : 4 < d0) (v0 : Option Nat) (h : zH) : zCal D z d0 h yJ34_init_2 [va_rf v0] (f_J34_init_2 v0 h) :=
  ⟨cJ34_init_2, 1, none, [], 4, (show lv_args 0 [va_rf v0] = [(0, va_rf v0)] by simp [lv_args, zcat_rf, zcat_i, zcat_l, zcat_f, zcat_d]) ▸ w_J34_init_2 v0 h, (plainFor_of_name (by decide)), by simp [lg_sl, zcat_rf, zcat_i, zcat_l, zcat_f, zcat_d], q2285, q133, hd0, by decide, by decide⟩
theorem w_X1_checkArgument (v0 : Int32) (h : zH) : zS D z yX1_checkArgument cX1_checkArgument 1 none [] 8 h 0 [(0, .int v0)] [] (f_X1_checkArgument v0 h) := by
  unfold f_X1_checkArgument
  refine s_iload_n (pc := 0) 0 dX1_checkArgument_0 rfl rfl ?_
  refine s_if_ne (pc := 1) (tgt := 12) dX1_checkArgument_1 (by decide) (fun _ => ?_) (fun _ => ?_)
  · exact s_vret (pc := 12) dX1_checkArgument_12 rfl
  · refine s_make0 (pc := 4) dX1_checkArgument_4 dX1_checkArgument_7 dX1_checkArgument_8 xf_X1_86_88 (by decide) (by decide) (fun r1 h2 => ?_)
    exact s_athrow (pc := 11) dX1_checkArgument_11 rfl (fun x => zxo x _)
theorem c_X1_checkArgument {d0 : Nat} (hd0 : 8 < d0) (v0 : Int32) (h : zH) : zCal D z d0 h yX1_checkArgument [.int v0] (f_X1_checkArgument v0 h) :=
  ⟨cX1_checkArgument, 1, none, [], 8, (show lv_args 0 [.int v0] = [(0, .int v0)] by simp [lv_args, zcat_rf, zcat_i, zcat_l, zcat_f, zcat_d]) ▸ w_X1_checkArgument v0 h, (plainFor_of_name (by decide)), by simp [lg_sl, zcat_rf, zcat_i, zcat_l, zcat_f, zcat_d], q2281, q95, hd0, by decide, by decide⟩
theorem w_J1_size (v0 : Option Nat) (h : zH) : zS D z yJ1_size cJ1_size 1 (some .int) [] 1 h 0 [(0, va_rf v0)] [] (f_J1_size v0 h) := by
  unfold f_J1_size
  refine s_aload_n (pc := 0) 0 dJ1_size_0 rfl rfl ?_
  refine s_gI (pc := 1) dJ1_size_1 gf_J1_156 (fun x1 => ?_)
  exact s_iret (pc := 4) dJ1_size_4 rfl
theorem c_J1_size {d0 : Nat} (hd0 : 1 < d0) (v0 : Option Nat) (h : zH) : zCal D z d0 h yJ1_size [va_rf v0] (f_J1_size v0 h) :=
  ⟨cJ1_size, 1, (some .int), [], 1, (show lv_args 0 [va_rf v0] = [(0, va_rf v0)] by simp [lv_args, zcat_rf, zcat_i, zcat_l, zcat_f, zcat_d]) ▸ w_J1_size v0 h, (plainFor_of_name (by decide)), by simp [lg_sl, zcat_rf, zcat_i, zcat_l, zcat_f, zcat_d], q1427, q98, hd0, by decide, by decide⟩
theorem w_J39_init (v0 : Option Nat) (h : zH) : zS D z yJ39_init cJ39_init 1 none [] 4 h 0 [(0, va_rf v0)] [] (f_J39_init v0 h) := by
  unfold f_J39_init
  refine s_aload_n (pc := 0) 0 dJ39_init_0 rfl rfl ?_
  refine zS_ite (fun hr => ?_) (fun _ => zS_none)
  refine s_callC (pc := 1) (np := 0) (as := []) (rest := []) dJ39_init_1 hr (c_J27_init (by decide) v0 h) ⟨_, _, q760⟩ rfl rfl rfl q2303 q759 rfl (by decide) (zkV (fun h1 => ?_)) zxo
  exact s_vret (pc := 4) dJ39_init_4 rfl
theorem c_J39_init {d0 : Nat} (hd0 : 4 < d0) (v0 : Option Nat) (h : zH) : zCal D z d0 h yJ39_init [va_rf v0] (f_J39_init v0 h) :=
  ⟨cJ39_init, 1, none, [], 4, (show lv_args 0 [va_rf v0] = [(0, va_rf v0)] by simp [lv_args, zcat_rf, zcat_i, zcat_l, zcat_f, zcat_d]) ▸ w_J39_init v0 h, (plainFor_of_name (by decide)), by simp [lg_sl, zcat_rf, zcat_i, zcat_l, zcat_f, zcat_d], q2302, q141, hd0, by decide, by decide⟩
theorem w_X1_checkState (v0 : Int32) (h : zH) : zS D z yX1_checkState cX1_checkState 1 none [] 8 h 0 [(0, .int v0)] [] (f_X1_checkState v0 h) := by
  unfold f_X1_checkState
  refine s_iload_n (pc := 0) 0 dX1_checkState_0 rfl rfl ?_
  refine s_if_ne (pc := 1) (tgt := 12) dX1_checkState_1 (by decide) (fun _ => ?_) (fun _ => ?_)
  · exact s_vret (pc := 12) dX1_checkState_12 rfl
  · refine s_make0 (pc := 4) dX1_checkState_4 dX1_checkState_7 dX1_checkState_8 xf_X1_89_91 (by decide) (by decide) (fun r1 h2 => ?_)
    exact s_athrow (pc := 11) dX1_checkState_11 rfl (fun x => zxo x _)
theorem c_X1_checkState {d0 : Nat} (hd0 : 8 < d0) (v0 : Int32) (h : zH) : zCal D z d0 h yX1_checkState [.int v0] (f_X1_checkState v0 h) :=
  ⟨cX1_checkState, 1, none, [], 8, (show lv_args 0 [.int v0] = [(0, .int v0)] by simp [lv_args, zcat_rf, zcat_i, zcat_l, zcat_f, zcat_d]) ▸ w_X1_checkState v0 h, (plainFor_of_name (by decide)), by simp [lg_sl, zcat_rf, zcat_i, zcat_l, zcat_f, zcat_d], q2290, q95, hd0, by decide, by decide⟩
theorem w_X2_addShip_55 (a0 : Option Nat) (a1 : Int32) (a2 : Int32) (a3 : Int32) (s0 : Int32) (h : zH) : zS D z yX2_addShip cX2_addShip 5 (some .int) [] 9 h 55 [(0, va_rf a0), (1, .int a1), (2, .int a2), (3, .int a3)] [.int s0] (f_X2_addShip_55 a0 a1 a2 a3 s0 h) := by
  unfold f_X2_addShip_55
  refine s_callSN (pc := 55) (np := 1) (as := [.int s0]) (rest := []) dX2_addShip_55 (c_X1_checkState (by decide) s0 h) ⟨_, _, _, q2290⟩ rfl rfl q2288 q2289 rfl (by decide) (zkV (fun h11 => ?_)) zxo
  refine s_aload_n (pc := 58) 0 dX2_addShip_58 rfl rfl ?_
  refine s_gR (pc := 59) dX2_addShip_59 gf_X2_12 (fun r12 => ?_)
  refine s_aload_n (pc := 62) 0 dX2_addShip_62 rfl rfl ?_
  refine s_gI (pc := 63) dX2_addShip_63 gf_X2_81 (fun x13 => ?_)
  refine s_callSS (pc := 66) (np := 1) (as := [.int x13]) (rest := [va_rf r12]) dX2_addShip_66 (c_J24_valueOf (by decide) x13 h11) rfl rfl q1995 q683 rfl (by simp [zcat_rf, zcat_i, zcat_l, zcat_f, zcat_d]) (zkR (fun r14 h15 => ?_)) zxo
  refine s_new (pc := 69) dX2_addShip_69 nf_X2_56 (fun r16 h17 => ?_)
  refine s_dup (pc := 72) dX2_addShip_72 (zcat_rf _) ?_
  refine s_aload_n (pc := 73) 0 dX2_addShip_73 rfl rfl ?_
  refine s_gI (pc := 74) dX2_addShip_74 gf_X2_81 (fun x18 => ?_)
  refine s_iload_n (pc := 77) 1 dX2_addShip_77 rfl rfl ?_
  refine s_iload_n (pc := 78) 2 dX2_addShip_78 rfl rfl ?_
  refine s_iload_n (pc := 79) 3 dX2_addShip_79 rfl rfl ?_
  refine zS_ite (fun hr => ?_) (fun _ => zS_none)
  refine s_callC (pc := 80) (np := 4) (as := [.int x18, .int a1, .int a2, .int a3]) (rest := [va_rf r16, va_rf r14, va_rf r12]) dX2_addShip_80 hr (c_X6_init_2 (by decide) r16 x18 a1 a2 a3 h17) ⟨_, _, q2002⟩ rfl rfl rfl q2306 q2001 rfl (by simp [zcat_rf, zcat_i, zcat_l, zcat_f, zcat_d]) (zkV (fun h19 => ?_)) zxo
  refine zS_ite (fun ht => ?_) (fun _ => zS_none)
  refine s_callVU (pc := 83) (np := 2) (as := [va_rf r14, va_rf r16]) (rest := []) (owner := "java/util/HashMap") dX2_addShip_83 ht (q := (RJ2, TJ2, 12)) rfl (c_J1_put (by decide) r12 r14 r16 h19) ⟨_, _, _, q2051⟩ rfl rfl q2046 q2047 (Or.inl ⟨_, _, _, q2050, q2051⟩) (by decide) q2050 q2049 rfl (by decide) (zkR (fun r20 h21 => ?_)) zxo
  refine s_cast (pc := 86) dX2_addShip_86 q836 zcs_FloatingDock_Ship ?_
  refine s_ast (pc := 89) (L2 := [(0, va_rf a0)]) [0] dX2_addShip_89 (by decide) rfl rfl (zcA rfl) ?_
  refine s_aload_n (pc := 91) 1 dX2_addShip_91 rfl rfl ?_
  refine s_dup (pc := 92) dX2_addShip_92 (zcat_rf _) ?_
  refine s_gI (pc := 93) dX2_addShip_93 gf_X2_81 (fun x22 => ?_)
  refine s_iconst (pc := 96) (v := 1) dX2_addShip_96 (by decide) ?_
  refine s_iadd (pc := 97) dX2_addShip_97 ?_
  refine s_putI (pc := 98) dX2_addShip_98 pf_X2_81 (fun h23 => ?_)
  refine s_aload_n (pc := 101) 1 dX2_addShip_101 rfl rfl ?_
  refine s_gI (pc := 102) dX2_addShip_102 gf_X2_81 (fun x24 => ?_)
  refine s_iconst (pc := 105) (v := 1) dX2_addShip_105 (by decide) ?_
  refine s_isub (pc := 106) dX2_addShip_106 ?_
  exact s_iret (pc := 107) dX2_addShip_107 rfl
theorem w_X2_addShip_35 (a0 : Option Nat) (a1 : Int32) (a2 : Int32) (a3 : Int32) (s0 : Int32) (h : zH) : zS D z yX2_addShip cX2_addShip 5 (some .int) [] 9 h 35 [(0, va_rf a0), (1, .int a1), (2, .int a2), (3, .int a3)] [.int s0] (f_X2_addShip_35 a0 a1 a2 a3 s0 h) := by
  unfold f_X2_addShip_35
  refine s_callSN (pc := 35) (np := 1) (as := [.int s0]) (rest := []) dX2_addShip_35 (c_X1_checkArgument (by decide) s0 h) ⟨_, _, _, q2281⟩ rfl rfl q2279 q2280 rfl (by decide) (zkV (fun h7 => ?_)) zxo
  refine s_aload_n (pc := 38) 0 dX2_addShip_38 rfl rfl ?_
  refine s_gR (pc := 39) dX2_addShip_39 gf_X2_12 (fun r8 => ?_)
  refine zS_ite (fun ht => ?_) (fun _ => zS_none)
  refine s_callVU (pc := 42) (np := 0) (as := []) (rest := []) (owner := "java/util/HashMap") dX2_addShip_42 ht (q := (RJ2, TJ2, 12)) rfl (c_J1_size (by decide) r8 h7) ⟨_, _, _, q1427⟩ rfl rfl q2287 q1423 (Or.inl ⟨_, _, _, q1426, q1427⟩) (by decide) q1426 q1425 rfl (by decide) (zkI (fun x9 h10 => ?_)) zxo
  refine s_bipush (pc := 45) (v := 8) dX2_addShip_45 (by decide) ?_
  refine s_icmp_ge (pc := 47) (tgt := 54) dX2_addShip_47 (by decide) (fun _ => ?_) (fun _ => ?_)
  · refine s_iconst (pc := 54) (v := 0) dX2_addShip_54 (by decide) ?_
    exact s_sub (pc := 55) [0, 1, 2, 3] rfl (w_X2_addShip_55 a0 a1 a2 a3 0 h10)
  · refine s_iconst (pc := 50) (v := 1) dX2_addShip_50 (by decide) ?_
    refine s_goto (pc := 51) (tgt := 55) dX2_addShip_51 (by decide) ?_
    exact s_sub (pc := 55) [0, 1, 2, 3] rfl (w_X2_addShip_55 a0 a1 a2 a3 1 h10)
theorem w_X2_addShip_34 (a0 : Option Nat) (a1 : Int32) (a2 : Int32) (a3 : Int32) (h : zH) : zS D z yX2_addShip cX2_addShip 5 (some .int) [] 9 h 34 [(0, va_rf a0), (1, .int a1), (2, .int a2), (3, .int a3)] [] (f_X2_addShip_34 a0 a1 a2 a3 h) := by
  unfold f_X2_addShip_34
  refine s_iconst (pc := 34) (v := 0) dX2_addShip_34 (by decide) ?_
  exact s_sub (pc := 35) [0, 1, 2, 3] rfl (w_X2_addShip_35 a0 a1 a2 a3 0 h)
theorem w_X2_addShip (v0 : Option Nat) (v1 : Int32) (v2 : Int32) (v3 : Int32) (h : zH) : zS D z yX2_addShip cX2_addShip 5 (some .int) [] 9 h 0 [(0, va_rf v0), (1, .int v1), (2, .int v2), (3, .int v3)] [] (f_X2_addShip v0 v1 v2 v3 h) := by
  unfold f_X2_addShip
  refine s_iload_n (pc := 0) 1 dX2_addShip_0 rfl rfl ?_
  refine s_iconst (pc := 1) (v := 5) dX2_addShip_1 (by decide) ?_
  refine s_bipush (pc := 2) (v := 30) dX2_addShip_2 (by decide) ?_
  refine s_callSN (pc := 4) (np := 3) (as := [.int v1, .int 5, .int 30]) (rest := []) dX2_addShip_4 (c_X1_isBetween (by decide) v1 5 30 h) ⟨_, _, _, q1519⟩ rfl rfl q2278 q1518 rfl (by decide) (zkI (fun x1 h2 => ?_)) zxo
  refine s_if_eq (pc := 7) (tgt := 34) dX2_addShip_7 (by decide) (fun _ => ?_) (fun _ => ?_)
  · exact s_sub (pc := 34) [0, 1, 2, 3] rfl (w_X2_addShip_34 v0 v1 v2 v3 h2)
  · refine s_iload_n (pc := 10) 2 dX2_addShip_10 rfl rfl ?_
    refine s_iconst (pc := 11) (v := 5) dX2_addShip_11 (by decide) ?_
    refine s_bipush (pc := 12) (v := 80) dX2_addShip_12 (by decide) ?_
    refine s_callSN (pc := 14) (np := 3) (as := [.int v2, .int 5, .int 80]) (rest := []) dX2_addShip_14 (c_X1_isBetween (by decide) v2 5 80 h2) ⟨_, _, _, q1519⟩ rfl rfl q2278 q1518 rfl (by decide) (zkI (fun x3 h4 => ?_)) zxo
    refine s_if_eq (pc := 17) (tgt := 34) dX2_addShip_17 (by decide) (fun _ => ?_) (fun _ => ?_)
    · exact s_sub (pc := 34) [0, 1, 2, 3] rfl (w_X2_addShip_34 v0 v1 v2 v3 h4)
    · refine s_iload_n (pc := 20) 3 dX2_addShip_20 rfl rfl ?_
      refine s_iconst (pc := 21) (v := 0) dX2_addShip_21 (by decide) ?_
      refine s_bipush (pc := 22) (v := 99) dX2_addShip_22 (by decide) ?_
      refine s_callSN (pc := 24) (np := 3) (as := [.int v3, .int 0, .int 99]) (rest := []) dX2_addShip_24 (c_X1_isBetween (by decide) v3 0 99 h4) ⟨_, _, _, q1519⟩ rfl rfl q2278 q1518 rfl (by decide) (zkI (fun x5 h6 => ?_)) zxo
      refine s_if_eq (pc := 27) (tgt := 34) dX2_addShip_27 (by decide) (fun _ => ?_) (fun _ => ?_)
      · exact s_sub (pc := 34) [0, 1, 2, 3] rfl (w_X2_addShip_34 v0 v1 v2 v3 h6)
      · refine s_iconst (pc := 30) (v := 1) dX2_addShip_30 (by decide) ?_
        refine s_goto (pc := 31) (tgt := 35) dX2_addShip_31 (by decide) ?_
        exact s_sub (pc := 35) [0, 1, 2, 3] rfl (w_X2_addShip_35 v0 v1 v2 v3 1 h6)
theorem c_X2_addShip {d0 : Nat} (hd0 : 9 < d0) (v0 : Option Nat) (v1 : Int32) (v2 : Int32) (v3 : Int32) (h : zH) : zCal D z d0 h yX2_addShip [va_rf v0, .int v1, .int v2, .int v3] (f_X2_addShip v0 v1 v2 v3 h) :=
  ⟨cX2_addShip, 5, (some .int), [], 9, (show lv_args 0 [va_rf v0, .int v1, .int v2, .int v3] = [(0, va_rf v0), (1, .int v1), (2, .int v2), (3, .int v3)] by simp [lv_args, zcat_rf, zcat_i, zcat_l, zcat_f, zcat_d]) ▸ w_X2_addShip v0 v1 v2 v3 h, (plainFor_of_name (by decide)), by simp [lg_sl, zcat_rf, zcat_i, zcat_l, zcat_f, zcat_d], q2277, q96, hd0, by decide, by decide⟩
theorem w_X1_lambda_addShip_7 (v0 : Int32) (v1 : Int32) (v2 : Int32) (v3 : Option Nat) (h : zH) : zS D z yX1_lambda_addShip_7 cX1_lambda_addShip_7 4 (some .int) [] 10 h 0 [(0, .int v0), (1, .int v1), (2, .int v2), (3, va_rf v3)] [] (f_X1_lambda_addShip_7 v0 v1 v2 v3 h) := by
  unfold f_X1_lambda_addShip_7
  refine s_aload_n (pc := 0) 3 dX1_lambda_addShip_7_0 rfl rfl ?_
  refine s_iload_n (pc := 1) 0 dX1_lambda_addShip_7_1 rfl rfl ?_
  refine s_iload_n (pc := 2) 1 dX1_lambda_addShip_7_2 rfl rfl ?_
  refine s_iload_n (pc := 3) 2 dX1_lambda_addShip_7_3 rfl rfl ?_
  refine zS_ite (fun ht => ?_) (fun _ => zS_none)
  refine s_callV (pc := 4) (np := 3) (as := [.int v0, .int v1, .int v2]) (rest := []) dX1_lambda_addShip_7_4 ht (q := (RX2, TX2, 10)) rfl (c_X2_addShip (by decide) v3 v0 v1 v2 h) rfl rfl q2274 q2275 q2276 rfl (by decide) (zkI (fun x1 h2 => ?_)) zxo
  exact s_iret (pc := 7) dX1_lambda_addShip_7_7 rfl
theorem c_X1_lambda_addShip_7 {d0 : Nat} (hd0 : 10 < d0) (v0 : Int32) (v1 : Int32) (v2 : Int32) (v3 : Option Nat) (h : zH) : zCal D z d0 h yX1_lambda_addShip_7 [.int v0, .int v1, .int v2, va_rf v3] (f_X1_lambda_addShip_7 v0 v1 v2 v3 h) :=
  ⟨cX1_lambda_addShip_7, 4, (some .int), [], 10, (show lv_args 0 [.int v0, .int v1, .int v2, va_rf v3] = [(0, .int v0), (1, .int v1), (2, .int v2), (3, va_rf v3)] by simp [lv_args, zcat_rf, zcat_i, zcat_l, zcat_f, zcat_d]) ▸ w_X1_lambda_addShip_7 v0 v1 v2 v3 h, (plainFor_of_name (by decide)), by simp [lg_sl, zcat_rf, zcat_i, zcat_l, zcat_f, zcat_d], q2273, q95, hd0, by decide, by decide⟩
theorem w_J1_getNode_137 (K99 : Option Nat → Option Nat → Int32 → zH → zO) (hK99 : ∀ (a1 : Option Nat) (a4 : Option Nat) (a6 : Int32) (h : zH), zS D z yJ1_getNode cJ1_getNode 8 (some (.object "java/util/HashMap$Node")) [] 4 h 99 [(1, va_rf a1), (4, va_rf a4), (6, .int a6)] [] (K99 a1 a4 a6 h)) (a1 : Option Nat) (a4 : Option Nat) (a6 : Int32) (h : zH) : zS D z yJ1_getNode cJ1_getNode 8 (some (.object "java/util/HashMap$Node")) [] 4 h 137 [(1, va_rf a1), (4, va_rf a4), (6, .int a6)] [] (f_J1_getNode_137 K99 a1 a4 a6 h) := by
  unfold f_J1_getNode_137
  refine s_aload (pc := 137) 1 dJ1_getNode_137 rfl ?_
  refine s_gR (pc := 139) dJ1_getNode_139 gf_J1_177 (fun r18 => ?_)
  refine s_dup (pc := 142) dJ1_getNode_142 (zcat_rf _) ?_
  refine s_ast (pc := 143) (L2 := [(1, va_rf a1), (6, .int a6)]) [0, 2] dJ1_getNode_143 (by decide) rfl rfl (zcA rfl) ?_
  refine s_ifnonnull (pc := 145) (tgt := 99) dJ1_getNode_145 (by decide) (fun _ => ?_) (fun _ => ?_)
  · exact s_sub (pc := 99) [1, 0, 2] rfl (hK99 a1 r18 a6 h)
  · refine s_null (pc := 148) dJ1_getNode_148 ?_
    exact s_aret (pc := 149) dJ1_getNode_149 rfl (Or.inl ⟨_, rfl⟩)
theorem w_J1_getNode_99 : ∀ (n : Nat) (a1 : Option Nat) (a4 : Option Nat) (a6 : Int32) (h : zH), zS D z yJ1_getNode cJ1_getNode 8 (some (.object "java/util/HashMap$Node")) [] 4 h 99 [(1, va_rf a1), (4, va_rf a4), (6, .int a6)] [] (f_J1_getNode_99 n a1 a4 a6 h) := by
  intro n
  induction n with
  | zero => intros; exact zS_none
  | succ n ih =>
    intro a1 a4 a6 h
    rw [f_J1_getNode_99.eq_2]
    refine s_aload (pc := 99) 1 dJ1_getNode_99 rfl ?_
    refine s_gI (pc := 101) dJ1_getNode_101 gf_J1_168 (fun x14 => ?_)
    refine s_iload (pc := 104) 2 dJ1_getNode_104 rfl ?_
    refine s_icmp_ne (pc := 106) (tgt := 137) dJ1_getNode_106 (by decide) (fun _ => ?_) (fun _ => ?_)
    · exact s_sub (pc := 137) [0, 1, 2] rfl (w_J1_getNode_137 (f_J1_getNode_99 n) ih a1 a4 a6 h)
    · refine s_aload (pc := 109) 1 dJ1_getNode_109 rfl ?_
      refine s_gR (pc := 111) dJ1_getNode_111 gf_J1_170 (fun r15 => ?_)
      refine s_dup (pc := 114) dJ1_getNode_114 (zcat_rf _) ?_
      refine s_ast (pc := 115) (L2 := [(1, va_rf a1), (4, va_rf a4), (6, .int a6)]) [0, 1, 2] dJ1_getNode_115 (by decide) rfl rfl (zcB (j := 2) rfl rfl rfl) ?_
      refine s_aload_n (pc := 117) 1 dJ1_getNode_117 rfl rfl ?_
      refine s_acmp_eq (pc := 118) (tgt := 134) dJ1_getNode_118 (by decide) (fun _ => ?_) (fun _ => ?_)
      · refine s_aload (pc := 134) 2 dJ1_getNode_134 rfl ?_
        exact s_aret (pc := 136) dJ1_getNode_136 rfl (Or.inl ⟨_, rfl⟩)
      · refine s_aload_n (pc := 121) 1 dJ1_getNode_121 rfl rfl ?_
        refine s_ifnull (pc := 122) (tgt := 137) dJ1_getNode_122 (by decide) (fun _ => ?_) (fun _ => ?_)
        · exact s_sub (pc := 137) [1, 2, 3] rfl (w_J1_getNode_137 (f_J1_getNode_99 n) ih a1 a4 a6 h)
        · refine s_aload_n (pc := 125) 1 dJ1_getNode_125 rfl rfl ?_
          refine s_aload (pc := 126) 0 dJ1_getNode_126 rfl ?_
          refine zS_ite (fun ht => ?_) (fun _ => ?_)
          · refine s_callVU (pc := 128) (np := 1) (as := [va_rf r15]) (rest := []) (owner := "java/lang/Object") dJ1_getNode_128 ht (q := (RX8, TX8, 1)) rfl (c_X8_equals (by decide) a1 r15 h) ⟨_, _, _, q1657⟩ rfl rfl q1651 q1653 (Or.inl ⟨_, _, _, q1652, q1693⟩) (by decide) q1656 q1655 rfl (by decide) (zkI (fun x16 h17 => ?_)) zxo
            refine s_if_eq (pc := 131) (tgt := 137) dJ1_getNode_131 (by decide) (fun _ => ?_) (fun _ => ?_)
            · exact s_sub (pc := 137) [1, 2, 3] rfl (w_J1_getNode_137 (f_J1_getNode_99 n) ih a1 a4 a6 h17)
            · refine s_aload (pc := 134) 2 dJ1_getNode_134 rfl ?_
              exact s_aret (pc := 136) dJ1_getNode_136 rfl (Or.inl ⟨_, rfl⟩)
          refine zS_ite (fun ht => ?_) (fun _ => zS_none)
          refine s_callVU (pc := 128) (np := 1) (as := [va_rf r15]) (rest := []) (owner := "java/lang/Object") dJ1_getNode_128 ht (q := (RJ24, TJ24, 1)) rfl (c_J24_equals (by decide) a1 r15 h) ⟨_, _, _, q1676⟩ rfl rfl q1651 q1653 (Or.inl ⟨_, _, _, q1652, q1693⟩) (by decide) q1675 q1674 rfl (by decide) (zkI (fun x16 h17 => ?_)) zxo
          refine s_if_eq (pc := 131) (tgt := 137) dJ1_getNode_131 (by decide) (fun _ => ?_) (fun _ => ?_)
          · exact s_sub (pc := 137) [1, 2, 3] rfl (w_J1_getNode_137 (f_J1_getNode_99 n) ih a1 a4 a6 h17)
          · refine s_aload (pc := 134) 2 dJ1_getNode_134 rfl ?_
            exact s_aret (pc := 136) dJ1_getNode_136 rfl (Or.inl ⟨_, rfl⟩)
theorem w_J1_getNode_71 (a1 : Option Nat) (a3 : Option Nat) (a6 : Int32) (h : zH) : zS D z yJ1_getNode cJ1_getNode 8 (some (.object "java/util/HashMap$Node")) [] 4 h 71 [(1, va_rf a1), (3, va_rf a3), (6, .int a6)] [] (f_J1_getNode_71 a1 a3 a6 h) := by
  unfold f_J1_getNode_71
  refine s_aload_n (pc := 71) 1 dJ1_getNode_71 rfl rfl ?_
  refine s_gR (pc := 72) dJ1_getNode_72 gf_J1_177 (fun r10 => ?_)
  refine s_dup (pc := 75) dJ1_getNode_75 (zcat_rf _) ?_
  refine s_ast (pc := 76) (L2 := [(1, va_rf a1), (3, va_rf a3), (6, .int a6)]) [0, 1, 2] dJ1_getNode_76 (by decide) rfl rfl (zcB (j := 1) rfl (zcat_rf a3) rfl) ?_
  refine s_ifnull (pc := 78) (tgt := 148) dJ1_getNode_78 (by decide) (fun _ => ?_) (fun _ => ?_)
  · refine s_null (pc := 148) dJ1_getNode_148 ?_
    exact s_aret (pc := 149) dJ1_getNode_149 rfl (Or.inl ⟨_, rfl⟩)
  · refine s_aload_n (pc := 81) 2 dJ1_getNode_81 rfl rfl ?_
    refine s_inst (pc := 82) dJ1_getNode_82 q1694 (zt0) (ztc ⟨_, rfl, by decide +kernel⟩ (ztc ⟨_, rfl, by decide +kernel⟩ (zt0))) (fun x11 => ?_)
    refine s_if_eq (pc := 85) (tgt := 99) dJ1_getNode_85 (by decide) (fun _ => ?_) (fun _ => ?_)
    · exact s_sub (pc := 99) [1, 0, 3] rfl (w_J1_getNode_99 zfuel a1 r10 a6 h)
    · refine s_aload_n (pc := 88) 2 dJ1_getNode_88 rfl rfl ?_
      refine s_cast (pc := 89) dJ1_getNode_89 q1694 zcs_java_util_HashMap_TreeNode ?_
      refine s_iload (pc := 92) 3 dJ1_getNode_92 rfl ?_
      refine s_aload_n (pc := 94) 1 dJ1_getNode_94 rfl rfl ?_
      exact zS_none
theorem w_J1_getNode (v0 : Option Nat) (v1 : Option Nat) (h : zH) : zS D z yJ1_getNode cJ1_getNode 8 (some (.object "java/util/HashMap$Node")) [] 4 h 0 [(0, va_rf v0), (1, va_rf v1)] [] (f_J1_getNode v0 v1 h) := by
  unfold f_J1_getNode
  refine s_aload_n (pc := 0) 0 dJ1_getNode_0 rfl rfl ?_
  refine s_gR (pc := 1) dJ1_getNode_1 gf_J1_105 (fun r1 => ?_)
  refine s_dup (pc := 4) dJ1_getNode_4 (zcat_rf _) ?_
  refine s_ast_n (pc := 5) (L2 := [(1, va_rf v1)]) [1] dJ1_getNode_5 rfl (by decide) rfl rfl (zcB (j := 0) rfl (zcat_rf v1) rfl) ?_
  refine s_ifnull (pc := 6) (tgt := 148) dJ1_getNode_6 (by decide) (fun _ => ?_) (fun _ => ?_)
  · refine s_null (pc := 148) dJ1_getNode_148 ?_
    exact s_aret (pc := 149) dJ1_getNode_149 rfl (Or.inl ⟨_, rfl⟩)
  · refine s_aload_n (pc := 9) 0 dJ1_getNode_9 rfl rfl ?_
    refine s_alen (pc := 10) dJ1_getNode_10 zarrs_ok (fun x2 => ?_)
    refine s_dup (pc := 11) dJ1_getNode_11 rfl ?_
    refine s_ist (pc := 12) (L2 := [(2, va_rf r1), (1, va_rf v1)]) [0, 1] dJ1_getNode_12 (by decide) rfl rfl (zcA rfl) ?_
    refine s_if_le (pc := 14) (tgt := 148) dJ1_getNode_14 (by decide) (fun _ => ?_) (fun _ => ?_)
    · refine s_null (pc := 148) dJ1_getNode_148 ?_
      exact s_aret (pc := 149) dJ1_getNode_149 rfl (Or.inl ⟨_, rfl⟩)
    · refine s_aload_n (pc := 17) 1 dJ1_getNode_17 rfl rfl ?_
      refine s_iload (pc := 18) 0 dJ1_getNode_18 rfl ?_
      refine s_iconst (pc := 20) (v := 1) dJ1_getNode_20 (by decide) ?_
      refine s_isub (pc := 21) dJ1_getNode_21 ?_
      refine s_aload_n (pc := 22) 2 dJ1_getNode_22 rfl rfl ?_
      refine s_callSS (pc := 23) (np := 1) (as := [va_rf v1]) (rest := [.int (x2 - 1), va_rf r1]) dJ1_getNode_23 (c_J1_hash (by decide) v1 h) rfl rfl q1552 q1553 rfl (by simp [zcat_rf, zcat_i, zcat_l, zcat_f, zcat_d]) (zkI (fun x3 h4 => ?_)) zxo
      refine s_dup (pc := 26) dJ1_getNode_26 rfl ?_
      refine s_ist (pc := 27) (L2 := [(1, va_rf v1)]) [2] dJ1_getNode_27 (by decide) rfl rfl (zcA rfl) ?_
      refine s_iand (pc := 29) dJ1_getNode_29 ?_
      refine s_aald (pc := 30) dJ1_getNode_30 zrefs_ok (fun r5 => ?_)
      refine s_dup (pc := 31) dJ1_getNode_31 (zcat_rf _) ?_
      refine s_ast_n (pc := 32) (L2 := [(6, .int x3), (1, va_rf v1)]) [0, 1] dJ1_getNode_32 rfl (by decide) rfl rfl (zcA rfl) ?_
      refine s_ifnull (pc := 33) (tgt := 148) dJ1_getNode_33 (by decide) (fun _ => ?_) (fun _ => ?_)
      · refine s_null (pc := 148) dJ1_getNode_148 ?_
        exact s_aret (pc := 149) dJ1_getNode_149 rfl (Or.inl ⟨_, rfl⟩)
      · refine s_aload_n (pc := 36) 0 dJ1_getNode_36 rfl rfl ?_
        refine s_gI (pc := 37) dJ1_getNode_37 gf_J1_168 (fun x6 => ?_)
        refine s_iload (pc := 40) 1 dJ1_getNode_40 rfl ?_
        refine s_icmp_ne (pc := 42) (tgt := 71) dJ1_getNode_42 (by decide) (fun _ => ?_) (fun _ => ?_)
        · exact s_sub (pc := 71) [2, 0, 1] rfl (w_J1_getNode_71 v1 r5 x3 h4)
        · refine s_aload_n (pc := 45) 0 dJ1_getNode_45 rfl rfl ?_
          refine s_gR (pc := 46) dJ1_getNode_46 gf_J1_170 (fun r7 => ?_)
          refine s_dup (pc := 49) dJ1_getNode_49 (zcat_rf _) ?_
          refine s_ast (pc := 50) (L2 := [(3, va_rf r5), (6, .int x3), (1, va_rf v1)]) [0, 1, 2] dJ1_getNode_50 (by decide) rfl rfl (zcB (j := 1) rfl rfl rfl) ?_
          refine s_aload_n (pc := 52) 3 dJ1_getNode_52 rfl rfl ?_
          refine s_acmp_eq (pc := 53) (tgt := 69) dJ1_getNode_53 (by decide) (fun _ => ?_) (fun _ => ?_)
          · refine s_aload_n (pc := 69) 1 dJ1_getNode_69 rfl rfl ?_
            exact s_aret (pc := 70) dJ1_getNode_70 rfl (Or.inl ⟨_, rfl⟩)
          · refine s_aload_n (pc := 56) 3 dJ1_getNode_56 rfl rfl ?_
            refine s_ifnull (pc := 57) (tgt := 71) dJ1_getNode_57 (by decide) (fun _ => ?_) (fun _ => ?_)
            · exact s_sub (pc := 71) [3, 1, 2] rfl (w_J1_getNode_71 v1 r5 x3 h4)
            · refine s_aload_n (pc := 60) 3 dJ1_getNode_60 rfl rfl ?_
              refine s_aload (pc := 61) 0 dJ1_getNode_61 rfl ?_
              refine zS_ite (fun ht => ?_) (fun _ => ?_)
              · refine s_callVU (pc := 63) (np := 1) (as := [va_rf r7]) (rest := []) (owner := "java/lang/Object") dJ1_getNode_63 ht (q := (RX8, TX8, 1)) rfl (c_X8_equals (by decide) v1 r7 h4) ⟨_, _, _, q1657⟩ rfl rfl q1651 q1653 (Or.inl ⟨_, _, _, q1652, q1693⟩) (by decide) q1656 q1655 rfl (by decide) (zkI (fun x8 h9 => ?_)) zxo
                refine s_if_eq (pc := 66) (tgt := 71) dJ1_getNode_66 (by decide) (fun _ => ?_) (fun _ => ?_)
                · exact s_sub (pc := 71) [3, 1, 2] rfl (w_J1_getNode_71 v1 r5 x3 h9)
                · refine s_aload_n (pc := 69) 1 dJ1_getNode_69 rfl rfl ?_
                  exact s_aret (pc := 70) dJ1_getNode_70 rfl (Or.inl ⟨_, rfl⟩)
              refine zS_ite (fun ht => ?_) (fun _ => zS_none)
              refine s_callVU (pc := 63) (np := 1) (as := [va_rf r7]) (rest := []) (owner := "java/lang/Object") dJ1_getNode_63 ht (q := (RJ24, TJ24, 1)) rfl (c_J24_equals (by decide) v1 r7 h4) ⟨_, _, _, q1676⟩ rfl rfl q1651 q1653 (Or.inl ⟨_, _, _, q1652, q1693⟩) (by decide) q1675 q1674 rfl (by decide) (zkI (fun x8 h9 => ?_)) zxo
              refine s_if_eq (pc := 66) (tgt := 71) dJ1_getNode_66 (by decide) (fun _ => ?_) (fun _ => ?_)
              · exact s_sub (pc := 71) [3, 1, 2] rfl (w_J1_getNode_71 v1 r5 x3 h9)
              · refine s_aload_n (pc := 69) 1 dJ1_getNode_69 rfl rfl ?_
                exact s_aret (pc := 70) dJ1_getNode_70 rfl (Or.inl ⟨_, rfl⟩)
theorem c_J1_getNode {d0 : Nat} (hd0 : 4 < d0) (v0 : Option Nat) (v1 : Option Nat) (h : zH) : zCal D z d0 h yJ1_getNode [va_rf v0, va_rf v1] (f_J1_getNode v0 v1 h) :=
  ⟨cJ1_getNode, 8, (some (.object "java/util/HashMap$Node")), [], 4, (show lv_args 0 [va_rf v0, va_rf v1] = [(0, va_rf v0), (1, va_rf v1)] by simp [lv_args, zcat_rf, zcat_i, zcat_l, zcat_f, zcat_d]) ▸ w_J1_getNode v0 v1 h, (plainFor_of_name (by decide)), by simp [lg_sl, zcat_rf, zcat_i, zcat_l, zcat_f, zcat_d], q1551, q98, hd0, by decide, by decide⟩
theorem w_J1_containsKey (v0 : Option Nat) (v1 : Option Nat) (h : zH) : zS D z yJ1_containsKey cJ1_containsKey 2 (some .boolean) [] 5 h 0 [(0, va_rf v0), (1, va_rf v1)] [] (f_J1_containsKey v0 v1 h) := by
  unfold f_J1_containsKey
  refine s_aload_n (pc := 0) 0 dJ1_containsKey_0 rfl rfl ?_
  refine s_aload_n (pc := 1) 1 dJ1_containsKey_1 rfl rfl ?_
  refine zS_ite (fun ht => ?_) (fun _ => ?_)
  · refine s_callV (pc := 2) (np := 1) (as := [va_rf v1]) (rest := []) dJ1_containsKey_2 ht (q := (RJ1, TJ1, 8)) rfl (c_J1_getNode (by decide) v0 v1 h) rfl rfl q1546 q1547 q1548 rfl (by decide) (zkR (fun r1 h2 => ?_)) zxo
    refine s_ifnull (pc := 5) (tgt := 12) dJ1_containsKey_5 (by decide) (fun _ => ?_) (fun _ => ?_)
    · refine s_iconst (pc := 12) (v := 0) dJ1_containsKey_12 (by decide) ?_
      exact s_nret (pc := 13) dJ1_containsKey_13 rfl
    · refine s_iconst (pc := 8) (v := 1) dJ1_containsKey_8 (by decide) ?_
      refine s_goto (pc := 9) (tgt := 13) dJ1_containsKey_9 (by decide) ?_
      exact s_nret (pc := 13) dJ1_containsKey_13 rfl
  refine zS_ite (fun ht => ?_) (fun _ => zS_none)
  refine s_callVU (pc := 2) (np := 1) (as := [va_rf v1]) (rest := []) (owner := "java/util/HashMap") dJ1_containsKey_2 ht (q := (RJ2, TJ2, 12)) rfl (c_J1_getNode (by decide) v0 v1 h) ⟨_, _, _, q1551⟩ rfl rfl q1546 q1549 (Or.inl ⟨_, _, _, q1547, q1551⟩) (by decide) q1547 q1550 rfl (by decide) (zkR (fun r1 h2 => ?_)) zxo
  refine s_ifnull (pc := 5) (tgt := 12) dJ1_containsKey_5 (by decide) (fun _ => ?_) (fun _ => ?_)
  · refine s_iconst (pc := 12) (v := 0) dJ1_containsKey_12 (by decide) ?_
    exact s_nret (pc := 13) dJ1_containsKey_13 rfl
  · refine s_iconst (pc := 8) (v := 1) dJ1_containsKey_8 (by decide) ?_
    refine s_goto (pc := 9) (tgt := 13) dJ1_containsKey_9 (by decide) ?_
    exact s_nret (pc := 13) dJ1_containsKey_13 rfl
theorem c_J1_containsKey {d0 : Nat} (hd0 : 5 < d0) (v0 : Option Nat) (v1 : Option Nat) (h : zH) : zCal D z d0 h yJ1_containsKey [va_rf v0, va_rf v1] (f_J1_containsKey v0 v1 h) :=
  ⟨cJ1_containsKey, 2, (some .boolean), [], 5, (show lv_args 0 [va_rf v0, va_rf v1] = [(0, va_rf v0), (1, va_rf v1)] by simp [lv_args, zcat_rf, zcat_i, zcat_l, zcat_f, zcat_d]) ▸ w_J1_containsKey v0 v1 h, (plainFor_of_name (by decide)), by simp [lg_sl, zcat_rf, zcat_i, zcat_l, zcat_f, zcat_d], q1545, q98, hd0, by decide, by decide⟩
theorem w_X1_checkElement (v0 : Int32) (h : zH) : zS D z yX1_checkElement cX1_checkElement 1 none [] 8 h 0 [(0, .int v0)] [] (f_X1_checkElement v0 h) := by
  unfold f_X1_checkElement
  refine s_iload_n (pc := 0) 0 dX1_checkElement_0 rfl rfl ?_
  refine s_if_ne (pc := 1) (tgt := 12) dX1_checkElement_1 (by decide) (fun _ => ?_) (fun _ => ?_)
  · exact s_vret (pc := 12) dX1_checkElement_12 rfl
  · refine s_make0 (pc := 4) dX1_checkElement_4 dX1_checkElement_7 dX1_checkElement_8 xf_X1_92_94 (by decide) (by decide) (fun r1 h2 => ?_)
    exact s_athrow (pc := 11) dX1_checkElement_11 rfl (fun x => zxo x _)
theorem c_X1_checkElement {d0 : Nat} (hd0 : 8 < d0) (v0 : Int32) (h : zH) : zCal D z d0 h yX1_checkElement [.int v0] (f_X1_checkElement v0 h) :=
  ⟨cX1_checkElement, 1, none, [], 8, (show lv_args 0 [.int v0] = [(0, .int v0)] by simp [lv_args, zcat_rf, zcat_i, zcat_l, zcat_f, zcat_d]) ▸ w_X1_checkElement v0 h, (plainFor_of_name (by decide)), by simp [lg_sl, zcat_rf, zcat_i, zcat_l, zcat_f, zcat_d], q2396, q95, hd0, by decide, by decide⟩
theorem w_J2_get (v0 : Option Nat) (v1 : Option Nat) (h : zH) : zS D z yJ2_get cJ2_get 3 (some (.object "java/lang/Object")) [] 5 h 0 [(0, va_rf v0), (1, va_rf v1)] [] (f_J2_get v0 v1 h) := by
  unfold f_J2_get
  refine s_aload_n (pc := 0) 0 dJ2_get_0 rfl rfl ?_
  refine s_aload_n (pc := 1) 1 dJ2_get_1 rfl rfl ?_
  refine zS_ite (fun ht => ?_) (fun _ => zS_none)
  refine s_callVU (pc := 2) (np := 1) (as := [va_rf v1]) (rest := []) (owner := "java/util/HashMap") dJ2_get_2 ht (q := (RJ2, TJ2, 12)) rfl (c_J1_getNode (by decide) v0 v1 h) ⟨_, _, _, q1551⟩ rfl rfl q2403 q2404 (Or.inl ⟨_, _, _, q1547, q1551⟩) (by decide) q1547 q2406 rfl (by decide) (zkR (fun r1 h2 => ?_)) zxo
  refine s_dup (pc := 5) dJ2_get_5 (zcat_rf _) ?_
  refine s_ast_n (pc := 6) (L2 := [(0, va_rf v0)]) [0] dJ2_get_6 rfl (by decide) rfl rfl (zcA rfl) ?_
  refine s_ifnonnull (pc := 7) (tgt := 12) dJ2_get_7 (by decide) (fun _ => ?_) (fun _ => ?_)
  · refine s_aload_n (pc := 12) 1 dJ2_get_12 rfl rfl ?_
    refine s_gI (pc := 13) dJ2_get_13 gf_J2_64 (fun x3 => ?_)
    refine s_if_eq (pc := 16) (tgt := 24) dJ2_get_16 (by decide) (fun _ => ?_) (fun _ => ?_)
    · refine s_aload_n (pc := 24) 0 dJ2_get_24 rfl rfl ?_
      refine s_gR (pc := 25) dJ2_get_25 gf_J2_107 (fun r4 => ?_)
      exact s_aret (pc := 28) dJ2_get_28 rfl (Or.inl ⟨_, rfl⟩)
    · refine s_aload_n (pc := 19) 1 dJ2_get_19 rfl rfl ?_
      refine s_aload_n (pc := 20) 0 dJ2_get_20 rfl rfl ?_
      refine zS_ite (fun ht => ?_) (fun _ => zS_none)
      refine s_callV (pc := 21) (np := 1) (as := [va_rf r1]) (rest := []) dJ2_get_21 ht (q := (RJ2, TJ2, 12)) rfl (c_J2_afterNodeAccess (by decide) v0 r1 h2) rfl rfl q2407 q2241 q3769 rfl (by decide) (zkV (fun h5 => ?_)) zxo
      refine s_aload_n (pc := 24) 0 dJ2_get_24 rfl rfl ?_
      refine s_gR (pc := 25) dJ2_get_25 gf_J2_107 (fun r6 => ?_)
      exact s_aret (pc := 28) dJ2_get_28 rfl (Or.inl ⟨_, rfl⟩)
  · refine s_null (pc := 10) dJ2_get_10 ?_
    exact s_aret (pc := 11) dJ2_get_11 rfl (Or.inl ⟨_, rfl⟩)
theorem c_J2_get {d0 : Nat} (hd0 : 5 < d0) (v0 : Option Nat) (v1 : Option Nat) (h : zH) : zCal D z d0 h yJ2_get [va_rf v0, va_rf v1] (f_J2_get v0 v1 h) :=
  ⟨cJ2_get, 3, (some (.object "java/lang/Object")), [], 5, (show lv_args 0 [va_rf v0, va_rf v1] = [(0, va_rf v0), (1, va_rf v1)] by simp [lv_args, zcat_rf, zcat_i, zcat_l, zcat_f, zcat_d]) ▸ w_J2_get v0 v1 h, (plainFor_of_name (by decide)), by simp [lg_sl, zcat_rf, zcat_i, zcat_l, zcat_f, zcat_d], q2402, q99, hd0, by decide, by decide⟩
theorem w_X2_ship (v0 : Option Nat) (v1 : Int32) (h : zH) : zS D z yX2_ship cX2_ship 2 (some (.object "FloatingDock$Ship")) [] 9 h 0 [(0, va_rf v0), (1, .int v1)] [] (f_X2_ship v0 v1 h) := by
  unfold f_X2_ship
  refine s_aload_n (pc := 0) 0 dX2_ship_0 rfl rfl ?_
  refine s_gR (pc := 1) dX2_ship_1 gf_X2_12 (fun r1 => ?_)
  refine s_iload_n (pc := 4) 1 dX2_ship_4 rfl rfl ?_
  refine s_callSS (pc := 5) (np := 1) (as := [.int v1]) (rest := [va_rf r1]) dX2_ship_5 (c_J24_valueOf (by decide) v1 h) rfl rfl q1995 q683 rfl (by simp [zcat_rf, zcat_i, zcat_l, zcat_f, zcat_d]) (zkR (fun r2 h3 => ?_)) zxo
  refine zS_ite (fun ht => ?_) (fun _ => zS_none)
  refine s_callVU (pc := 8) (np := 1) (as := [va_rf r2]) (rest := []) (owner := "java/util/HashMap") dX2_ship_8 ht (q := (RJ2, TJ2, 12)) rfl (c_J1_containsKey (by decide) r1 r2 h3) ⟨_, _, _, q1545⟩ rfl rfl q2390 q2391 (Or.inl ⟨_, _, _, q1541, q1545⟩) (by decide) q1541 q2393 rfl (by decide) (zkI (fun x4 h5 => ?_)) zxo
  refine s_callSN (pc := 11) (np := 1) (as := [.int x4]) (rest := []) dX2_ship_11 (c_X1_checkElement (by decide) x4 h5) ⟨_, _, _, q2396⟩ rfl rfl q2394 q2395 rfl (by decide) (zkV (fun h6 => ?_)) zxo
  refine s_aload_n (pc := 14) 0 dX2_ship_14 rfl rfl ?_
  refine s_gR (pc := 15) dX2_ship_15 gf_X2_12 (fun r7 => ?_)
  refine s_iload_n (pc := 18) 1 dX2_ship_18 rfl rfl ?_
  refine s_callSS (pc := 19) (np := 1) (as := [.int v1]) (rest := [va_rf r7]) dX2_ship_19 (c_J24_valueOf (by decide) v1 h6) rfl rfl q1995 q683 rfl (by simp [zcat_rf, zcat_i, zcat_l, zcat_f, zcat_d]) (zkR (fun r8 h9 => ?_)) zxo
  refine zS_ite (fun ht => ?_) (fun _ => zS_none)
  refine s_callV (pc := 22) (np := 1) (as := [va_rf r8]) (rest := []) dX2_ship_22 ht (q := (RJ2, TJ2, 12)) rfl (c_J2_get (by decide) r7 r8 h9) rfl rfl q2399 q2400 q2401 rfl (by decide) (zkR (fun r10 h11 => ?_)) zxo
  refine s_cast (pc := 25) dX2_ship_25 q836 zcs_FloatingDock_Ship ?_
  exact s_aret (pc := 28) dX2_ship_28 rfl (Or.inl ⟨_, rfl⟩)
theorem c_X2_ship {d0 : Nat} (hd0 : 9 < d0) (v0 : Option Nat) (v1 : Int32) (h : zH) : zCal D z d0 h yX2_ship [va_rf v0, .int v1] (f_X2_ship v0 v1 h) :=
  ⟨cX2_ship, 2, (some (.object "FloatingDock$Ship")), [], 9, (show lv_args 0 [va_rf v0, .int v1] = [(0, va_rf v0), (1, .int v1)] by simp [lv_args, zcat_rf, zcat_i, zcat_l, zcat_f, zcat_d]) ▸ w_X2_ship v0 v1 h, (plainFor_of_name (by decide)), by simp [lg_sl, zcat_rf, zcat_i, zcat_l, zcat_f, zcat_d], q2389, q96, hd0, by decide, by decide⟩
theorem w_X6_isInDock (v0 : Option Nat) (h : zH) : zS D z yX6_isInDock cX6_isInDock 1 (some .boolean) [] 1 h 0 [(0, va_rf v0)] [] (f_X6_isInDock v0 h) := by
  unfold f_X6_isInDock
  refine s_aload_n (pc := 0) 0 dX6_isInDock_0 rfl rfl ?_
  refine s_gR (pc := 1) dX6_isInDock_1 gf_X6_40 (fun r1 => ?_)
  refine s_ifnull (pc := 4) (tgt := 11) dX6_isInDock_4 (by decide) (fun _ => ?_) (fun _ => ?_)
  · refine s_iconst (pc := 11) (v := 0) dX6_isInDock_11 (by decide) ?_
    exact s_nret (pc := 12) dX6_isInDock_12 rfl
  · refine s_iconst (pc := 7) (v := 1) dX6_isInDock_7 (by decide) ?_
    refine s_goto (pc := 8) (tgt := 12) dX6_isInDock_8 (by decide) ?_
    exact s_nret (pc := 12) dX6_isInDock_12 rfl
theorem c_X6_isInDock {d0 : Nat} (hd0 : 1 < d0) (v0 : Option Nat) (h : zH) : zCal D z d0 h yX6_isInDock [va_rf v0] (f_X6_isInDock v0 h) :=
  ⟨cX6_isInDock, 1, (some .boolean), [], 1, (show lv_args 0 [va_rf v0] = [(0, va_rf v0)] by simp [lv_args, zcat_rf, zcat_i, zcat_l, zcat_f, zcat_d]) ▸ w_X6_isInDock v0 h, (plainFor_of_name (by decide)), by simp [lg_sl, zcat_rf, zcat_i, zcat_l, zcat_f, zcat_d], q369, q142, hd0, by decide, by decide⟩
theorem w_J1_afterNodeRemoval (v0 : Option Nat) (v1 : Option Nat) (h : zH) : zS D z yJ1_afterNodeRemoval cJ1_afterNodeRemoval 2 none [] 1 h 0 [(0, va_rf v0), (1, va_rf v1)] [] (f_J1_afterNodeRemoval v0 v1 h) := by
  unfold f_J1_afterNodeRemoval
  exact s_vret (pc := 0) dJ1_afterNodeRemoval_0 rfl
theorem c_J1_afterNodeRemoval {d0 : Nat} (hd0 : 1 < d0) (v0 : Option Nat) (v1 : Option Nat) (h : zH) : zCal D z d0 h yJ1_afterNodeRemoval [va_rf v0, va_rf v1] (f_J1_afterNodeRemoval v0 v1 h) :=
  ⟨cJ1_afterNodeRemoval, 2, none, [], 1, (show lv_args 0 [va_rf v0, va_rf v1] = [(0, va_rf v0), (1, va_rf v1)] by simp [lv_args, zcat_rf, zcat_i, zcat_l, zcat_f, zcat_d]) ▸ w_J1_afterNodeRemoval v0 v1 h, (plainFor_of_name (by decide)), by simp [lg_sl, zcat_rf, zcat_i, zcat_l, zcat_f, zcat_d], q2434, q98, hd0, by decide, by decide⟩
theorem w_J2_afterNodeRemoval_45 (a0 : Option Nat) (a3 : Option Nat) (a4 : Option Nat) (h : zH) : zS D z yJ2_afterNodeRemoval cJ2_afterNodeRemoval 5 none [] 1 h 45 [(0, va_rf a0), (3, va_rf a3), (4, va_rf a4)] [] (f_J2_afterNodeRemoval_45 a0 a3 a4 h) := by
  unfold f_J2_afterNodeRemoval_45
  refine s_aload (pc := 45) 2 dJ2_afterNodeRemoval_45 rfl ?_
  refine s_ifnonnull (pc := 47) (tgt := 58) dJ2_afterNodeRemoval_47 (by decide) (fun _ => ?_) (fun _ => ?_)
  · refine s_aload (pc := 58) 2 dJ2_afterNodeRemoval_58 rfl ?_
    refine s_aload_n (pc := 60) 1 dJ2_afterNodeRemoval_60 rfl rfl ?_
    refine s_putR (pc := 61) dJ2_afterNodeRemoval_61 pf_J2_19 (fun h7 => ?_)
    exact s_vret (pc := 64) dJ2_afterNodeRemoval_64 rfl
  · refine s_aload_n (pc := 50) 0 dJ2_afterNodeRemoval_50 rfl rfl ?_
    refine s_aload_n (pc := 51) 1 dJ2_afterNodeRemoval_51 rfl rfl ?_
    refine s_putR (pc := 52) dJ2_afterNodeRemoval_52 pf_J2_11 (fun h8 => ?_)
    refine s_goto (pc := 55) (tgt := 64) dJ2_afterNodeRemoval_55 (by decide) ?_
    exact s_vret (pc := 64) dJ2_afterNodeRemoval_64 rfl
theorem w_J2_afterNodeRemoval (v0 : Option Nat) (v1 : Option Nat) (h : zH) : zS D z yJ2_afterNodeRemoval cJ2_afterNodeRemoval 5 none [] 1 h 0 [(0, va_rf v0), (1, va_rf v1)] [] (f_J2_afterNodeRemoval v0 v1 h) := by
  unfold f_J2_afterNodeRemoval
  refine s_aload_n (pc := 0) 1 dJ2_afterNodeRemoval_0 rfl rfl ?_
  refine s_cast (pc := 1) dJ2_afterNodeRemoval_1 q2085 zcs_java_util_LinkedHashMap_Entry ?_
  refine s_ast_n (pc := 4) (L2 := [(0, va_rf v0)]) [0] dJ2_afterNodeRemoval_4 rfl (by decide) rfl rfl (zcA rfl) ?_
  refine s_aload_n (pc := 5) 0 dJ2_afterNodeRemoval_5 rfl rfl ?_
  refine s_gR (pc := 6) dJ2_afterNodeRemoval_6 gf_J2_19 (fun r1 => ?_)
  refine s_ast_n (pc := 9) (L2 := [(2, va_rf v1), (0, va_rf v0)]) [0, 1] dJ2_afterNodeRemoval_9 rfl (by decide) rfl rfl (zcB (j := 0) rfl (zcat_rf v1) rfl) ?_
  refine s_aload_n (pc := 10) 1 dJ2_afterNodeRemoval_10 rfl rfl ?_
  refine s_gR (pc := 11) dJ2_afterNodeRemoval_11 gf_J2_14 (fun r2 => ?_)
  refine s_ast (pc := 14) (L2 := [(3, va_rf r1), (2, va_rf v1), (0, va_rf v0)]) [0, 1, 2] dJ2_afterNodeRemoval_14 (by decide) rfl rfl (zcB (j := 0) rfl (zcat_rf r1) rfl) ?_
  refine s_aload_n (pc := 16) 2 dJ2_afterNodeRemoval_16 rfl rfl ?_
  refine s_aload_n (pc := 17) 2 dJ2_afterNodeRemoval_17 rfl rfl ?_
  refine s_null (pc := 18) dJ2_afterNodeRemoval_18 ?_
  refine s_dup_x1 (pc := 19) dJ2_afterNodeRemoval_19 (zcat_rf _) (zcat_rf _) ?_
  refine s_putR (pc := 20) dJ2_afterNodeRemoval_20 pf_J2_14 (fun h3 => ?_)
  refine s_putR (pc := 23) dJ2_afterNodeRemoval_23 pf_J2_19 (fun h4 => ?_)
  refine s_aload_n (pc := 26) 1 dJ2_afterNodeRemoval_26 rfl rfl ?_
  refine s_ifnonnull (pc := 27) (tgt := 39) dJ2_afterNodeRemoval_27 (by decide) (fun _ => ?_) (fun _ => ?_)
  · refine s_aload_n (pc := 39) 1 dJ2_afterNodeRemoval_39 rfl rfl ?_
    refine s_aload (pc := 40) 0 dJ2_afterNodeRemoval_40 rfl ?_
    refine s_putR (pc := 42) dJ2_afterNodeRemoval_42 pf_J2_14 (fun h5 => ?_)
    exact s_sub (pc := 45) [3, 1, 0] rfl (w_J2_afterNodeRemoval_45 v0 r1 r2 h5)
  · refine s_aload_n (pc := 30) 3 dJ2_afterNodeRemoval_30 rfl rfl ?_
    refine s_aload (pc := 31) 0 dJ2_afterNodeRemoval_31 rfl ?_
    refine s_putR (pc := 33) dJ2_afterNodeRemoval_33 pf_J2_7 (fun h6 => ?_)
    refine s_goto (pc := 36) (tgt := 45) dJ2_afterNodeRemoval_36 (by decide) ?_
    exact s_sub (pc := 45) [3, 1, 0] rfl (w_J2_afterNodeRemoval_45 v0 r1 r2 h6)
theorem c_J2_afterNodeRemoval {d0 : Nat} (hd0 : 1 < d0) (v0 : Option Nat) (v1 : Option Nat) (h : zH) : zCal D z d0 h yJ2_afterNodeRemoval [va_rf v0, va_rf v1] (f_J2_afterNodeRemoval v0 v1 h) :=
  ⟨cJ2_afterNodeRemoval, 5, none, [], 1, (show lv_args 0 [va_rf v0, va_rf v1] = [(0, va_rf v0), (1, va_rf v1)] by simp [lv_args, zcat_rf, zcat_i, zcat_l, zcat_f, zcat_d]) ▸ w_J2_afterNodeRemoval v0 v1 h, (plainFor_of_name (by decide)), by simp [lg_sl, zcat_rf, zcat_i, zcat_l, zcat_f, zcat_d], q2433, q99, hd0, by decide, by decide⟩
theorem w_J1_removeNode_260 (a0 : Option Nat) (a10 : Option Nat) (h : zH) : zS D z yJ1_removeNode cJ1_removeNode 14 (some (.object "java/util/HashMap$Node")) [] 3 h 260 [(0, va_rf a0), (10, va_rf a10)] [] (f_J1_removeNode_260 a0 a10 h) := by
  unfold f_J1_removeNode_260
  refine s_aload_n (pc := 260) 0 dJ1_removeNode_260 rfl rfl ?_
  refine s_dup (pc := 261) dJ1_removeNode_261 (zcat_rf _) ?_
  refine s_gI (pc := 262) dJ1_removeNode_262 gf_J1_202 (fun x18 => ?_)
  refine s_iconst (pc := 265) (v := 1) dJ1_removeNode_265 (by decide) ?_
  refine s_iadd (pc := 266) dJ1_removeNode_266 ?_
  refine s_putI (pc := 267) dJ1_removeNode_267 pf_J1_202 (fun h19 => ?_)
  refine s_aload_n (pc := 270) 0 dJ1_removeNode_270 rfl rfl ?_
  refine s_dup (pc := 271) dJ1_removeNode_271 (zcat_rf _) ?_
  refine s_gI (pc := 272) dJ1_removeNode_272 gf_J1_156 (fun x20 => ?_)
  refine s_iconst (pc := 275) (v := 1) dJ1_removeNode_275 (by decide) ?_
  refine s_isub (pc := 276) dJ1_removeNode_276 ?_
  refine s_putI (pc := 277) dJ1_removeNode_277 pf_J1_156 (fun h21 => ?_)
  refine s_aload_n (pc := 280) 0 dJ1_removeNode_280 rfl rfl ?_
  refine s_aload (pc := 281) 1 dJ1_removeNode_281 rfl ?_
  refine zS_ite (fun ht => ?_) (fun _ => ?_)
  · refine s_callV (pc := 283) (np := 1) (as := [va_rf a10]) (rest := []) dJ1_removeNode_283 ht (q := (RJ1, TJ1, 8)) rfl (c_J1_afterNodeRemoval (by decide) a0 a10 h21) rfl rfl q2427 q2428 q2429 rfl (by decide) (zkV (fun h22 => ?_)) zxo
    refine s_aload (pc := 286) 1 dJ1_removeNode_286 rfl ?_
    exact s_aret (pc := 288) dJ1_removeNode_288 rfl (Or.inl ⟨_, rfl⟩)
  refine zS_ite (fun ht => ?_) (fun _ => zS_none)
  refine s_callVU (pc := 283) (np := 1) (as := [va_rf a10]) (rest := []) (owner := "java/util/HashMap") dJ1_removeNode_283 ht (q := (RJ2, TJ2, 12)) rfl (c_J2_afterNodeRemoval (by decide) a0 a10 h21) ⟨_, _, _, q2433⟩ rfl rfl q2427 q2430 (Or.inl ⟨_, _, _, q2428, q2434⟩) (by decide) q2432 q2431 rfl (by decide) (zkV (fun h22 => ?_)) zxo
  refine s_aload (pc := 286) 1 dJ1_removeNode_286 rfl ?_
  exact s_aret (pc := 288) dJ1_removeNode_288 rfl (Or.inl ⟨_, rfl⟩)
theorem w_J1_removeNode_206 (a0 : Option Nat) (a5 : Int32) (a6 : Option Nat) (a7 : Option Nat) (a9 : Int32) (a10 : Option Nat) (h : zH) : zS D z yJ1_removeNode cJ1_removeNode 14 (some (.object "java/util/HashMap$Node")) [] 3 h 206 [(0, va_rf a0), (5, .int a5), (6, va_rf a6), (7, va_rf a7), (9, .int a9), (10, va_rf a10)] [] (f_J1_removeNode_206 a0 a5 a6 a7 a9 a10 h) := by
  unfold f_J1_removeNode_206
  refine s_aload (pc := 206) 5 dJ1_removeNode_206 rfl ?_
  refine s_inst (pc := 208) dJ1_removeNode_208 q1694 (zt0) (ztc ⟨_, rfl, by decide +kernel⟩ (ztc ⟨_, rfl, by decide +kernel⟩ (zt0))) (fun x12 => ?_)
  refine s_if_eq (pc := 211) (tgt := 230) dJ1_removeNode_211 (by decide) (fun _ => ?_) (fun _ => ?_)
  · refine s_aload (pc := 230) 5 dJ1_removeNode_230 rfl ?_
    refine s_aload (pc := 232) 3 dJ1_removeNode_232 rfl ?_
    refine s_acmp_ne (pc := 234) (tgt := 250) dJ1_removeNode_234 (by decide) (fun _ => ?_) (fun _ => ?_)
    · refine s_aload (pc := 250) 3 dJ1_removeNode_250 rfl ?_
      refine s_aload (pc := 252) 5 dJ1_removeNode_252 rfl ?_
      refine s_gR (pc := 254) dJ1_removeNode_254 gf_J1_177 (fun r13 => ?_)
      refine s_putR (pc := 257) dJ1_removeNode_257 pf_J1_177 (fun h14 => ?_)
      exact s_sub (pc := 260) [0, 5] rfl (w_J1_removeNode_260 a0 a10 h14)
    · refine s_aload (pc := 237) 2 dJ1_removeNode_237 rfl ?_
      refine s_iload (pc := 239) 4 dJ1_removeNode_239 rfl ?_
      refine s_aload (pc := 241) 5 dJ1_removeNode_241 rfl ?_
      refine s_gR (pc := 243) dJ1_removeNode_243 gf_J1_177 (fun r15 => ?_)
      refine s_aast (pc := 246) dJ1_removeNode_246 (ztc ⟨rfl, by decide⟩ zt0) zcs_java_util_HashMap_Node (fun h16 => ?_)
      refine s_goto (pc := 247) (tgt := 260) dJ1_removeNode_247 (by decide) ?_
      exact s_sub (pc := 260) [0, 5] rfl (w_J1_removeNode_260 a0 a10 h16)
  · refine s_aload (pc := 214) 5 dJ1_removeNode_214 rfl ?_
    refine s_cast (pc := 216) dJ1_removeNode_216 q1694 zcs_java_util_HashMap_TreeNode ?_
    refine s_aload_n (pc := 219) 0 dJ1_removeNode_219 rfl rfl ?_
    refine s_aload (pc := 220) 2 dJ1_removeNode_220 rfl ?_
    refine s_iload (pc := 222) 1 dJ1_removeNode_222 rfl ?_
    exact zS_none
theorem w_J1_removeNode_171 (a0 : Option Nat) (a3 : Option Nat) (a4 : Int32) (a5 : Int32) (a6 : Option Nat) (a7 : Option Nat) (a9 : Int32) (a10 : Option Nat) (h : zH) : zS D z yJ1_removeNode cJ1_removeNode 14 (some (.object "java/util/HashMap$Node")) [] 3 h 171 [(0, va_rf a0), (3, va_rf a3), (4, .int a4), (5, .int a5), (6, va_rf a6), (7, va_rf a7), (9, .int a9), (10, va_rf a10)] [] (f_J1_removeNode_171 a0 a3 a4 a5 a6 a7 a9 a10 h) := by
  unfold f_J1_removeNode_171
  refine s_aload (pc := 171) 7 dJ1_removeNode_171 rfl ?_
  refine s_ifnull (pc := 173) (tgt := 289) dJ1_removeNode_173 (by decide) (fun _ => ?_) (fun _ => ?_)
  · refine s_null (pc := 289) dJ1_removeNode_289 ?_
    exact s_aret (pc := 290) dJ1_removeNode_290 rfl (Or.inl ⟨_, rfl⟩)
  · refine s_iload (pc := 176) 2 dJ1_removeNode_176 rfl ?_
    refine s_if_eq (pc := 178) (tgt := 206) dJ1_removeNode_178 (by decide) (fun _ => ?_) (fun _ => ?_)
    · exact s_sub (pc := 206) [0, 3, 4, 5, 6, 7] rfl (w_J1_removeNode_206 a0 a5 a6 a7 a9 a10 h)
    · refine s_aload (pc := 181) 7 dJ1_removeNode_181 rfl ?_
      refine s_gR (pc := 183) dJ1_removeNode_183 gf_J1_162 (fun r9 => ?_)
      refine s_dup (pc := 186) dJ1_removeNode_186 (zcat_rf _) ?_
      refine s_ast (pc := 187) (L2 := [(0, va_rf a0), (3, va_rf a3), (5, .int a5), (6, va_rf a6), (7, va_rf a7), (9, .int a9), (10, va_rf a10)]) [0, 1, 3, 4, 5, 6, 7] dJ1_removeNode_187 (by decide) rfl rfl (zcA rfl) ?_
      refine s_aload_n (pc := 189) 2 dJ1_removeNode_189 rfl rfl ?_
      refine s_acmp_eq (pc := 190) (tgt := 206) dJ1_removeNode_190 (by decide) (fun _ => ?_) (fun _ => ?_)
      · exact s_sub (pc := 206) [1, 3, 4, 5, 6, 7] rfl (w_J1_removeNode_206 a0 a5 a6 a7 a9 a10 h)
      · refine s_aload_n (pc := 193) 2 dJ1_removeNode_193 rfl rfl ?_
        refine s_ifnull (pc := 194) (tgt := 289) dJ1_removeNode_194 (by decide) (fun _ => ?_) (fun _ => ?_)
        · refine s_null (pc := 289) dJ1_removeNode_289 ?_
          exact s_aret (pc := 290) dJ1_removeNode_290 rfl (Or.inl ⟨_, rfl⟩)
        · refine s_aload_n (pc := 197) 2 dJ1_removeNode_197 rfl rfl ?_
          refine s_aload (pc := 198) 0 dJ1_removeNode_198 rfl ?_
          refine zS_ite (fun ht => ?_) (fun _ => ?_)
          · refine s_callVU (pc := 200) (np := 1) (as := [va_rf r9]) (rest := []) (owner := "java/lang/Object") dJ1_removeNode_200 ht (q := (RX8, TX8, 1)) rfl (c_X8_equals (by decide) a3 r9 h) ⟨_, _, _, q1657⟩ rfl rfl q1651 q1653 (Or.inl ⟨_, _, _, q1652, q1693⟩) (by decide) q1656 q1655 rfl (by decide) (zkI (fun x10 h11 => ?_)) zxo
            refine s_if_eq (pc := 203) (tgt := 289) dJ1_removeNode_203 (by decide) (fun _ => ?_) (fun _ => ?_)
            · refine s_null (pc := 289) dJ1_removeNode_289 ?_
              exact s_aret (pc := 290) dJ1_removeNode_290 rfl (Or.inl ⟨_, rfl⟩)
            · exact s_sub (pc := 206) [1, 3, 4, 5, 6, 7] rfl (w_J1_removeNode_206 a0 a5 a6 a7 a9 a10 h11)
          refine zS_ite (fun ht => ?_) (fun _ => zS_none)
          refine s_callVU (pc := 200) (np := 1) (as := [va_rf r9]) (rest := []) (owner := "java/lang/Object") dJ1_removeNode_200 ht (q := (RJ24, TJ24, 1)) rfl (c_J24_equals (by decide) a3 r9 h) ⟨_, _, _, q1676⟩ rfl rfl q1651 q1653 (Or.inl ⟨_, _, _, q1652, q1693⟩) (by decide) q1675 q1674 rfl (by decide) (zkI (fun x10 h11 => ?_)) zxo
          refine s_if_eq (pc := 203) (tgt := 289) dJ1_removeNode_203 (by decide) (fun _ => ?_) (fun _ => ?_)
          · refine s_null (pc := 289) dJ1_removeNode_289 ?_
            exact s_aret (pc := 290) dJ1_removeNode_290 rfl (Or.inl ⟨_, rfl⟩)
          · exact s_sub (pc := 206) [1, 3, 4, 5, 6, 7] rfl (w_J1_removeNode_206 a0 a5 a6 a7 a9 a10 h11)
theorem w_J1_removeNode_74 (a0 : Option Nat) (a3 : Option Nat) (a4 : Int32) (a5 : Int32) (a6 : Option Nat) (a7 : Option Nat) (a9 : Int32) (h : zH) : zS D z yJ1_removeNode cJ1_removeNode 14 (some (.object "java/util/HashMap$Node")) [] 3 h 74 [(0, va_rf a0), (3, va_rf a3), (4, .int a4), (5, .int a5), (6, va_rf a6), (7, va_rf a7), (9, .int a9)] [] (f_J1_removeNode_74 a0 a3 a4 a5 a6 a7 a9 h) := by
  unfold f_J1_removeNode_74
  refine s_aload (pc := 74) 5 dJ1_removeNode_74 rfl ?_
  refine s_ast (pc := 76) (L2 := [(0, va_rf a0), (3, va_rf a3), (4, .int a4), (5, .int a5), (6, va_rf a6), (7, va_rf a7), (9, .int a9)]) [0, 1, 2, 3, 4, 5, 6] dJ1_removeNode_76 (by decide) rfl rfl (zcB (j := 6) rfl rfl rfl) ?_
  refine s_goto (pc := 78) (tgt := 171) dJ1_removeNode_78 (by decide) ?_
  exact s_sub (pc := 171) [1, 2, 3, 4, 5, 6, 7, 0] rfl (w_J1_removeNode_171 a0 a3 a4 a5 a6 a7 a9 a7 h)
theorem w_J1_removeNode_149 (a0 : Option Nat) (a3 : Option Nat) (a4 : Int32) (a5 : Int32) (a6 : Option Nat) (a7 : Option Nat) (a9 : Int32) (a11 : Option Nat) (h : zH) : zS D z yJ1_removeNode cJ1_removeNode 14 (some (.object "java/util/HashMap$Node")) [] 3 h 149 [(0, va_rf a0), (3, va_rf a3), (4, .int a4), (5, .int a5), (6, va_rf a6), (7, va_rf a7), (9, .int a9), (11, va_rf a11)] [] (f_J1_removeNode_149 a0 a3 a4 a5 a6 a7 a9 a11 h) := by
  unfold f_J1_removeNode_149
  refine s_aload (pc := 149) 7 dJ1_removeNode_149 rfl ?_
  refine s_ast (pc := 151) (L2 := [(0, va_rf a0), (3, va_rf a3), (4, .int a4), (5, .int a5), (6, va_rf a6), (7, va_rf a7), (9, .int a9)]) [0, 1, 2, 3, 4, 5, 6] dJ1_removeNode_151 (by decide) rfl rfl (zcB (j := 6) rfl rfl rfl) ?_
  refine s_goto (pc := 153) (tgt := 171) dJ1_removeNode_153 (by decide) ?_
  exact s_sub (pc := 171) [1, 2, 3, 4, 5, 6, 7, 0] rfl (w_J1_removeNode_171 a0 a3 a4 a5 a6 a7 a9 a11 h)
theorem w_J1_removeNode_156 (K115 : Option Nat → Int32 → Option Nat → Option Nat → Int32 → Int32 → Option Nat → Option Nat → Int32 → Option Nat → Option Nat → zH → zO) (hK115 : ∀ (a0 : Option Nat) (a1 : Int32) (a2 : Option Nat) (a3 : Option Nat) (a4 : Int32) (a5 : Int32) (a6 : Option Nat) (a7 : Option Nat) (a9 : Int32) (a10 : Option Nat) (a11 : Option Nat) (h : zH), zS D z yJ1_removeNode cJ1_removeNode 14 (some (.object "java/util/HashMap$Node")) [] 3 h 115 [(0, va_rf a0), (1, .int a1), (2, va_rf a2), (3, va_rf a3), (4, .int a4), (5, .int a5), (6, va_rf a6), (7, va_rf a7), (9, .int a9), (10, va_rf a10), (11, va_rf a11)] [] (K115 a0 a1 a2 a3 a4 a5 a6 a7 a9 a10 a11 h)) (a0 : Option Nat) (a1 : Int32) (a2 : Option Nat) (a3 : Option Nat) (a4 : Int32) (a5 : Int32) (a6 : Option Nat) (a9 : Int32) (a10 : Option Nat) (a11 : Option Nat) (h : zH) : zS D z yJ1_removeNode cJ1_removeNode 14 (some (.object "java/util/HashMap$Node")) [] 3 h 156 [(0, va_rf a0), (1, .int a1), (2, va_rf a2), (3, va_rf a3), (4, .int a4), (5, .int a5), (6, va_rf a6), (9, .int a9), (10, va_rf a10), (11, va_rf a11)] [] (f_J1_removeNode_156 K115 a0 a1 a2 a3 a4 a5 a6 a9 a10 a11 h) := by
  unfold f_J1_removeNode_156
  refine s_aload (pc := 156) 9 dJ1_removeNode_156 rfl ?_
  refine s_ast (pc := 158) (L2 := [(0, va_rf a0), (1, .int a1), (2, va_rf a2), (3, va_rf a3), (4, .int a4), (5, .int a5), (6, va_rf a6), (9, .int a9), (10, va_rf a10), (11, va_rf a11)]) [0, 1, 2, 3, 4, 5, 6, 7, 8, 9] dJ1_removeNode_158 (by decide) rfl rfl (zcB (j := 6) rfl (zcat_rf a6) rfl) ?_
  refine s_aload (pc := 160) 10 dJ1_removeNode_160 rfl ?_
  refine s_gR (pc := 162) dJ1_removeNode_162 gf_J1_177 (fun r31 => ?_)
  refine s_dup (pc := 165) dJ1_removeNode_165 (zcat_rf _) ?_
  refine s_ast (pc := 166) (L2 := [(7, va_rf a11), (0, va_rf a0), (1, .int a1), (2, va_rf a2), (3, va_rf a3), (4, .int a4), (5, .int a5), (6, va_rf a6), (9, .int a9), (10, va_rf a10)]) [0, 1, 2, 3, 4, 5, 6, 7, 8, 9] dJ1_removeNode_166 (by decide) rfl rfl (zcB (j := 9) rfl (zcat_rf a10) rfl) ?_
  refine s_ifnonnull (pc := 168) (tgt := 115) dJ1_removeNode_168 (by decide) (fun _ => ?_) (fun _ => ?_)
  · exact s_sub (pc := 115) [2, 3, 4, 5, 6, 7, 8, 1, 9, 10, 0] rfl (hK115 a0 a1 a2 a3 a4 a5 a6 a11 a9 a10 r31 h)
  · exact s_sub (pc := 171) [2, 5, 6, 7, 8, 1, 9, 10] rfl (w_J1_removeNode_171 a0 a3 a4 a5 a6 a11 a9 a10 h)
theorem w_J1_removeNode_115 : ∀ (n : Nat) (a0 : Option Nat) (a1 : Int32) (a2 : Option Nat) (a3 : Option Nat) (a4 : Int32) (a5 : Int32) (a6 : Option Nat) (a7 : Option Nat) (a9 : Int32) (a10 : Option Nat) (a11 : Option Nat) (h : zH), zS D z yJ1_removeNode cJ1_removeNode 14 (some (.object "java/util/HashMap$Node")) [] 3 h 115 [(0, va_rf a0), (1, .int a1), (2, va_rf a2), (3, va_rf a3), (4, .int a4), (5, .int a5), (6, va_rf a6), (7, va_rf a7), (9, .int a9), (10, va_rf a10), (11, va_rf a11)] [] (f_J1_removeNode_115 n a0 a1 a2 a3 a4 a5 a6 a7 a9 a10 a11 h) := by
  intro n
  induction n with
  | zero => intros; exact zS_none
  | succ n ih =>
    intro a0 a1 a2 a3 a4 a5 a6 a7 a9 a10 a11 h
    rw [f_J1_removeNode_115.eq_2]
    refine s_aload (pc := 115) 10 dJ1_removeNode_115 rfl ?_
    refine s_gI (pc := 117) dJ1_removeNode_117 gf_J1_168 (fun x27 => ?_)
    refine s_iload_n (pc := 120) 1 dJ1_removeNode_120 rfl rfl ?_
    refine s_icmp_ne (pc := 121) (tgt := 156) dJ1_removeNode_121 (by decide) (fun _ => ?_) (fun _ => ?_)
    · exact s_sub (pc := 156) [0, 1, 2, 3, 4, 5, 6, 8, 9, 10] rfl (w_J1_removeNode_156 (f_J1_removeNode_115 n) ih a0 a1 a2 a3 a4 a5 a6 a9 a10 a11 h)
    · refine s_aload (pc := 124) 10 dJ1_removeNode_124 rfl ?_
      refine s_gR (pc := 126) dJ1_removeNode_126 gf_J1_170 (fun r28 => ?_)
      refine s_dup (pc := 129) dJ1_removeNode_129 (zcat_rf _) ?_
      refine s_ast (pc := 130) (L2 := [(0, va_rf a0), (1, .int a1), (2, va_rf a2), (3, va_rf a3), (4, .int a4), (5, .int a5), (6, va_rf a6), (7, va_rf a7), (9, .int a9), (10, va_rf a10), (11, va_rf a11)]) [0, 1, 2, 3, 4, 5, 6, 7, 8, 9, 10] dJ1_removeNode_130 (by decide) rfl rfl (zcB (j := 10) rfl (zcat_rf a11) rfl) ?_
      refine s_aload_n (pc := 132) 3 dJ1_removeNode_132 rfl rfl ?_
      refine s_acmp_eq (pc := 133) (tgt := 149) dJ1_removeNode_133 (by decide) (fun _ => ?_) (fun _ => ?_)
      · exact s_sub (pc := 149) [1, 4, 5, 6, 7, 8, 9, 11] rfl (w_J1_removeNode_149 a0 a3 a4 a5 a6 a7 a9 a11 h)
      · refine s_aload_n (pc := 136) 3 dJ1_removeNode_136 rfl rfl ?_
        refine s_ifnull (pc := 137) (tgt := 156) dJ1_removeNode_137 (by decide) (fun _ => ?_) (fun _ => ?_)
        · exact s_sub (pc := 156) [1, 2, 3, 4, 5, 6, 7, 9, 10, 11] rfl (w_J1_removeNode_156 (f_J1_removeNode_115 n) ih a0 a1 a2 a3 a4 a5 a6 a9 a10 a11 h)
        · refine s_aload_n (pc := 140) 3 dJ1_removeNode_140 rfl rfl ?_
          refine s_aload (pc := 141) 0 dJ1_removeNode_141 rfl ?_
          refine zS_ite (fun ht => ?_) (fun _ => ?_)
          · refine s_callVU (pc := 143) (np := 1) (as := [va_rf r28]) (rest := []) (owner := "java/lang/Object") dJ1_removeNode_143 ht (q := (RX8, TX8, 1)) rfl (c_X8_equals (by decide) a2 r28 h) ⟨_, _, _, q1657⟩ rfl rfl q1651 q1653 (Or.inl ⟨_, _, _, q1652, q1693⟩) (by decide) q1656 q1655 rfl (by decide) (zkI (fun x29 h30 => ?_)) zxo
            refine s_if_eq (pc := 146) (tgt := 156) dJ1_removeNode_146 (by decide) (fun _ => ?_) (fun _ => ?_)
            · exact s_sub (pc := 156) [1, 2, 3, 4, 5, 6, 7, 9, 10, 11] rfl (w_J1_removeNode_156 (f_J1_removeNode_115 n) ih a0 a1 a2 a3 a4 a5 a6 a9 a10 a11 h30)
            · exact s_sub (pc := 149) [1, 4, 5, 6, 7, 8, 9, 11] rfl (w_J1_removeNode_149 a0 a3 a4 a5 a6 a7 a9 a11 h30)
          refine zS_ite (fun ht => ?_) (fun _ => zS_none)
          refine s_callVU (pc := 143) (np := 1) (as := [va_rf r28]) (rest := []) (owner := "java/lang/Object") dJ1_removeNode_143 ht (q := (RJ24, TJ24, 1)) rfl (c_J24_equals (by decide) a2 r28 h) ⟨_, _, _, q1676⟩ rfl rfl q1651 q1653 (Or.inl ⟨_, _, _, q1652, q1693⟩) (by decide) q1675 q1674 rfl (by decide) (zkI (fun x29 h30 => ?_)) zxo
          refine s_if_eq (pc := 146) (tgt := 156) dJ1_removeNode_146 (by decide) (fun _ => ?_) (fun _ => ?_)
          · exact s_sub (pc := 156) [1, 2, 3, 4, 5, 6, 7, 9, 10, 11] rfl (w_J1_removeNode_156 (f_J1_removeNode_115 n) ih a0 a1 a2 a3 a4 a5 a6 a9 a10 a11 h30)
          · exact s_sub (pc := 149) [1, 4, 5, 6, 7, 8, 9, 11] rfl (w_J1_removeNode_149 a0 a3 a4 a5 a6 a7 a9 a11 h30)
theorem w_J1_removeNode_81 (a0 : Option Nat) (a1 : Int32) (a2 : Option Nat) (a3 : Option Nat) (a4 : Int32) (a5 : Int32) (a6 : Option Nat) (a7 : Option Nat) (a9 : Int32) (a10 : Option Nat) (h : zH) : zS D z yJ1_removeNode cJ1_removeNode 14 (some (.object "java/util/HashMap$Node")) [] 3 h 81 [(0, va_rf a0), (1, .int a1), (2, va_rf a2), (3, va_rf a3), (4, .int a4), (5, .int a5), (6, va_rf a6), (7, va_rf a7), (9, .int a9), (10, va_rf a10)] [] (f_J1_removeNode_81 a0 a1 a2 a3 a4 a5 a6 a7 a9 a10 h) := by
  unfold f_J1_removeNode_81
  refine s_aload (pc := 81) 7 dJ1_removeNode_81 rfl ?_
  refine s_gR (pc := 83) dJ1_removeNode_83 gf_J1_177 (fun r23 => ?_)
  refine s_dup (pc := 86) dJ1_removeNode_86 (zcat_rf _) ?_
  refine s_ast (pc := 87) (L2 := [(0, va_rf a0), (1, .int a1), (2, va_rf a2), (3, va_rf a3), (4, .int a4), (5, .int a5), (6, va_rf a6), (7, va_rf a7), (9, .int a9), (10, va_rf a10)]) [0, 1, 2, 3, 4, 5, 6, 7, 8, 9] dJ1_removeNode_87 (by decide) rfl rfl (zcB (j := 9) rfl (zcat_rf a10) rfl) ?_
  refine s_ifnull (pc := 89) (tgt := 171) dJ1_removeNode_89 (by decide) (fun _ => ?_) (fun _ => ?_)
  · exact s_sub (pc := 171) [1, 4, 5, 6, 7, 8, 9, 10] rfl (w_J1_removeNode_171 a0 a3 a4 a5 a6 a7 a9 a10 h)
  · refine s_aload (pc := 92) 8 dJ1_removeNode_92 rfl ?_
    refine s_inst (pc := 94) dJ1_removeNode_94 q1694 (zt0) (ztc ⟨_, rfl, by decide +kernel⟩ (ztc ⟨_, rfl, by decide +kernel⟩ (zt0))) (fun x24 => ?_)
    refine s_if_eq (pc := 97) (tgt := 115) dJ1_removeNode_97 (by decide) (fun _ => ?_) (fun _ => ?_)
    · exact s_sub (pc := 115) [1, 2, 3, 4, 5, 6, 7, 8, 9, 10, 0] rfl (w_J1_removeNode_115 zfuel a0 a1 a2 a3 a4 a5 a6 a7 a9 a10 r23 h)
    · refine s_aload (pc := 100) 8 dJ1_removeNode_100 rfl ?_
      refine s_cast (pc := 102) dJ1_removeNode_102 q1694 zcs_java_util_HashMap_TreeNode ?_
      refine s_iload_n (pc := 105) 2 dJ1_removeNode_105 rfl rfl ?_
      refine s_aload_n (pc := 106) 3 dJ1_removeNode_106 rfl rfl ?_
      exact zS_none
theorem w_J1_removeNode (v0 : Option Nat) (v1 : Int32) (v2 : Option Nat) (v3 : Option Nat) (v4 : Int32) (v5 : Int32) (h : zH) : zS D z yJ1_removeNode cJ1_removeNode 14 (some (.object "java/util/HashMap$Node")) [] 3 h 0 [(0, va_rf v0), (1, .int v1), (2, va_rf v2), (3, va_rf v3), (4, .int v4), (5, .int v5)] [] (f_J1_removeNode v0 v1 v2 v3 v4 v5 h) := by
  unfold f_J1_removeNode
  refine s_aload_n (pc := 0) 0 dJ1_removeNode_0 rfl rfl ?_
  refine s_gR (pc := 1) dJ1_removeNode_1 gf_J1_105 (fun r1 => ?_)
  refine s_dup (pc := 4) dJ1_removeNode_4 (zcat_rf _) ?_
  refine s_ast (pc := 5) (L2 := [(0, va_rf v0), (1, .int v1), (2, va_rf v2), (3, va_rf v3), (4, .int v4), (5, .int v5)]) [0, 1, 2, 3, 4, 5] dJ1_removeNode_5 (by decide) rfl rfl (zcB (j := 5) rfl rfl rfl) ?_
  refine s_ifnull (pc := 7) (tgt := 289) dJ1_removeNode_7 (by decide) (fun _ => ?_) (fun _ => ?_)
  · refine s_null (pc := 289) dJ1_removeNode_289 ?_
    exact s_aret (pc := 290) dJ1_removeNode_290 rfl (Or.inl ⟨_, rfl⟩)
  · refine s_aload (pc := 10) 0 dJ1_removeNode_10 rfl ?_
    refine s_alen (pc := 12) dJ1_removeNode_12 zarrs_ok (fun x2 => ?_)
    refine s_dup (pc := 13) dJ1_removeNode_13 rfl ?_
    refine s_ist (pc := 14) (L2 := [(6, va_rf r1), (0, va_rf v0), (1, .int v1), (2, va_rf v2), (3, va_rf v3), (4, .int v4), (5, .int v5)]) [0, 1, 2, 3, 4, 5, 6] dJ1_removeNode_14 (by decide) rfl rfl (zcA rfl) ?_
    refine s_if_le (pc := 16) (tgt := 289) dJ1_removeNode_16 (by decide) (fun _ => ?_) (fun _ => ?_)
    · refine s_null (pc := 289) dJ1_removeNode_289 ?_
      exact s_aret (pc := 290) dJ1_removeNode_290 rfl (Or.inl ⟨_, rfl⟩)
    · refine s_aload (pc := 19) 1 dJ1_removeNode_19 rfl ?_
      refine s_iload (pc := 21) 0 dJ1_removeNode_21 rfl ?_
      refine s_iconst (pc := 23) (v := 1) dJ1_removeNode_23 (by decide) ?_
      refine s_isub (pc := 24) dJ1_removeNode_24 ?_
      refine s_iload_n (pc := 25) 3 dJ1_removeNode_25 rfl rfl ?_
      refine s_iand (pc := 26) dJ1_removeNode_26 ?_
      refine s_nm (pc := 27) Value.int (fun x3 => ?_)
      refine s_dup (pc := 27) dJ1_removeNode_27 rfl ?_
      refine s_ist (pc := 28) (L2 := [(6, va_rf r1), (0, va_rf v0), (1, .int v1), (2, va_rf v2), (3, va_rf v3), (4, .int v4), (5, .int v5)]) [1, 2, 3, 4, 5, 6, 7] dJ1_removeNode_28 (by decide) rfl rfl (zcA rfl) ?_
      refine s_aald (pc := 30) dJ1_removeNode_30 zrefs_ok (fun r4 => ?_)
      refine s_dup (pc := 31) dJ1_removeNode_31 (zcat_rf _) ?_
      refine s_ast (pc := 32) (L2 := [(9, .int x3), (6, va_rf r1), (0, va_rf v0), (1, .int v1), (2, va_rf v2), (3, va_rf v3), (4, .int v4), (5, .int v5)]) [0, 1, 2, 3, 4, 5, 6, 7] dJ1_removeNode_32 (by decide) rfl rfl (zcB (j := 1) rfl (zcat_rf r1) rfl) ?_
      refine s_ifnull (pc := 34) (tgt := 289) dJ1_removeNode_34 (by decide) (fun _ => ?_) (fun _ => ?_)
      · refine s_null (pc := 289) dJ1_removeNode_289 ?_
        exact s_aret (pc := 290) dJ1_removeNode_290 rfl (Or.inl ⟨_, rfl⟩)
      · refine s_null (pc := 37) dJ1_removeNode_37 ?_
        refine s_ast (pc := 38) (L2 := [(7, va_rf r4), (9, .int x3), (6, va_rf r1), (0, va_rf v0), (1, .int v1), (2, va_rf v2), (3, va_rf v3), (4, .int v4), (5, .int v5)]) [0, 1, 2, 3, 4, 5, 6, 7, 8] dJ1_removeNode_38 (by decide) rfl rfl (zcB (j := 1) rfl rfl rfl) ?_
        refine s_aload (pc := 40) 1 dJ1_removeNode_40 rfl ?_
        refine s_gI (pc := 42) dJ1_removeNode_42 gf_J1_168 (fun x5 => ?_)
        refine s_iload_n (pc := 45) 5 dJ1_removeNode_45 rfl rfl ?_
        refine s_icmp_ne (pc := 46) (tgt := 81) dJ1_removeNode_46 (by decide) (fun _ => ?_) (fun _ => ?_)
        · exact s_sub (pc := 81) [4, 5, 6, 7, 8, 9, 3, 1, 2, 0] rfl (w_J1_removeNode_81 v0 v1 v2 v3 v4 v5 r1 r4 x3 none h)
        · refine s_aload (pc := 49) 1 dJ1_removeNode_49 rfl ?_
          refine s_gR (pc := 51) dJ1_removeNode_51 gf_J1_170 (fun r6 => ?_)
          refine s_dup (pc := 54) dJ1_removeNode_54 (zcat_rf _) ?_
          refine s_ast (pc := 55) (L2 := [(10, va_rf none), (7, va_rf r4), (9, .int x3), (6, va_rf r1), (0, va_rf v0), (1, .int v1), (2, va_rf v2), (3, va_rf v3), (4, .int v4), (5, .int v5)]) [0, 1, 2, 3, 4, 5, 6, 7, 8, 9] dJ1_removeNode_55 (by decide) rfl rfl (zcA rfl) ?_
          refine s_aload_n (pc := 57) 7 dJ1_removeNode_57 rfl rfl ?_
          refine s_acmp_eq (pc := 58) (tgt := 74) dJ1_removeNode_58 (by decide) (fun _ => ?_) (fun _ => ?_)
          · exact s_sub (pc := 74) [5, 8, 9, 10, 4, 2, 3] rfl (w_J1_removeNode_74 v0 v3 v4 v5 r1 r4 x3 h)
          · refine s_aload_n (pc := 61) 7 dJ1_removeNode_61 rfl rfl ?_
            refine s_ifnull (pc := 62) (tgt := 81) dJ1_removeNode_62 (by decide) (fun _ => ?_) (fun _ => ?_)
            · exact s_sub (pc := 81) [5, 6, 7, 8, 9, 10, 4, 2, 3, 1] rfl (w_J1_removeNode_81 v0 v1 v2 v3 v4 v5 r1 r4 x3 none h)
            · refine s_aload_n (pc := 65) 7 dJ1_removeNode_65 rfl rfl ?_
              refine s_aload (pc := 66) 0 dJ1_removeNode_66 rfl ?_
              refine zS_ite (fun ht => ?_) (fun _ => ?_)
              · refine s_callVU (pc := 68) (np := 1) (as := [va_rf r6]) (rest := []) (owner := "java/lang/Object") dJ1_removeNode_68 ht (q := (RX8, TX8, 1)) rfl (c_X8_equals (by decide) v2 r6 h) ⟨_, _, _, q1657⟩ rfl rfl q1651 q1653 (Or.inl ⟨_, _, _, q1652, q1693⟩) (by decide) q1656 q1655 rfl (by decide) (zkI (fun x7 h8 => ?_)) zxo
                refine s_if_eq (pc := 71) (tgt := 81) dJ1_removeNode_71 (by decide) (fun _ => ?_) (fun _ => ?_)
                · exact s_sub (pc := 81) [5, 6, 7, 8, 9, 10, 4, 2, 3, 1] rfl (w_J1_removeNode_81 v0 v1 v2 v3 v4 v5 r1 r4 x3 none h8)
                · exact s_sub (pc := 74) [5, 8, 9, 10, 4, 2, 3] rfl (w_J1_removeNode_74 v0 v3 v4 v5 r1 r4 x3 h8)
              refine zS_ite (fun ht => ?_) (fun _ => zS_none)
              refine s_callVU (pc := 68) (np := 1) (as := [va_rf r6]) (rest := []) (owner := "java/lang/Object") dJ1_removeNode_68 ht (q := (RJ24, TJ24, 1)) rfl (c_J24_equals (by decide) v2 r6 h) ⟨_, _, _, q1676⟩ rfl rfl q1651 q1653 (Or.inl ⟨_, _, _, q1652, q1693⟩) (by decide) q1675 q1674 rfl (by decide) (zkI (fun x7 h8 => ?_)) zxo
              refine s_if_eq (pc := 71) (tgt := 81) dJ1_removeNode_71 (by decide) (fun _ => ?_) (fun _ => ?_)
              · exact s_sub (pc := 81) [5, 6, 7, 8, 9, 10, 4, 2, 3, 1] rfl (w_J1_removeNode_81 v0 v1 v2 v3 v4 v5 r1 r4 x3 none h8)
              · exact s_sub (pc := 74) [5, 8, 9, 10, 4, 2, 3] rfl (w_J1_removeNode_74 v0 v3 v4 v5 r1 r4 x3 h8)
theorem c_J1_removeNode {d0 : Nat} (hd0 : 3 < d0) (v0 : Option Nat) (v1 : Int32) (v2 : Option Nat) (v3 : Option Nat) (v4 : Int32) (v5 : Int32) (h : zH) : zCal D z d0 h yJ1_removeNode [va_rf v0, .int v1, va_rf v2, va_rf v3, .int v4, .int v5] (f_J1_removeNode v0 v1 v2 v3 v4 v5 h) :=
  ⟨cJ1_removeNode, 14, (some (.object "java/util/HashMap$Node")), [], 3, (show lv_args 0 [va_rf v0, .int v1, va_rf v2, va_rf v3, .int v4, .int v5] = [(0, va_rf v0), (1, .int v1), (2, va_rf v2), (3, va_rf v3), (4, .int v4), (5, .int v5)] by simp [lv_args, zcat_rf, zcat_i, zcat_l, zcat_f, zcat_d]) ▸ w_J1_removeNode v0 v1 v2 v3 v4 v5 h, (plainFor_of_name (by decide)), by simp [lg_sl, zcat_rf, zcat_i, zcat_l, zcat_f, zcat_d], q2419, q98, hd0, by decide, by decide⟩
theorem w_J1_remove (v0 : Option Nat) (v1 : Option Nat) (h : zH) : zS D z yJ1_remove cJ1_remove 3 (some (.object "java/lang/Object")) [] 4 h 0 [(0, va_rf v0), (1, va_rf v1)] [] (f_J1_remove v0 v1 h) := by
  unfold f_J1_remove
  refine s_aload_n (pc := 0) 0 dJ1_remove_0 rfl rfl ?_
  refine s_aload_n (pc := 1) 1 dJ1_remove_1 rfl rfl ?_
  refine s_callSS (pc := 2) (np := 1) (as := [va_rf v1]) (rest := [va_rf v0]) dJ1_remove_2 (c_J1_hash (by decide) v1 h) rfl rfl q1552 q1553 rfl (by simp [zcat_rf, zcat_i, zcat_l, zcat_f, zcat_d]) (zkI (fun x1 h2 => ?_)) zxo
  refine s_aload_n (pc := 5) 1 dJ1_remove_5 rfl rfl ?_
  refine s_null (pc := 6) dJ1_remove_6 ?_
  refine s_iconst (pc := 7) (v := 0) dJ1_remove_7 (by decide) ?_
  refine s_iconst (pc := 8) (v := 1) dJ1_remove_8 (by decide) ?_
  refine zS_ite (fun ht => ?_) (fun _ => ?_)
  · refine s_callV (pc := 9) (np := 5) (as := [.int x1, va_rf v1, va_rf none, .int 0, .int 1]) (rest := []) dJ1_remove_9 ht (q := (RJ1, TJ1, 8)) rfl (c_J1_removeNode (by decide) v0 x1 v1 none 0 1 h2) rfl rfl q2414 q2415 q2416 rfl (by decide) (zkR (fun r3 h4 => ?_)) zxo
    refine s_dup (pc := 12) dJ1_remove_12 (zcat_rf _) ?_
    refine s_ast_n (pc := 13) (L2 := []) [] dJ1_remove_13 rfl (by decide) rfl rfl (zcA rfl) ?_
    refine s_ifnonnull (pc := 14) (tgt := 21) dJ1_remove_14 (by decide) (fun _ => ?_) (fun _ => ?_)
    · refine s_aload_n (pc := 21) 0 dJ1_remove_21 rfl rfl ?_
      refine s_gR (pc := 22) dJ1_remove_22 gf_J1_162 (fun r5 => ?_)
      exact s_aret (pc := 25) dJ1_remove_25 rfl (Or.inl ⟨_, rfl⟩)
    · refine s_null (pc := 17) dJ1_remove_17 ?_
      refine s_goto (pc := 18) (tgt := 25) dJ1_remove_18 (by decide) ?_
      exact s_aret (pc := 25) dJ1_remove_25 rfl (Or.inl ⟨_, rfl⟩)
  refine zS_ite (fun ht => ?_) (fun _ => zS_none)
  refine s_callVU (pc := 9) (np := 5) (as := [.int x1, va_rf v1, va_rf none, .int 0, .int 1]) (rest := []) (owner := "java/util/HashMap") dJ1_remove_9 ht (q := (RJ2, TJ2, 12)) rfl (c_J1_removeNode (by decide) v0 x1 v1 none 0 1 h2) ⟨_, _, _, q2419⟩ rfl rfl q2414 q2417 (Or.inl ⟨_, _, _, q2415, q2419⟩) (by decide) q2415 q2418 rfl (by decide) (zkR (fun r3 h4 => ?_)) zxo
  refine s_dup (pc := 12) dJ1_remove_12 (zcat_rf _) ?_
  refine s_ast_n (pc := 13) (L2 := []) [] dJ1_remove_13 rfl (by decide) rfl rfl (zcA rfl) ?_
  refine s_ifnonnull (pc := 14) (tgt := 21) dJ1_remove_14 (by decide) (fun _ => ?_) (fun _ => ?_)
  · refine s_aload_n (pc := 21) 0 dJ1_remove_21 rfl rfl ?_
    refine s_gR (pc := 22) dJ1_remove_22 gf_J1_162 (fun r6 => ?_)
    exact s_aret (pc := 25) dJ1_remove_25 rfl (Or.inl ⟨_, rfl⟩)
  · refine s_null (pc := 17) dJ1_remove_17 ?_
    refine s_goto (pc := 18) (tgt := 25) dJ1_remove_18 (by decide) ?_
    exact s_aret (pc := 25) dJ1_remove_25 rfl (Or.inl ⟨_, rfl⟩)
theorem c_J1_remove {d0 : Nat} (hd0 : 4 < d0) (v0 : Option Nat) (v1 : Option Nat) (h : zH) : zCal D z d0 h yJ1_remove [va_rf v0, va_rf v1] (f_J1_remove v0 v1 h) :=
  ⟨cJ1_remove, 3, (some (.object "java/lang/Object")), [], 4, (show lv_args 0 [va_rf v0, va_rf v1] = [(0, va_rf v0), (1, va_rf v1)] by simp [lv_args, zcat_rf, zcat_i, zcat_l, zcat_f, zcat_d]) ▸ w_J1_remove v0 v1 h, (plainFor_of_name (by decide)), by simp [lg_sl, zcat_rf, zcat_i, zcat_l, zcat_f, zcat_d], q2413, q98, hd0, by decide, by decide⟩
theorem w_X2_removeShip_25 (a0 : Option Nat) (a1 : Int32) (s0 : Int32) (h : zH) : zS D z yX2_removeShip cX2_removeShip 4 (some .int) [] 10 h 25 [(0, va_rf a0), (1, .int a1)] [.int s0] (f_X2_removeShip_25 a0 a1 s0 h) := by
  unfold f_X2_removeShip_25
  refine s_callSN (pc := 25) (np := 1) (as := [.int s0]) (rest := []) dX2_removeShip_25 (c_X1_checkState (by decide) s0 h) ⟨_, _, _, q2290⟩ rfl rfl q2288 q2289 rfl (by decide) (zkV (fun h6 => ?_)) zxo
  refine s_aload_n (pc := 28) 0 dX2_removeShip_28 rfl rfl ?_
  refine s_gR (pc := 29) dX2_removeShip_29 gf_X2_12 (fun r7 => ?_)
  refine s_iload_n (pc := 32) 1 dX2_removeShip_32 rfl rfl ?_
  refine s_callSS (pc := 33) (np := 1) (as := [.int a1]) (rest := [va_rf r7]) dX2_removeShip_33 (c_J24_valueOf (by decide) a1 h6) rfl rfl q1995 q683 rfl (by simp [zcat_rf, zcat_i, zcat_l, zcat_f, zcat_d]) (zkR (fun r8 h9 => ?_)) zxo
  refine zS_ite (fun ht => ?_) (fun _ => zS_none)
  refine s_callVU (pc := 36) (np := 1) (as := [va_rf r8]) (rest := []) (owner := "java/util/HashMap") dX2_removeShip_36 ht (q := (RJ2, TJ2, 12)) rfl (c_J1_remove (by decide) r7 r8 h9) ⟨_, _, _, q2413⟩ rfl rfl q2408 q2409 (Or.inl ⟨_, _, _, q2412, q2413⟩) (by decide) q2412 q2411 rfl (by decide) (zkR (fun r10 h11 => ?_)) zxo
  refine s_cast (pc := 39) dX2_removeShip_39 q836 zcs_FloatingDock_Ship ?_
  refine s_ast_n (pc := 42) (L2 := []) [] dX2_removeShip_42 rfl (by decide) rfl rfl (zcA rfl) ?_
  refine s_aload_n (pc := 43) 0 dX2_removeShip_43 rfl rfl ?_
  refine s_gI (pc := 44) dX2_removeShip_44 gf_X2_176 (fun x12 => ?_)
  exact s_iret (pc := 47) dX2_removeShip_47 rfl
theorem w_X2_removeShip_24 (a0 : Option Nat) (a1 : Int32) (h : zH) : zS D z yX2_removeShip cX2_removeShip 4 (some .int) [] 10 h 24 [(0, va_rf a0), (1, .int a1)] [] (f_X2_removeShip_24 a0 a1 h) := by
  unfold f_X2_removeShip_24
  refine s_iconst (pc := 24) (v := 0) dX2_removeShip_24 (by decide) ?_
  exact s_sub (pc := 25) [0, 1] rfl (w_X2_removeShip_25 a0 a1 0 h)
theorem w_X2_removeShip (v0 : Option Nat) (v1 : Int32) (h : zH) : zS D z yX2_removeShip cX2_removeShip 4 (some .int) [] 10 h 0 [(0, va_rf v0), (1, .int v1)] [] (f_X2_removeShip v0 v1 h) := by
  unfold f_X2_removeShip
  refine s_aload_n (pc := 0) 0 dX2_removeShip_0 rfl rfl ?_
  refine s_iload_n (pc := 1) 1 dX2_removeShip_1 rfl rfl ?_
  refine zS_ite (fun ht => ?_) (fun _ => zS_none)
  refine s_callV (pc := 2) (np := 1) (as := [.int v1]) (rest := []) dX2_removeShip_2 ht (q := (RX2, TX2, 10)) rfl (c_X2_ship (by decide) v0 v1 h) rfl rfl q2386 q2387 q2388 rfl (by decide) (zkR (fun r1 h2 => ?_)) zxo
  refine s_ast_n (pc := 5) (L2 := [(0, va_rf v0), (1, .int v1)]) [0, 1] dX2_removeShip_5 rfl (by decide) rfl rfl (zcB (j := 1) rfl rfl rfl) ?_
  refine s_aload_n (pc := 6) 0 dX2_removeShip_6 rfl rfl ?_
  refine zS_ite (fun ht => ?_) (fun _ => zS_none)
  refine s_callV (pc := 7) (np := 0) (as := []) (rest := []) dX2_removeShip_7 ht (q := (RX6, TX6, 9)) rfl (c_X6_isInDock (by decide) r1 h2) rfl rfl q837 q367 q368 rfl (by decide) (zkI (fun x3 h4 => ?_)) zxo
  refine s_if_ne (pc := 10) (tgt := 24) dX2_removeShip_10 (by decide) (fun _ => ?_) (fun _ => ?_)
  · exact s_sub (pc := 24) [1, 2] rfl (w_X2_removeShip_24 v0 v1 h4)
  · refine s_aload_n (pc := 13) 0 dX2_removeShip_13 rfl rfl ?_
    refine s_gI (pc := 14) dX2_removeShip_14 gf_X2_170 (fun x5 => ?_)
    refine s_if_ne (pc := 17) (tgt := 24) dX2_removeShip_17 (by decide) (fun _ => ?_) (fun _ => ?_)
    · exact s_sub (pc := 24) [1, 2] rfl (w_X2_removeShip_24 v0 v1 h4)
    · refine s_iconst (pc := 20) (v := 1) dX2_removeShip_20 (by decide) ?_
      refine s_goto (pc := 21) (tgt := 25) dX2_removeShip_21 (by decide) ?_
      exact s_sub (pc := 25) [1, 2] rfl (w_X2_removeShip_25 v0 v1 1 h4)
theorem c_X2_removeShip {d0 : Nat} (hd0 : 10 < d0) (v0 : Option Nat) (v1 : Int32) (h : zH) : zCal D z d0 h yX2_removeShip [va_rf v0, .int v1] (f_X2_removeShip v0 v1 h) :=
  ⟨cX2_removeShip, 4, (some .int), [], 10, (show lv_args 0 [va_rf v0, .int v1] = [(0, va_rf v0), (1, .int v1)] by simp [lv_args, zcat_rf, zcat_i, zcat_l, zcat_f, zcat_d]) ▸ w_X2_removeShip v0 v1 h, (plainFor_of_name (by decide)), by simp [lg_sl, zcat_rf, zcat_i, zcat_l, zcat_f, zcat_d], q2385, q96, hd0, by decide, by decide⟩
theorem w_X1_lambda_removeShip_8 (v0 : Int32) (v1 : Option Nat) (h : zH) : zS D z yX1_lambda_removeShip_8 cX1_lambda_removeShip_8 2 (some .int) [] 11 h 0 [(0, .int v0), (1, va_rf v1)] [] (f_X1_lambda_removeShip_8 v0 v1 h) := by
  unfold f_X1_lambda_removeShip_8
  refine s_aload_n (pc := 0) 1 dX1_lambda_removeShip_8_0 rfl rfl ?_
  refine s_iload_n (pc := 1) 0 dX1_lambda_removeShip_8_1 rfl rfl ?_
  refine zS_ite (fun ht => ?_) (fun _ => zS_none)
  refine s_callV (pc := 2) (np := 1) (as := [.int v0]) (rest := []) dX1_lambda_removeShip_8_2 ht (q := (RX2, TX2, 10)) rfl (c_X2_removeShip (by decide) v1 v0 h) rfl rfl q2382 q2383 q2384 rfl (by decide) (zkI (fun x1 h2 => ?_)) zxo
  exact s_iret (pc := 5) dX1_lambda_removeShip_8_5 rfl
theorem c_X1_lambda_removeShip_8 {d0 : Nat} (hd0 : 11 < d0) (v0 : Int32) (v1 : Option Nat) (h : zH) : zCal D z d0 h yX1_lambda_removeShip_8 [.int v0, va_rf v1] (f_X1_lambda_removeShip_8 v0 v1 h) :=
  ⟨cX1_lambda_removeShip_8, 2, (some .int), [], 11, (show lv_args 0 [.int v0, va_rf v1] = [(0, .int v0), (1, va_rf v1)] by simp [lv_args, zcat_rf, zcat_i, zcat_l, zcat_f, zcat_d]) ▸ w_X1_lambda_removeShip_8 v0 v1 h, (plainFor_of_name (by decide)), by simp [lg_sl, zcat_rf, zcat_i, zcat_l, zcat_f, zcat_d], q2381, q95, hd0, by decide, by decide⟩
theorem w_X3_init (v0 : Option Nat) (v1 : Int32) (v2 : Int32) (h : zH) : zS D z yX3_init cX3_init 3 none [] 1 h 0 [(0, va_rf v0), (1, .int v1), (2, .int v2)] [] (f_X3_init v0 v1 v2 h) := by
  unfold f_X3_init
  refine s_aload_n (pc := 0) 0 dX3_init_0 rfl rfl ?_
  refine zS_ite (fun hr => ?_) (fun _ => zS_none)
  refine s_objinit (pc := 1) dX3_init_1 hr q1292 q164 q165 (by decide) (by decide) ?_
  refine s_aload_n (pc := 4) 0 dX3_init_4 rfl rfl ?_
  refine s_iload_n (pc := 5) 1 dX3_init_5 rfl rfl ?_
  refine s_putI (pc := 6) dX3_init_6 pf_X3_7 (fun h1 => ?_)
  refine s_aload_n (pc := 9) 0 dX3_init_9 rfl rfl ?_
  refine s_iload_n (pc := 10) 2 dX3_init_10 rfl rfl ?_
  refine s_putI (pc := 11) dX3_init_11 pf_X3_13 (fun h2 => ?_)
  exact s_vret (pc := 14) dX3_init_14 rfl
theorem c_X3_init {d0 : Nat} (hd0 : 1 < d0) (v0 : Option Nat) (v1 : Int32) (v2 : Int32) (h : zH) : zCal D z d0 h yX3_init [va_rf v0, .int v1, .int v2] (f_X3_init v0 v1 v2 h) :=
  ⟨cX3_init, 3, none, [], 1, (show lv_args 0 [va_rf v0, .int v1, .int v2] = [(0, va_rf v0), (1, .int v1), (2, .int v2)] by simp [lv_args, zcat_rf, zcat_i, zcat_l, zcat_f, zcat_d]) ▸ w_X3_init v0 v1 v2 h, (plainFor_of_name (by decide)), by simp [lg_sl, zcat_rf, zcat_i, zcat_l, zcat_f, zcat_d], q1291, q138, hd0, by decide, by decide⟩
theorem w_X6_isDeepEnough (v0 : Option Nat) (v1 : Int32) (h : zH) : zS D z yX6_isDeepEnough cX6_isDeepEnough 2 (some .boolean) [] 1 h 0 [(0, va_rf v0), (1, .int v1)] [] (f_X6_isDeepEnough v0 v1 h) := by
  unfold f_X6_isDeepEnough
  refine s_iload_n (pc := 0) 1 dX6_isDeepEnough_0 rfl rfl ?_
  refine s_aload_n (pc := 1) 0 dX6_isDeepEnough_1 rfl rfl ?_
  refine s_gI (pc := 2) dX6_isDeepEnough_2 gf_X6_18 (fun x1 => ?_)
  refine s_iconst (pc := 5) (v := 2) dX6_isDeepEnough_5 (by decide) ?_
  refine s_iadd (pc := 6) dX6_isDeepEnough_6 ?_
  refine s_icmp_lt (pc := 7) (tgt := 14) dX6_isDeepEnough_7 (by decide) (fun _ => ?_) (fun _ => ?_)
  · refine s_iconst (pc := 14) (v := 0) dX6_isDeepEnough_14 (by decide) ?_
    exact s_nret (pc := 15) dX6_isDeepEnough_15 rfl
  · refine s_iconst (pc := 10) (v := 1) dX6_isDeepEnough_10 (by decide) ?_
    refine s_goto (pc := 11) (tgt := 15) dX6_isDeepEnough_11 (by decide) ?_
    exact s_nret (pc := 15) dX6_isDeepEnough_15 rfl
theorem c_X6_isDeepEnough {d0 : Nat} (hd0 : 1 < d0) (v0 : Option Nat) (v1 : Int32) (h : zH) : zCal D z d0 h yX6_isDeepEnough [va_rf v0, .int v1] (f_X6_isDeepEnough v0 v1 h) :=
  ⟨cX6_isDeepEnough, 2, (some .boolean), [], 1, (show lv_args 0 [va_rf v0, .int v1] = [(0, va_rf v0), (1, .int v1)] by simp [lv_args, zcat_rf, zcat_i, zcat_l, zcat_f, zcat_d]) ▸ w_X6_isDeepEnough v0 v1 h, (plainFor_of_name (by decide)), by simp [lg_sl, zcat_rf, zcat_i, zcat_l, zcat_f, zcat_d], q1331, q142, hd0, by decide, by decide⟩
theorem w_J25_init_3_41 (a0 : Option Nat) (a1 : Option Nat) (a2 : Option Nat) (a3 : Int32) (h : zH) : zS D z yJ25_init_3 cJ25_init_3 5 none [] 1 h 41 [(0, va_rf a0), (1, va_rf a1), (2, va_rf a2), (3, .int a3)] [] (f_J25_init_3_41 a0 a1 a2 a3 h) := by
  unfold f_J25_init_3_41
  refine s_aload_n (pc := 41) 0 dJ25_init_3_41 rfl rfl ?_
  refine s_aload_n (pc := 42) 1 dJ25_init_3_42 rfl rfl ?_
  refine s_putR (pc := 43) dJ25_init_3_43 pf_J25_31 (fun h7 => ?_)
  refine s_aload_n (pc := 46) 0 dJ25_init_3_46 rfl rfl ?_
  refine s_aload_n (pc := 47) 2 dJ25_init_3_47 rfl rfl ?_
  refine s_putR (pc := 48) dJ25_init_3_48 pf_J25_7 (fun h8 => ?_)
  refine s_iload_n (pc := 51) 3 dJ25_init_3_51 rfl rfl ?_
  refine s_if_ne (pc := 52) (tgt := 60) dJ25_init_3_52 (by decide) (fun _ => ?_) (fun _ => ?_)
  · exact s_vret (pc := 60) dJ25_init_3_60 rfl
  · refine s_aload_n (pc := 55) 0 dJ25_init_3_55 rfl rfl ?_
    refine s_null (pc := 56) dJ25_init_3_56 ?_
    refine s_putR (pc := 57) dJ25_init_3_57 pf_J25_24 (fun h9 => ?_)
    exact s_vret (pc := 60) dJ25_init_3_60 rfl
theorem w_J25_init_3 (v0 : Option Nat) (v1 : Option Nat) (v2 : Option Nat) (v3 : Int32) (v4 : Int32) (h : zH) : zS D z yJ25_init_3 cJ25_init_3 5 none [] 1 h 0 [(0, va_rf v0), (1, va_rf v1), (2, va_rf v2), (3, .int v3), (4, .int v4)] [] (f_J25_init_3 v0 v1 v2 v3 v4 h) := by
  unfold f_J25_init_3
  refine s_aload_n (pc := 0) 0 dJ25_init_3_0 rfl rfl ?_
  refine zS_ite (fun hr => ?_) (fun _ => zS_none)
  refine s_objinit (pc := 1) dJ25_init_3_1 hr q732 q164 q165 (by decide) (by decide) ?_
  refine s_aload_n (pc := 4) 0 dJ25_init_3_4 rfl rfl ?_
  refine s_aload_n (pc := 5) 0 dJ25_init_3_5 rfl rfl ?_
  refine s_putR (pc := 6) dJ25_init_3_6 pf_J25_7 (fun h1 => ?_)
  refine s_aload_n (pc := 9) 0 dJ25_init_3_9 rfl rfl ?_
  refine s_getsQ (pc := 10) (n := "UNASSIGNED_STACK") (i := 7) dJ25_init_3_10 (List.mem_of_getElem? (i := 9) rfl) q733 ?_
  refine s_putA (pc := 13) dJ25_init_3_13 pf_J25_17 (fun h2 => ?_)
  refine s_aload_n (pc := 16) 0 dJ25_init_3_16 rfl rfl ?_
  refine s_getsQ (pc := 17) (n := "SUPPRESSED_SENTINEL") (i := 8) dJ25_init_3_17 (List.mem_of_getElem? (i := 10) rfl) q735 ?_
  refine s_putR (pc := 20) dJ25_init_3_20 pf_J25_24 (fun h3 => ?_)
  refine s_iload (pc := 23) 4 dJ25_init_3_23 rfl ?_
  refine s_if_eq (pc := 25) (tgt := 36) dJ25_init_3_25 (by decide) (fun _ => ?_) (fun _ => ?_)
  · refine s_aload_n (pc := 36) 0 dJ25_init_3_36 rfl rfl ?_
    refine s_null (pc := 37) dJ25_init_3_37 ?_
    refine s_putA (pc := 38) dJ25_init_3_38 pf_J25_17 (fun h4 => ?_)
    exact s_sub (pc := 41) [0, 1, 2, 3] rfl (w_J25_init_3_41 v0 v1 v2 v3 h4)
  · refine s_aload_n (pc := 28) 0 dJ25_init_3_28 rfl rfl ?_
    exact zS_none
theorem c_J25_init_3 {d0 : Nat} (hd0 : 1 < d0) (v0 : Option Nat) (v1 : Option Nat) (v2 : Option Nat) (v3 : Int32) (v4 : Int32) (h : zH) : zCal D z d0 h yJ25_init_3 [va_rf v0, va_rf v1, va_rf v2, .int v3, .int v4] (f_J25_init_3 v0 v1 v2 v3 v4 h) :=
  ⟨cJ25_init_3, 5, none, [], 1, (show lv_args 0 [va_rf v0, va_rf v1, va_rf v2, .int v3, .int v4] = [(0, va_rf v0), (1, va_rf v1), (2, va_rf v2), (3, .int v3), (4, .int v4)] by simp [lv_args, zcat_rf, zcat_i, zcat_l, zcat_f, zcat_d]) ▸ w_J25_init_3 v0 v1 v2 v3 v4 h, (plainFor_of_name (by decide)), by simp [lg_sl, zcat_rf, zcat_i, zcat_l, zcat_f, zcat_d], q2468, q123, hd0, by decide, by decide⟩
theorem w_J26_init_3 (v0 : Option Nat) (v1 : Option Nat) (v2 : Option Nat) (v3 : Int32) (v4 : Int32) (h : zH) : zS D z yJ26_init_3 cJ26_init_3 5 none [] 2 h 0 [(0, va_rf v0), (1, va_rf v1), (2, va_rf v2), (3, .int v3), (4, .int v4)] [] (f_J26_init_3 v0 v1 v2 v3 v4 h) := by
  unfold f_J26_init_3
  refine s_aload_n (pc := 0) 0 dJ26_init_3_0 rfl rfl ?_
  refine s_aload_n (pc := 1) 1 dJ26_init_3_1 rfl rfl ?_
  refine s_aload_n (pc := 2) 2 dJ26_init_3_2 rfl rfl ?_
  refine s_iload_n (pc := 3) 3 dJ26_init_3_3 rfl rfl ?_
  refine s_iload (pc := 4) 4 dJ26_init_3_4 rfl ?_
  refine zS_ite (fun hr => ?_) (fun _ => zS_none)
  refine s_callC (pc := 6) (np := 4) (as := [va_rf v1, va_rf v2, .int v3, .int v4]) (rest := []) dJ26_init_3_6 hr (c_J25_init_3 (by decide) v0 v1 v2 v3 v4 h) ⟨_, _, q2468⟩ rfl rfl rfl q2466 q2467 rfl (by decide) (zkV (fun h1 => ?_)) zxo
  exact s_vret (pc := 9) dJ26_init_3_9 rfl
theorem c_J26_init_3 {d0 : Nat} (hd0 : 2 < d0) (v0 : Option Nat) (v1 : Option Nat) (v2 : Option Nat) (v3 : Int32) (v4 : Int32) (h : zH) : zCal D z d0 h yJ26_init_3 [va_rf v0, va_rf v1, va_rf v2, .int v3, .int v4] (f_J26_init_3 v0 v1 v2 v3 v4 h) :=
  ⟨cJ26_init_3, 5, none, [], 2, (show lv_args 0 [va_rf v0, va_rf v1, va_rf v2, .int v3, .int v4] = [(0, va_rf v0), (1, va_rf v1), (2, va_rf v2), (3, .int v3), (4, .int v4)] by simp [lv_args, zcat_rf, zcat_i, zcat_l, zcat_f, zcat_d]) ▸ w_J26_init_3 v0 v1 v2 v3 v4 h, (plainFor_of_name (by decide)), by simp [lg_sl, zcat_rf, zcat_i, zcat_l, zcat_f, zcat_d], q2465, q124, hd0, by decide, by decide⟩
theorem w_X7_init (v0 : Option Nat) (v1 : Int32) (h : zH) : zS D z yX7_init cX7_init 2 none [] 3 h 0 [(0, va_rf v0), (1, .int v1)] [] (f_X7_init v0 v1 h) := by
  unfold f_X7_init
  refine s_aload_n (pc := 0) 0 dX7_init_0 rfl rfl ?_
  refine s_null (pc := 1) dX7_init_1 ?_
  refine s_null (pc := 2) dX7_init_2 ?_
  refine s_iconst (pc := 3) (v := 0) dX7_init_3 (by decide) ?_
  refine s_iconst (pc := 4) (v := 0) dX7_init_4 (by decide) ?_
  refine zS_ite (fun hr => ?_) (fun _ => zS_none)
  refine s_callC (pc := 5) (np := 4) (as := [va_rf none, va_rf none, .int 0, .int 0]) (rest := []) dX7_init_5 hr (c_J26_init_3 (by decide) v0 none none 0 0 h) ⟨_, _, q2465⟩ rfl rfl rfl q2463 q2464 rfl (by decide) (zkV (fun h1 => ?_)) zxo
  refine s_aload_n (pc := 8) 0 dX7_init_8 rfl rfl ?_
  refine s_iload_n (pc := 9) 1 dX7_init_9 rfl rfl ?_
  refine s_putI (pc := 10) dX7_init_10 pf_X7_7 (fun h2 => ?_)
  exact s_vret (pc := 13) dX7_init_13 rfl
theorem c_X7_init {d0 : Nat} (hd0 : 3 < d0) (v0 : Option Nat) (v1 : Int32) (h : zH) : zCal D z d0 h yX7_init [va_rf v0, .int v1] (f_X7_init v0 v1 h) :=
  ⟨cX7_init, 2, none, [], 3, (show lv_args 0 [va_rf v0, .int v1] = [(0, va_rf v0), (1, .int v1)] by simp [lv_args, zcat_rf, zcat_i, zcat_l, zcat_f, zcat_d]) ▸ w_X7_init v0 v1 h, (plainFor_of_name (by decide)), by simp [lg_sl, zcat_rf, zcat_i, zcat_l, zcat_f, zcat_d], q2462, q149, hd0, by decide, by decide⟩
theorem w_X1_refuseIf (v0 : Int32) (v1 : Int32) (h : zH) : zS D z yX1_refuseIf cX1_refuseIf 2 none [] 4 h 0 [(0, .int v0), (1, .int v1)] [] (f_X1_refuseIf v0 v1 h) := by
  unfold f_X1_refuseIf
  refine s_iload_n (pc := 0) 0 dX1_refuseIf_0 rfl rfl ?_
  refine s_if_eq (pc := 1) (tgt := 13) dX1_refuseIf_1 (by decide) (fun _ => ?_) (fun _ => ?_)
  · exact s_vret (pc := 13) dX1_refuseIf_13 rfl
  · refine s_new (pc := 4) dX1_refuseIf_4 nf_X1_98 (fun r1 h2 => ?_)
    refine s_dup (pc := 7) dX1_refuseIf_7 (zcat_rf _) ?_
    refine s_iload_n (pc := 8) 1 dX1_refuseIf_8 rfl rfl ?_
    refine zS_ite (fun hr => ?_) (fun _ => zS_none)
    refine s_callC (pc := 9) (np := 1) (as := [.int v1]) (rest := [va_rf r1]) dX1_refuseIf_9 hr (c_X7_init (by decide) r1 v1 h2) ⟨_, _, q2462⟩ rfl rfl rfl q2460 q2461 rfl (by simp [zcat_rf, zcat_i, zcat_l, zcat_f, zcat_d]) (zkV (fun h3 => ?_)) zxo
    exact s_athrow (pc := 12) dX1_refuseIf_12 rfl (fun x => zxo x _)
theorem c_X1_refuseIf {d0 : Nat} (hd0 : 4 < d0) (v0 : Int32) (v1 : Int32) (h : zH) : zCal D z d0 h yX1_refuseIf [.int v0, .int v1] (f_X1_refuseIf v0 v1 h) :=
  ⟨cX1_refuseIf, 2, none, [], 4, (show lv_args 0 [.int v0, .int v1] = [(0, .int v0), (1, .int v1)] by simp [lv_args, zcat_rf, zcat_i, zcat_l, zcat_f, zcat_d]) ▸ w_X1_refuseIf v0 v1 h, (plainFor_of_name (by decide)), by simp [lg_sl, zcat_rf, zcat_i, zcat_l, zcat_f, zcat_d], q2451, q95, hd0, by decide, by decide⟩
theorem w_X3_overlaps (v0 : Option Nat) (v1 : Option Nat) (h : zH) : zS D z yX3_overlaps cX3_overlaps 2 (some .boolean) [] 2 h 0 [(0, va_rf v0), (1, va_rf v1)] [] (f_X3_overlaps v0 v1 h) := by
  unfold f_X3_overlaps
  refine s_aload_n (pc := 0) 0 dX3_overlaps_0 rfl rfl ?_
  refine s_gI (pc := 1) dX3_overlaps_1 gf_X3_7 (fun x1 => ?_)
  refine s_aload_n (pc := 4) 1 dX3_overlaps_4 rfl rfl ?_
  refine zS_ite (fun ht => ?_) (fun _ => zS_none)
  refine s_callV (pc := 5) (np := 0) (as := []) (rest := [.int x1]) dX3_overlaps_5 ht (q := (RX3, TX3, 2)) rfl (c_X3_end (by decide) v1 h) rfl rfl q1516 q639 q640 rfl (by simp [zcat_rf, zcat_i, zcat_l, zcat_f, zcat_d]) (zkI (fun x2 h3 => ?_)) zxo
  refine s_icmp_ge (pc := 8) (tgt := 26) dX3_overlaps_8 (by decide) (fun _ => ?_) (fun _ => ?_)
  · refine s_iconst (pc := 26) (v := 0) dX3_overlaps_26 (by decide) ?_
    exact s_nret (pc := 27) dX3_overlaps_27 rfl
  · refine s_aload_n (pc := 11) 1 dX3_overlaps_11 rfl rfl ?_
    refine s_gI (pc := 12) dX3_overlaps_12 gf_X3_7 (fun x4 => ?_)
    refine s_aload_n (pc := 15) 0 dX3_overlaps_15 rfl rfl ?_
    refine zS_ite (fun ht => ?_) (fun _ => zS_none)
    refine s_callV (pc := 16) (np := 0) (as := []) (rest := [.int x4]) dX3_overlaps_16 ht (q := (RX3, TX3, 2)) rfl (c_X3_end (by decide) v0 h3) rfl rfl q1516 q639 q640 rfl (by simp [zcat_rf, zcat_i, zcat_l, zcat_f, zcat_d]) (zkI (fun x5 h6 => ?_)) zxo
    refine s_icmp_ge (pc := 19) (tgt := 26) dX3_overlaps_19 (by decide) (fun _ => ?_) (fun _ => ?_)
    · refine s_iconst (pc := 26) (v := 0) dX3_overlaps_26 (by decide) ?_
      exact s_nret (pc := 27) dX3_overlaps_27 rfl
    · refine s_iconst (pc := 22) (v := 1) dX3_overlaps_22 (by decide) ?_
      refine s_goto (pc := 23) (tgt := 27) dX3_overlaps_23 (by decide) ?_
      exact s_nret (pc := 27) dX3_overlaps_27 rfl
theorem c_X3_overlaps {d0 : Nat} (hd0 : 2 < d0) (v0 : Option Nat) (v1 : Option Nat) (h : zH) : zCal D z d0 h yX3_overlaps [va_rf v0, va_rf v1] (f_X3_overlaps v0 v1 h) :=
  ⟨cX3_overlaps, 2, (some .boolean), [], 2, (show lv_args 0 [va_rf v0, va_rf v1] = [(0, va_rf v0), (1, va_rf v1)] by simp [lv_args, zcat_rf, zcat_i, zcat_l, zcat_f, zcat_d]) ▸ w_X3_overlaps v0 v1 h, (plainFor_of_name (by decide)), by simp [lg_sl, zcat_rf, zcat_i, zcat_l, zcat_f, zcat_d], q2482, q138, hd0, by decide, by decide⟩
theorem w_X2_isFree_52 (K13 : Option Nat → Option Nat → zH → zO) (hK13 : ∀ (a1 : Option Nat) (a2 : Option Nat) (h : zH), zS D z yX2_isFree cX2_isFree 4 (some .boolean) [] 10 h 13 [(1, va_rf a1), (2, va_rf a2)] [] (K13 a1 a2 h)) (a1 : Option Nat) (a2 : Option Nat) (h : zH) : zS D z yX2_isFree cX2_isFree 4 (some .boolean) [] 10 h 52 [(1, va_rf a1), (2, va_rf a2)] [] (f_X2_isFree_52 K13 a1 a2 h) := by
  unfold f_X2_isFree_52
  refine s_goto (pc := 52) (tgt := 13) dX2_isFree_52 (by decide) ?_
  exact s_sub (pc := 13) [0, 1] rfl (hK13 a1 a2 h)
theorem w_X2_isFree_13 : ∀ (n : Nat) (a1 : Option Nat) (a2 : Option Nat) (h : zH), zS D z yX2_isFree cX2_isFree 4 (some .boolean) [] 10 h 13 [(1, va_rf a1), (2, va_rf a2)] [] (f_X2_isFree_13 n a1 a2 h) := by
  intro n
  induction n with
  | zero => intros; exact zS_none
  | succ n ih =>
    intro a1 a2 h
    rw [f_X2_isFree_13.eq_2]
    refine s_aload_n (pc := 13) 1 dX2_isFree_13 rfl rfl ?_
    refine zS_ite (fun ht => ?_) (fun _ => ?_)
    · refine s_callF (pc := 14) (np := 0) (as := []) (rest := []) dX2_isFree_14 ht (q := (RX9, TX9, 2)) rfl (c_X9_hasNext (by decide) a2 h) ⟨_, _, _, q637⟩ rfl rfl q629 (by decide +kernel) q635 q633 rfl (by decide) (zkI (fun x6 h7 => ?_)) zxo
      refine s_if_eq (pc := 19) (tgt := 55) dX2_isFree_19 (by decide) (fun _ => ?_) (fun _ => ?_)
      · refine s_iconst (pc := 55) (v := 1) dX2_isFree_55 (by decide) ?_
        exact s_nret (pc := 56) dX2_isFree_56 rfl
      · refine s_aload_n (pc := 22) 1 dX2_isFree_22 rfl rfl ?_
        refine zS_ite (fun ht => ?_) (fun _ => ?_)
        · refine s_callF (pc := 23) (np := 0) (as := []) (rest := []) dX2_isFree_23 ht (q := (RX9, TX9, 2)) rfl (c_X9_next (by decide) a2 h7) ⟨_, _, _, q677⟩ rfl rfl q670 (by decide +kernel) q675 q673 rfl (by decide) (zkR (fun r8 h9 => ?_)) zxo
          refine s_cast (pc := 28) dX2_isFree_28 q836 zcs_FloatingDock_Ship ?_
          refine s_ast_n (pc := 31) (L2 := [(1, va_rf a1), (2, va_rf a2)]) [0, 1] dX2_isFree_31 rfl (by decide) rfl rfl (zcB (j := 1) rfl (zcat_rf a2) rfl) ?_
          refine s_aload_n (pc := 32) 0 dX2_isFree_32 rfl rfl ?_
          refine zS_ite (fun ht => ?_) (fun _ => zS_none)
          refine s_callV (pc := 33) (np := 0) (as := []) (rest := []) dX2_isFree_33 ht (q := (RX6, TX6, 9)) rfl (c_X6_isInDock (by decide) r8 h9) rfl rfl q837 q367 q368 rfl (by decide) (zkI (fun x10 h11 => ?_)) zxo
          refine s_if_eq (pc := 36) (tgt := 52) dX2_isFree_36 (by decide) (fun _ => ?_) (fun _ => ?_)
          · exact s_sub (pc := 52) [1, 2] rfl (w_X2_isFree_52 (f_X2_isFree_13 n) ih a1 a2 h11)
          · refine s_aload_n (pc := 39) 0 dX2_isFree_39 rfl rfl ?_
            refine s_gR (pc := 40) dX2_isFree_40 gf_X2_144 (fun r12 => ?_)
            refine s_aload_n (pc := 43) 1 dX2_isFree_43 rfl rfl ?_
            refine zS_ite (fun ht => ?_) (fun _ => zS_none)
            refine s_callV (pc := 44) (np := 1) (as := [va_rf a1]) (rest := []) dX2_isFree_44 ht (q := (RX3, TX3, 2)) rfl (c_X3_overlaps (by decide) r12 a1 h11) rfl rfl q2479 q2480 q2481 rfl (by decide) (zkI (fun x13 h14 => ?_)) zxo
            refine s_if_eq (pc := 47) (tgt := 52) dX2_isFree_47 (by decide) (fun _ => ?_) (fun _ => ?_)
            · exact s_sub (pc := 52) [1, 2] rfl (w_X2_isFree_52 (f_X2_isFree_13 n) ih a1 a2 h14)
            · refine s_iconst (pc := 50) (v := 0) dX2_isFree_50 (by decide) ?_
              exact s_nret (pc := 51) dX2_isFree_51 rfl
        refine zS_ite (fun ht => ?_) (fun _ => ?_)
        · refine s_callF (pc := 23) (np := 0) (as := []) (rest := []) dX2_isFree_23 ht (q := (RJ15, TJ15, 4)) rfl (c_J15_next (by decide) a2 h7) ⟨_, _, _, q788⟩ rfl rfl q670 (by decide +kernel) q786 q784 rfl (by decide) (zkR (fun r8 h9 => ?_)) zxo
          refine s_cast (pc := 28) dX2_isFree_28 q836 zcs_FloatingDock_Ship ?_
          refine s_ast_n (pc := 31) (L2 := [(1, va_rf a1), (2, va_rf a2)]) [0, 1] dX2_isFree_31 rfl (by decide) rfl rfl (zcB (j := 1) rfl (zcat_rf a2) rfl) ?_
          refine s_aload_n (pc := 32) 0 dX2_isFree_32 rfl rfl ?_
          refine zS_ite (fun ht => ?_) (fun _ => zS_none)
          refine s_callV (pc := 33) (np := 0) (as := []) (rest := []) dX2_isFree_33 ht (q := (RX6, TX6, 9)) rfl (c_X6_isInDock (by decide) r8 h9) rfl rfl q837 q367 q368 rfl (by decide) (zkI (fun x15 h16 => ?_)) zxo
          refine s_if_eq (pc := 36) (tgt := 52) dX2_isFree_36 (by decide) (fun _ => ?_) (fun _ => ?_)
          · exact s_sub (pc := 52) [1, 2] rfl (w_X2_isFree_52 (f_X2_isFree_13 n) ih a1 a2 h16)
          · refine s_aload_n (pc := 39) 0 dX2_isFree_39 rfl rfl ?_
            refine s_gR (pc := 40) dX2_isFree_40 gf_X2_144 (fun r17 => ?_)
            refine s_aload_n (pc := 43) 1 dX2_isFree_43 rfl rfl ?_
            refine zS_ite (fun ht => ?_) (fun _ => zS_none)
            refine s_callV (pc := 44) (np := 1) (as := [va_rf a1]) (rest := []) dX2_isFree_44 ht (q := (RX3, TX3, 2)) rfl (c_X3_overlaps (by decide) r17 a1 h16) rfl rfl q2479 q2480 q2481 rfl (by decide) (zkI (fun x18 h19 => ?_)) zxo
            refine s_if_eq (pc := 47) (tgt := 52) dX2_isFree_47 (by decide) (fun _ => ?_) (fun _ => ?_)
            · exact s_sub (pc := 52) [1, 2] rfl (w_X2_isFree_52 (f_X2_isFree_13 n) ih a1 a2 h19)
            · refine s_iconst (pc := 50) (v := 0) dX2_isFree_50 (by decide) ?_
              exact s_nret (pc := 51) dX2_isFree_51 rfl
        refine zS_ite (fun ht => ?_) (fun _ => ?_)
        · refine s_callF (pc := 23) (np := 0) (as := []) (rest := []) dX2_isFree_23 ht (q := (RJ17, TJ17, 5)) rfl (c_J17_next (by decide) a2 h7) ⟨_, _, _, q799⟩ rfl rfl q670 (by decide +kernel) q797 q795 rfl (by decide) (zkR (fun r8 h9 => ?_)) zxo
          refine s_cast (pc := 28) dX2_isFree_28 q836 zcs_FloatingDock_Ship ?_
          refine s_ast_n (pc := 31) (L2 := [(1, va_rf a1), (2, va_rf a2)]) [0, 1] dX2_isFree_31 rfl (by decide) rfl rfl (zcB (j := 1) rfl (zcat_rf a2) rfl) ?_
          refine s_aload_n (pc := 32) 0 dX2_isFree_32 rfl rfl ?_
          refine zS_ite (fun ht => ?_) (fun _ => zS_none)
          refine s_callV (pc := 33) (np := 0) (as := []) (rest := []) dX2_isFree_33 ht (q := (RX6, TX6, 9)) rfl (c_X6_isInDock (by decide) r8 h9) rfl rfl q837 q367 q368 rfl (by decide) (zkI (fun x20 h21 => ?_)) zxo
          refine s_if_eq (pc := 36) (tgt := 52) dX2_isFree_36 (by decide) (fun _ => ?_) (fun _ => ?_)
          · exact s_sub (pc := 52) [1, 2] rfl (w_X2_isFree_52 (f_X2_isFree_13 n) ih a1 a2 h21)
          · refine s_aload_n (pc := 39) 0 dX2_isFree_39 rfl rfl ?_
            refine s_gR (pc := 40) dX2_isFree_40 gf_X2_144 (fun r22 => ?_)
            refine s_aload_n (pc := 43) 1 dX2_isFree_43 rfl rfl ?_
            refine zS_ite (fun ht => ?_) (fun _ => zS_none)
            refine s_callV (pc := 44) (np := 1) (as := [va_rf a1]) (rest := []) dX2_isFree_44 ht (q := (RX3, TX3, 2)) rfl (c_X3_overlaps (by decide) r22 a1 h21) rfl rfl q2479 q2480 q2481 rfl (by decide) (zkI (fun x23 h24 => ?_)) zxo
            refine s_if_eq (pc := 47) (tgt := 52) dX2_isFree_47 (by decide) (fun _ => ?_) (fun _ => ?_)
            · exact s_sub (pc := 52) [1, 2] rfl (w_X2_isFree_52 (f_X2_isFree_13 n) ih a1 a2 h24)
            · refine s_iconst (pc := 50) (v := 0) dX2_isFree_50 (by decide) ?_
              exact s_nret (pc := 51) dX2_isFree_51 rfl
        refine zS_ite (fun ht => ?_) (fun _ => ?_)
        · refine s_callF (pc := 23) (np := 0) (as := []) (rest := []) dX2_isFree_23 ht (q := (RJ21, TJ21, 5)) rfl (c_J21_next (by decide) a2 h7) ⟨_, _, _, q812⟩ rfl rfl q670 (by decide +kernel) q810 q808 rfl (by decide) (zkR (fun r8 h9 => ?_)) zxo
          refine s_cast (pc := 28) dX2_isFree_28 q836 zcs_FloatingDock_Ship ?_
          refine s_ast_n (pc := 31) (L2 := [(1, va_rf a1), (2, va_rf a2)]) [0, 1] dX2_isFree_31 rfl (by decide) rfl rfl (zcB (j := 1) rfl (zcat_rf a2) rfl) ?_
          refine s_aload_n (pc := 32) 0 dX2_isFree_32 rfl rfl ?_
          refine zS_ite (fun ht => ?_) (fun _ => zS_none)
          refine s_callV (pc := 33) (np := 0) (as := []) (rest := []) dX2_isFree_33 ht (q := (RX6, TX6, 9)) rfl (c_X6_isInDock (by decide) r8 h9) rfl rfl q837 q367 q368 rfl (by decide) (zkI (fun x25 h26 => ?_)) zxo
          refine s_if_eq (pc := 36) (tgt := 52) dX2_isFree_36 (by decide) (fun _ => ?_) (fun _ => ?_)
          · exact s_sub (pc := 52) [1, 2] rfl (w_X2_isFree_52 (f_X2_isFree_13 n) ih a1 a2 h26)
          · refine s_aload_n (pc := 39) 0 dX2_isFree_39 rfl rfl ?_
            refine s_gR (pc := 40) dX2_isFree_40 gf_X2_144 (fun r27 => ?_)
            refine s_aload_n (pc := 43) 1 dX2_isFree_43 rfl rfl ?_
            refine zS_ite (fun ht => ?_) (fun _ => zS_none)
            refine s_callV (pc := 44) (np := 1) (as := [va_rf a1]) (rest := []) dX2_isFree_44 ht (q := (RX3, TX3, 2)) rfl (c_X3_overlaps (by decide) r27 a1 h26) rfl rfl q2479 q2480 q2481 rfl (by decide) (zkI (fun x28 h29 => ?_)) zxo
            refine s_if_eq (pc := 47) (tgt := 52) dX2_isFree_47 (by decide) (fun _ => ?_) (fun _ => ?_)
            · exact s_sub (pc := 52) [1, 2] rfl (w_X2_isFree_52 (f_X2_isFree_13 n) ih a1 a2 h29)
            · refine s_iconst (pc := 50) (v := 0) dX2_isFree_50 (by decide) ?_
              exact s_nret (pc := 51) dX2_isFree_51 rfl
        refine zS_ite (fun ht => ?_) (fun _ => zS_none)
        refine s_callF (pc := 23) (np := 0) (as := []) (rest := []) dX2_isFree_23 ht (q := (RJ22, TJ22, 5)) rfl (c_J22_next (by decide) a2 h7) ⟨_, _, _, q832⟩ rfl rfl q670 (by decide +kernel) q830 q828 rfl (by decide) (zkR (fun r8 h9 => ?_)) zxo
        refine s_cast (pc := 28) dX2_isFree_28 q836 zcs_FloatingDock_Ship ?_
        refine s_ast_n (pc := 31) (L2 := [(1, va_rf a1), (2, va_rf a2)]) [0, 1] dX2_isFree_31 rfl (by decide) rfl rfl (zcB (j := 1) rfl (zcat_rf a2) rfl) ?_
        refine s_aload_n (pc := 32) 0 dX2_isFree_32 rfl rfl ?_
        refine zS_ite (fun ht => ?_) (fun _ => zS_none)
        refine s_callV (pc := 33) (np := 0) (as := []) (rest := []) dX2_isFree_33 ht (q := (RX6, TX6, 9)) rfl (c_X6_isInDock (by decide) r8 h9) rfl rfl q837 q367 q368 rfl (by decide) (zkI (fun x30 h31 => ?_)) zxo
        refine s_if_eq (pc := 36) (tgt := 52) dX2_isFree_36 (by decide) (fun _ => ?_) (fun _ => ?_)
        · exact s_sub (pc := 52) [1, 2] rfl (w_X2_isFree_52 (f_X2_isFree_13 n) ih a1 a2 h31)
        · refine s_aload_n (pc := 39) 0 dX2_isFree_39 rfl rfl ?_
          refine s_gR (pc := 40) dX2_isFree_40 gf_X2_144 (fun r32 => ?_)
          refine s_aload_n (pc := 43) 1 dX2_isFree_43 rfl rfl ?_
          refine zS_ite (fun ht => ?_) (fun _ => zS_none)
          refine s_callV (pc := 44) (np := 1) (as := [va_rf a1]) (rest := []) dX2_isFree_44 ht (q := (RX3, TX3, 2)) rfl (c_X3_overlaps (by decide) r32 a1 h31) rfl rfl q2479 q2480 q2481 rfl (by decide) (zkI (fun x33 h34 => ?_)) zxo
          refine s_if_eq (pc := 47) (tgt := 52) dX2_isFree_47 (by decide) (fun _ => ?_) (fun _ => ?_)
          · exact s_sub (pc := 52) [1, 2] rfl (w_X2_isFree_52 (f_X2_isFree_13 n) ih a1 a2 h34)
          · refine s_iconst (pc := 50) (v := 0) dX2_isFree_50 (by decide) ?_
            exact s_nret (pc := 51) dX2_isFree_51 rfl
    refine zS_ite (fun ht => ?_) (fun _ => ?_)
    · refine s_callF (pc := 14) (np := 0) (as := []) (rest := []) dX2_isFree_14 ht (q := (RJ15, TJ15, 4)) rfl (c_J15_hasNext (by decide) a2 h) ⟨_, _, _, q653⟩ rfl rfl q629 (by decide +kernel) q651 q649 rfl (by decide) (zkI (fun x6 h7 => ?_)) zxo
      refine s_if_eq (pc := 19) (tgt := 55) dX2_isFree_19 (by decide) (fun _ => ?_) (fun _ => ?_)
      · refine s_iconst (pc := 55) (v := 1) dX2_isFree_55 (by decide) ?_
        exact s_nret (pc := 56) dX2_isFree_56 rfl
      · refine s_aload_n (pc := 22) 1 dX2_isFree_22 rfl rfl ?_
        refine zS_ite (fun ht => ?_) (fun _ => ?_)
        · refine s_callF (pc := 23) (np := 0) (as := []) (rest := []) dX2_isFree_23 ht (q := (RX9, TX9, 2)) rfl (c_X9_next (by decide) a2 h7) ⟨_, _, _, q677⟩ rfl rfl q670 (by decide +kernel) q675 q673 rfl (by decide) (zkR (fun r35 h36 => ?_)) zxo
          refine s_cast (pc := 28) dX2_isFree_28 q836 zcs_FloatingDock_Ship ?_
          refine s_ast_n (pc := 31) (L2 := [(1, va_rf a1), (2, va_rf a2)]) [0, 1] dX2_isFree_31 rfl (by decide) rfl rfl (zcB (j := 1) rfl (zcat_rf a2) rfl) ?_
          refine s_aload_n (pc := 32) 0 dX2_isFree_32 rfl rfl ?_
          refine zS_ite (fun ht => ?_) (fun _ => zS_none)
          refine s_callV (pc := 33) (np := 0) (as := []) (rest := []) dX2_isFree_33 ht (q := (RX6, TX6, 9)) rfl (c_X6_isInDock (by decide) r35 h36) rfl rfl q837 q367 q368 rfl (by decide) (zkI (fun x37 h38 => ?_)) zxo
          refine s_if_eq (pc := 36) (tgt := 52) dX2_isFree_36 (by decide) (fun _ => ?_) (fun _ => ?_)
          · exact s_sub (pc := 52) [1, 2] rfl (w_X2_isFree_52 (f_X2_isFree_13 n) ih a1 a2 h38)
          · refine s_aload_n (pc := 39) 0 dX2_isFree_39 rfl rfl ?_
            refine s_gR (pc := 40) dX2_isFree_40 gf_X2_144 (fun r39 => ?_)
            refine s_aload_n (pc := 43) 1 dX2_isFree_43 rfl rfl ?_
            refine zS_ite (fun ht => ?_) (fun _ => zS_none)
            refine s_callV (pc := 44) (np := 1) (as := [va_rf a1]) (rest := []) dX2_isFree_44 ht (q := (RX3, TX3, 2)) rfl (c_X3_overlaps (by decide) r39 a1 h38) rfl rfl q2479 q2480 q2481 rfl (by decide) (zkI (fun x40 h41 => ?_)) zxo
            refine s_if_eq (pc := 47) (tgt := 52) dX2_isFree_47 (by decide) (fun _ => ?_) (fun _ => ?_)
            · exact s_sub (pc := 52) [1, 2] rfl (w_X2_isFree_52 (f_X2_isFree_13 n) ih a1 a2 h41)
            · refine s_iconst (pc := 50) (v := 0) dX2_isFree_50 (by decide) ?_
              exact s_nret (pc := 51) dX2_isFree_51 rfl
        refine zS_ite (fun ht => ?_) (fun _ => ?_)
        · refine s_callF (pc := 23) (np := 0) (as := []) (rest := []) dX2_isFree_23 ht (q := (RJ15, TJ15, 4)) rfl (c_J15_next (by decide) a2 h7) ⟨_, _, _, q788⟩ rfl rfl q670 (by decide +kernel) q786 q784 rfl (by decide) (zkR (fun r35 h36 => ?_)) zxo
          refine s_cast (pc := 28) dX2_isFree_28 q836 zcs_FloatingDock_Ship ?_
          refine s_ast_n (pc := 31) (L2 := [(1, va_rf a1), (2, va_rf a2)]) [0, 1] dX2_isFree_31 rfl (by decide) rfl rfl (zcB (j := 1) rfl (zcat_rf a2) rfl) ?_
          refine s_aload_n (pc := 32) 0 dX2_isFree_32 rfl rfl ?_
          refine zS_ite (fun ht => ?_) (fun _ => zS_none)
          refine s_callV (pc := 33) (np := 0) (as := []) (rest := []) dX2_isFree_33 ht (q := (RX6, TX6, 9)) rfl (c_X6_isInDock (by decide) r35 h36) rfl rfl q837 q367 q368 rfl (by decide) (zkI (fun x42 h43 => ?_)) zxo
          refine s_if_eq (pc := 36) (tgt := 52) dX2_isFree_36 (by decide) (fun _ => ?_) (fun _ => ?_)
          · exact s_sub (pc := 52) [1, 2] rfl (w_X2_isFree_52 (f_X2_isFree_13 n) ih a1 a2 h43)
          · refine s_aload_n (pc := 39) 0 dX2_isFree_39 rfl rfl ?_
            refine s_gR (pc := 40) dX2_isFree_40 gf_X2_144 (fun r44 => ?_)
            refine s_aload_n (pc := 43) 1 dX2_isFree_43 rfl rfl ?_
            refine zS_ite (fun ht => ?_) (fun _ => zS_none)
            refine s_callV (pc := 44) (np := 1) (as := [va_rf a1]) (rest := []) dX2_isFree_44 ht (q := (RX3, TX3, 2)) rfl (c_X3_overlaps (by decide) r44 a1 h43) rfl rfl q2479 q2480 q2481 rfl (by decide) (zkI (fun x45 h46 => ?_)) zxo
            refine s_if_eq (pc := 47) (tgt := 52) dX2_isFree_47 (by decide) (fun _ => ?_) (fun _ => ?_)
            · exact s_sub (pc := 52) [1, 2] rfl (w_X2_isFree_52 (f_X2_isFree_13 n) ih a1 a2 h46)
            · refine s_iconst (pc := 50) (v := 0) dX2_isFree_50 (by decide) ?_
              exact s_nret (pc := 51) dX2_isFree_51 rfl
        refine zS_ite (fun ht => ?_) (fun _ => ?_)
        · refine s_callF (pc := 23) (np := 0) (as := []) (rest := []) dX2_isFree_23 ht (q := (RJ17, TJ17, 5)) rfl (c_J17_next (by decide) a2 h7) ⟨_, _, _, q799⟩ rfl rfl q670 (by decide +kernel) q797 q795 rfl (by decide) (zkR (fun r35 h36 => ?_)) zxo
          refine s_cast (pc := 28) dX2_isFree_28 q836 zcs_FloatingDock_Ship ?_
          refine s_ast_n (pc := 31) (L2 := [(1, va_rf a1), (2, va_rf a2)]) [0, 1] dX2_isFree_31 rfl (by decide) rfl rfl (zcB (j := 1) rfl (zcat_rf a2) rfl) ?_
          refine s_aload_n (pc := 32) 0 dX2_isFree_32 rfl rfl ?_
          refine zS_ite (fun ht => ?_) (fun _ => zS_none)
          refine s_callV (pc := 33) (np := 0) (as := []) (rest := []) dX2_isFree_33 ht (q := (RX6, TX6, 9)) rfl (c_X6_isInDock (by decide) r35 h36) rfl rfl q837 q367 q368 rfl (by decide) (zkI (fun x47 h48 => ?_)) zxo
          refine s_if_eq (pc := 36) (tgt := 52) dX2_isFree_36 (by decide) (fun _ => ?_) (fun _ => ?_)
          · exact s_sub (pc := 52) [1, 2] rfl (w_X2_isFree_52 (f_X2_isFree_13 n) ih a1 a2 h48)
          · refine s_aload_n (pc := 39) 0 dX2_isFree_39 rfl rfl ?_
            refine s_gR (pc := 40) dX2_isFree_40 gf_X2_144 (fun r49 => ?_)
            refine s_aload_n (pc := 43) 1 dX2_isFree_43 rfl rfl ?_
            refine zS_ite (fun ht => ?_) (fun _ => zS_none)
            refine s_callV (pc := 44) (np := 1) (as := [va_rf a1]) (rest := []) dX2_isFree_44 ht (q := (RX3, TX3, 2)) rfl (c_X3_overlaps (by decide) r49 a1 h48) rfl rfl q2479 q2480 q2481 rfl (by decide) (zkI (fun x50 h51 => ?_)) zxo
            refine s_if_eq (pc := 47) (tgt := 52) dX2_isFree_47 (by decide) (fun _ => ?_) (fun _ => ?_)
            · exact s_sub (pc := 52) [1, 2] rfl (w_X2_isFree_52 (f_X2_isFree_13 n) ih a1 a2 h51)
            · refine s_iconst (pc := 50) (v := 0) dX2_isFree_50 (by decide) ?_
              exact s_nret (pc := 51) dX2_isFree_51 rfl
        refine zS_ite (fun ht => ?_) (fun _ => ?_)
        · refine s_callF (pc := 23) (np := 0) (as := []) (rest := []) dX2_isFree_23 ht (q := (RJ21, TJ21, 5)) rfl (c_J21_next (by decide) a2 h7) ⟨_, _, _, q812⟩ rfl rfl q670 (by decide +kernel) q810 q808 rfl (by decide) (zkR (fun r35 h36 => ?_)) zxo
          refine s_cast (pc := 28) dX2_isFree_28 q836 zcs_FloatingDock_Ship ?_
          refine s_ast_n (pc := 31) (L2 := [(1, va_rf a1), (2, va_rf a2)]) [0, 1] dX2_isFree_31 rfl (by decide) rfl rfl (zcB (j := 1) rfl (zcat_rf a2) rfl) ?_
          refine s_aload_n (pc := 32) 0 dX2_isFree_32 rfl rfl ?_
          refine zS_ite (fun ht => ?_) (fun _ => zS_none)
          refine s_callV (pc := 33) (np := 0) (as := []) (rest := []) dX2_isFree_33 ht (q := (RX6, TX6, 9)) rfl (c_X6_isInDock (by decide) r35 h36) rfl rfl q837 q367 q368 rfl (by decide) (zkI (fun x52 h53 => ?_)) zxo
          refine s_if_eq (pc := 36) (tgt := 52) dX2_isFree_36 (by decide) (fun _ => ?_) (fun _ => ?_)
          · exact s_sub (pc := 52) [1, 2] rfl (w_X2_isFree_52 (f_X2_isFree_13 n) ih a1 a2 h53)
          · refine s_aload_n (pc := 39) 0 dX2_isFree_39 rfl rfl ?_
            refine s_gR (pc := 40) dX2_isFree_40 gf_X2_144 (fun r54 => ?_)
            refine s_aload_n (pc := 43) 1 dX2_isFree_43 rfl rfl ?_
            refine zS_ite (fun ht => ?_) (fun _ => zS_none)
            refine s_callV (pc := 44) (np := 1) (as := [va_rf a1]) (rest := []) dX2_isFree_44 ht (q := (RX3, TX3, 2)) rfl (c_X3_overlaps (by decide) r54 a1 h53) rfl rfl q2479 q2480 q2481 rfl (by decide) (zkI (fun x55 h56 => ?_)) zxo
            refine s_if_eq (pc := 47) (tgt := 52) dX2_isFree_47 (by decide) (fun _ => ?_) (fun _ => ?_)
            · exact s_sub (pc := 52) [1, 2] rfl (w_X2_isFree_52 (f_X2_isFree_13 n) ih a1 a2 h56)
            · refine s_iconst (pc := 50) (v := 0) dX2_isFree_50 (by decide) ?_
              exact s_nret (pc := 51) dX2_isFree_51 rfl
        refine zS_ite (fun ht => ?_) (fun _ => zS_none)
        refine s_callF (pc := 23) (np := 0) (as := []) (rest := []) dX2_isFree_23 ht (q := (RJ22, TJ22, 5)) rfl (c_J22_next (by decide) a2 h7) ⟨_, _, _, q832⟩ rfl rfl q670 (by decide +kernel) q830 q828 rfl (by decide) (zkR (fun r35 h36 => ?_)) zxo
        refine s_cast (pc := 28) dX2_isFree_28 q836 zcs_FloatingDock_Ship ?_
        refine s_ast_n (pc := 31) (L2 := [(1, va_rf a1), (2, va_rf a2)]) [0, 1] dX2_isFree_31 rfl (by decide) rfl rfl (zcB (j := 1) rfl (zcat_rf a2) rfl) ?_
        refine s_aload_n (pc := 32) 0 dX2_isFree_32 rfl rfl ?_
        refine zS_ite (fun ht => ?_) (fun _ => zS_none)
        refine s_callV (pc := 33) (np := 0) (as := []) (rest := []) dX2_isFree_33 ht (q := (RX6, TX6, 9)) rfl (c_X6_isInDock (by decide) r35 h36) rfl rfl q837 q367 q368 rfl (by decide) (zkI (fun x57 h58 => ?_)) zxo
        refine s_if_eq (pc := 36) (tgt := 52) dX2_isFree_36 (by decide) (fun _ => ?_) (fun _ => ?_)
        · exact s_sub (pc := 52) [1, 2] rfl (w_X2_isFree_52 (f_X2_isFree_13 n) ih a1 a2 h58)
        · refine s_aload_n (pc := 39) 0 dX2_isFree_39 rfl rfl ?_
          refine s_gR (pc := 40) dX2_isFree_40 gf_X2_144 (fun r59 => ?_)
          refine s_aload_n (pc := 43) 1 dX2_isFree_43 rfl rfl ?_
          refine zS_ite (fun ht => ?_) (fun _ => zS_none)
          refine s_callV (pc := 44) (np := 1) (as := [va_rf a1]) (rest := []) dX2_isFree_44 ht (q := (RX3, TX3, 2)) rfl (c_X3_overlaps (by decide) r59 a1 h58) rfl rfl q2479 q2480 q2481 rfl (by decide) (zkI (fun x60 h61 => ?_)) zxo
          refine s_if_eq (pc := 47) (tgt := 52) dX2_isFree_47 (by decide) (fun _ => ?_) (fun _ => ?_)
          · exact s_sub (pc := 52) [1, 2] rfl (w_X2_isFree_52 (f_X2_isFree_13 n) ih a1 a2 h61)
          · refine s_iconst (pc := 50) (v := 0) dX2_isFree_50 (by decide) ?_
            exact s_nret (pc := 51) dX2_isFree_51 rfl
    refine zS_ite (fun ht => ?_) (fun _ => ?_)
    · refine s_callF (pc := 14) (np := 0) (as := []) (rest := []) dX2_isFree_14 ht (q := (RJ17, TJ17, 5)) rfl (c_J16_hasNext (by decide) a2 h) ⟨_, _, _, q659⟩ rfl rfl q629 (by decide +kernel) q657 q655 rfl (by decide) (zkI (fun x6 h7 => ?_)) zxo
      refine s_if_eq (pc := 19) (tgt := 55) dX2_isFree_19 (by decide) (fun _ => ?_) (fun _ => ?_)
      · refine s_iconst (pc := 55) (v := 1) dX2_isFree_55 (by decide) ?_
        exact s_nret (pc := 56) dX2_isFree_56 rfl
      · refine s_aload_n (pc := 22) 1 dX2_isFree_22 rfl rfl ?_
        refine zS_ite (fun ht => ?_) (fun _ => ?_)
        · refine s_callF (pc := 23) (np := 0) (as := []) (rest := []) dX2_isFree_23 ht (q := (RX9, TX9, 2)) rfl (c_X9_next (by decide) a2 h7) ⟨_, _, _, q677⟩ rfl rfl q670 (by decide +kernel) q675 q673 rfl (by decide) (zkR (fun r62 h63 => ?_)) zxo
          refine s_cast (pc := 28) dX2_isFree_28 q836 zcs_FloatingDock_Ship ?_
          refine s_ast_n (pc := 31) (L2 := [(1, va_rf a1), (2, va_rf a2)]) [0, 1] dX2_isFree_31 rfl (by decide) rfl rfl (zcB (j := 1) rfl (zcat_rf a2) rfl) ?_
          refine s_aload_n (pc := 32) 0 dX2_isFree_32 rfl rfl ?_
          refine zS_ite (fun ht => ?_) (fun _ => zS_none)
          refine s_callV (pc := 33) (np := 0) (as := []) (rest := []) dX2_isFree_33 ht (q := (RX6, TX6, 9)) rfl (c_X6_isInDock (by decide) r62 h63) rfl rfl q837 q367 q368 rfl (by decide) (zkI (fun x64 h65 => ?_)) zxo
          refine s_if_eq (pc := 36) (tgt := 52) dX2_isFree_36 (by decide) (fun _ => ?_) (fun _ => ?_)
          · exact s_sub (pc := 52) [1, 2] rfl (w_X2_isFree_52 (f_X2_isFree_13 n) ih a1 a2 h65)
          · refine s_aload_n (pc := 39) 0 dX2_isFree_39 rfl rfl ?_
            refine s_gR (pc := 40) dX2_isFree_40 gf_X2_144 (fun r66 => ?_)
            refine s_aload_n (pc := 43) 1 dX2_isFree_43 rfl rfl ?_
            refine zS_ite (fun ht => ?_) (fun _ => zS_none)
            refine s_callV (pc := 44) (np := 1) (as := [va_rf a1]) (rest := []) dX2_isFree_44 ht (q := (RX3, TX3, 2)) rfl (c_X3_overlaps (by decide) r66 a1 h65) rfl rfl q2479 q2480 q2481 rfl (by decide) (zkI (fun x67 h68 => ?_)) zxo
            refine s_if_eq (pc := 47) (tgt := 52) dX2_isFree_47 (by decide) (fun _ => ?_) (fun _ => ?_)
            · exact s_sub (pc := 52) [1, 2] rfl (w_X2_isFree_52 (f_X2_isFree_13 n) ih a1 a2 h68)
            · refine s_iconst (pc := 50) (v := 0) dX2_isFree_50 (by decide) ?_
              exact s_nret (pc := 51) dX2_isFree_51 rfl
        refine zS_ite (fun ht => ?_) (fun _ => ?_)
        · refine s_callF (pc := 23) (np := 0) (as := []) (rest := []) dX2_isFree_23 ht (q := (RJ15, TJ15, 4)) rfl (c_J15_next (by decide) a2 h7) ⟨_, _, _, q788⟩ rfl rfl q670 (by decide +kernel) q786 q784 rfl (by decide) (zkR (fun r62 h63 => ?_)) zxo
          refine s_cast (pc := 28) dX2_isFree_28 q836 zcs_FloatingDock_Ship ?_
          refine s_ast_n (pc := 31) (L2 := [(1, va_rf a1), (2, va_rf a2)]) [0, 1] dX2_isFree_31 rfl (by decide) rfl rfl (zcB (j := 1) rfl (zcat_rf a2) rfl) ?_
          refine s_aload_n (pc := 32) 0 dX2_isFree_32 rfl rfl ?_
          refine zS_ite (fun ht => ?_) (fun _ => zS_none)
          refine s_callV (pc := 33) (np := 0) (as := []) (rest := []) dX2_isFree_33 ht (q := (RX6, TX6, 9)) rfl (c_X6_isInDock (by decide) r62 h63) rfl rfl q837 q367 q368 rfl (by decide) (zkI (fun x69 h70 => ?_)) zxo
          refine s_if_eq (pc := 36) (tgt := 52) dX2_isFree_36 (by decide) (fun _ => ?_) (fun _ => ?_)
          · exact s_sub (pc := 52) [1, 2] rfl (w_X2_isFree_52 (f_X2_isFree_13 n) ih a1 a2 h70)
          · refine s_aload_n (pc := 39) 0 dX2_isFree_39 rfl rfl ?_
            refine s_gR (pc := 40) dX2_isFree_40 gf_X2_144 (fun r71 => ?_)
            refine s_aload_n (pc := 43) 1 dX2_isFree_43 rfl rfl ?_
            refine zS_ite (fun ht => ?_) (fun _ => zS_none)
            refine s_callV (pc := 44) (np := 1) (as := [va_rf a1]) (rest := []) dX2_isFree_44 ht (q := (RX3, TX3, 2)) rfl (c_X3_overlaps (by decide) r71 a1 h70) rfl rfl q2479 q2480 q2481 rfl (by decide) (zkI (fun x72 h73 => ?_)) zxo
            refine s_if_eq (pc := 47) (tgt := 52) dX2_isFree_47 (by decide) (fun _ => ?_) (fun _ => ?_)
            · exact s_sub (pc := 52) [1, 2] rfl (w_X2_isFree_52 (f_X2_isFree_13 n) ih a1 a2 h73)
            · refine s_iconst (pc := 50) (v := 0) dX2_isFree_50 (by decide) ?_
              exact s_nret (pc := 51) dX2_isFree_51 rfl
        refine zS_ite (fun ht => ?_) (fun _ => ?_)
        · refine s_callF (pc := 23) (np := 0) (as := []) (rest := []) dX2_isFree_23 ht (q := (RJ17, TJ17, 5)) rfl (c_J17_next (by decide) a2 h7) ⟨_, _, _, q799⟩ rfl rfl q670 (by decide +kernel) q797 q795 rfl (by decide) (zkR (fun r62 h63 => ?_)) zxo
          refine s_cast (pc := 28) dX2_isFree_28 q836 zcs_FloatingDock_Ship ?_
          refine s_ast_n (pc := 31) (L2 := [(1, va_rf a1), (2, va_rf a2)]) [0, 1] dX2_isFree_31 rfl (by decide) rfl rfl (zcB (j := 1) rfl (zcat_rf a2) rfl) ?_
          refine s_aload_n (pc := 32) 0 dX2_isFree_32 rfl rfl ?_
          refine zS_ite (fun ht => ?_) (fun _ => zS_none)
          refine s_callV (pc := 33) (np := 0) (as := []) (rest := []) dX2_isFree_33 ht (q := (RX6, TX6, 9)) rfl (c_X6_isInDock (by decide) r62 h63) rfl rfl q837 q367 q368 rfl (by decide) (zkI (fun x74 h75 => ?_)) zxo
          refine s_if_eq (pc := 36) (tgt := 52) dX2_isFree_36 (by decide) (fun _ => ?_) (fun _ => ?_)
          · exact s_sub (pc := 52) [1, 2] rfl (w_X2_isFree_52 (f_X2_isFree_13 n) ih a1 a2 h75)
          · refine s_aload_n (pc := 39) 0 dX2_isFree_39 rfl rfl ?_
            refine s_gR (pc := 40) dX2_isFree_40 gf_X2_144 (fun r76 => ?_)
            refine s_aload_n (pc := 43) 1 dX2_isFree_43 rfl rfl ?_
            refine zS_ite (fun ht => ?_) (fun _ => zS_none)
            refine s_callV (pc := 44) (np := 1) (as := [va_rf a1]) (rest := []) dX2_isFree_44 ht (q := (RX3, TX3, 2)) rfl (c_X3_overlaps (by decide) r76 a1 h75) rfl rfl q2479 q2480 q2481 rfl (by decide) (zkI (fun x77 h78 => ?_)) zxo
            refine s_if_eq (pc := 47) (tgt := 52) dX2_isFree_47 (by decide) (fun _ => ?_) (fun _ => ?_)
            · exact s_sub (pc := 52) [1, 2] rfl (w_X2_isFree_52 (f_X2_isFree_13 n) ih a1 a2 h78)
            · refine s_iconst (pc := 50) (v := 0) dX2_isFree_50 (by decide) ?_
              exact s_nret (pc := 51) dX2_isFree_51 rfl
        refine zS_ite (fun ht => ?_) (fun _ => ?_)
        · refine s_callF (pc := 23) (np := 0) (as := []) (rest := []) dX2_isFree_23 ht (q := (RJ21, TJ21, 5)) rfl (c_J21_next (by decide) a2 h7) ⟨_, _, _, q812⟩ rfl rfl q670 (by decide +kernel) q810 q808 rfl (by decide) (zkR (fun r62 h63 => ?_)) zxo
          refine s_cast (pc := 28) dX2_isFree_28 q836 zcs_FloatingDock_Ship ?_
          refine s_ast_n (pc := 31) (L2 := [(1, va_rf a1), (2, va_rf a2)]) [0, 1] dX2_isFree_31 rfl (by decide) rfl rfl (zcB (j := 1) rfl (zcat_rf a2) rfl) ?_
          refine s_aload_n (pc := 32) 0 dX2_isFree_32 rfl rfl ?_
          refine zS_ite (fun ht => ?_) (fun _ => zS_none)
          refine s_callV (pc := 33) (np := 0) (as := []) (rest := []) dX2_isFree_33 ht (q := (RX6, TX6, 9)) rfl (c_X6_isInDock (by decide) r62 h63) rfl rfl q837 q367 q368 rfl (by decide) (zkI (fun x79 h80 => ?_)) zxo
          refine s_if_eq (pc := 36) (tgt := 52) dX2_isFree_36 (by decide) (fun _ => ?_) (fun _ => ?_)
          · exact s_sub (pc := 52) [1, 2] rfl (w_X2_isFree_52 (f_X2_isFree_13 n) ih a1 a2 h80)
          · refine s_aload_n (pc := 39) 0 dX2_isFree_39 rfl rfl ?_
            refine s_gR (pc := 40) dX2_isFree_40 gf_X2_144 (fun r81 => ?_)
            refine s_aload_n (pc := 43) 1 dX2_isFree_43 rfl rfl ?_
            refine zS_ite (fun ht => ?_) (fun _ => zS_none)
            refine s_callV (pc := 44) (np := 1) (as := [va_rf a1]) (rest := []) dX2_isFree_44 ht (q := (RX3, TX3, 2)) rfl (c_X3_overlaps (by decide) r81 a1 h80) rfl rfl q2479 q2480 q2481 rfl (by decide) (zkI (fun x82 h83 => ?_)) zxo
            refine s_if_eq (pc := 47) (tgt := 52) dX2_isFree_47 (by decide) (fun _ => ?_) (fun _ => ?_)
            · exact s_sub (pc := 52) [1, 2] rfl (w_X2_isFree_52 (f_X2_isFree_13 n) ih a1 a2 h83)
            · refine s_iconst (pc := 50) (v := 0) dX2_isFree_50 (by decide) ?_
              exact s_nret (pc := 51) dX2_isFree_51 rfl
        refine zS_ite (fun ht => ?_) (fun _ => zS_none)
        refine s_callF (pc := 23) (np := 0) (as := []) (rest := []) dX2_isFree_23 ht (q := (RJ22, TJ22, 5)) rfl (c_J22_next (by decide) a2 h7) ⟨_, _, _, q832⟩ rfl rfl q670 (by decide +kernel) q830 q828 rfl (by decide) (zkR (fun r62 h63 => ?_)) zxo
        refine s_cast (pc := 28) dX2_isFree_28 q836 zcs_FloatingDock_Ship ?_
        refine s_ast_n (pc := 31) (L2 := [(1, va_rf a1), (2, va_rf a2)]) [0, 1] dX2_isFree_31 rfl (by decide) rfl rfl (zcB (j := 1) rfl (zcat_rf a2) rfl) ?_
        refine s_aload_n (pc := 32) 0 dX2_isFree_32 rfl rfl ?_
        refine zS_ite (fun ht => ?_) (fun _ => zS_none)
        refine s_callV (pc := 33) (np := 0) (as := []) (rest := []) dX2_isFree_33 ht (q := (RX6, TX6, 9)) rfl (c_X6_isInDock (by decide) r62 h63) rfl rfl q837 q367 q368 rfl (by decide) (zkI (fun x84 h85 => ?_)) zxo
        refine s_if_eq (pc := 36) (tgt := 52) dX2_isFree_36 (by decide) (fun _ => ?_) (fun _ => ?_)
        · exact s_sub (pc := 52) [1, 2] rfl (w_X2_isFree_52 (f_X2_isFree_13 n) ih a1 a2 h85)
        · refine s_aload_n (pc := 39) 0 dX2_isFree_39 rfl rfl ?_
          refine s_gR (pc := 40) dX2_isFree_40 gf_X2_144 (fun r86 => ?_)
          refine s_aload_n (pc := 43) 1 dX2_isFree_43 rfl rfl ?_
          refine zS_ite (fun ht => ?_) (fun _ => zS_none)
          refine s_callV (pc := 44) (np := 1) (as := [va_rf a1]) (rest := []) dX2_isFree_44 ht (q := (RX3, TX3, 2)) rfl (c_X3_overlaps (by decide) r86 a1 h85) rfl rfl q2479 q2480 q2481 rfl (by decide) (zkI (fun x87 h88 => ?_)) zxo
          refine s_if_eq (pc := 47) (tgt := 52) dX2_isFree_47 (by decide) (fun _ => ?_) (fun _ => ?_)
          · exact s_sub (pc := 52) [1, 2] rfl (w_X2_isFree_52 (f_X2_isFree_13 n) ih a1 a2 h88)
          · refine s_iconst (pc := 50) (v := 0) dX2_isFree_50 (by decide) ?_
            exact s_nret (pc := 51) dX2_isFree_51 rfl
    refine zS_ite (fun ht => ?_) (fun _ => ?_)
    · refine s_callF (pc := 14) (np := 0) (as := []) (rest := []) dX2_isFree_14 ht (q := (RJ21, TJ21, 5)) rfl (c_J20_hasNext (by decide) a2 h) ⟨_, _, _, q665⟩ rfl rfl q629 (by decide +kernel) q663 q661 rfl (by decide) (zkI (fun x6 h7 => ?_)) zxo
      refine s_if_eq (pc := 19) (tgt := 55) dX2_isFree_19 (by decide) (fun _ => ?_) (fun _ => ?_)
      · refine s_iconst (pc := 55) (v := 1) dX2_isFree_55 (by decide) ?_
        exact s_nret (pc := 56) dX2_isFree_56 rfl
      · refine s_aload_n (pc := 22) 1 dX2_isFree_22 rfl rfl ?_
        refine zS_ite (fun ht => ?_) (fun _ => ?_)
        · refine s_callF (pc := 23) (np := 0) (as := []) (rest := []) dX2_isFree_23 ht (q := (RX9, TX9, 2)) rfl (c_X9_next (by decide) a2 h7) ⟨_, _, _, q677⟩ rfl rfl q670 (by decide +kernel) q675 q673 rfl (by decide) (zkR (fun r89 h90 => ?_)) zxo
          refine s_cast (pc := 28) dX2_isFree_28 q836 zcs_FloatingDock_Ship ?_
          refine s_ast_n (pc := 31) (L2 := [(1, va_rf a1), (2, va_rf a2)]) [0, 1] dX2_isFree_31 rfl (by decide) rfl rfl (zcB (j := 1) rfl (zcat_rf a2) rfl) ?_
          refine s_aload_n (pc := 32) 0 dX2_isFree_32 rfl rfl ?_
          refine zS_ite (fun ht => ?_) (fun _ => zS_none)
          refine s_callV (pc := 33) (np := 0) (as := []) (rest := []) dX2_isFree_33 ht (q := (RX6, TX6, 9)) rfl (c_X6_isInDock (by decide) r89 h90) rfl rfl q837 q367 q368 rfl (by decide) (zkI (fun x91 h92 => ?_)) zxo
          refine s_if_eq (pc := 36) (tgt := 52) dX2_isFree_36 (by decide) (fun _ => ?_) (fun _ => ?_)
          · exact s_sub (pc := 52) [1, 2] rfl (w_X2_isFree_52 (f_X2_isFree_13 n) ih a1 a2 h92)
          · refine s_aload_n (pc := 39) 0 dX2_isFree_39 rfl rfl ?_
            refine s_gR (pc := 40) dX2_isFree_40 gf_X2_144 (fun r93 => ?_)
            refine s_aload_n (pc := 43) 1 dX2_isFree_43 rfl rfl ?_
            refine zS_ite (fun ht => ?_) (fun _ => zS_none)
            refine s_callV (pc := 44) (np := 1) (as := [va_rf a1]) (rest := []) dX2_isFree_44 ht (q := (RX3, TX3, 2)) rfl (c_X3_overlaps (by decide) r93 a1 h92) rfl rfl q2479 q2480 q2481 rfl (by decide) (zkI (fun x94 h95 => ?_)) zxo
            refine s_if_eq (pc := 47) (tgt := 52) dX2_isFree_47 (by decide) (fun _ => ?_) (fun _ => ?_)
            · exact s_sub (pc := 52) [1, 2] rfl (w_X2_isFree_52 (f_X2_isFree_13 n) ih a1 a2 h95)
            · refine s_iconst (pc := 50) (v := 0) dX2_isFree_50 (by decide) ?_
              exact s_nret (pc := 51) dX2_isFree_51 rfl
        refine zS_ite (fun ht => ?_) (fun _ => ?_)
        · refine s_callF (pc := 23) (np := 0) (as := []) (rest := []) dX2_isFree_23 ht (q := (RJ15, TJ15, 4)) rfl (c_J15_next (by decide) a2 h7) ⟨_, _, _, q788⟩ rfl rfl q670 (by decide +kernel) q786 q784 rfl (by decide) (zkR (fun r89 h90 => ?_)) zxo
          refine s_cast (pc := 28) dX2_isFree_28 q836 zcs_FloatingDock_Ship ?_
          refine s_ast_n (pc := 31) (L2 := [(1, va_rf a1), (2, va_rf a2)]) [0, 1] dX2_isFree_31 rfl (by decide) rfl rfl (zcB (j := 1) rfl (zcat_rf a2) rfl) ?_
          refine s_aload_n (pc := 32) 0 dX2_isFree_32 rfl rfl ?_
          refine zS_ite (fun ht => ?_) (fun _ => zS_none)
          refine s_callV (pc := 33) (np := 0) (as := []) (rest := []) dX2_isFree_33 ht (q := (RX6, TX6, 9)) rfl (c_X6_isInDock (by decide) r89 h90) rfl rfl q837 q367 q368 rfl (by decide) (zkI (fun x96 h97 => ?_)) zxo
          refine s_if_eq (pc := 36) (tgt := 52) dX2_isFree_36 (by decide) (fun _ => ?_) (fun _ => ?_)
          · exact s_sub (pc := 52) [1, 2] rfl (w_X2_isFree_52 (f_X2_isFree_13 n) ih a1 a2 h97)
          · refine s_aload_n (pc := 39) 0 dX2_isFree_39 rfl rfl ?_
            refine s_gR (pc := 40) dX2_isFree_40 gf_X2_144 (fun r98 => ?_)
            refine s_aload_n (pc := 43) 1 dX2_isFree_43 rfl rfl ?_
            refine zS_ite (fun ht => ?_) (fun _ => zS_none)
            refine s_callV (pc := 44) (np := 1) (as := [va_rf a1]) (rest := []) dX2_isFree_44 ht (q := (RX3, TX3, 2)) rfl (c_X3_overlaps (by decide) r98 a1 h97) rfl rfl q2479 q2480 q2481 rfl (by decide) (zkI (fun x99 h100 => ?_)) zxo
            refine s_if_eq (pc := 47) (tgt := 52) dX2_isFree_47 (by decide) (fun _ => ?_) (fun _ => ?_)
            · exact s_sub (pc := 52) [1, 2] rfl (w_X2_isFree_52 (f_X2_isFree_13 n) ih a1 a2 h100)
            · refine s_iconst (pc := 50) (v := 0) dX2_isFree_50 (by decide) ?_
              exact s_nret (pc := 51) dX2_isFree_51 rfl
        refine zS_ite (fun ht => ?_) (fun _ => ?_)
        · refine s_callF (pc := 23) (np := 0) (as := []) (rest := []) dX2_isFree_23 ht (q := (RJ17, TJ17, 5)) rfl (c_J17_next (by decide) a2 h7) ⟨_, _, _, q799⟩ rfl rfl q670 (by decide +kernel) q797 q795 rfl (by decide) (zkR (fun r89 h90 => ?_)) zxo
          refine s_cast (pc := 28) dX2_isFree_28 q836 zcs_FloatingDock_Ship ?_
          refine s_ast_n (pc := 31) (L2 := [(1, va_rf a1), (2, va_rf a2)]) [0, 1] dX2_isFree_31 rfl (by decide) rfl rfl (zcB (j := 1) rfl (zcat_rf a2) rfl) ?_
          refine s_aload_n (pc := 32) 0 dX2_isFree_32 rfl rfl ?_
          refine zS_ite (fun ht => ?_) (fun _ => zS_none)
          refine s_callV (pc := 33) (np := 0) (as := []) (rest := []) dX2_isFree_33 ht (q := (RX6, TX6, 9)) rfl (c_X6_isInDock (by decide) r89 h90) rfl rfl q837 q367 q368 rfl (by decide) (zkI (fun x101 h102 => ?_)) zxo
          refine s_if_eq (pc := 36) (tgt := 52) dX2_isFree_36 (by decide) (fun _ => ?_) (fun _ => ?_)
          · exact s_sub (pc := 52) [1, 2] rfl (w_X2_isFree_52 (f_X2_isFree_13 n) ih a1 a2 h102)
          · refine s_aload_n (pc := 39) 0 dX2_isFree_39 rfl rfl ?_
            refine s_gR (pc := 40) dX2_isFree_40 gf_X2_144 (fun r103 => ?_)
            refine s_aload_n (pc := 43) 1 dX2_isFree_43 rfl rfl ?_
            refine zS_ite (fun ht => ?_) (fun _ => zS_none)
            refine s_callV (pc := 44) (np := 1) (as := [va_rf a1]) (rest := []) dX2_isFree_44 ht (q := (RX3, TX3, 2)) rfl (c_X3_overlaps (by decide) r103 a1 h102) rfl rfl q2479 q2480 q2481 rfl (by decide) (zkI (fun x104 h105 => ?_)) zxo
            refine s_if_eq (pc := 47) (tgt := 52) dX2_isFree_47 (by decide) (fun _ => ?_) (fun _ => ?_)
            · exact s_sub (pc := 52) [1, 2] rfl (w_X2_isFree_52 (f_X2_isFree_13 n) ih a1 a2 h105)
            · refine s_iconst (pc := 50) (v := 0) dX2_isFree_50 (by decide) ?_
              exact s_nret (pc := 51) dX2_isFree_51 rfl
        refine zS_ite (fun ht => ?_) (fun _ => ?_)
        · refine s_callF (pc := 23) (np := 0) (as := []) (rest := []) dX2_isFree_23 ht (q := (RJ21, TJ21, 5)) rfl (c_J21_next (by decide) a2 h7) ⟨_, _, _, q812⟩ rfl rfl q670 (by decide +kernel) q810 q808 rfl (by decide) (zkR (fun r89 h90 => ?_)) zxo
          refine s_cast (pc := 28) dX2_isFree_28 q836 zcs_FloatingDock_Ship ?_
          refine s_ast_n (pc := 31) (L2 := [(1, va_rf a1), (2, va_rf a2)]) [0, 1] dX2_isFree_31 rfl (by decide) rfl rfl (zcB (j := 1) rfl (zcat_rf a2) rfl) ?_
          refine s_aload_n (pc := 32) 0 dX2_isFree_32 rfl rfl ?_
          refine zS_ite (fun ht => ?_) (fun _ => zS_none)
          refine s_callV (pc := 33) (np := 0) (as := []) (rest := []) dX2_isFree_33 ht (q := (RX6, TX6, 9)) rfl (c_X6_isInDock (by decide) r89 h90) rfl rfl q837 q367 q368 rfl (by decide) (zkI (fun x106 h107 => ?_)) zxo
          refine s_if_eq (pc := 36) (tgt := 52) dX2_isFree_36 (by decide) (fun _ => ?_) (fun _ => ?_)
          · exact s_sub (pc := 52) [1, 2] rfl (w_X2_isFree_52 (f_X2_isFree_13 n) ih a1 a2 h107)
          · refine s_aload_n (pc := 39) 0 dX2_isFree_39 rfl rfl ?_
            refine s_gR (pc := 40) dX2_isFree_40 gf_X2_144 (fun r108 => ?_)
            refine s_aload_n (pc := 43) 1 dX2_isFree_43 rfl rfl ?_
            refine zS_ite (fun ht => ?_) (fun _ => zS_none)
            refine s_callV (pc := 44) (np := 1) (as := [va_rf a1]) (rest := []) dX2_isFree_44 ht (q := (RX3, TX3, 2)) rfl (c_X3_overlaps (by decide) r108 a1 h107) rfl rfl q2479 q2480 q2481 rfl (by decide) (zkI (fun x109 h110 => ?_)) zxo
            refine s_if_eq (pc := 47) (tgt := 52) dX2_isFree_47 (by decide) (fun _ => ?_) (fun _ => ?_)
            · exact s_sub (pc := 52) [1, 2] rfl (w_X2_isFree_52 (f_X2_isFree_13 n) ih a1 a2 h110)
            · refine s_iconst (pc := 50) (v := 0) dX2_isFree_50 (by decide) ?_
              exact s_nret (pc := 51) dX2_isFree_51 rfl
        refine zS_ite (fun ht => ?_) (fun _ => zS_none)
        refine s_callF (pc := 23) (np := 0) (as := []) (rest := []) dX2_isFree_23 ht (q := (RJ22, TJ22, 5)) rfl (c_J22_next (by decide) a2 h7) ⟨_, _, _, q832⟩ rfl rfl q670 (by decide +kernel) q830 q828 rfl (by decide) (zkR (fun r89 h90 => ?_)) zxo
        refine s_cast (pc := 28) dX2_isFree_28 q836 zcs_FloatingDock_Ship ?_
        refine s_ast_n (pc := 31) (L2 := [(1, va_rf a1), (2, va_rf a2)]) [0, 1] dX2_isFree_31 rfl (by decide) rfl rfl (zcB (j := 1) rfl (zcat_rf a2) rfl) ?_
        refine s_aload_n (pc := 32) 0 dX2_isFree_32 rfl rfl ?_
        refine zS_ite (fun ht => ?_) (fun _ => zS_none)
        refine s_callV (pc := 33) (np := 0) (as := []) (rest := []) dX2_isFree_33 ht (q := (RX6, TX6, 9)) rfl (c_X6_isInDock (by decide) r89 h90) rfl rfl q837 q367 q368 rfl (by decide) (zkI (fun x111 h112 => ?_)) zxo
        refine s_if_eq (pc := 36) (tgt := 52) dX2_isFree_36 (by decide) (fun _ => ?_) (fun _ => ?_)
        · exact s_sub (pc := 52) [1, 2] rfl (w_X2_isFree_52 (f_X2_isFree_13 n) ih a1 a2 h112)
        · refine s_aload_n (pc := 39) 0 dX2_isFree_39 rfl rfl ?_
          refine s_gR (pc := 40) dX2_isFree_40 gf_X2_144 (fun r113 => ?_)
          refine s_aload_n (pc := 43) 1 dX2_isFree_43 rfl rfl ?_
          refine zS_ite (fun ht => ?_) (fun _ => zS_none)
          refine s_callV (pc := 44) (np := 1) (as := [va_rf a1]) (rest := []) dX2_isFree_44 ht (q := (RX3, TX3, 2)) rfl (c_X3_overlaps (by decide) r113 a1 h112) rfl rfl q2479 q2480 q2481 rfl (by decide) (zkI (fun x114 h115 => ?_)) zxo
          refine s_if_eq (pc := 47) (tgt := 52) dX2_isFree_47 (by decide) (fun _ => ?_) (fun _ => ?_)
          · exact s_sub (pc := 52) [1, 2] rfl (w_X2_isFree_52 (f_X2_isFree_13 n) ih a1 a2 h115)
          · refine s_iconst (pc := 50) (v := 0) dX2_isFree_50 (by decide) ?_
            exact s_nret (pc := 51) dX2_isFree_51 rfl
    refine zS_ite (fun ht => ?_) (fun _ => zS_none)
    refine s_callF (pc := 14) (np := 0) (as := []) (rest := []) dX2_isFree_14 ht (q := (RJ22, TJ22, 5)) rfl (c_J20_hasNext (by decide) a2 h) ⟨_, _, _, q665⟩ rfl rfl q629 (by decide +kernel) q663 q667 rfl (by decide) (zkI (fun x6 h7 => ?_)) zxo
    refine s_if_eq (pc := 19) (tgt := 55) dX2_isFree_19 (by decide) (fun _ => ?_) (fun _ => ?_)
    · refine s_iconst (pc := 55) (v := 1) dX2_isFree_55 (by decide) ?_
      exact s_nret (pc := 56) dX2_isFree_56 rfl
    · refine s_aload_n (pc := 22) 1 dX2_isFree_22 rfl rfl ?_
      refine zS_ite (fun ht => ?_) (fun _ => ?_)
      · refine s_callF (pc := 23) (np := 0) (as := []) (rest := []) dX2_isFree_23 ht (q := (RX9, TX9, 2)) rfl (c_X9_next (by decide) a2 h7) ⟨_, _, _, q677⟩ rfl rfl q670 (by decide +kernel) q675 q673 rfl (by decide) (zkR (fun r116 h117 => ?_)) zxo
        refine s_cast (pc := 28) dX2_isFree_28 q836 zcs_FloatingDock_Ship ?_
        refine s_ast_n (pc := 31) (L2 := [(1, va_rf a1), (2, va_rf a2)]) [0, 1] dX2_isFree_31 rfl (by decide) rfl rfl (zcB (j := 1) rfl (zcat_rf a2) rfl) ?_
        refine s_aload_n (pc := 32) 0 dX2_isFree_32 rfl rfl ?_
        refine zS_ite (fun ht => ?_) (fun _ => zS_none)
        refine s_callV (pc := 33) (np := 0) (as := []) (rest := []) dX2_isFree_33 ht (q := (RX6, TX6, 9)) rfl (c_X6_isInDock (by decide) r116 h117) rfl rfl q837 q367 q368 rfl (by decide) (zkI (fun x118 h119 => ?_)) zxo
        refine s_if_eq (pc := 36) (tgt := 52) dX2_isFree_36 (by decide) (fun _ => ?_) (fun _ => ?_)
        · exact s_sub (pc := 52) [1, 2] rfl (w_X2_isFree_52 (f_X2_isFree_13 n) ih a1 a2 h119)
        · refine s_aload_n (pc := 39) 0 dX2_isFree_39 rfl rfl ?_
          refine s_gR (pc := 40) dX2_isFree_40 gf_X2_144 (fun r120 => ?_)
          refine s_aload_n (pc := 43) 1 dX2_isFree_43 rfl rfl ?_
          refine zS_ite (fun ht => ?_) (fun _ => zS_none)
          refine s_callV (pc := 44) (np := 1) (as := [va_rf a1]) (rest := []) dX2_isFree_44 ht (q := (RX3, TX3, 2)) rfl (c_X3_overlaps (by decide) r120 a1 h119) rfl rfl q2479 q2480 q2481 rfl (by decide) (zkI (fun x121 h122 => ?_)) zxo
          refine s_if_eq (pc := 47) (tgt := 52) dX2_isFree_47 (by decide) (fun _ => ?_) (fun _ => ?_)
          · exact s_sub (pc := 52) [1, 2] rfl (w_X2_isFree_52 (f_X2_isFree_13 n) ih a1 a2 h122)
          · refine s_iconst (pc := 50) (v := 0) dX2_isFree_50 (by decide) ?_
            exact s_nret (pc := 51) dX2_isFree_51 rfl
      refine zS_ite (fun ht => ?_) (fun _ => ?_)
      · refine s_callF (pc := 23) (np := 0) (as := []) (rest := []) dX2_isFree_23 ht (q := (RJ15, TJ15, 4)) rfl (c_J15_next (by decide) a2 h7) ⟨_, _, _, q788⟩ rfl rfl q670 (by decide +kernel) q786 q784 rfl (by decide) (zkR (fun r116 h117 => ?_)) zxo
        refine s_cast (pc := 28) dX2_isFree_28 q836 zcs_FloatingDock_Ship ?_
        refine s_ast_n (pc := 31) (L2 := [(1, va_rf a1), (2, va_rf a2)]) [0, 1] dX2_isFree_31 rfl (by decide) rfl rfl (zcB (j := 1) rfl (zcat_rf a2) rfl) ?_
        refine s_aload_n (pc := 32) 0 dX2_isFree_32 rfl rfl ?_
        refine zS_ite (fun ht => ?_) (fun _ => zS_none)
        refine s_callV (pc := 33) (np := 0) (as := []) (rest := []) dX2_isFree_33 ht (q := (RX6, TX6, 9)) rfl (c_X6_isInDock (by decide) r116 h117) rfl rfl q837 q367 q368 rfl (by decide) (zkI (fun x123 h124 => ?_)) zxo
        refine s_if_eq (pc := 36) (tgt := 52) dX2_isFree_36 (by decide) (fun _ => ?_) (fun _ => ?_)
        · exact s_sub (pc := 52) [1, 2] rfl (w_X2_isFree_52 (f_X2_isFree_13 n) ih a1 a2 h124)
        · refine s_aload_n (pc := 39) 0 dX2_isFree_39 rfl rfl ?_
          refine s_gR (pc := 40) dX2_isFree_40 gf_X2_144 (fun r125 => ?_)
          refine s_aload_n (pc := 43) 1 dX2_isFree_43 rfl rfl ?_
          refine zS_ite (fun ht => ?_) (fun _ => zS_none)
          refine s_callV (pc := 44) (np := 1) (as := [va_rf a1]) (rest := []) dX2_isFree_44 ht (q := (RX3, TX3, 2)) rfl (c_X3_overlaps (by decide) r125 a1 h124) rfl rfl q2479 q2480 q2481 rfl (by decide) (zkI (fun x126 h127 => ?_)) zxo
          refine s_if_eq (pc := 47) (tgt := 52) dX2_isFree_47 (by decide) (fun _ => ?_) (fun _ => ?_)
          · exact s_sub (pc := 52) [1, 2] rfl (w_X2_isFree_52 (f_X2_isFree_13 n) ih a1 a2 h127)
          · refine s_iconst (pc := 50) (v := 0) dX2_isFree_50 (by decide) ?_
            exact s_nret (pc := 51) dX2_isFree_51 rfl
      refine zS_ite (fun ht => ?_) (fun _ => ?_)
      · refine s_callF (pc := 23) (np := 0) (as := []) (rest := []) dX2_isFree_23 ht (q := (RJ17, TJ17, 5)) rfl (c_J17_next (by decide) a2 h7) ⟨_, _, _, q799⟩ rfl rfl q670 (by decide +kernel) q797 q795 rfl (by decide) (zkR (fun r116 h117 => ?_)) zxo
        refine s_cast (pc := 28) dX2_isFree_28 q836 zcs_FloatingDock_Ship ?_
        refine s_ast_n (pc := 31) (L2 := [(1, va_rf a1), (2, va_rf a2)]) [0, 1] dX2_isFree_31 rfl (by decide) rfl rfl (zcB (j := 1) rfl (zcat_rf a2) rfl) ?_
        refine s_aload_n (pc := 32) 0 dX2_isFree_32 rfl rfl ?_
        refine zS_ite (fun ht => ?_) (fun _ => zS_none)
        refine s_callV (pc := 33) (np := 0) (as := []) (rest := []) dX2_isFree_33 ht (q := (RX6, TX6, 9)) rfl (c_X6_isInDock (by decide) r116 h117) rfl rfl q837 q367 q368 rfl (by decide) (zkI (fun x128 h129 => ?_)) zxo
        refine s_if_eq (pc := 36) (tgt := 52) dX2_isFree_36 (by decide) (fun _ => ?_) (fun _ => ?_)
        · exact s_sub (pc := 52) [1, 2] rfl (w_X2_isFree_52 (f_X2_isFree_13 n) ih a1 a2 h129)
        · refine s_aload_n (pc := 39) 0 dX2_isFree_39 rfl rfl ?_
          refine s_gR (pc := 40) dX2_isFree_40 gf_X2_144 (fun r130 => ?_)
          refine s_aload_n (pc := 43) 1 dX2_isFree_43 rfl rfl ?_
          refine zS_ite (fun ht => ?_) (fun _ => zS_none)
          refine s_callV (pc := 44) (np := 1) (as := [va_rf a1]) (rest := []) dX2_isFree_44 ht (q := (RX3, TX3, 2)) rfl (c_X3_overlaps (by decide) r130 a1 h129) rfl rfl q2479 q2480 q2481 rfl (by decide) (zkI (fun x131 h132 => ?_)) zxo
          refine s_if_eq (pc := 47) (tgt := 52) dX2_isFree_47 (by decide) (fun _ => ?_) (fun _ => ?_)
          · exact s_sub (pc := 52) [1, 2] rfl (w_X2_isFree_52 (f_X2_isFree_13 n) ih a1 a2 h132)
          · refine s_iconst (pc := 50) (v := 0) dX2_isFree_50 (by decide) ?_
            exact s_nret (pc := 51) dX2_isFree_51 rfl
      refine zS_ite (fun ht => ?_) (fun _ => ?_)
      · refine s_callF (pc := 23) (np := 0) (as := []) (rest := []) dX2_isFree_23 ht (q := (RJ21, TJ21, 5)) rfl (c_J21_next (by decide) a2 h7) ⟨_, _, _, q812⟩ rfl rfl q670 (by decide +kernel) q810 q808 rfl (by decide) (zkR (fun r116 h117 => ?_)) zxo
        refine s_cast (pc := 28) dX2_isFree_28 q836 zcs_FloatingDock_Ship ?_
        refine s_ast_n (pc := 31) (L2 := [(1, va_rf a1), (2, va_rf a2)]) [0, 1] dX2_isFree_31 rfl (by decide) rfl rfl (zcB (j := 1) rfl (zcat_rf a2) rfl) ?_
        refine s_aload_n (pc := 32) 0 dX2_isFree_32 rfl rfl ?_
        refine zS_ite (fun ht => ?_) (fun _ => zS_none)
        refine s_callV (pc := 33) (np := 0) (as := []) (rest := []) dX2_isFree_33 ht (q := (RX6, TX6, 9)) rfl (c_X6_isInDock (by decide) r116 h117) rfl rfl q837 q367 q368 rfl (by decide) (zkI (fun x133 h134 => ?_)) zxo
        refine s_if_eq (pc := 36) (tgt := 52) dX2_isFree_36 (by decide) (fun _ => ?_) (fun _ => ?_)
        · exact s_sub (pc := 52) [1, 2] rfl (w_X2_isFree_52 (f_X2_isFree_13 n) ih a1 a2 h134)
        · refine s_aload_n (pc := 39) 0 dX2_isFree_39 rfl rfl ?_
          refine s_gR (pc := 40) dX2_isFree_40 gf_X2_144 (fun r135 => ?_)
          refine s_aload_n (pc := 43) 1 dX2_isFree_43 rfl rfl ?_
          refine zS_ite (fun ht => ?_) (fun _ => zS_none)
          refine s_callV (pc := 44) (np := 1) (as := [va_rf a1]) (rest := []) dX2_isFree_44 ht (q := (RX3, TX3, 2)) rfl (c_X3_overlaps (by decide) r135 a1 h134) rfl rfl q2479 q2480 q2481 rfl (by decide) (zkI (fun x136 h137 => ?_)) zxo
          refine s_if_eq (pc := 47) (tgt := 52) dX2_isFree_47 (by decide) (fun _ => ?_) (fun _ => ?_)
          · exact s_sub (pc := 52) [1, 2] rfl (w_X2_isFree_52 (f_X2_isFree_13 n) ih a1 a2 h137)
          · refine s_iconst (pc := 50) (v := 0) dX2_isFree_50 (by decide) ?_
            exact s_nret (pc := 51) dX2_isFree_51 rfl
      refine zS_ite (fun ht => ?_) (fun _ => zS_none)
      refine s_callF (pc := 23) (np := 0) (as := []) (rest := []) dX2_isFree_23 ht (q := (RJ22, TJ22, 5)) rfl (c_J22_next (by decide) a2 h7) ⟨_, _, _, q832⟩ rfl rfl q670 (by decide +kernel) q830 q828 rfl (by decide) (zkR (fun r116 h117 => ?_)) zxo
      refine s_cast (pc := 28) dX2_isFree_28 q836 zcs_FloatingDock_Ship ?_
      refine s_ast_n (pc := 31) (L2 := [(1, va_rf a1), (2, va_rf a2)]) [0, 1] dX2_isFree_31 rfl (by decide) rfl rfl (zcB (j := 1) rfl (zcat_rf a2) rfl) ?_
      refine s_aload_n (pc := 32) 0 dX2_isFree_32 rfl rfl ?_
      refine zS_ite (fun ht => ?_) (fun _ => zS_none)
      refine s_callV (pc := 33) (np := 0) (as := []) (rest := []) dX2_isFree_33 ht (q := (RX6, TX6, 9)) rfl (c_X6_isInDock (by decide) r116 h117) rfl rfl q837 q367 q368 rfl (by decide) (zkI (fun x138 h139 => ?_)) zxo
      refine s_if_eq (pc := 36) (tgt := 52) dX2_isFree_36 (by decide) (fun _ => ?_) (fun _ => ?_)
      · exact s_sub (pc := 52) [1, 2] rfl (w_X2_isFree_52 (f_X2_isFree_13 n) ih a1 a2 h139)
      · refine s_aload_n (pc := 39) 0 dX2_isFree_39 rfl rfl ?_
        refine s_gR (pc := 40) dX2_isFree_40 gf_X2_144 (fun r140 => ?_)
        refine s_aload_n (pc := 43) 1 dX2_isFree_43 rfl rfl ?_
        refine zS_ite (fun ht => ?_) (fun _ => zS_none)
        refine s_callV (pc := 44) (np := 1) (as := [va_rf a1]) (rest := []) dX2_isFree_44 ht (q := (RX3, TX3, 2)) rfl (c_X3_overlaps (by decide) r140 a1 h139) rfl rfl q2479 q2480 q2481 rfl (by decide) (zkI (fun x141 h142 => ?_)) zxo
        refine s_if_eq (pc := 47) (tgt := 52) dX2_isFree_47 (by decide) (fun _ => ?_) (fun _ => ?_)
        · exact s_sub (pc := 52) [1, 2] rfl (w_X2_isFree_52 (f_X2_isFree_13 n) ih a1 a2 h142)
        · refine s_iconst (pc := 50) (v := 0) dX2_isFree_50 (by decide) ?_
          exact s_nret (pc := 51) dX2_isFree_51 rfl
theorem w_X2_isFree (v0 : Option Nat) (v1 : Option Nat) (h : zH) : zS D z yX2_isFree cX2_isFree 4 (some .boolean) [] 10 h 0 [(0, va_rf v0), (1, va_rf v1)] [] (f_X2_isFree v0 v1 h) := by
  unfold f_X2_isFree
  refine s_aload_n (pc := 0) 0 dX2_isFree_0 rfl rfl ?_
  refine s_gR (pc := 1) dX2_isFree_1 gf_X2_12 (fun r1 => ?_)
  refine zS_ite (fun ht => ?_) (fun _ => zS_none)
  refine s_callV (pc := 4) (np := 0) (as := []) (rest := []) dX2_isFree_4 ht (q := (RJ2, TJ2, 12)) rfl (c_J2_values (by decide) r1 h) rfl rfl q413 q414 q415 rfl (by decide) (zkR (fun r2 h3 => ?_)) zxo
  refine zS_ite (fun ht => ?_) (fun _ => zS_none)
  refine s_callF (pc := 7) (np := 0) (as := []) (rest := []) dX2_isFree_7 ht (q := (RJ13, TJ13, 2)) rfl (c_J13_iterator (by decide) r2 h3) ⟨_, _, _, q615⟩ rfl rfl q436 (by decide +kernel) q613 q611 rfl (by decide) (zkR (fun r4 h5 => ?_)) zxo
  refine s_ast_n (pc := 12) (L2 := [(1, va_rf v1)]) [1] dX2_isFree_12 rfl (by decide) rfl rfl (zcB (j := 0) rfl (zcat_rf v1) rfl) ?_
  exact s_sub (pc := 13) [1, 0] rfl (w_X2_isFree_13 zfuel v1 r4 h5)
theorem c_X2_isFree {d0 : Nat} (hd0 : 10 < d0) (v0 : Option Nat) (v1 : Option Nat) (h : zH) : zCal D z d0 h yX2_isFree [va_rf v0, va_rf v1] (f_X2_isFree v0 v1 h) :=
  ⟨cX2_isFree, 4, (some .boolean), [], 10, (show lv_args 0 [va_rf v0, va_rf v1] = [(0, va_rf v0), (1, va_rf v1)] by simp [lv_args, zcat_rf, zcat_i, zcat_l, zcat_f, zcat_d]) ▸ w_X2_isFree v0 v1 h, (plainFor_of_name (by decide)), by simp [lg_sl, zcat_rf, zcat_i, zcat_l, zcat_f, zcat_d], q2478, q96, hd0, by decide, by decide⟩
end WW1
