set_option maxRecDepth 100000
theorem gf_X11_11 : zFg RX11 11 [10] 0 := ⟨_, _, _, .inl q2898, ztc ⟨_, rfl, by decide, rfl, rfl, .inl rfl, in_X11⟩ (zt0)⟩
theorem gf_X11_17 : zFg RX11 17 [10] 1 := ⟨_, _, _, .inl q2899, ztc ⟨_, rfl, by decide, rfl, rfl, .inl rfl, in_X11⟩ (zt0)⟩
theorem zcs_FloatingDock_Operation : zcs "FloatingDock$Operation" [307, 308, 309, 310, 311, 312, 313, 314, 315, 316, 317, 318, 319, 320, 321, 322, 323, 324, 325, 326, 327, 328, 329] := ztc (Or.inr ⟨by decide, rfl⟩) (ztc (Or.inr ⟨by decide, rfl⟩) (ztc (Or.inr ⟨by decide, rfl⟩) (ztc (Or.inr ⟨by decide, rfl⟩) (ztc (Or.inr ⟨by decide, rfl⟩) (ztc (Or.inr ⟨by decide, rfl⟩) (ztc (Or.inr ⟨by decide, rfl⟩) (ztc (Or.inr ⟨by decide, rfl⟩) (ztc (Or.inr ⟨by decide, rfl⟩) (ztc (Or.inr ⟨by decide, rfl⟩) (ztc (Or.inr ⟨by decide, rfl⟩) (ztc (Or.inr ⟨by decide, rfl⟩) (ztc (Or.inr ⟨by decide, rfl⟩) (ztc (Or.inr ⟨by decide, rfl⟩) (ztc (Or.inr ⟨by decide, rfl⟩) (ztc (Or.inr ⟨by decide, rfl⟩) (ztc (Or.inr ⟨by decide, rfl⟩) (ztc (Or.inr ⟨by decide, rfl⟩) (ztc (Or.inr ⟨by decide, rfl⟩) (ztc (Or.inr ⟨by decide, rfl⟩) (ztc (Or.inr ⟨by decide, rfl⟩) (ztc (Or.inr ⟨by decide, rfl⟩) (ztc (Or.inr ⟨by decide, rfl⟩) (zt0)))))))))))))))))))))))
theorem pf_X11_17 {nm : String} : zFp RX11 17 [10] 1 nm (.int) := ⟨_, _, _, .inl q2899, by decide +kernel, ztc ⟨_, tyX11, rfl, by decide, rfl, rfl, .inl rfl, in_X11, tyX11_ok, nmX11, .inl rfl⟩ (zt0)⟩
theorem nf_X10_151 : zFn RX10 151 10 [.null, .int 0] := ⟨_, tyX11, rfl, q2890, q2891, q154, in_X11, tyX11_ok, rfl⟩
theorem gf_X1_286 : zFg RX1 286 [10] 1 := ⟨_, _, _, .inr ⟨_, q2900⟩, ztc ⟨_, rfl, by decide, rfl, rfl, .inl rfl, in_X11⟩ (zt0)⟩
theorem pf_X1_58 {nm : String} : zFp RX1 58 [0] 9 nm (.int) := ⟨_, _, _, .inl q1392, by decide +kernel, ztc ⟨_, tyX1, rfl, by decide, rfl, rfl, .inl rfl, in_X1, tyX1_ok, nmX1, .inl rfl⟩ (zt0)⟩
theorem pf_J7_73 {nm : String} : zFp RJ7 73 [16] 2 nm (.boolean) := ⟨_, _, _, .inl q344, by decide +kernel, ztc ⟨_, tyJ8, rfl, by decide, rfl, rfl, .inl rfl, in_J8, tyJ8_ok, nmJ8, .inl rfl⟩ (zt0)⟩
theorem nf_X1_293 : zFn RX1 293 9 [.int 0, .null] := ⟨_, tyX10, rfl, q2873, q2874, q153, in_X10, tyX10_ok, rfl⟩
theorem gf_X1_311 : zFg RX1 311 [11] 6 := ⟨_, _, _, .inr ⟨_, q2970⟩, ztc ⟨_, rfl, by decide, rfl, rfl, .inl rfl, in_X12⟩ (zt0)⟩
theorem pf_X1_54 {nm : String} : zFp RX1 54 [0] 8 nm (.int) := ⟨_, _, _, .inl q1391, by decide +kernel, ztc ⟨_, tyX1, rfl, by decide, rfl, rfl, .inl rfl, in_X1, tyX1_ok, nmX1, .inl rfl⟩ (zt0)⟩
theorem gf_X1_54 : zFg RX1 54 [0] 8 := ⟨_, _, _, .inl q1391, ztc ⟨_, rfl, by decide, rfl, rfl, .inl rfl, in_X1⟩ (zt0)⟩
theorem gf_X1_58 : zFg RX1 58 [0] 9 := ⟨_, _, _, .inl q1392, ztc ⟨_, rfl, by decide, rfl, rfl, .inl rfl, in_X1⟩ (zt0)⟩
theorem nf_X6_60 : zFn RX6 60 16 [.null, .int 0, .int 0, .int 0] := ⟨_, tyJ8, rfl, q3146, q325, q105, in_J8, tyJ8_ok, rfl⟩
theorem pf_X1_50 {nm : String} : zFp RX1 50 [0] 7 nm (.object "java/lang/String") := ⟨_, _, _, .inl q1390, by decide +kernel, ztc ⟨_, tyX1, rfl, by decide, rfl, rfl, .inl rfl, in_X1, tyX1_ok, nmX1, .inl rfl⟩ (zt0)⟩
theorem gf_X1_50 : zFg RX1 50 [0] 7 := ⟨_, _, _, .inl q1390, ztc ⟨_, rfl, by decide, rfl, rfl, .inl rfl, in_X1⟩ (zt0)⟩
theorem xf_X2_354_356 : zFx RX2 354 356 35 := ⟨RJ47, ["java/lang/RuntimeException", "java/lang/Exception"], TJ47, rfl, by decide +kernel, by decide +kernel, q3195, q157, by decide, lw_in _ [123, 729, 738, 749, 752, 754, 730, 731, 164, 165, 732, 737, 750, 767, 719, 768, 721, 769, 723, 733, 735, 725, 3197, 3198, 3199, 759, 759, 760, 761, 762, 762, 763, 764, 730, 3196, 3168, 3180, 742, 3174, 3175, 3177, 3173, 728, 727, 3172] (by decide +kernel) (by decide +kernel), zin_tbl _ [710, 712, 714, 3179] (by decide +kernel) (by decide +kernel), List.all_eq_true.mp (by decide +kernel)⟩
theorem gf_X1_351 : zFg RX1 351 [0] 4 := ⟨_, _, _, .inl q1386, ztc ⟨_, rfl, by decide, rfl, rfl, .inl rfl, in_X1⟩ (zt0)⟩
theorem gf_X1_151 : zFg RX1 151 [1] 0 := ⟨_, _, _, .inr ⟨_, q268⟩, ztc ⟨_, rfl, by decide, rfl, rfl, .inl rfl, in_X2⟩ (zt0)⟩
theorem pf_J6_3 {nm : String} : zFp RJ6 3 [15] 0 nm (.array (.object "java/lang/Object")) := ⟨_, _, _, .inl q312, by decide +kernel, ztc ⟨_, tyJ6, rfl, by decide, rfl, rfl, .inl rfl, in_J6, tyJ6_ok, nmJ6, .inl rfl⟩ (zt0)⟩
theorem pf_X1_9 : zFp RX1 9 [0] 0 "<init>" (.array (.object "FloatingDock$Charge")) := ⟨_, _, _, .inl q1381, by decide +kernel, ztc ⟨_, tyX1, rfl, by decide, rfl, rfl, .inl rfl, in_X1, tyX1_ok, nmX1, .inr ⟨rfl, rfl, rfl, q1381⟩⟩ (zt0)⟩
theorem pf_X1_17 : zFp RX1 17 [0] 1 "<init>" (.array (.object "FloatingDock$GapFinder")) := ⟨_, _, _, .inl q1383, by decide +kernel, ztc ⟨_, tyX1, rfl, by decide, rfl, rfl, .inl rfl, in_X1, tyX1_ok, nmX1, .inr ⟨rfl, rfl, rfl, q1383⟩⟩ (zt0)⟩
theorem pf_X1_23 : zFp RX1 23 [0] 2 "<init>" (.array (.object "FloatingDock$Packer")) := ⟨_, _, _, .inl q1384, by decide +kernel, ztc ⟨_, tyX1, rfl, by decide, rfl, rfl, .inl rfl, in_X1, tyX1_ok, nmX1, .inr ⟨rfl, rfl, rfl, q1384⟩⟩ (zt0)⟩
theorem nf_X1_34 : zFn RX1 34 15 [.null, .int 0, .int 0] := ⟨_, tyJ6, rfl, q304, q305, q103, in_J6, tyJ6_ok, rfl⟩
theorem pf_X1_37 : zFp RX1 37 [0] 5 "<init>" (.object "java/util/ArrayDeque") := ⟨_, _, _, .inl q1387, by decide +kernel, ztc ⟨_, tyX1, rfl, by decide, rfl, rfl, .inl rfl, in_X1, tyX1_ok, nmX1, .inr ⟨rfl, rfl, rfl, q1387⟩⟩ (zt0)⟩
theorem nf_X1_41 : zFn RX1 41 16 [.null, .int 0, .int 0, .int 0] := ⟨_, tyJ8, rfl, q324, q325, q105, in_J8, tyJ8_ok, rfl⟩
theorem pf_X1_44 : zFp RX1 44 [0] 6 "<init>" (.object "java/lang/StringBuilder") := ⟨_, _, _, .inl q1388, by decide +kernel, ztc ⟨_, tyX1, rfl, by decide, rfl, rfl, .inl rfl, in_X1, tyX1_ok, nmX1, .inr ⟨rfl, rfl, rfl, q1388⟩⟩ (zt0)⟩
theorem zcs_FloatingDock_Charge : zcs "FloatingDock$Charge" [300, 301, 302] := ztc (Or.inr ⟨by decide, rfl⟩) (ztc (Or.inr ⟨by decide, rfl⟩) (ztc (Or.inr ⟨by decide, rfl⟩) (zt0)))
theorem zcs_FloatingDock_GapFinder : zcs "FloatingDock$GapFinder" [303, 304] := ztc (Or.inr ⟨by decide, rfl⟩) (ztc (Or.inr ⟨by decide, rfl⟩) (zt0))
theorem gf_X1_23 : zFg RX1 23 [0] 2 := ⟨_, _, _, .inl q1384, ztc ⟨_, rfl, by decide, rfl, rfl, .inl rfl, in_X1⟩ (zt0)⟩
theorem zcs_FloatingDock_Packer : zcs "FloatingDock$Packer" [305, 306] := ztc (Or.inr ⟨by decide, rfl⟩) (ztc (Or.inr ⟨by decide, rfl⟩) (zt0))
section WW7
variable {D : va_G} {z : Nat}
theorem w_X10_behind (v0 : Option Nat) (v1 : Int32) (h : zH) : zS D z yX10_behind cX10_behind 2 (some .int) [] 7 h 0 [(0, va_rf v0), (1, .int v1)] [] (f_X10_behind v0 v1 h) := by
  unfold f_X10_behind
  refine s_aload_n (pc := 0) 0 dX10_behind_0 rfl rfl ?_
  refine s_aload_n (pc := 1) 0 dX10_behind_1 rfl rfl ?_
  refine s_iload_n (pc := 2) 1 dX10_behind_2 rfl rfl ?_
  refine zS_ite (fun ht => ?_) (fun _ => zS_none)
  refine s_callV (pc := 3) (np := 1) (as := [.int v1]) (rest := [va_rf v0]) dX10_behind_3 ht (q := (RX10, TX10, 2)) rfl (c_X10_accept (by decide) v0 v1 h) rfl rfl q2998 q3000 qs36 rfl (by simp [zcat_rf, zcat_i, zcat_l, zcat_f, zcat_d]) (zkI (fun x1 h2 => ?_)) zxo
  refine zS_ite (fun ht => ?_) (fun _ => zS_none)
  refine s_callV (pc := 6) (np := 1) (as := [.int x1]) (rest := []) dX10_behind_6 ht (q := (RX10, TX10, 2)) rfl (c_X10_require (by decide) v0 x1 h2) rfl rfl q2990 q2992 qs34 rfl (by decide) (zkV (fun h3 => ?_)) zxo
  refine s_aload_n (pc := 9) 0 dX10_behind_9 rfl rfl ?_
  refine zS_ite (fun ht => ?_) (fun _ => zS_none)
  refine s_callV (pc := 10) (np := 0) (as := []) (rest := []) dX10_behind_10 ht (q := (RX10, TX10, 2)) rfl (c_X10_number (by decide) v0 h3) rfl rfl q2981 q2983 qs32 rfl (by decide) (zkI (fun x4 h5 => ?_)) zxo
  exact s_iret (pc := 13) dX10_behind_13 rfl
theorem c_X10_behind {d0 : Nat} (hd0 : 7 < d0) (v0 : Option Nat) (v1 : Int32) (h : zH) : zCal D z d0 h yX10_behind [va_rf v0, .int v1] (f_X10_behind v0 v1 h) :=
  ⟨cX10_behind, 2, (some .int), [], 7, (show lv_args 0 [va_rf v0, .int v1] = [(0, va_rf v0), (1, .int v1)] by simp [lv_args, zcat_rf, zcat_i, zcat_l, zcat_f, zcat_d]) ▸ w_X10_behind v0 v1 h, (plainFor_of_name (by decide)), by simp [lg_sl, zcat_rf, zcat_i, zcat_l, zcat_f, zcat_d], q2997, q153, hd0, by decide, by decide⟩
theorem w_X10_shipOperation (v0 : Option Nat) (h : zH) : zS D z yX10_shipOperation cX10_shipOperation 4 (some (.object "FloatingDock$Operation")) [] 50 h 0 [(0, va_rf v0)] [] (f_X10_shipOperation v0 h) := by
  unfold f_X10_shipOperation
  refine s_aload_n (pc := 0) 0 dX10_shipOperation_0 rfl rfl ?_
  refine zS_ite (fun ht => ?_) (fun _ => zS_none)
  refine s_callV (pc := 1) (np := 0) (as := []) (rest := []) dX10_shipOperation_1 ht (q := (RX10, TX10, 2)) rfl (c_X10_number (by decide) v0 h) rfl rfl q2981 q2983 qs32 rfl (by decide) (zkI (fun x1 h2 => ?_)) zxo
  refine s_ist_n (pc := 4) (L2 := [(0, va_rf v0)]) [0] dX10_shipOperation_4 rfl (by decide) rfl rfl (zcB (j := 0) rfl (zcat_rf v0) rfl) ?_
  refine s_aload_n (pc := 5) 1 dX10_shipOperation_5 rfl rfl ?_
  refine s_bipush (pc := 6) (v := 32) dX10_shipOperation_6 (by decide) ?_
  refine zS_ite (fun ht => ?_) (fun _ => zS_none)
  refine s_callV (pc := 8) (np := 1) (as := [.int 32]) (rest := []) dX10_shipOperation_8 ht (q := (RX10, TX10, 2)) rfl (c_X10_behind (by decide) v0 32 h2) rfl rfl q2994 q2996 qs35 rfl (by decide) (zkI (fun x3 h4 => ?_)) zxo
  refine s_ist_n (pc := 11) (L2 := [(1, .int x1), (0, va_rf v0)]) [0, 1] dX10_shipOperation_11 rfl (by decide) rfl rfl (zcB (j := 0) rfl rfl rfl) ?_
  refine s_aload_n (pc := 12) 2 dX10_shipOperation_12 rfl rfl ?_
  refine s_bipush (pc := 13) (v := 32) dX10_shipOperation_13 (by decide) ?_
  refine zS_ite (fun ht => ?_) (fun _ => zS_none)
  refine s_callV (pc := 15) (np := 1) (as := [.int 32]) (rest := []) dX10_shipOperation_15 ht (q := (RX10, TX10, 2)) rfl (c_X10_behind (by decide) v0 32 h4) rfl rfl q2994 q2996 qs35 rfl (by decide) (zkI (fun x5 h6 => ?_)) zxo
  refine s_ist_n (pc := 18) (L2 := [(2, .int x3), (1, .int x1)]) [0, 1] dX10_shipOperation_18 rfl (by decide) rfl rfl (zcB (j := 0) rfl rfl rfl) ?_
  refine s_iload_n (pc := 19) 2 dX10_shipOperation_19 rfl rfl ?_
  refine s_iload_n (pc := 20) 1 dX10_shipOperation_20 rfl rfl ?_
  refine s_iload_n (pc := 21) 0 dX10_shipOperation_21 rfl rfl ?_
  refine s_lamM (pc := 22) (t := 318) (q := zSh siteWord_1_19) (vals := [.int x1, .int x3, .int x5]) (rest := []) dX10_shipOperation_22 rfl rfl rfl rfl rfl rfl zk_18 ⟨zok_i _, ⟨zok_i _, ⟨zok_i _, trivial⟩⟩⟩ rfl (by simp [zcat_rf, zcat_i, zcat_l, zcat_f, zcat_d]) (by decide) (fun r7 h8 => ?_)
  exact s_aret (pc := 27) dX10_shipOperation_27 rfl (Or.inl ⟨_, rfl⟩)
theorem c_X10_shipOperation {d0 : Nat} (hd0 : 50 < d0) (v0 : Option Nat) (h : zH) : zCal D z d0 h yX10_shipOperation [va_rf v0] (f_X10_shipOperation v0 h) :=
  ⟨cX10_shipOperation, 4, (some (.object "FloatingDock$Operation")), [], 50, (show lv_args 0 [va_rf v0] = [(0, va_rf v0)] by simp [lv_args, zcat_rf, zcat_i, zcat_l, zcat_f, zcat_d]) ▸ w_X10_shipOperation v0 h, (plainFor_of_name (by decide)), by simp [lg_sl, zcat_rf, zcat_i, zcat_l, zcat_f, zcat_d], q2980, q153, hd0, by decide, by decide⟩
theorem w_X10_enterOperation (v0 : Option Nat) (h : zH) : zS D z yX10_enterOperation cX10_enterOperation 3 (some (.object "FloatingDock$Operation")) [] 50 h 0 [(0, va_rf v0)] [] (f_X10_enterOperation v0 h) := by
  unfold f_X10_enterOperation
  refine s_aload_n (pc := 0) 0 dX10_enterOperation_0 rfl rfl ?_
  refine zS_ite (fun ht => ?_) (fun _ => zS_none)
  refine s_callV (pc := 1) (np := 0) (as := []) (rest := []) dX10_enterOperation_1 ht (q := (RX10, TX10, 2)) rfl (c_X10_number (by decide) v0 h) rfl rfl q2981 q2983 qs32 rfl (by decide) (zkI (fun x1 h2 => ?_)) zxo
  refine s_ist_n (pc := 4) (L2 := [(0, va_rf v0)]) [0] dX10_enterOperation_4 rfl (by decide) rfl rfl (zcB (j := 0) rfl (zcat_rf v0) rfl) ?_
  refine s_aload_n (pc := 5) 1 dX10_enterOperation_5 rfl rfl ?_
  refine s_bipush (pc := 6) (v := 64) dX10_enterOperation_6 (by decide) ?_
  refine zS_ite (fun ht => ?_) (fun _ => zS_none)
  refine s_callV (pc := 8) (np := 1) (as := [.int 64]) (rest := []) dX10_enterOperation_8 ht (q := (RX10, TX10, 2)) rfl (c_X10_behind (by decide) v0 64 h2) rfl rfl q2994 q2996 qs35 rfl (by decide) (zkI (fun x3 h4 => ?_)) zxo
  refine s_ist_n (pc := 11) (L2 := [(1, .int x1)]) [0] dX10_enterOperation_11 rfl (by decide) rfl rfl (zcB (j := 0) rfl rfl rfl) ?_
  refine s_iload_n (pc := 12) 1 dX10_enterOperation_12 rfl rfl ?_
  refine s_iload_n (pc := 13) 0 dX10_enterOperation_13 rfl rfl ?_
  refine s_lamM (pc := 14) (t := 319) (q := zSh siteWord_1_20) (vals := [.int x1, .int x3]) (rest := []) dX10_enterOperation_14 rfl rfl rfl rfl rfl rfl zk_19 ⟨zok_i _, ⟨zok_i _, trivial⟩⟩ rfl (by simp [zcat_rf, zcat_i, zcat_l, zcat_f, zcat_d]) (by decide) (fun r5 h6 => ?_)
  exact s_aret (pc := 19) dX10_enterOperation_19 rfl (Or.inl ⟨_, rfl⟩)
theorem c_X10_enterOperation {d0 : Nat} (hd0 : 50 < d0) (v0 : Option Nat) (h : zH) : zCal D z d0 h yX10_enterOperation [va_rf v0] (f_X10_enterOperation v0 h) :=
  ⟨cX10_enterOperation, 3, (some (.object "FloatingDock$Operation")), [], 50, (show lv_args 0 [va_rf v0] = [(0, va_rf v0)] by simp [lv_args, zcat_rf, zcat_i, zcat_l, zcat_f, zcat_d]) ▸ w_X10_enterOperation v0 h, (plainFor_of_name (by decide)), by simp [lg_sl, zcat_rf, zcat_i, zcat_l, zcat_f, zcat_d], q3008, q153, hd0, by decide, by decide⟩
theorem w_X10_payOperation (v0 : Option Nat) (h : zH) : zS D z yX10_payOperation cX10_payOperation 3 (some (.object "FloatingDock$Operation")) [] 50 h 0 [(0, va_rf v0)] [] (f_X10_payOperation v0 h) := by
  unfold f_X10_payOperation
  refine s_aload_n (pc := 0) 0 dX10_payOperation_0 rfl rfl ?_
  refine zS_ite (fun ht => ?_) (fun _ => zS_none)
  refine s_callV (pc := 1) (np := 0) (as := []) (rest := []) dX10_payOperation_1 ht (q := (RX10, TX10, 2)) rfl (c_X10_number (by decide) v0 h) rfl rfl q2981 q2983 qs32 rfl (by decide) (zkI (fun x1 h2 => ?_)) zxo
  refine s_ist_n (pc := 4) (L2 := [(0, va_rf v0)]) [0] dX10_payOperation_4 rfl (by decide) rfl rfl (zcB (j := 0) rfl (zcat_rf v0) rfl) ?_
  refine s_aload_n (pc := 5) 1 dX10_payOperation_5 rfl rfl ?_
  refine s_bipush (pc := 6) (v := 43) dX10_payOperation_6 (by decide) ?_
  refine zS_ite (fun ht => ?_) (fun _ => zS_none)
  refine s_callV (pc := 8) (np := 1) (as := [.int 43]) (rest := []) dX10_payOperation_8 ht (q := (RX10, TX10, 2)) rfl (c_X10_behind (by decide) v0 43 h2) rfl rfl q2994 q2996 qs35 rfl (by decide) (zkI (fun x3 h4 => ?_)) zxo
  refine s_ist_n (pc := 11) (L2 := [(1, .int x1)]) [0] dX10_payOperation_11 rfl (by decide) rfl rfl (zcB (j := 0) rfl rfl rfl) ?_
  refine s_iload_n (pc := 12) 1 dX10_payOperation_12 rfl rfl ?_
  refine s_iload_n (pc := 13) 0 dX10_payOperation_13 rfl rfl ?_
  refine s_lamM (pc := 14) (t := 320) (q := zSh siteWord_1_21) (vals := [.int x1, .int x3]) (rest := []) dX10_payOperation_14 rfl rfl rfl rfl rfl rfl zk_20 ⟨zok_i _, ⟨zok_i _, trivial⟩⟩ rfl (by simp [zcat_rf, zcat_i, zcat_l, zcat_f, zcat_d]) (by decide) (fun r5 h6 => ?_)
  exact s_aret (pc := 19) dX10_payOperation_19 rfl (Or.inl ⟨_, rfl⟩)
theorem c_X10_payOperation {d0 : Nat} (hd0 : 50 < d0) (v0 : Option Nat) (h : zH) : zCal D z d0 h yX10_payOperation [va_rf v0] (f_X10_payOperation v0 h) :=
  ⟨cX10_payOperation, 3, (some (.object "FloatingDock$Operation")), [], 50, (show lv_args 0 [va_rf v0] = [(0, va_rf v0)] by simp [lv_args, zcat_rf, zcat_i, zcat_l, zcat_f, zcat_d]) ▸ w_X10_payOperation v0 h, (plainFor_of_name (by decide)), by simp [lg_sl, zcat_rf, zcat_i, zcat_l, zcat_f, zcat_d], q3015, q153, hd0, by decide, by decide⟩
theorem w_X10_signed (v0 : Option Nat) (h : zH) : zS D z yX10_signed cX10_signed 1 (some .int) [] 7 h 0 [(0, va_rf v0)] [] (f_X10_signed v0 h) := by
  unfold f_X10_signed
  refine s_aload_n (pc := 0) 0 dX10_signed_0 rfl rfl ?_
  refine s_bipush (pc := 1) (v := 45) dX10_signed_1 (by decide) ?_
  refine zS_ite (fun ht => ?_) (fun _ => zS_none)
  refine s_callV (pc := 3) (np := 1) (as := [.int 45]) (rest := []) dX10_signed_3 ht (q := (RX10, TX10, 2)) rfl (c_X10_accept (by decide) v0 45 h) rfl rfl q2998 q3000 qs36 rfl (by decide) (zkI (fun x1 h2 => ?_)) zxo
  refine s_if_eq (pc := 6) (tgt := 17) dX10_signed_6 (by decide) (fun _ => ?_) (fun _ => ?_)
  · refine s_aload_n (pc := 17) 0 dX10_signed_17 rfl rfl ?_
    refine zS_ite (fun ht => ?_) (fun _ => zS_none)
    refine s_callV (pc := 18) (np := 0) (as := []) (rest := []) dX10_signed_18 ht (q := (RX10, TX10, 2)) rfl (c_X10_number (by decide) v0 h2) rfl rfl q2981 q2983 qs32 rfl (by decide) (zkI (fun x3 h4 => ?_)) zxo
    exact s_iret (pc := 21) dX10_signed_21 rfl
  · refine s_aload_n (pc := 9) 0 dX10_signed_9 rfl rfl ?_
    refine zS_ite (fun ht => ?_) (fun _ => zS_none)
    refine s_callV (pc := 10) (np := 0) (as := []) (rest := []) dX10_signed_10 ht (q := (RX10, TX10, 2)) rfl (c_X10_number (by decide) v0 h2) rfl rfl q2981 q2983 qs32 rfl (by decide) (zkI (fun x5 h6 => ?_)) zxo
    refine s_ineg (pc := 13) dX10_signed_13 ?_
    refine s_goto (pc := 14) (tgt := 21) dX10_signed_14 (by decide) ?_
    exact s_iret (pc := 21) dX10_signed_21 rfl
theorem c_X10_signed {d0 : Nat} (hd0 : 7 < d0) (v0 : Option Nat) (h : zH) : zCal D z d0 h yX10_signed [va_rf v0] (f_X10_signed v0 h) :=
  ⟨cX10_signed, 1, (some .int), [], 7, (show lv_args 0 [va_rf v0] = [(0, va_rf v0)] by simp [lv_args, zcat_rf, zcat_i, zcat_l, zcat_f, zcat_d]) ▸ w_X10_signed v0 h, (plainFor_of_name (by decide)), by simp [lg_sl, zcat_rf, zcat_i, zcat_l, zcat_f, zcat_d], q3026, q153, hd0, by decide, by decide⟩
theorem w_X10_pumpOperation (v0 : Option Nat) (h : zH) : zS D z yX10_pumpOperation cX10_pumpOperation 2 (some (.object "FloatingDock$Operation")) [] 50 h 0 [(0, va_rf v0)] [] (f_X10_pumpOperation v0 h) := by
  unfold f_X10_pumpOperation
  refine s_aload_n (pc := 0) 0 dX10_pumpOperation_0 rfl rfl ?_
  refine zS_ite (fun ht => ?_) (fun _ => zS_none)
  refine s_callV (pc := 1) (np := 0) (as := []) (rest := []) dX10_pumpOperation_1 ht (q := (RX10, TX10, 2)) rfl (c_X10_signed (by decide) v0 h) rfl rfl q3023 q3025 qs40 rfl (by decide) (zkI (fun x1 h2 => ?_)) zxo
  refine s_ist_n (pc := 4) (L2 := []) [] dX10_pumpOperation_4 rfl (by decide) rfl rfl (zcA rfl) ?_
  refine s_iload_n (pc := 5) 0 dX10_pumpOperation_5 rfl rfl ?_
  refine s_lamM (pc := 6) (t := 321) (q := zSh siteWord_1_22) (vals := [.int x1]) (rest := []) dX10_pumpOperation_6 rfl rfl rfl rfl rfl rfl zk_21 ⟨zok_i _, trivial⟩ rfl (by simp [zcat_rf, zcat_i, zcat_l, zcat_f, zcat_d]) (by decide) (fun r3 h4 => ?_)
  exact s_aret (pc := 11) dX10_pumpOperation_11 rfl (Or.inl ⟨_, rfl⟩)
theorem c_X10_pumpOperation {d0 : Nat} (hd0 : 50 < d0) (v0 : Option Nat) (h : zH) : zCal D z d0 h yX10_pumpOperation [va_rf v0] (f_X10_pumpOperation v0 h) :=
  ⟨cX10_pumpOperation, 2, (some (.object "FloatingDock$Operation")), [], 50, (show lv_args 0 [va_rf v0] = [(0, va_rf v0)] by simp [lv_args, zcat_rf, zcat_i, zcat_l, zcat_f, zcat_d]) ▸ w_X10_pumpOperation v0 h, (plainFor_of_name (by decide)), by simp [lg_sl, zcat_rf, zcat_i, zcat_l, zcat_f, zcat_d], q3022, q153, hd0, by decide, by decide⟩
theorem w_X10_numberOperation_136 (a0 : Option Nat) (a2 : Int32) (a4 : Int32) (h : zH) : zS D z yX10_numberOperation cX10_numberOperation 5 (some (.object "FloatingDock$Operation")) [] 50 h 136 [(0, va_rf a0), (2, .int a2), (4, .int a4)] [] (f_X10_numberOperation_136 a0 a2 a4 h) := by
  unfold f_X10_numberOperation_136
  refine s_iload (pc := 136) 2 dX10_numberOperation_136 rfl ?_
  refine zS_ite (fun hx => ?_) (fun hx0 => ?_)
  · refine s_tabIn (pc := 138) (tgt := 172) (v := 0) dX10_numberOperation_138 hx (by decide) (by decide) rfl (by decide) ?_
    refine s_iload_n (pc := 172) 1 dX10_numberOperation_172 rfl rfl ?_
    refine s_lamM (pc := 173) (t := 324) (q := zSh siteWord_1_25) (vals := [.int a2]) (rest := []) dX10_numberOperation_173 rfl rfl rfl rfl rfl rfl zk_24 ⟨zok_i _, trivial⟩ rfl (by simp [zcat_rf, zcat_i, zcat_l, zcat_f, zcat_d]) (by decide) (fun r15 h16 => ?_)
    refine s_goto (pc := 178) (tgt := 224) dX10_numberOperation_178 (by decide) ?_
    exact s_aret (pc := 224) dX10_numberOperation_224 rfl (Or.inl ⟨_, rfl⟩)
  refine zS_ite (fun hx => ?_) (fun hx1 => ?_)
  · refine s_tabIn (pc := 138) (tgt := 181) (v := 1) dX10_numberOperation_138 hx (by decide) (by decide) rfl (by decide) ?_
    refine s_iload_n (pc := 181) 1 dX10_numberOperation_181 rfl rfl ?_
    refine s_lamM (pc := 182) (t := 325) (q := zSh siteWord_1_26) (vals := [.int a2]) (rest := []) dX10_numberOperation_182 rfl rfl rfl rfl rfl rfl zk_25 ⟨zok_i _, trivial⟩ rfl (by simp [zcat_rf, zcat_i, zcat_l, zcat_f, zcat_d]) (by decide) (fun r17 h18 => ?_)
    refine s_goto (pc := 187) (tgt := 224) dX10_numberOperation_187 (by decide) ?_
    exact s_aret (pc := 224) dX10_numberOperation_224 rfl (Or.inl ⟨_, rfl⟩)
  refine zS_ite (fun hx => ?_) (fun hx2 => ?_)
  · refine s_tabIn (pc := 138) (tgt := 190) (v := 2) dX10_numberOperation_138 hx (by decide) (by decide) rfl (by decide) ?_
    refine s_iload_n (pc := 190) 1 dX10_numberOperation_190 rfl rfl ?_
    refine s_lamM (pc := 191) (t := 326) (q := zSh siteWord_1_27) (vals := [.int a2]) (rest := []) dX10_numberOperation_191 rfl rfl rfl rfl rfl rfl zk_26 ⟨zok_i _, trivial⟩ rfl (by simp [zcat_rf, zcat_i, zcat_l, zcat_f, zcat_d]) (by decide) (fun r19 h20 => ?_)
    refine s_goto (pc := 196) (tgt := 224) dX10_numberOperation_196 (by decide) ?_
    exact s_aret (pc := 224) dX10_numberOperation_224 rfl (Or.inl ⟨_, rfl⟩)
  refine zS_ite (fun hx => ?_) (fun hx3 => ?_)
  · refine s_tabIn (pc := 138) (tgt := 199) (v := 3) dX10_numberOperation_138 hx (by decide) (by decide) rfl (by decide) ?_
    refine s_aload_n (pc := 199) 0 dX10_numberOperation_199 rfl rfl ?_
    refine s_iload_n (pc := 200) 1 dX10_numberOperation_200 rfl rfl ?_
    refine s_lamM (pc := 201) (t := 327) (q := zSh siteWord_1_28) (vals := [va_rf a0, .int a2]) (rest := []) dX10_numberOperation_201 rfl rfl rfl rfl rfl rfl zk_27 ⟨zok_o _ _, ⟨zok_i _, trivial⟩⟩ rfl (by simp [zcat_rf, zcat_i, zcat_l, zcat_f, zcat_d]) (by decide) (fun r21 h22 => ?_)
    refine s_goto (pc := 206) (tgt := 224) dX10_numberOperation_206 (by decide) ?_
    exact s_aret (pc := 224) dX10_numberOperation_224 rfl (Or.inl ⟨_, rfl⟩)
  refine zS_ite (fun hx => ?_) (fun hx4 => ?_)
  · refine s_tabIn (pc := 138) (tgt := 209) (v := 4) dX10_numberOperation_138 hx (by decide) (by decide) rfl (by decide) ?_
    refine s_iload_n (pc := 209) 1 dX10_numberOperation_209 rfl rfl ?_
    refine s_lamM (pc := 210) (t := 328) (q := zSh siteWord_1_29) (vals := [.int a2]) (rest := []) dX10_numberOperation_210 rfl rfl rfl rfl rfl rfl zk_28 ⟨zok_i _, trivial⟩ rfl (by simp [zcat_rf, zcat_i, zcat_l, zcat_f, zcat_d]) (by decide) (fun r23 h24 => ?_)
    refine s_goto (pc := 215) (tgt := 224) dX10_numberOperation_215 (by decide) ?_
    exact s_aret (pc := 224) dX10_numberOperation_224 rfl (Or.inl ⟨_, rfl⟩)
  have hout : a4.toInt < 0 ∨ 4 < a4.toInt := by
    have q0 := lv_neT (a := 0) hx0 (by decide)
    have q1 := lv_neT (a := 1) hx1 (by decide)
    have q2 := lv_neT (a := 2) hx2 (by decide)
    have q3 := lv_neT (a := 3) hx3 (by decide)
    have q4 := lv_neT (a := 4) hx4 (by decide)
    omega
  refine s_tabOut (pc := 138) (tgt := 218) dX10_numberOperation_138 hout (by decide) ?_
  refine s_iload_n (pc := 218) 1 dX10_numberOperation_218 rfl rfl ?_
  refine s_lamM (pc := 219) (t := 329) (q := zSh siteWord_1_30) (vals := [.int a2]) (rest := []) dX10_numberOperation_219 rfl rfl rfl rfl rfl rfl zk_29 ⟨zok_i _, trivial⟩ rfl (by simp [zcat_rf, zcat_i, zcat_l, zcat_f, zcat_d]) (by decide) (fun r25 h26 => ?_)
  exact s_aret (pc := 224) dX10_numberOperation_224 rfl (Or.inl ⟨_, rfl⟩)
theorem w_X10_numberOperation (v0 : Option Nat) (v1 : Option Nat) (h : zH) : zS D z yX10_numberOperation cX10_numberOperation 5 (some (.object "FloatingDock$Operation")) [] 50 h 0 [(0, va_rf v0), (1, va_rf v1)] [] (f_X10_numberOperation v0 v1 h) := by
  unfold f_X10_numberOperation
  refine s_aload_n (pc := 0) 0 dX10_numberOperation_0 rfl rfl ?_
  refine zS_ite (fun ht => ?_) (fun _ => zS_none)
  refine s_callV (pc := 1) (np := 0) (as := []) (rest := []) dX10_numberOperation_1 ht (q := (RX10, TX10, 2)) rfl (c_X10_number (by decide) v0 h) rfl rfl q2981 q2983 qs32 rfl (by decide) (zkI (fun x1 h2 => ?_)) zxo
  refine s_ist_n (pc := 4) (L2 := [(0, va_rf v0), (1, va_rf v1)]) [0, 1] dX10_numberOperation_4 rfl (by decide) rfl rfl (zcB (j := 1) rfl (zcat_rf v1) rfl) ?_
  refine s_aload_n (pc := 5) 2 dX10_numberOperation_5 rfl rfl ?_
  refine s_ast_n (pc := 6) (L2 := [(2, .int x1), (0, va_rf v0)]) [0, 1] dX10_numberOperation_6 rfl (by decide) rfl rfl (zcB (j := 0) rfl rfl rfl) ?_
  refine s_iconst (pc := 7) (v := -1) dX10_numberOperation_7 (by decide) ?_
  refine s_ist (pc := 8) (L2 := [(3, va_rf v1), (2, .int x1), (0, va_rf v0)]) [0, 1, 2] dX10_numberOperation_8 (by decide) rfl rfl (zcB (j := 0) rfl (zcat_rf v1) rfl) ?_
  refine s_aload_n (pc := 10) 1 dX10_numberOperation_10 rfl rfl ?_
  refine zS_ite (fun ht => ?_) (fun _ => zS_none)
  refine s_callV (pc := 11) (np := 0) (as := []) (rest := []) dX10_numberOperation_11 ht (q := (RJ9, TJ9, 4)) rfl (c_J9_hashCode (by decide) v1 h2) rfl rfl q2975 q1585 q3779 rfl (by decide) (zkI (fun x3 h4 => ?_)) zxo
  refine zS_ite (fun hx => ?_) (fun hx0 => ?_)
  · refine s_look (pc := 14) (tgt := 124) (off := 110) dX10_numberOperation_14 (by decide) (by rw [hx]; decide) (by decide) ?_
    refine s_aload_n (pc := 124) 1 dX10_numberOperation_124 rfl rfl ?_
    refine s_ldcS (pc := 125) (i := 22) (tx := "block ") dX10_numberOperation_125 (List.mem_of_getElem? (i := 12) rfl) ?_
    refine zS_ite (fun ht => ?_) (fun _ => zS_none)
    refine s_callV (pc := 127) (np := 1) (as := [va_rf (some (zG h4 22))]) (rest := []) dX10_numberOperation_127 ht (q := (RJ9, TJ9, 4)) rfl (c_J9_equals (by decide) v1 (some (zG h4 22)) h4) rfl rfl q2976 q1682 q3780 rfl (by decide) (zkI (fun x5 h6 => ?_)) zxo
    refine s_if_eq (pc := 130) (tgt := 136) dX10_numberOperation_130 (by decide) (fun _ => ?_) (fun _ => ?_)
    · exact s_sub (pc := 136) [3, 2, 0] rfl (w_X10_numberOperation_136 v0 x1 (-1) h6)
    · refine s_iconst (pc := 133) (v := 4) dX10_numberOperation_133 (by decide) ?_
      refine s_ist (pc := 134) (L2 := [(2, .int x1), (0, va_rf v0)]) [2, 3] dX10_numberOperation_134 (by decide) rfl rfl (zcA rfl) ?_
      exact s_sub (pc := 136) [2, 1, 0] rfl (w_X10_numberOperation_136 v0 x1 4 h6)
  refine zS_ite (fun hx => ?_) (fun hx1 => ?_)
  · refine s_look (pc := 14) (tgt := 79) (off := 65) dX10_numberOperation_14 (by decide) (by rw [hx]; decide) (by decide) ?_
    refine s_aload_n (pc := 79) 1 dX10_numberOperation_79 rfl rfl ?_
    refine s_ldcS (pc := 80) (i := 16) (tx := "clean ") dX10_numberOperation_80 (List.mem_of_getElem? (i := 6) rfl) ?_
    refine zS_ite (fun ht => ?_) (fun _ => zS_none)
    refine s_callV (pc := 82) (np := 1) (as := [va_rf (some (zG h4 16))]) (rest := []) dX10_numberOperation_82 ht (q := (RJ9, TJ9, 4)) rfl (c_J9_equals (by decide) v1 (some (zG h4 16)) h4) rfl rfl q2976 q1682 q3780 rfl (by decide) (zkI (fun x7 h8 => ?_)) zxo
    refine s_if_eq (pc := 85) (tgt := 136) dX10_numberOperation_85 (by decide) (fun _ => ?_) (fun _ => ?_)
    · exact s_sub (pc := 136) [3, 2, 0] rfl (w_X10_numberOperation_136 v0 x1 (-1) h8)
    · refine s_iconst (pc := 88) (v := 1) dX10_numberOperation_88 (by decide) ?_
      refine s_ist (pc := 89) (L2 := [(2, .int x1), (0, va_rf v0)]) [2, 3] dX10_numberOperation_89 (by decide) rfl rfl (zcA rfl) ?_
      refine s_goto (pc := 91) (tgt := 136) dX10_numberOperation_91 (by decide) ?_
      exact s_sub (pc := 136) [2, 1, 0] rfl (w_X10_numberOperation_136 v0 x1 1 h8)
  refine zS_ite (fun hx => ?_) (fun hx2 => ?_)
  · refine s_look (pc := 14) (tgt := 64) (off := 50) dX10_numberOperation_14 (by decide) (by rw [hx]; decide) (by decide) ?_
    refine s_aload_n (pc := 64) 1 dX10_numberOperation_64 rfl rfl ?_
    refine s_ldcS (pc := 65) (i := 15) (tx := "leave ") dX10_numberOperation_65 (List.mem_of_getElem? (i := 5) rfl) ?_
    refine zS_ite (fun ht => ?_) (fun _ => zS_none)
    refine s_callV (pc := 67) (np := 1) (as := [va_rf (some (zG h4 15))]) (rest := []) dX10_numberOperation_67 ht (q := (RJ9, TJ9, 4)) rfl (c_J9_equals (by decide) v1 (some (zG h4 15)) h4) rfl rfl q2976 q1682 q3780 rfl (by decide) (zkI (fun x9 h10 => ?_)) zxo
    refine s_if_eq (pc := 70) (tgt := 136) dX10_numberOperation_70 (by decide) (fun _ => ?_) (fun _ => ?_)
    · exact s_sub (pc := 136) [3, 2, 0] rfl (w_X10_numberOperation_136 v0 x1 (-1) h10)
    · refine s_iconst (pc := 73) (v := 0) dX10_numberOperation_73 (by decide) ?_
      refine s_ist (pc := 74) (L2 := [(2, .int x1), (0, va_rf v0)]) [2, 3] dX10_numberOperation_74 (by decide) rfl rfl (zcA rfl) ?_
      refine s_goto (pc := 76) (tgt := 136) dX10_numberOperation_76 (by decide) ?_
      exact s_sub (pc := 136) [2, 1, 0] rfl (w_X10_numberOperation_136 v0 x1 0 h10)
  refine zS_ite (fun hx => ?_) (fun hx3 => ?_)
  · refine s_look (pc := 14) (tgt := 109) (off := 95) dX10_numberOperation_14 (by decide) (by rw [hx]; decide) (by decide) ?_
    refine s_aload_n (pc := 109) 1 dX10_numberOperation_109 rfl rfl ?_
    refine s_ldcS (pc := 110) (i := 21) (tx := "pass ") dX10_numberOperation_110 (List.mem_of_getElem? (i := 11) rfl) ?_
    refine zS_ite (fun ht => ?_) (fun _ => zS_none)
    refine s_callV (pc := 112) (np := 1) (as := [va_rf (some (zG h4 21))]) (rest := []) dX10_numberOperation_112 ht (q := (RJ9, TJ9, 4)) rfl (c_J9_equals (by decide) v1 (some (zG h4 21)) h4) rfl rfl q2976 q1682 q3780 rfl (by decide) (zkI (fun x11 h12 => ?_)) zxo
    refine s_if_eq (pc := 115) (tgt := 136) dX10_numberOperation_115 (by decide) (fun _ => ?_) (fun _ => ?_)
    · exact s_sub (pc := 136) [3, 2, 0] rfl (w_X10_numberOperation_136 v0 x1 (-1) h12)
    · refine s_iconst (pc := 118) (v := 3) dX10_numberOperation_118 (by decide) ?_
      refine s_ist (pc := 119) (L2 := [(2, .int x1), (0, va_rf v0)]) [2, 3] dX10_numberOperation_119 (by decide) rfl rfl (zcA rfl) ?_
      refine s_goto (pc := 121) (tgt := 136) dX10_numberOperation_121 (by decide) ?_
      exact s_sub (pc := 136) [2, 1, 0] rfl (w_X10_numberOperation_136 v0 x1 3 h12)
  refine zS_ite (fun hx => ?_) (fun hx4 => ?_)
  · refine s_look (pc := 14) (tgt := 94) (off := 80) dX10_numberOperation_14 (by decide) (by rw [hx]; decide) (by decide) ?_
    refine s_aload_n (pc := 94) 1 dX10_numberOperation_94 rfl rfl ?_
    refine s_ldcS (pc := 95) (i := 17) (tx := "stop ") dX10_numberOperation_95 (List.mem_of_getElem? (i := 7) rfl) ?_
    refine zS_ite (fun ht => ?_) (fun _ => zS_none)
    refine s_callV (pc := 97) (np := 1) (as := [va_rf (some (zG h4 17))]) (rest := []) dX10_numberOperation_97 ht (q := (RJ9, TJ9, 4)) rfl (c_J9_equals (by decide) v1 (some (zG h4 17)) h4) rfl rfl q2976 q1682 q3780 rfl (by decide) (zkI (fun x13 h14 => ?_)) zxo
    refine s_if_eq (pc := 100) (tgt := 136) dX10_numberOperation_100 (by decide) (fun _ => ?_) (fun _ => ?_)
    · exact s_sub (pc := 136) [3, 2, 0] rfl (w_X10_numberOperation_136 v0 x1 (-1) h14)
    · refine s_iconst (pc := 103) (v := 2) dX10_numberOperation_103 (by decide) ?_
      refine s_ist (pc := 104) (L2 := [(2, .int x1), (0, va_rf v0)]) [2, 3] dX10_numberOperation_104 (by decide) rfl rfl (zcA rfl) ?_
      refine s_goto (pc := 106) (tgt := 136) dX10_numberOperation_106 (by decide) ?_
      exact s_sub (pc := 136) [2, 1, 0] rfl (w_X10_numberOperation_136 v0 x1 2 h14)
  refine s_look (pc := 14) (tgt := 136) (off := 122) dX10_numberOperation_14 (by decide) ((lv_osw hx0 (by decide)).trans ((lv_osw hx1 (by decide)).trans ((lv_osw hx2 (by decide)).trans ((lv_osw hx3 (by decide)).trans ((lv_osw hx4 (by decide)).trans (rfl)))))) (by decide) ?_
  exact s_sub (pc := 136) [3, 2, 0] rfl (w_X10_numberOperation_136 v0 x1 (-1) h4)
theorem c_X10_numberOperation {d0 : Nat} (hd0 : 50 < d0) (v0 : Option Nat) (v1 : Option Nat) (h : zH) : zCal D z d0 h yX10_numberOperation [va_rf v0, va_rf v1] (f_X10_numberOperation v0 v1 h) :=
  ⟨cX10_numberOperation, 5, (some (.object "FloatingDock$Operation")), [], 50, (show lv_args 0 [va_rf v0, va_rf v1] = [(0, va_rf v0), (1, va_rf v1)] by simp [lv_args, zcat_rf, zcat_i, zcat_l, zcat_f, zcat_d]) ▸ w_X10_numberOperation v0 v1 h, (plainFor_of_name (by decide)), by simp [lg_sl, zcat_rf, zcat_i, zcat_l, zcat_f, zcat_d], q3038, q153, hd0, by decide, by decide⟩
theorem w_X10_operation_225 (a0 : Option Nat) (a1 : Option Nat) (a3 : Int32) (h : zH) : zS D z yX10_operation cX10_operation 4 (some (.object "FloatingDock$Operation")) [] 51 h 225 [(0, va_rf a0), (1, va_rf a1), (3, .int a3)] [] (f_X10_operation_225 a0 a1 a3 h) := by
  unfold f_X10_operation_225
  refine s_iload_n (pc := 225) 2 dX10_operation_225 rfl rfl ?_
  refine zS_ite (fun hx => ?_) (fun hx0 => ?_)
  · refine s_tabIn (pc := 226) (tgt := 264) (v := 0) dX10_operation_226 hx (by decide) (by decide) rfl (by decide) ?_
    refine s_aload_n (pc := 264) 0 dX10_operation_264 rfl rfl ?_
    refine zS_ite (fun ht => ?_) (fun _ => zS_none)
    refine s_callV (pc := 265) (np := 0) (as := []) (rest := []) dX10_operation_265 ht (q := (RX10, TX10, 2)) rfl (c_X10_shipOperation (by decide) a0 h) rfl rfl q2977 q2979 qs31 rfl (by decide) (zkR (fun r31 h32 => ?_)) zxo
    refine s_goto (pc := 268) (tgt := 313) dX10_operation_268 (by decide) ?_
    exact s_aret (pc := 313) dX10_operation_313 rfl (Or.inl ⟨_, rfl⟩)
  refine zS_ite (fun hx => ?_) (fun hx1 => ?_)
  · refine s_tabIn (pc := 226) (tgt := 271) (v := 1) dX10_operation_226 hx (by decide) (by decide) rfl (by decide) ?_
    refine s_aload_n (pc := 271) 0 dX10_operation_271 rfl rfl ?_
    refine zS_ite (fun ht => ?_) (fun _ => zS_none)
    refine s_callV (pc := 272) (np := 0) (as := []) (rest := []) dX10_operation_272 ht (q := (RX10, TX10, 2)) rfl (c_X10_enterOperation (by decide) a0 h) rfl rfl q3005 q3007 qs37 rfl (by decide) (zkR (fun r33 h34 => ?_)) zxo
    refine s_goto (pc := 275) (tgt := 313) dX10_operation_275 (by decide) ?_
    exact s_aret (pc := 313) dX10_operation_313 rfl (Or.inl ⟨_, rfl⟩)
  refine zS_ite (fun hx => ?_) (fun hx2 => ?_)
  · refine s_tabIn (pc := 226) (tgt := 278) (v := 2) dX10_operation_226 hx (by decide) (by decide) rfl (by decide) ?_
    refine s_aload_n (pc := 278) 0 dX10_operation_278 rfl rfl ?_
    refine zS_ite (fun ht => ?_) (fun _ => zS_none)
    refine s_callV (pc := 279) (np := 0) (as := []) (rest := []) dX10_operation_279 ht (q := (RX10, TX10, 2)) rfl (c_X10_payOperation (by decide) a0 h) rfl rfl q3012 q3014 qs38 rfl (by decide) (zkR (fun r35 h36 => ?_)) zxo
    refine s_goto (pc := 282) (tgt := 313) dX10_operation_282 (by decide) ?_
    exact s_aret (pc := 313) dX10_operation_313 rfl (Or.inl ⟨_, rfl⟩)
  refine zS_ite (fun hx => ?_) (fun hx3 => ?_)
  · refine s_tabIn (pc := 226) (tgt := 285) (v := 3) dX10_operation_226 hx (by decide) (by decide) rfl (by decide) ?_
    refine s_aload_n (pc := 285) 0 dX10_operation_285 rfl rfl ?_
    refine zS_ite (fun ht => ?_) (fun _ => zS_none)
    refine s_callV (pc := 286) (np := 0) (as := []) (rest := []) dX10_operation_286 ht (q := (RX10, TX10, 2)) rfl (c_X10_pumpOperation (by decide) a0 h) rfl rfl q3019 q3021 qs39 rfl (by decide) (zkR (fun r37 h38 => ?_)) zxo
    refine s_goto (pc := 289) (tgt := 313) dX10_operation_289 (by decide) ?_
    exact s_aret (pc := 313) dX10_operation_313 rfl (Or.inl ⟨_, rfl⟩)
  refine zS_ite (fun hx => ?_) (fun hx4 => ?_)
  · refine s_tabIn (pc := 226) (tgt := 292) (v := 4) dX10_operation_226 hx (by decide) (by decide) rfl (by decide) ?_
    refine s_lamC (pc := 292) (t := 322) (q := zSh siteWord_1_23) dX10_operation_292 rfl rfl rfl rfl (by decide) (by decide) ?_
    refine s_goto (pc := 297) (tgt := 313) dX10_operation_297 (by decide) ?_
    exact s_aret (pc := 313) dX10_operation_313 rfl (Or.inl ⟨_, rfl⟩)
  refine zS_ite (fun hx => ?_) (fun hx5 => ?_)
  · refine s_tabIn (pc := 226) (tgt := 300) (v := 5) dX10_operation_226 hx (by decide) (by decide) rfl (by decide) ?_
    refine s_lamC (pc := 300) (t := 323) (q := zSh siteWord_1_24) dX10_operation_300 rfl rfl rfl rfl (by decide) (by decide) ?_
    refine s_goto (pc := 305) (tgt := 313) dX10_operation_305 (by decide) ?_
    exact s_aret (pc := 313) dX10_operation_313 rfl (Or.inl ⟨_, rfl⟩)
  have hout : a3.toInt < 0 ∨ 5 < a3.toInt := by
    have q0 := lv_neT (a := 0) hx0 (by decide)
    have q1 := lv_neT (a := 1) hx1 (by decide)
    have q2 := lv_neT (a := 2) hx2 (by decide)
    have q3 := lv_neT (a := 3) hx3 (by decide)
    have q4 := lv_neT (a := 4) hx4 (by decide)
    have q5 := lv_neT (a := 5) hx5 (by decide)
    omega
  refine s_tabOut (pc := 226) (tgt := 308) dX10_operation_226 hout (by decide) ?_
  refine s_aload_n (pc := 308) 0 dX10_operation_308 rfl rfl ?_
  refine s_aload_n (pc := 309) 1 dX10_operation_309 rfl rfl ?_
  refine zS_ite (fun ht => ?_) (fun _ => zS_none)
  refine s_callV (pc := 310) (np := 1) (as := [va_rf a1]) (rest := []) dX10_operation_310 ht (q := (RX10, TX10, 2)) rfl (c_X10_numberOperation (by decide) a0 a1 h) rfl rfl q3035 q3037 qs41 rfl (by decide) (zkR (fun r43 h44 => ?_)) zxo
  exact s_aret (pc := 313) dX10_operation_313 rfl (Or.inl ⟨_, rfl⟩)
theorem w_X10_operation (v0 : Option Nat) (h : zH) : zS D z yX10_operation cX10_operation 4 (some (.object "FloatingDock$Operation")) [] 51 h 0 [(0, va_rf v0)] [] (f_X10_operation v0 h) := by
  unfold f_X10_operation
  refine s_aload_n (pc := 0) 0 dX10_operation_0 rfl rfl ?_
  refine s_bipush (pc := 1) (v := 12) dX10_operation_1 (by decide) ?_
  refine s_newq (pc := 3) (E := "java/lang/String") dX10_operation_3 ⟨rfl, by decide⟩ q2910 q2911 (fun r1 h2 => ?_)
  refine s_dup (pc := 6) dX10_operation_6 (zcat_rf _) ?_
  refine s_iconst (pc := 7) (v := 0) dX10_operation_7 (by decide) ?_
  refine s_ldcS (pc := 8) (i := 13) (tx := "ship ") dX10_operation_8 (List.mem_of_getElem? (i := 3) rfl) ?_
  refine s_aast (pc := 10) dX10_operation_10 (ztc ⟨rfl, by decide⟩ zt0) zcs_java_lang_String (fun h3 => ?_)
  refine s_dup (pc := 11) dX10_operation_11 (zcat_rf _) ?_
  refine s_iconst (pc := 12) (v := 1) dX10_operation_12 (by decide) ?_
  refine s_ldcS (pc := 13) (i := 14) (tx := "enter ") dX10_operation_13 (List.mem_of_getElem? (i := 4) rfl) ?_
  refine s_aast (pc := 15) dX10_operation_15 (ztc ⟨rfl, by decide⟩ zt0) zcs_java_lang_String (fun h4 => ?_)
  refine s_dup (pc := 16) dX10_operation_16 (zcat_rf _) ?_
  refine s_iconst (pc := 17) (v := 2) dX10_operation_17 (by decide) ?_
  refine s_ldcS (pc := 18) (i := 15) (tx := "leave ") dX10_operation_18 (List.mem_of_getElem? (i := 5) rfl) ?_
  refine s_aast (pc := 20) dX10_operation_20 (ztc ⟨rfl, by decide⟩ zt0) zcs_java_lang_String (fun h5 => ?_)
  refine s_dup (pc := 21) dX10_operation_21 (zcat_rf _) ?_
  refine s_iconst (pc := 22) (v := 3) dX10_operation_22 (by decide) ?_
  refine s_ldcS (pc := 23) (i := 16) (tx := "clean ") dX10_operation_23 (List.mem_of_getElem? (i := 6) rfl) ?_
  refine s_aast (pc := 25) dX10_operation_25 (ztc ⟨rfl, by decide⟩ zt0) zcs_java_lang_String (fun h6 => ?_)
  refine s_dup (pc := 26) dX10_operation_26 (zcat_rf _) ?_
  refine s_iconst (pc := 27) (v := 4) dX10_operation_27 (by decide) ?_
  refine s_ldcS (pc := 28) (i := 17) (tx := "stop ") dX10_operation_28 (List.mem_of_getElem? (i := 7) rfl) ?_
  refine s_aast (pc := 30) dX10_operation_30 (ztc ⟨rfl, by decide⟩ zt0) zcs_java_lang_String (fun h7 => ?_)
  refine s_dup (pc := 31) dX10_operation_31 (zcat_rf _) ?_
  refine s_iconst (pc := 32) (v := 5) dX10_operation_32 (by decide) ?_
  refine s_ldcS (pc := 33) (i := 18) (tx := "open") dX10_operation_33 (List.mem_of_getElem? (i := 8) rfl) ?_
  refine s_aast (pc := 35) dX10_operation_35 (ztc ⟨rfl, by decide⟩ zt0) zcs_java_lang_String (fun h8 => ?_)
  refine s_dup (pc := 36) dX10_operation_36 (zcat_rf _) ?_
  refine s_bipush (pc := 37) (v := 6) dX10_operation_37 (by decide) ?_
  refine s_ldcS (pc := 39) (i := 19) (tx := "close") dX10_operation_39 (List.mem_of_getElem? (i := 9) rfl) ?_
  refine s_aast (pc := 41) dX10_operation_41 (ztc ⟨rfl, by decide⟩ zt0) zcs_java_lang_String (fun h9 => ?_)
  refine s_dup (pc := 42) dX10_operation_42 (zcat_rf _) ?_
  refine s_bipush (pc := 43) (v := 7) dX10_operation_43 (by decide) ?_
  refine s_ldcS (pc := 45) (i := 20) (tx := "pump ") dX10_operation_45 (List.mem_of_getElem? (i := 10) rfl) ?_
  refine s_aast (pc := 47) dX10_operation_47 (ztc ⟨rfl, by decide⟩ zt0) zcs_java_lang_String (fun h10 => ?_)
  refine s_dup (pc := 48) dX10_operation_48 (zcat_rf _) ?_
  refine s_bipush (pc := 49) (v := 8) dX10_operation_49 (by decide) ?_
  refine s_ldcS (pc := 51) (i := 21) (tx := "pass ") dX10_operation_51 (List.mem_of_getElem? (i := 11) rfl) ?_
  refine s_aast (pc := 53) dX10_operation_53 (ztc ⟨rfl, by decide⟩ zt0) zcs_java_lang_String (fun h11 => ?_)
  refine s_dup (pc := 54) dX10_operation_54 (zcat_rf _) ?_
  refine s_bipush (pc := 55) (v := 9) dX10_operation_55 (by decide) ?_
  refine s_ldcS (pc := 57) (i := 22) (tx := "block ") dX10_operation_57 (List.mem_of_getElem? (i := 12) rfl) ?_
  refine s_aast (pc := 59) dX10_operation_59 (ztc ⟨rfl, by decide⟩ zt0) zcs_java_lang_String (fun h12 => ?_)
  refine s_dup (pc := 60) dX10_operation_60 (zcat_rf _) ?_
  refine s_bipush (pc := 61) (v := 10) dX10_operation_61 (by decide) ?_
  refine s_ldcS (pc := 63) (i := 23) (tx := "unblock ") dX10_operation_63 (List.mem_of_getElem? (i := 13) rfl) ?_
  refine s_aast (pc := 65) dX10_operation_65 (ztc ⟨rfl, by decide⟩ zt0) zcs_java_lang_String (fun h13 => ?_)
  refine s_dup (pc := 66) dX10_operation_66 (zcat_rf _) ?_
  refine s_bipush (pc := 67) (v := 11) dX10_operation_67 (by decide) ?_
  refine s_ldcS (pc := 69) (i := 24) (tx := "pay ") dX10_operation_69 (List.mem_of_getElem? (i := 14) rfl) ?_
  refine s_aast (pc := 71) dX10_operation_71 (ztc ⟨rfl, by decide⟩ zt0) zcs_java_lang_String (fun h14 => ?_)
  refine zS_ite (fun ht => ?_) (fun _ => zS_none)
  refine s_callV (pc := 72) (np := 1) (as := [va_rf r1]) (rest := []) dX10_operation_72 ht (q := (RX10, TX10, 2)) rfl (c_X10_keyword (by decide) v0 r1 h14) rfl rfl q2924 q2926 qs29 rfl (by decide) (zkR (fun r15 h16 => ?_)) zxo
  refine s_ast_n (pc := 75) (L2 := [(0, va_rf v0)]) [0] dX10_operation_75 rfl (by decide) rfl rfl (zcB (j := 0) rfl (zcat_rf v0) rfl) ?_
  refine s_aload_n (pc := 76) 0 dX10_operation_76 rfl rfl ?_
  refine s_ast_n (pc := 77) (L2 := [(1, va_rf r15), (0, va_rf v0)]) [0, 1] dX10_operation_77 rfl (by decide) rfl rfl (zcB (j := 0) rfl (zcat_rf r15) rfl) ?_
  refine s_iconst (pc := 78) (v := -1) dX10_operation_78 (by decide) ?_
  refine s_ist_n (pc := 79) (L2 := [(2, va_rf r15), (1, va_rf r15), (0, va_rf v0)]) [0, 1, 2] dX10_operation_79 rfl (by decide) rfl rfl (zcB (j := 0) rfl (zcat_rf r15) rfl) ?_
  refine s_aload_n (pc := 80) 1 dX10_operation_80 rfl rfl ?_
  refine zS_ite (fun ht => ?_) (fun _ => zS_none)
  refine s_callV (pc := 81) (np := 0) (as := []) (rest := []) dX10_operation_81 ht (q := (RJ9, TJ9, 4)) rfl (c_J9_hashCode (by decide) r15 h16) rfl rfl q2975 q1585 q3779 rfl (by decide) (zkI (fun x17 h18 => ?_)) zxo
  refine zS_ite (fun hx => ?_) (fun hx0 => ?_)
  · refine s_look (pc := 84) (tgt := 158) (off := 74) dX10_operation_84 (by decide) (by rw [hx]; decide) (by decide) ?_
    refine s_aload_n (pc := 158) 1 dX10_operation_158 rfl rfl ?_
    refine s_ldcS (pc := 159) (i := 14) (tx := "enter ") dX10_operation_159 (List.mem_of_getElem? (i := 4) rfl) ?_
    refine zS_ite (fun ht => ?_) (fun _ => zS_none)
    refine s_callV (pc := 161) (np := 1) (as := [va_rf (some (zG h18 14))]) (rest := []) dX10_operation_161 ht (q := (RJ9, TJ9, 4)) rfl (c_J9_equals (by decide) r15 (some (zG h18 14)) h18) rfl rfl q2976 q1682 q3780 rfl (by decide) (zkI (fun x19 h20 => ?_)) zxo
    refine s_if_eq (pc := 164) (tgt := 225) dX10_operation_164 (by decide) (fun _ => ?_) (fun _ => ?_)
    · exact s_sub (pc := 225) [3, 2, 0] rfl (w_X10_operation_225 v0 r15 (-1) h20)
    · refine s_iconst (pc := 167) (v := 1) dX10_operation_167 (by decide) ?_
      refine s_ist_n (pc := 168) (L2 := [(1, va_rf r15), (0, va_rf v0)]) [2, 3] dX10_operation_168 rfl (by decide) rfl rfl (zcA rfl) ?_
      refine s_goto (pc := 169) (tgt := 225) dX10_operation_169 (by decide) ?_
      exact s_sub (pc := 225) [2, 1, 0] rfl (w_X10_operation_225 v0 r15 1 h20)
  refine zS_ite (fun hx => ?_) (fun hx1 => ?_)
  · refine s_look (pc := 84) (tgt := 200) (off := 116) dX10_operation_84 (by decide) (by rw [hx]; decide) (by decide) ?_
    refine s_aload_n (pc := 200) 1 dX10_operation_200 rfl rfl ?_
    refine s_ldcS (pc := 201) (i := 18) (tx := "open") dX10_operation_201 (List.mem_of_getElem? (i := 8) rfl) ?_
    refine zS_ite (fun ht => ?_) (fun _ => zS_none)
    refine s_callV (pc := 203) (np := 1) (as := [va_rf (some (zG h18 18))]) (rest := []) dX10_operation_203 ht (q := (RJ9, TJ9, 4)) rfl (c_J9_equals (by decide) r15 (some (zG h18 18)) h18) rfl rfl q2976 q1682 q3780 rfl (by decide) (zkI (fun x21 h22 => ?_)) zxo
    refine s_if_eq (pc := 206) (tgt := 225) dX10_operation_206 (by decide) (fun _ => ?_) (fun _ => ?_)
    · exact s_sub (pc := 225) [3, 2, 0] rfl (w_X10_operation_225 v0 r15 (-1) h22)
    · refine s_iconst (pc := 209) (v := 4) dX10_operation_209 (by decide) ?_
      refine s_ist_n (pc := 210) (L2 := [(1, va_rf r15), (0, va_rf v0)]) [2, 3] dX10_operation_210 rfl (by decide) rfl rfl (zcA rfl) ?_
      refine s_goto (pc := 211) (tgt := 225) dX10_operation_211 (by decide) ?_
      exact s_sub (pc := 225) [2, 1, 0] rfl (w_X10_operation_225 v0 r15 4 h22)
  refine zS_ite (fun hx => ?_) (fun hx2 => ?_)
  · refine s_look (pc := 84) (tgt := 172) (off := 88) dX10_operation_84 (by decide) (by rw [hx]; decide) (by decide) ?_
    refine s_aload_n (pc := 172) 1 dX10_operation_172 rfl rfl ?_
    refine s_ldcS (pc := 173) (i := 24) (tx := "pay ") dX10_operation_173 (List.mem_of_getElem? (i := 14) rfl) ?_
    refine zS_ite (fun ht => ?_) (fun _ => zS_none)
    refine s_callV (pc := 175) (np := 1) (as := [va_rf (some (zG h18 24))]) (rest := []) dX10_operation_175 ht (q := (RJ9, TJ9, 4)) rfl (c_J9_equals (by decide) r15 (some (zG h18 24)) h18) rfl rfl q2976 q1682 q3780 rfl (by decide) (zkI (fun x23 h24 => ?_)) zxo
    refine s_if_eq (pc := 178) (tgt := 225) dX10_operation_178 (by decide) (fun _ => ?_) (fun _ => ?_)
    · exact s_sub (pc := 225) [3, 2, 0] rfl (w_X10_operation_225 v0 r15 (-1) h24)
    · refine s_iconst (pc := 181) (v := 2) dX10_operation_181 (by decide) ?_
      refine s_ist_n (pc := 182) (L2 := [(1, va_rf r15), (0, va_rf v0)]) [2, 3] dX10_operation_182 rfl (by decide) rfl rfl (zcA rfl) ?_
      refine s_goto (pc := 183) (tgt := 225) dX10_operation_183 (by decide) ?_
      exact s_sub (pc := 225) [2, 1, 0] rfl (w_X10_operation_225 v0 r15 2 h24)
  refine zS_ite (fun hx => ?_) (fun hx3 => ?_)
  · refine s_look (pc := 84) (tgt := 214) (off := 130) dX10_operation_84 (by decide) (by rw [hx]; decide) (by decide) ?_
    refine s_aload_n (pc := 214) 1 dX10_operation_214 rfl rfl ?_
    refine s_ldcS (pc := 215) (i := 19) (tx := "close") dX10_operation_215 (List.mem_of_getElem? (i := 9) rfl) ?_
    refine zS_ite (fun ht => ?_) (fun _ => zS_none)
    refine s_callV (pc := 217) (np := 1) (as := [va_rf (some (zG h18 19))]) (rest := []) dX10_operation_217 ht (q := (RJ9, TJ9, 4)) rfl (c_J9_equals (by decide) r15 (some (zG h18 19)) h18) rfl rfl q2976 q1682 q3780 rfl (by decide) (zkI (fun x25 h26 => ?_)) zxo
    refine s_if_eq (pc := 220) (tgt := 225) dX10_operation_220 (by decide) (fun _ => ?_) (fun _ => ?_)
    · exact s_sub (pc := 225) [3, 2, 0] rfl (w_X10_operation_225 v0 r15 (-1) h26)
    · refine s_iconst (pc := 223) (v := 5) dX10_operation_223 (by decide) ?_
      refine s_ist_n (pc := 224) (L2 := [(1, va_rf r15), (0, va_rf v0)]) [2, 3] dX10_operation_224 rfl (by decide) rfl rfl (zcA rfl) ?_
      exact s_sub (pc := 225) [2, 1, 0] rfl (w_X10_operation_225 v0 r15 5 h26)
  refine zS_ite (fun hx => ?_) (fun hx4 => ?_)
  · refine s_look (pc := 84) (tgt := 186) (off := 102) dX10_operation_84 (by decide) (by rw [hx]; decide) (by decide) ?_
    refine s_aload_n (pc := 186) 1 dX10_operation_186 rfl rfl ?_
    refine s_ldcS (pc := 187) (i := 20) (tx := "pump ") dX10_operation_187 (List.mem_of_getElem? (i := 10) rfl) ?_
    refine zS_ite (fun ht => ?_) (fun _ => zS_none)
    refine s_callV (pc := 189) (np := 1) (as := [va_rf (some (zG h18 20))]) (rest := []) dX10_operation_189 ht (q := (RJ9, TJ9, 4)) rfl (c_J9_equals (by decide) r15 (some (zG h18 20)) h18) rfl rfl q2976 q1682 q3780 rfl (by decide) (zkI (fun x27 h28 => ?_)) zxo
    refine s_if_eq (pc := 192) (tgt := 225) dX10_operation_192 (by decide) (fun _ => ?_) (fun _ => ?_)
    · exact s_sub (pc := 225) [3, 2, 0] rfl (w_X10_operation_225 v0 r15 (-1) h28)
    · refine s_iconst (pc := 195) (v := 3) dX10_operation_195 (by decide) ?_
      refine s_ist_n (pc := 196) (L2 := [(1, va_rf r15), (0, va_rf v0)]) [2, 3] dX10_operation_196 rfl (by decide) rfl rfl (zcA rfl) ?_
      refine s_goto (pc := 197) (tgt := 225) dX10_operation_197 (by decide) ?_
      exact s_sub (pc := 225) [2, 1, 0] rfl (w_X10_operation_225 v0 r15 3 h28)
  refine zS_ite (fun hx => ?_) (fun hx5 => ?_)
  · refine s_look (pc := 84) (tgt := 144) (off := 60) dX10_operation_84 (by decide) (by rw [hx]; decide) (by decide) ?_
    refine s_aload_n (pc := 144) 1 dX10_operation_144 rfl rfl ?_
    refine s_ldcS (pc := 145) (i := 13) (tx := "ship ") dX10_operation_145 (List.mem_of_getElem? (i := 3) rfl) ?_
    refine zS_ite (fun ht => ?_) (fun _ => zS_none)
    refine s_callV (pc := 147) (np := 1) (as := [va_rf (some (zG h18 13))]) (rest := []) dX10_operation_147 ht (q := (RJ9, TJ9, 4)) rfl (c_J9_equals (by decide) r15 (some (zG h18 13)) h18) rfl rfl q2976 q1682 q3780 rfl (by decide) (zkI (fun x29 h30 => ?_)) zxo
    refine s_if_eq (pc := 150) (tgt := 225) dX10_operation_150 (by decide) (fun _ => ?_) (fun _ => ?_)
    · exact s_sub (pc := 225) [3, 2, 0] rfl (w_X10_operation_225 v0 r15 (-1) h30)
    · refine s_iconst (pc := 153) (v := 0) dX10_operation_153 (by decide) ?_
      refine s_ist_n (pc := 154) (L2 := [(1, va_rf r15), (0, va_rf v0)]) [2, 3] dX10_operation_154 rfl (by decide) rfl rfl (zcA rfl) ?_
      refine s_goto (pc := 155) (tgt := 225) dX10_operation_155 (by decide) ?_
      exact s_sub (pc := 225) [2, 1, 0] rfl (w_X10_operation_225 v0 r15 0 h30)
  refine s_look (pc := 84) (tgt := 225) (off := 141) dX10_operation_84 (by decide) ((lv_osw hx0 (by decide)).trans ((lv_osw hx1 (by decide)).trans ((lv_osw hx2 (by decide)).trans ((lv_osw hx3 (by decide)).trans ((lv_osw hx4 (by decide)).trans ((lv_osw hx5 (by decide)).trans (rfl))))))) (by decide) ?_
  exact s_sub (pc := 225) [3, 2, 0] rfl (w_X10_operation_225 v0 r15 (-1) h18)
theorem c_X10_operation {d0 : Nat} (hd0 : 51 < d0) (v0 : Option Nat) (h : zH) : zCal D z d0 h yX10_operation [va_rf v0] (f_X10_operation v0 h) :=
  ⟨cX10_operation, 4, (some (.object "FloatingDock$Operation")), [], 51, (show lv_args 0 [va_rf v0] = [(0, va_rf v0)] by simp [lv_args, zcat_rf, zcat_i, zcat_l, zcat_f, zcat_d]) ▸ w_X10_operation v0 h, (plainFor_of_name (by decide)), by simp [lg_sl, zcat_rf, zcat_i, zcat_l, zcat_f, zcat_d], q2909, q153, hd0, by decide, by decide⟩
theorem w_X11_add (v0 : Option Nat) (v1 : Option Nat) (h : zH) : zS D z yX11_add cX11_add 2 none [] 1 h 0 [(0, va_rf v0), (1, va_rf v1)] [] (f_X11_add v0 v1 h) := by
  unfold f_X11_add
  refine s_aload_n (pc := 0) 0 dX11_add_0 rfl rfl ?_
  refine s_gR (pc := 1) dX11_add_1 gf_X11_11 (fun r1 => ?_)
  refine s_aload_n (pc := 4) 0 dX11_add_4 rfl rfl ?_
  refine s_gI (pc := 5) dX11_add_5 gf_X11_17 (fun x2 => ?_)
  refine s_aload_n (pc := 8) 1 dX11_add_8 rfl rfl ?_
  refine s_aast (pc := 9) dX11_add_9 (ztc ⟨rfl, by decide⟩ zt0) zcs_FloatingDock_Operation (fun h3 => ?_)
  refine s_aload_n (pc := 10) 0 dX11_add_10 rfl rfl ?_
  refine s_dup (pc := 11) dX11_add_11 (zcat_rf _) ?_
  refine s_gI (pc := 12) dX11_add_12 gf_X11_17 (fun x4 => ?_)
  refine s_iconst (pc := 15) (v := 1) dX11_add_15 (by decide) ?_
  refine s_iadd (pc := 16) dX11_add_16 ?_
  refine s_putI (pc := 17) dX11_add_17 pf_X11_17 (fun h5 => ?_)
  exact s_vret (pc := 20) dX11_add_20 rfl
theorem c_X11_add {d0 : Nat} (hd0 : 1 < d0) (v0 : Option Nat) (v1 : Option Nat) (h : zH) : zCal D z d0 h yX11_add [va_rf v0, va_rf v1] (f_X11_add v0 v1 h) :=
  ⟨cX11_add, 2, none, [], 1, (show lv_args 0 [va_rf v0, va_rf v1] = [(0, va_rf v0), (1, va_rf v1)] by simp [lv_args, zcat_rf, zcat_i, zcat_l, zcat_f, zcat_d]) ▸ w_X11_add v0 v1 h, (plainFor_of_name (by decide)), by simp [lg_sl, zcat_rf, zcat_i, zcat_l, zcat_f, zcat_d], q3060, q154, hd0, by decide, by decide⟩
theorem w_X10_program_59 (a1 : Option Nat) (s0 : Int32) (s1 : Option Nat) (h : zH) : zS D z yX10_program cX10_program 2 (some (.object "FloatingDock$Program")) [] 52 h 59 [(1, va_rf a1)] [.int s0, va_rf s1] (f_X10_program_59 a1 s0 s1 h) := by
  unfold f_X10_program_59
  refine zS_ite (fun ht => ?_) (fun _ => zS_none)
  refine s_callV (pc := 59) (np := 1) (as := [.int s0]) (rest := []) dX10_program_59 ht (q := (RX10, TX10, 2)) rfl (c_X10_require (by decide) s1 s0 h) rfl rfl q2990 q2992 qs34 rfl (by decide) (zkV (fun h17 => ?_)) zxo
  refine s_aload_n (pc := 62) 0 dX10_program_62 rfl rfl ?_
  exact s_aret (pc := 63) dX10_program_63 rfl (Or.inl ⟨_, rfl⟩)
theorem w_X10_program_36 (a0 : Option Nat) (a1 : Option Nat) (h : zH) : zS D z yX10_program cX10_program 2 (some (.object "FloatingDock$Program")) [] 52 h 36 [(0, va_rf a0), (1, va_rf a1)] [] (f_X10_program_36 a0 a1 h) := by
  unfold f_X10_program_36
  refine s_aload_n (pc := 36) 0 dX10_program_36 rfl rfl ?_
  refine s_aload_n (pc := 37) 0 dX10_program_37 rfl rfl ?_
  refine s_gI (pc := 38) dX10_program_38 gf_X10_13 (fun x12 => ?_)
  refine s_aload_n (pc := 41) 0 dX10_program_41 rfl rfl ?_
  refine s_gR (pc := 42) dX10_program_42 gf_X10_1 (fun r13 => ?_)
  refine s_gR (pc := 45) dX10_program_45 gf_X10_17 (fun r14 => ?_)
  refine zS_ite (fun ht => ?_) (fun _ => zS_none)
  refine s_callV (pc := 48) (np := 0) (as := []) (rest := [.int x12, va_rf a0]) dX10_program_48 ht (q := (RJ8, TJ8, 4)) rfl (c_J8_length (by decide) r14 h) rfl rfl q2933 q1023 q3777 rfl (by simp [zcat_rf, zcat_i, zcat_l, zcat_f, zcat_d]) (zkI (fun x15 h16 => ?_)) zxo
  refine s_icmp_ne (pc := 51) (tgt := 58) dX10_program_51 (by decide) (fun _ => ?_) (fun _ => ?_)
  · refine s_iconst (pc := 58) (v := 0) dX10_program_58 (by decide) ?_
    exact s_sub (pc := 59) [1] rfl (w_X10_program_59 a1 0 a0 h16)
  · refine s_iconst (pc := 54) (v := 1) dX10_program_54 (by decide) ?_
    refine s_goto (pc := 55) (tgt := 59) dX10_program_55 (by decide) ?_
    exact s_sub (pc := 59) [1] rfl (w_X10_program_59 a1 1 a0 h16)
theorem w_X10_program_16 : ∀ (n : Nat) (a0 : Option Nat) (a1 : Option Nat) (h : zH), zS D z yX10_program cX10_program 2 (some (.object "FloatingDock$Program")) [] 52 h 16 [(0, va_rf a0), (1, va_rf a1)] [] (f_X10_program_16 n a0 a1 h) := by
  intro n
  induction n with
  | zero => intros; exact zS_none
  | succ n ih =>
    intro a0 a1 h
    rw [f_X10_program_16.eq_2]
    refine s_aload_n (pc := 16) 0 dX10_program_16 rfl rfl ?_
    refine s_bipush (pc := 17) (v := 59) dX10_program_17 (by decide) ?_
    refine zS_ite (fun ht => ?_) (fun _ => zS_none)
    refine s_callV (pc := 19) (np := 1) (as := [.int 59]) (rest := []) dX10_program_19 ht (q := (RX10, TX10, 2)) rfl (c_X10_accept (by decide) a0 59 h) rfl rfl q2998 q3000 qs36 rfl (by decide) (zkI (fun x7 h8 => ?_)) zxo
    refine s_if_eq (pc := 22) (tgt := 36) dX10_program_22 (by decide) (fun _ => ?_) (fun _ => ?_)
    · exact s_sub (pc := 36) [0, 1] rfl (w_X10_program_36 a0 a1 h8)
    · refine s_aload_n (pc := 25) 1 dX10_program_25 rfl rfl ?_
      refine s_aload_n (pc := 26) 0 dX10_program_26 rfl rfl ?_
      refine zS_ite (fun ht => ?_) (fun _ => zS_none)
      refine s_callV (pc := 27) (np := 0) (as := []) (rest := [va_rf a1]) dX10_program_27 ht (q := (RX10, TX10, 2)) rfl (c_X10_operation (by decide) a0 h8) rfl rfl q2906 q2908 qs28 rfl (by simp [zcat_rf, zcat_i, zcat_l, zcat_f, zcat_d]) (zkR (fun r9 h10 => ?_)) zxo
      refine zS_ite (fun ht => ?_) (fun _ => zS_none)
      refine s_callV (pc := 30) (np := 1) (as := [va_rf r9]) (rest := []) dX10_program_30 ht (q := (RX11, TX11, 2)) rfl (c_X11_add (by decide) a1 r9 h10) rfl rfl q3057 q3058 q3059 rfl (by decide) (zkV (fun h11 => ?_)) zxo
      refine s_goto (pc := 33) (tgt := 16) dX10_program_33 (by decide) ?_
      exact s_sub (pc := 16) [0, 1] rfl (ih a0 a1 h11)
theorem w_X10_program (v0 : Option Nat) (h : zH) : zS D z yX10_program cX10_program 2 (some (.object "FloatingDock$Program")) [] 52 h 0 [(0, va_rf v0)] [] (f_X10_program v0 h) := by
  unfold f_X10_program
  refine s_new (pc := 0) dX10_program_0 nf_X10_151 (fun r1 h2 => ?_)
  refine s_dup (pc := 3) dX10_program_3 (zcat_rf _) ?_
  refine zS_ite (fun hr => ?_) (fun _ => zS_none)
  refine s_callCN (pc := 4) (np := 0) (as := []) (rest := [va_rf r1]) dX10_program_4 hr (c_X11_init (by decide) r1 h2) ⟨_, _, q2894⟩ rfl rfl rfl q2892 q2893 rfl (by simp [zcat_rf, zcat_i, zcat_l, zcat_f, zcat_d]) (zkV (fun h3 => ?_)) zxo
  refine s_ast_n (pc := 7) (L2 := [(0, va_rf v0)]) [0] dX10_program_7 rfl (by decide) rfl rfl (zcB (j := 0) rfl (zcat_rf v0) rfl) ?_
  refine s_aload_n (pc := 8) 0 dX10_program_8 rfl rfl ?_
  refine s_aload_n (pc := 9) 1 dX10_program_9 rfl rfl ?_
  refine zS_ite (fun ht => ?_) (fun _ => zS_none)
  refine s_callV (pc := 10) (np := 0) (as := []) (rest := [va_rf r1]) dX10_program_10 ht (q := (RX10, TX10, 2)) rfl (c_X10_operation (by decide) v0 h3) rfl rfl q2906 q2908 qs28 rfl (by simp [zcat_rf, zcat_i, zcat_l, zcat_f, zcat_d]) (zkR (fun r4 h5 => ?_)) zxo
  refine zS_ite (fun ht => ?_) (fun _ => zS_none)
  refine s_callV (pc := 13) (np := 1) (as := [va_rf r4]) (rest := []) dX10_program_13 ht (q := (RX11, TX11, 2)) rfl (c_X11_add (by decide) r1 r4 h5) rfl rfl q3057 q3058 q3059 rfl (by decide) (zkV (fun h6 => ?_)) zxo
  exact s_sub (pc := 16) [1, 0] rfl (w_X10_program_16 zfuel v0 r1 h6)
theorem c_X10_program {d0 : Nat} (hd0 : 52 < d0) (v0 : Option Nat) (h : zH) : zCal D z d0 h yX10_program [va_rf v0] (f_X10_program v0 h) :=
  ⟨cX10_program, 2, (some (.object "FloatingDock$Program")), [], 52, (show lv_args 0 [va_rf v0] = [(0, va_rf v0)] by simp [lv_args, zcat_rf, zcat_i, zcat_l, zcat_f, zcat_d]) ▸ w_X10_program v0 h, (plainFor_of_name (by decide)), by simp [lg_sl, zcat_rf, zcat_i, zcat_l, zcat_f, zcat_d], q2889, q153, hd0, by decide, by decide⟩
theorem w_X11_at (v0 : Option Nat) (v1 : Int32) (h : zH) : zS D z yX11_at cX11_at 2 (some (.object "FloatingDock$Operation")) [] 1 h 0 [(0, va_rf v0), (1, .int v1)] [] (f_X11_at v0 v1 h) := by
  unfold f_X11_at
  refine s_aload_n (pc := 0) 0 dX11_at_0 rfl rfl ?_
  refine s_gR (pc := 1) dX11_at_1 gf_X11_11 (fun r1 => ?_)
  refine s_iload_n (pc := 4) 1 dX11_at_4 rfl rfl ?_
  refine s_aald (pc := 5) dX11_at_5 zrefs_ok (fun r2 => ?_)
  exact s_aret (pc := 6) dX11_at_6 rfl (Or.inl ⟨_, rfl⟩)
theorem c_X11_at {d0 : Nat} (hd0 : 1 < d0) (v0 : Option Nat) (v1 : Int32) (h : zH) : zCal D z d0 h yX11_at [va_rf v0, .int v1] (f_X11_at v0 v1 h) :=
  ⟨cX11_at, 2, (some (.object "FloatingDock$Operation")), [], 1, (show lv_args 0 [va_rf v0, .int v1] = [(0, va_rf v0), (1, .int v1)] by simp [lv_args, zcat_rf, zcat_i, zcat_l, zcat_f, zcat_d]) ▸ w_X11_at v0 v1 h, (plainFor_of_name (by decide)), by simp [lg_sl, zcat_rf, zcat_i, zcat_l, zcat_f, zcat_d], q3068, q154, hd0, by decide, by decide⟩
theorem w_X1_execute_41 (a0 : Option Nat) (a2 : Option Nat) (a3 : Int32) (h : zH) : zS D z yX1_execute cX1_execute 5 (some .int) [(14, 41, 44, 98), (14, 41, 68, 83), (14, 41, 68, 86), (14, 41, 68, 89), (14, 41, 68, 92), (14, 41, 68, 95)] 16 h 41 [(0, va_rf a0), (2, va_rf a2), (3, .int a3)] [] (f_X1_execute_41 a0 a2 a3 h) := by
  unfold f_X1_execute_41
  refine s_goto (pc := 41) (tgt := 83) dX1_execute_41 (by decide) ?_
  refine s_aload_n (pc := 83) 0 dX1_execute_83 rfl rfl ?_
  refine s_aload_n (pc := 84) 1 dX1_execute_84 rfl rfl ?_
  refine s_iload_n (pc := 85) 2 dX1_execute_85 rfl rfl ?_
  refine zS_ite (fun ht => ?_) (fun _ => zS_none)
  refine s_callV (pc := 86) (np := 2) (as := [va_rf a2, .int a3]) (rest := []) dX1_execute_86 ht (q := (RX1, TX1, 11)) rfl (c_X1_finish (by decide) a0 a2 a3 h) rfl rfl q2316 q2318 qs18 rfl (by decide) (zkI (fun x23 h24 => ?_)) (zxo1 rfl)
  exact s_iret (pc := 89) dX1_execute_89 rfl
theorem w_X1_execute_44 (a0 : Option Nat) (a3 : Int32) (s0 : Option Nat) (h : zH) : zS D z yX1_execute cX1_execute 5 (some .int) [(14, 41, 44, 98), (14, 41, 68, 83), (14, 41, 68, 86), (14, 41, 68, 89), (14, 41, 68, 92), (14, 41, 68, 95)] 16 h 44 [(0, va_rf a0), (3, .int a3)] [va_rf s0] (f_X1_execute_44 a0 a3 s0 h) := by
  unfold f_X1_execute_44
  refine s_ast (pc := 44) (L2 := [(0, va_rf a0), (3, .int a3)]) [0, 1] dX1_execute_44 (by decide) rfl rfl (zcB (j := 1) rfl rfl rfl) ?_
  refine s_aload_n (pc := 46) 1 dX1_execute_46 rfl rfl ?_
  refine s_aload (pc := 47) 0 dX1_execute_47 rfl ?_
  refine s_gI (pc := 49) dX1_execute_49 gf_X1_116 (fun x15 => ?_)
  refine s_putI (pc := 52) dX1_execute_52 pf_X1_119 (fun h16 => ?_)
  refine s_aload_n (pc := 55) 1 dX1_execute_55 rfl rfl ?_
  refine s_iload_n (pc := 56) 2 dX1_execute_56 rfl rfl ?_
  refine s_putI (pc := 57) dX1_execute_57 pf_X1_58 (fun h17 => ?_)
  refine s_make0 (pc := 60) dX1_execute_60 dX1_execute_63 dX1_execute_64 xf_X1_89_91 (by decide) (by decide) (fun r18 h19 => ?_)
  exact s_athrow (pc := 67) dX1_execute_67 rfl (fun x => (zxo1 rfl) x _)
theorem w_X1_execute_68 (a0 : Option Nat) (a3 : Int32) (s0 : Option Nat) (h : zH) : zS D z yX1_execute cX1_execute 5 (some .int) [(14, 41, 44, 98), (14, 41, 68, 83), (14, 41, 68, 86), (14, 41, 68, 89), (14, 41, 68, 92), (14, 41, 68, 95)] 16 h 68 [(0, va_rf a0), (3, .int a3)] [va_rf s0] (f_X1_execute_68 a0 a3 s0 h) := by
  unfold f_X1_execute_68
  refine s_ast (pc := 68) (L2 := [(0, va_rf a0), (3, .int a3)]) [0, 1] dX1_execute_68 (by decide) rfl rfl (zcB (j := 1) rfl rfl rfl) ?_
  refine s_aload_n (pc := 70) 1 dX1_execute_70 rfl rfl ?_
  refine s_iload_n (pc := 71) 2 dX1_execute_71 rfl rfl ?_
  refine s_putI (pc := 72) dX1_execute_72 pf_X1_58 (fun h20 => ?_)
  refine s_make0 (pc := 75) dX1_execute_75 dX1_execute_78 dX1_execute_79 xf_X1_89_91 (by decide) (by decide) (fun r21 h22 => ?_)
  exact s_athrow (pc := 82) dX1_execute_82 rfl (fun x => (zxo1 rfl) x _)
theorem w_X1_execute_14 : ∀ (n : Nat) (a0 : Option Nat) (a1 : Option Nat) (a2 : Option Nat) (a3 : Int32) (h : zH), zS D z yX1_execute cX1_execute 5 (some .int) [(14, 41, 44, 98), (14, 41, 68, 83), (14, 41, 68, 86), (14, 41, 68, 89), (14, 41, 68, 92), (14, 41, 68, 95)] 16 h 14 [(0, va_rf a0), (1, va_rf a1), (2, va_rf a2), (3, .int a3)] [] (f_X1_execute_14 n a0 a1 a2 a3 h) := by
  intro n
  induction n with
  | zero => intros; exact zS_none
  | succ n ih =>
    intro a0 a1 a2 a3 h
    rw [f_X1_execute_14.eq_2]
    refine s_iload_n (pc := 14) 3 dX1_execute_14 rfl rfl ?_
    refine s_aload_n (pc := 15) 1 dX1_execute_15 rfl rfl ?_
    refine s_gI (pc := 16) dX1_execute_16 gf_X1_286 (fun x5 => ?_)
    refine s_icmp_ge (pc := 19) (tgt := 41) dX1_execute_19 (by decide) (fun _ => ?_) (fun _ => ?_)
    · exact s_sub (pc := 41) [0, 2, 3] rfl (w_X1_execute_41 a0 a2 a3 h)
    · refine s_aload_n (pc := 22) 1 dX1_execute_22 rfl rfl ?_
      refine s_iload_n (pc := 23) 3 dX1_execute_23 rfl rfl ?_
      refine zS_ite (fun ht => ?_) (fun _ => zS_none)
      refine s_callV (pc := 24) (np := 1) (as := [.int a3]) (rest := []) dX1_execute_24 ht (q := (RX11, TX11, 2)) rfl (c_X11_at (by decide) a1 a3 h) rfl rfl q3065 q3066 q3067 rfl (by decide) (zkR (fun r8 h9 => ?_)) (fun e7 h6 => zT_ite (fun hx => (zT_catch (q := (RJ34, TJ34, 0)) [(14, 41, 44, 98), (14, 41, 68, 83)] (14, 41, 68, 86) [(14, 41, 68, 89), (14, 41, 68, 92), (14, 41, 68, 95)] rfl (by rw [hx]; rfl) (zpn (by decide) q2311 (by decide +kernel) (zpn (by decide) q2549 (by decide +kernel) zp0)) rfl (by decide) q2282 (Or.inl rfl) rfl (by exact s_sub (pc := 68) [0, 3] rfl (w_X1_execute_68 a0 a3 (some e7.2) h6)))) (fun _ => zT_ite (fun hx => (zT_catch (q := (RJ39, TJ39, 0)) [(14, 41, 44, 98), (14, 41, 68, 83), (14, 41, 68, 86)] (14, 41, 68, 89) [(14, 41, 68, 92), (14, 41, 68, 95)] rfl (by rw [hx]; rfl) (zpn (by decide) q2311 (by decide +kernel) (zpn (by decide) q2549 (by decide +kernel) (zpn (by decide) q2282 (by decide +kernel) zp0))) rfl (by decide) q2291 (Or.inl rfl) rfl (by exact s_sub (pc := 68) [0, 3] rfl (w_X1_execute_68 a0 a3 (some e7.2) h6)))) (fun _ => zT_ite (fun hx => (zT_catch (q := (RJ28, TJ28, 0)) [(14, 41, 44, 98), (14, 41, 68, 83), (14, 41, 68, 86), (14, 41, 68, 89)] (14, 41, 68, 92) [(14, 41, 68, 95)] rfl (by rw [hx]; rfl) (zpn (by decide) q2311 (by decide +kernel) (zpn (by decide) q2549 (by decide +kernel) (zpn (by decide) q2282 (by decide +kernel) (zpn (by decide) q2291 (by decide +kernel) zp0)))) rfl (by decide) q2397 (Or.inl rfl) rfl (by exact s_sub (pc := 68) [0, 3] rfl (w_X1_execute_68 a0 a3 (some e7.2) h6)))) (fun _ => zT_ite (fun hx => (zT_catch (q := (RJ44, TJ44, 0)) [(14, 41, 44, 98), (14, 41, 68, 83), (14, 41, 68, 86), (14, 41, 68, 89), (14, 41, 68, 92)] (14, 41, 68, 95) [] rfl (by rw [hx]; rfl) (zpn (by decide) q2311 (by decide +kernel) (zpn (by decide) q2549 (by decide +kernel) (zpn (by decide) q2282 (by decide +kernel) (zpn (by decide) q2291 (by decide +kernel) (zpn (by decide) q2397 (by decide +kernel) zp0))))) rfl (by decide) q2357 (Or.inl rfl) rfl (by exact s_sub (pc := 68) [0, 3] rfl (w_X1_execute_68 a0 a3 (some e7.2) h6)))) (fun _ => zT_ite (fun hx => (zT_catch (q := (RJ29, TJ29, 0)) [(14, 41, 44, 98)] (14, 41, 68, 83) [(14, 41, 68, 86), (14, 41, 68, 89), (14, 41, 68, 92), (14, 41, 68, 95)] rfl (by rw [hx]; rfl) (zpn (by decide) q2311 (by decide +kernel) zp0) rfl (by decide) q2549 (Or.inl rfl) rfl (by exact s_sub (pc := 68) [0, 3] rfl (w_X1_execute_68 a0 a3 (some e7.2) h6)))) (fun _ => zT_ite (fun hx => (zT_out (fun q hq => by rw [hx] at hq; cases hq; exact (zpn (by decide) q2311 (by decide +kernel) (zpn (by decide) q2549 (by decide +kernel) (zpn (by decide) q2282 (by decide +kernel) (zpn (by decide) q2291 (by decide +kernel) (zpn (by decide) q2397 (by decide +kernel) (zpn (by decide) q2357 (by decide +kernel) zp0))))))))) (fun _ => zT_ite (fun hx => (zT_catch (q := (RX7, TX7, 7)) [] (14, 41, 44, 98) [(14, 41, 68, 83), (14, 41, 68, 86), (14, 41, 68, 89), (14, 41, 68, 92), (14, 41, 68, 95)] rfl (by rw [hx]; rfl) zp0 rfl (by decide) q2311 (Or.inl rfl) rfl (by exact s_sub (pc := 44) [0, 3] rfl (w_X1_execute_44 a0 a3 (some e7.2) h6)))) (fun _ => zT_ite (fun hx => (zT_out (fun q hq => by rw [hx] at hq; cases hq; exact (zpn (by decide) q2311 (by decide +kernel) (zpn (by decide) q2549 (by decide +kernel) (zpn (by decide) q2282 (by decide +kernel) (zpn (by decide) q2291 (by decide +kernel) (zpn (by decide) q2397 (by decide +kernel) (zpn (by decide) q2357 (by decide +kernel) zp0))))))))) (fun _ => zT_none)))))))))
      refine s_aload_n (pc := 27) 2 dX1_execute_27 rfl rfl ?_
      refine s_callL (pc := 28) (np := 1) (as := [va_rf a2]) (rest := []) (d' := 15) dX1_execute_28 (by decide) (c_op_apply (by decide) r8 a2 h9) rfl rfl q2313 rfl (by decide) (zkI (fun x12 h13 => ?_)) (fun e11 h10 => zT_ite (fun hx => (zT_catch (q := (RJ34, TJ34, 0)) [(14, 41, 44, 98), (14, 41, 68, 83)] (14, 41, 68, 86) [(14, 41, 68, 89), (14, 41, 68, 92), (14, 41, 68, 95)] rfl (by rw [hx]; rfl) (zpn (by decide) q2311 (by decide +kernel) (zpn (by decide) q2549 (by decide +kernel) zp0)) rfl (by decide) q2282 (Or.inl rfl) rfl (by exact s_sub (pc := 68) [0, 3] rfl (w_X1_execute_68 a0 a3 (some e11.2) h10)))) (fun _ => zT_ite (fun hx => (zT_catch (q := (RJ39, TJ39, 0)) [(14, 41, 44, 98), (14, 41, 68, 83), (14, 41, 68, 86)] (14, 41, 68, 89) [(14, 41, 68, 92), (14, 41, 68, 95)] rfl (by rw [hx]; rfl) (zpn (by decide) q2311 (by decide +kernel) (zpn (by decide) q2549 (by decide +kernel) (zpn (by decide) q2282 (by decide +kernel) zp0))) rfl (by decide) q2291 (Or.inl rfl) rfl (by exact s_sub (pc := 68) [0, 3] rfl (w_X1_execute_68 a0 a3 (some e11.2) h10)))) (fun _ => zT_ite (fun hx => (zT_catch (q := (RJ28, TJ28, 0)) [(14, 41, 44, 98), (14, 41, 68, 83), (14, 41, 68, 86), (14, 41, 68, 89)] (14, 41, 68, 92) [(14, 41, 68, 95)] rfl (by rw [hx]; rfl) (zpn (by decide) q2311 (by decide +kernel) (zpn (by decide) q2549 (by decide +kernel) (zpn (by decide) q2282 (by decide +kernel) (zpn (by decide) q2291 (by decide +kernel) zp0)))) rfl (by decide) q2397 (Or.inl rfl) rfl (by exact s_sub (pc := 68) [0, 3] rfl (w_X1_execute_68 a0 a3 (some e11.2) h10)))) (fun _ => zT_ite (fun hx => (zT_catch (q := (RJ44, TJ44, 0)) [(14, 41, 44, 98), (14, 41, 68, 83), (14, 41, 68, 86), (14, 41, 68, 89), (14, 41, 68, 92)] (14, 41, 68, 95) [] rfl (by rw [hx]; rfl) (zpn (by decide) q2311 (by decide +kernel) (zpn (by decide) q2549 (by decide +kernel) (zpn (by decide) q2282 (by decide +kernel) (zpn (by decide) q2291 (by decide +kernel) (zpn (by decide) q2397 (by decide +kernel) zp0))))) rfl (by decide) q2357 (Or.inl rfl) rfl (by exact s_sub (pc := 68) [0, 3] rfl (w_X1_execute_68 a0 a3 (some e11.2) h10)))) (fun _ => zT_ite (fun hx => (zT_catch (q := (RJ29, TJ29, 0)) [(14, 41, 44, 98)] (14, 41, 68, 83) [(14, 41, 68, 86), (14, 41, 68, 89), (14, 41, 68, 92), (14, 41, 68, 95)] rfl (by rw [hx]; rfl) (zpn (by decide) q2311 (by decide +kernel) zp0) rfl (by decide) q2549 (Or.inl rfl) rfl (by exact s_sub (pc := 68) [0, 3] rfl (w_X1_execute_68 a0 a3 (some e11.2) h10)))) (fun _ => zT_ite (fun hx => (zT_out (fun q hq => by rw [hx] at hq; cases hq; exact (zpn (by decide) q2311 (by decide +kernel) (zpn (by decide) q2549 (by decide +kernel) (zpn (by decide) q2282 (by decide +kernel) (zpn (by decide) q2291 (by decide +kernel) (zpn (by decide) q2397 (by decide +kernel) (zpn (by decide) q2357 (by decide +kernel) zp0))))))))) (fun _ => zT_ite (fun hx => (zT_catch (q := (RX7, TX7, 7)) [] (14, 41, 44, 98) [(14, 41, 68, 83), (14, 41, 68, 86), (14, 41, 68, 89), (14, 41, 68, 92), (14, 41, 68, 95)] rfl (by rw [hx]; rfl) zp0 rfl (by decide) q2311 (Or.inl rfl) rfl (by exact s_sub (pc := 44) [0, 3] rfl (w_X1_execute_44 a0 a3 (some e11.2) h10)))) (fun _ => zT_ite (fun hx => (zT_out (fun q hq => by rw [hx] at hq; cases hq; exact (zpn (by decide) q2311 (by decide +kernel) (zpn (by decide) q2549 (by decide +kernel) (zpn (by decide) q2282 (by decide +kernel) (zpn (by decide) q2291 (by decide +kernel) (zpn (by decide) q2397 (by decide +kernel) (zpn (by decide) q2357 (by decide +kernel) zp0))))))))) (fun _ => zT_none)))))))))
      refine s_ist (pc := 33) (L2 := [(0, va_rf a0), (1, va_rf a1), (2, va_rf a2), (3, .int a3)]) [0, 1, 2, 3] dX1_execute_33 (by decide) rfl rfl (zcB (j := 3) rfl rfl rfl) ?_
      refine s_inc (pc := 35) (v := 1) (L2 := [(0, va_rf a0), (1, va_rf a1), (2, va_rf a2)]) 4 [1, 2, 3] dX1_execute_35 rfl (by decide) (by decide) rfl rfl (zcB (j := 2) rfl (zcat_rf a2) rfl) (fun x14 => ?_)
      refine s_goto (pc := 38) (tgt := 14) dX1_execute_38 (by decide) ?_
      exact s_sub (pc := 14) [1, 2, 3, 0] rfl (ih a0 a1 a2 x14 h13)
theorem w_X1_execute (v0 : Option Nat) (v1 : Option Nat) (h : zH) : zS D z yX1_execute cX1_execute 5 (some .int) [(14, 41, 44, 98), (14, 41, 68, 83), (14, 41, 68, 86), (14, 41, 68, 89), (14, 41, 68, 92), (14, 41, 68, 95)] 16 h 0 [(0, va_rf v0), (1, va_rf v1)] [] (f_X1_execute v0 v1 h) := by
  unfold f_X1_execute
  refine s_new (pc := 0) dX1_execute_0 nf_X1_27 (fun r1 h2 => ?_)
  refine s_dup (pc := 3) dX1_execute_3 (zcat_rf _) ?_
  refine s_aload_n (pc := 4) 0 dX1_execute_4 rfl rfl ?_
  refine s_gR (pc := 5) dX1_execute_5 gf_X1_30 (fun r3 => ?_)
  refine zS_ite (fun hr => ?_) (fun _ => zS_none)
  refine s_callC (pc := 8) (np := 1) (as := [va_rf r3]) (rest := [va_rf r1]) dX1_execute_8 hr (c_X2_init_2 (by decide) r1 r3 h2) ⟨_, _, q1994⟩ rfl rfl rfl q1992 q1993 rfl (by simp [zcat_rf, zcat_i, zcat_l, zcat_f, zcat_d]) (zkV (fun h4 => ?_)) (zxo1 rfl)
  refine s_ast_n (pc := 11) (L2 := [(0, va_rf v0), (1, va_rf v1)]) [0, 1] dX1_execute_11 rfl (by decide) rfl rfl (zcB (j := 1) rfl (zcat_rf v1) rfl) ?_
  refine s_iconst (pc := 12) (v := 0) dX1_execute_12 (by decide) ?_
  refine s_ist_n (pc := 13) (L2 := [(2, va_rf r1), (0, va_rf v0), (1, va_rf v1)]) [0, 1, 2] dX1_execute_13 rfl (by decide) rfl rfl (zcB (j := 0) rfl (zcat_rf r1) rfl) ?_
  exact s_sub (pc := 14) [2, 3, 1, 0] rfl (w_X1_execute_14 zfuel v0 v1 r1 0 h4)
theorem c_X1_execute {d0 : Nat} (hd0 : 16 < d0) (v0 : Option Nat) (v1 : Option Nat) (h : zH) : zCal D z d0 h yX1_execute [va_rf v0, va_rf v1] (f_X1_execute v0 v1 h) :=
  ⟨cX1_execute, 5, (some .int), [(14, 41, 44, 98), (14, 41, 68, 83), (14, 41, 68, 86), (14, 41, 68, 89), (14, 41, 68, 92), (14, 41, 68, 95)], 16, (show lv_args 0 [va_rf v0, va_rf v1] = [(0, va_rf v0), (1, va_rf v1)] by simp [lv_args, zcat_rf, zcat_i, zcat_l, zcat_f, zcat_d]) ▸ w_X1_execute v0 v1 h, (plainFor_of_name (by decide)), by simp [lg_sl, zcat_rf, zcat_i, zcat_l, zcat_f, zcat_d], q3064, q95, hd0, by decide, by decide⟩
theorem w_J31_fill (v0 : Option Nat) (v1 : Int32) (v2 : Int32) (v3 : Int32) (h : zH) : zS D z yJ31_fill cJ31_fill 5 none [] 1 h 0 [(0, va_rf v0), (1, .int v1), (2, .int v2), (3, .int v3)] [] (f_J31_fill v0 v1 v2 v3 h) := by
  unfold f_J31_fill
  refine s_aload_n (pc := 0) 0 dJ31_fill_0 rfl rfl ?_
  refine s_alen (pc := 1) dJ31_fill_1 zarrs_ok (fun x1 => ?_)
  refine s_iload_n (pc := 2) 1 dJ31_fill_2 rfl rfl ?_
  refine s_iload_n (pc := 3) 2 dJ31_fill_3 rfl rfl ?_
  exact zS_none
theorem c_J31_fill {d0 : Nat} (hd0 : 1 < d0) (v0 : Option Nat) (v1 : Int32) (v2 : Int32) (v3 : Int32) (h : zH) : zCal D z d0 h yJ31_fill [va_rf v0, .int v1, .int v2, .int v3] (f_J31_fill v0 v1 v2 v3 h) :=
  ⟨cJ31_fill, 5, none, [], 1, (show lv_args 0 [va_rf v0, .int v1, .int v2, .int v3] = [(0, va_rf v0), (1, .int v1), (2, .int v2), (3, .int v3)] by simp [lv_args, zcat_rf, zcat_i, zcat_l, zcat_f, zcat_d]) ▸ w_J31_fill v0 v1 v2 v3 h, (plainFor_of_name (by decide)), by simp [lg_sl, zcat_rf, zcat_i, zcat_l, zcat_f, zcat_d], q3100, q129, hd0, by decide, by decide⟩
theorem w_J33_fillNull (v0 : Option Nat) (v1 : Int32) (v2 : Int32) (h : zH) : zS D z yJ33_fillNull cJ33_fillNull 3 none [] 2 h 0 [(0, va_rf v0), (1, .int v1), (2, .int v2)] [] (f_J33_fillNull v0 v1 v2 h) := by
  unfold f_J33_fillNull
  refine s_aload_n (pc := 0) 0 dJ33_fillNull_0 rfl rfl ?_
  refine s_iload_n (pc := 1) 1 dJ33_fillNull_1 rfl rfl ?_
  refine s_iload_n (pc := 2) 2 dJ33_fillNull_2 rfl rfl ?_
  refine s_iconst (pc := 3) (v := 0) dJ33_fillNull_3 (by decide) ?_
  refine s_callSS (pc := 4) (np := 4) (as := [va_rf v0, .int v1, .int v2, .int 0]) (rest := []) dJ33_fillNull_4 (c_J31_fill (by decide) v0 v1 v2 0 h) rfl rfl q3098 q3099 rfl (by decide) (zkV (fun h1 => ?_)) zxo
  exact s_vret (pc := 7) dJ33_fillNull_7 rfl
theorem c_J33_fillNull {d0 : Nat} (hd0 : 2 < d0) (v0 : Option Nat) (v1 : Int32) (v2 : Int32) (h : zH) : zCal D z d0 h yJ33_fillNull [va_rf v0, .int v1, .int v2] (f_J33_fillNull v0 v1 v2 h) :=
  ⟨cJ33_fillNull, 3, none, [], 2, (show lv_args 0 [va_rf v0, .int v1, .int v2] = [(0, va_rf v0), (1, .int v1), (2, .int v2)] by simp [lv_args, zcat_rf, zcat_i, zcat_l, zcat_f, zcat_d]) ▸ w_J33_fillNull v0 v1 v2 h, (plainFor_of_name (by decide)), by simp [lg_sl, zcat_rf, zcat_i, zcat_l, zcat_f, zcat_d], q3097, q132, hd0, by decide, by decide⟩
theorem w_J7_setLength (v0 : Option Nat) (v1 : Int32) (h : zH) : zS D z yJ7_setLength cJ7_setLength 2 none [] 5 h 0 [(0, va_rf v0), (1, .int v1)] [] (f_J7_setLength v0 v1 h) := by
  unfold f_J7_setLength
  refine s_iload_n (pc := 0) 1 dJ7_setLength_0 rfl rfl ?_
  refine s_if_ge (pc := 1) (tgt := 13) dJ7_setLength_1 (by decide) (fun _ => ?_) (fun _ => ?_)
  · refine s_aload_n (pc := 13) 0 dJ7_setLength_13 rfl rfl ?_
    refine s_iload_n (pc := 14) 1 dJ7_setLength_14 rfl rfl ?_
    refine zS_ite (fun ht => ?_) (fun _ => zS_none)
    refine s_callVP (pc := 15) (np := 1) (as := [.int v1]) (rest := []) dJ7_setLength_15 ht (q := (RJ8, TJ8, 4)) rfl (c_J7_ensureCapacityInternal (by decide) v0 v1 h) ⟨_, _, _, q872⟩ rfl rfl q869 q871 q870 q905 rfl rfl (by decide) (zkV (fun h1 => ?_)) zxo
    refine s_aload_n (pc := 18) 0 dJ7_setLength_18 rfl rfl ?_
    refine s_gI (pc := 19) dJ7_setLength_19 gf_J7_79 (fun x2 => ?_)
    refine s_iload_n (pc := 22) 1 dJ7_setLength_22 rfl rfl ?_
    refine s_icmp_ge (pc := 23) (tgt := 63) dJ7_setLength_23 (by decide) (fun _ => ?_) (fun _ => ?_)
    · refine s_aload_n (pc := 63) 0 dJ7_setLength_63 rfl rfl ?_
      refine s_gI (pc := 64) dJ7_setLength_64 gf_J7_79 (fun x3 => ?_)
      refine s_iload_n (pc := 67) 1 dJ7_setLength_67 rfl rfl ?_
      refine s_icmp_le (pc := 68) (tgt := 76) dJ7_setLength_68 (by decide) (fun _ => ?_) (fun _ => ?_)
      · refine s_aload_n (pc := 76) 0 dJ7_setLength_76 rfl rfl ?_
        refine s_iload_n (pc := 77) 1 dJ7_setLength_77 rfl rfl ?_
        refine s_putI (pc := 78) dJ7_setLength_78 pf_J7_79 (fun h4 => ?_)
        exact s_vret (pc := 81) dJ7_setLength_81 rfl
      · refine s_aload_n (pc := 71) 0 dJ7_setLength_71 rfl rfl ?_
        refine s_iconst (pc := 72) (v := 1) dJ7_setLength_72 (by decide) ?_
        refine s_putN (pc := 73) dJ7_setLength_73 pf_J7_73 (fun h5 => ?_)
        refine s_aload_n (pc := 76) 0 dJ7_setLength_76 rfl rfl ?_
        refine s_iload_n (pc := 77) 1 dJ7_setLength_77 rfl rfl ?_
        refine s_putI (pc := 78) dJ7_setLength_78 pf_J7_79 (fun h6 => ?_)
        exact s_vret (pc := 81) dJ7_setLength_81 rfl
    · refine s_aload_n (pc := 26) 0 dJ7_setLength_26 rfl rfl ?_
      refine zS_ite (fun ht => ?_) (fun _ => zS_none)
      refine s_callVU (pc := 27) (np := 0) (as := []) (rest := []) (owner := "java/lang/AbstractStringBuilder") dJ7_setLength_27 ht (q := (RJ8, TJ8, 4)) rfl (c_J7_isLatin1 (by decide) v0 h1) ⟨_, _, _, q906⟩ rfl rfl q902 q904 (Or.inl ⟨_, _, _, q903, q906⟩) (by decide) q903 q905 rfl (by decide) (zkI (fun x7 h8 => ?_)) zxo
      refine s_if_eq (pc := 30) (tgt := 48) dJ7_setLength_30 (by decide) (fun _ => ?_) (fun _ => ?_)
      · refine s_aload_n (pc := 48) 0 dJ7_setLength_48 rfl rfl ?_
        refine s_gR (pc := 49) dJ7_setLength_49 gf_J7_15 (fun r9 => ?_)
        refine s_aload_n (pc := 52) 0 dJ7_setLength_52 rfl rfl ?_
        refine s_gI (pc := 53) dJ7_setLength_53 gf_J7_79 (fun x10 => ?_)
        refine s_iload_n (pc := 56) 1 dJ7_setLength_56 rfl rfl ?_
        exact zS_none
      · refine s_aload_n (pc := 33) 0 dJ7_setLength_33 rfl rfl ?_
        refine s_gR (pc := 34) dJ7_setLength_34 gf_J7_15 (fun r12 => ?_)
        refine s_aload_n (pc := 37) 0 dJ7_setLength_37 rfl rfl ?_
        refine s_gI (pc := 38) dJ7_setLength_38 gf_J7_79 (fun x13 => ?_)
        refine s_iload_n (pc := 41) 1 dJ7_setLength_41 rfl rfl ?_
        refine s_callSS (pc := 42) (np := 3) (as := [va_rf r12, .int x13, .int v1]) (rest := []) dJ7_setLength_42 (c_J33_fillNull (by decide) r12 x13 v1 h8) rfl rfl q3095 q3096 rfl (by decide) (zkV (fun h14 => ?_)) zxo
        refine s_goto (pc := 45) (tgt := 76) dJ7_setLength_45 (by decide) ?_
        refine s_aload_n (pc := 76) 0 dJ7_setLength_76 rfl rfl ?_
        refine s_iload_n (pc := 77) 1 dJ7_setLength_77 rfl rfl ?_
        refine s_putI (pc := 78) dJ7_setLength_78 pf_J7_79 (fun h15 => ?_)
        exact s_vret (pc := 81) dJ7_setLength_81 rfl
  · exact zS_none
theorem c_J7_setLength {d0 : Nat} (hd0 : 5 < d0) (v0 : Option Nat) (v1 : Int32) (h : zH) : zCal D z d0 h yJ7_setLength [va_rf v0, .int v1] (f_J7_setLength v0 v1 h) :=
  ⟨cJ7_setLength, 2, none, [], 5, (show lv_args 0 [va_rf v0, .int v1] = [(0, va_rf v0), (1, .int v1)] by simp [lv_args, zcat_rf, zcat_i, zcat_l, zcat_f, zcat_d]) ▸ w_J7_setLength v0 v1 h, (plainFor_of_name (by decide)), by simp [lg_sl, zcat_rf, zcat_i, zcat_l, zcat_f, zcat_d], q3075, q104, hd0, by decide, by decide⟩
theorem w_J8_setLength (v0 : Option Nat) (v1 : Int32) (h : zH) : zS D z yJ8_setLength cJ8_setLength 2 none [] 6 h 0 [(0, va_rf v0), (1, .int v1)] [] (f_J8_setLength v0 v1 h) := by
  unfold f_J8_setLength
  refine s_aload_n (pc := 0) 0 dJ8_setLength_0 rfl rfl ?_
  refine s_iload_n (pc := 1) 1 dJ8_setLength_1 rfl rfl ?_
  refine zS_ite (fun ht => ?_) (fun _ => zS_none)
  refine s_callSU (pc := 2) (np := 1) (as := [.int v1]) (rest := []) dJ8_setLength_2 ht (q := (RJ8, TJ8, 4)) rfl (c_J7_setLength (by decide) v0 v1 h) ⟨_, _, _, q3075⟩ (by decide) rfl rfl q3073 q3781 q355 q3074 rfl (by decide) (zkV (fun h1 => ?_)) zxo
  exact s_vret (pc := 5) dJ8_setLength_5 rfl
theorem c_J8_setLength {d0 : Nat} (hd0 : 6 < d0) (v0 : Option Nat) (v1 : Int32) (h : zH) : zCal D z d0 h yJ8_setLength [va_rf v0, .int v1] (f_J8_setLength v0 v1 h) :=
  ⟨cJ8_setLength, 2, none, [], 6, (show lv_args 0 [va_rf v0, .int v1] = [(0, va_rf v0), (1, .int v1)] by simp [lv_args, zcat_rf, zcat_i, zcat_l, zcat_f, zcat_d]) ▸ w_J8_setLength v0 v1 h, (plainFor_of_name (by decide)), by simp [lg_sl, zcat_rf, zcat_i, zcat_l, zcat_f, zcat_d], q3072, q105, hd0, by decide, by decide⟩
theorem w_X1_run_43 (a0 : Option Nat) (s0 : Option Nat) (h : zH) : zS D z yX1_run cX1_run 3 (some .int) [(0, 16, 26, 309), (0, 16, 43, 0), (26, 44, 43, 0)] 53 h 43 [(0, va_rf a0)] [va_rf s0] (f_X1_run_43 a0 s0 h) := by
  unfold f_X1_run_43
  refine s_ast_n (pc := 43) (L2 := [(0, va_rf a0)]) [0] dX1_run_43 rfl (by decide) rfl rfl (zcA rfl) ?_
  refine s_aload_n (pc := 44) 1 dX1_run_44 rfl rfl ?_
  refine s_gR (pc := 45) dX1_run_45 gf_X1_44 (fun r16 => ?_)
  refine s_iconst (pc := 48) (v := 0) dX1_run_48 (by decide) ?_
  refine zS_ite (fun ht => ?_) (fun _ => zS_none)
  refine s_callV (pc := 49) (np := 1) (as := [.int 0]) (rest := []) dX1_run_49 ht (q := (RJ8, TJ8, 4)) rfl (c_J8_setLength (by decide) r16 0 h) rfl rfl q3069 q3070 q3071 rfl (by decide) (zkV (fun h17 => ?_)) (zxo1 rfl)
  refine s_aload_n (pc := 52) 0 dX1_run_52 rfl rfl ?_
  exact s_athrow (pc := 53) dX1_run_53 rfl (fun x => (zxo1 rfl) x _)
theorem w_X1_run_26 (a0 : Option Nat) (s0 : Option Nat) (h : zH) : zS D z yX1_run cX1_run 3 (some .int) [(0, 16, 26, 309), (0, 16, 43, 0), (26, 44, 43, 0)] 53 h 26 [(0, va_rf a0)] [va_rf s0] (f_X1_run_26 a0 s0 h) := by
  unfold f_X1_run_26
  refine s_ast_n (pc := 26) (L2 := [(0, va_rf a0)]) [0] dX1_run_26 rfl (by decide) rfl rfl (zcB (j := 0) rfl (zcat_rf a0) rfl) ?_
  refine s_aload_n (pc := 27) 1 dX1_run_27 rfl rfl ?_
  refine s_aload_n (pc := 28) 0 dX1_run_28 rfl rfl ?_
  refine s_gI (pc := 29) dX1_run_29 gf_X1_311 (fun x18 => ?_)
  refine s_putI (pc := 32) dX1_run_32 pf_X1_54 (fun h19 => ?_)
  refine s_make0 (pc := 35) dX1_run_35 dX1_run_38 dX1_run_39 xf_X1_86_88 (by decide) (by decide) (fun r20 h21 => ?_)
  refine s_athrow (pc := 42) dX1_run_42 rfl (fun x => ?_)
  exact zT_any [(0, 16, 26, 309), (0, 16, 43, 0)] (26, 44, 43, 0) [] rfl (fun q hq => (zpc rfl (zpc rfl zp0))) rfl rfl rfl (by exact s_sub (pc := 43) [1] rfl (w_X1_run_43 a0 (some x.2) h21))
theorem w_X1_run (v0 : Option Nat) (h : zH) : zS D z yX1_run cX1_run 3 (some .int) [(0, 16, 26, 309), (0, 16, 43, 0), (26, 44, 43, 0)] 53 h 0 [(0, va_rf v0)] [] (f_X1_run v0 h) := by
  unfold f_X1_run
  refine s_aload_n (pc := 0) 0 dX1_run_0 rfl rfl ?_
  refine s_new (pc := 1) dX1_run_1 nf_X1_293 (fun r1 h2 => ?_)
  refine s_dup (pc := 4) dX1_run_4 (zcat_rf _) ?_
  refine s_aload_n (pc := 5) 0 dX1_run_5 rfl rfl ?_
  refine zS_ite (fun hr => ?_) (fun _ => zS_none)
  refine s_callCN (pc := 6) (np := 1) (as := [va_rf v0]) (rest := [va_rf r1, va_rf v0]) dX1_run_6 hr (c_X10_init (by decide) r1 v0 h2) ⟨_, _, q2877⟩ rfl rfl rfl q2875 q2876 rfl (by simp [zcat_rf, zcat_i, zcat_l, zcat_f, zcat_d]) (zkV (fun h5 => ?_)) (fun e4 h3 => zT_ite (fun hx => (zT_catch (q := (RX12, TX12, 7)) [] (0, 16, 26, 309) [(0, 16, 43, 0), (26, 44, 43, 0)] rfl (by rw [hx]; rfl) zp0 rfl (by decide) q2872 (Or.inl rfl) rfl (by exact s_sub (pc := 26) [0] rfl (w_X1_run_26 v0 (some e4.2) h3)))) (fun _ => zT_none))
  refine zS_ite (fun ht => ?_) (fun _ => zS_none)
  refine s_callV (pc := 9) (np := 0) (as := []) (rest := [va_rf v0]) dX1_run_9 ht (q := (RX10, TX10, 2)) rfl (c_X10_program (by decide) r1 h5) rfl rfl q2886 q2887 q2888 rfl (by simp [zcat_rf, zcat_i, zcat_l, zcat_f, zcat_d]) (zkR (fun r8 h9 => ?_)) (fun e7 h6 => zT_ite (fun hx => (zT_catch (q := (RX12, TX12, 7)) [] (0, 16, 26, 309) [(0, 16, 43, 0), (26, 44, 43, 0)] rfl (by rw [hx]; rfl) zp0 rfl (by decide) q2872 (Or.inl rfl) rfl (by exact s_sub (pc := 26) [0] rfl (w_X1_run_26 v0 (some e7.2) h6)))) (fun _ => zT_none))
  refine zS_ite (fun ht => ?_) (fun _ => zS_none)
  refine s_callV (pc := 12) (np := 1) (as := [va_rf r8]) (rest := []) dX1_run_12 ht (q := (RX1, TX1, 11)) rfl (c_X1_execute (by decide) v0 r8 h9) rfl rfl q3061 q3063 qs43 rfl (by decide) (zkI (fun x12 h13 => ?_)) (fun e11 h10 => zT_ite (fun hx => (zT_catch (q := (RX12, TX12, 7)) [] (0, 16, 26, 309) [(0, 16, 43, 0), (26, 44, 43, 0)] rfl (by rw [hx]; rfl) zp0 rfl (by decide) q2872 (Or.inl rfl) rfl (by exact s_sub (pc := 26) [0] rfl (w_X1_run_26 v0 (some e11.2) h10)))) (fun _ => zT_none))
  refine s_ist_n (pc := 15) (L2 := [(0, va_rf v0)]) [0] dX1_run_15 rfl (by decide) rfl rfl (zcB (j := 0) rfl (zcat_rf v0) rfl) ?_
  refine s_aload_n (pc := 16) 1 dX1_run_16 rfl rfl ?_
  refine s_gR (pc := 17) dX1_run_17 gf_X1_44 (fun r14 => ?_)
  refine s_iconst (pc := 20) (v := 0) dX1_run_20 (by decide) ?_
  refine zS_ite (fun ht => ?_) (fun _ => zS_none)
  refine s_callV (pc := 21) (np := 1) (as := [.int 0]) (rest := []) dX1_run_21 ht (q := (RJ8, TJ8, 4)) rfl (c_J8_setLength (by decide) r14 0 h13) rfl rfl q3069 q3070 q3071 rfl (by decide) (zkV (fun h15 => ?_)) (zxo1 rfl)
  refine s_iload_n (pc := 24) 0 dX1_run_24 rfl rfl ?_
  exact s_iret (pc := 25) dX1_run_25 rfl
theorem c_X1_run {d0 : Nat} (hd0 : 53 < d0) (v0 : Option Nat) (h : zH) : zCal D z d0 h yX1_run [va_rf v0] (f_X1_run v0 h) :=
  ⟨cX1_run, 3, (some .int), [(0, 16, 26, 309), (0, 16, 43, 0), (26, 44, 43, 0)], 53, (show lv_args 0 [va_rf v0] = [(0, va_rf v0)] by simp [lv_args, zcat_rf, zcat_i, zcat_l, zcat_f, zcat_d]) ▸ w_X1_run v0 h, (plainFor_of_name (by decide)), by simp [lg_sl, zcat_rf, zcat_i, zcat_l, zcat_f, zcat_d], q2871, q95, hd0, by decide, by decide⟩
theorem w_X0_run_11 (s0 : Option Nat) (h : zH) : zS D z yX0_run cX0_run 3 (some .int) [(0, 8, 11, 13), (0, 8, 14, 15)] 54 h 11 [] [va_rf s0] (f_X0_run_11 s0 h) := by
  unfold f_X0_run_11
  refine s_ast_n (pc := 11) (L2 := []) [] dX0_run_11 rfl (by decide) rfl rfl (zcA rfl) ?_
  refine s_iconst (pc := 12) (v := 1) dX0_run_12 (by decide) ?_
  exact s_iret (pc := 13) dX0_run_13 rfl
theorem w_X0_run_14 (s0 : Option Nat) (h : zH) : zS D z yX0_run cX0_run 3 (some .int) [(0, 8, 11, 13), (0, 8, 14, 15)] 54 h 14 [] [va_rf s0] (f_X0_run_14 s0 h) := by
  unfold f_X0_run_14
  refine s_ast_n (pc := 14) (L2 := []) [] dX0_run_14 rfl (by decide) rfl rfl (zcA rfl) ?_
  refine s_iconst (pc := 15) (v := 2) dX0_run_15 (by decide) ?_
  exact s_iret (pc := 16) dX0_run_16 rfl
theorem w_X0_run (v0 : Option Nat) (v1 : Option Nat) (h : zH) : zS D z yX0_run cX0_run 3 (some .int) [(0, 8, 11, 13), (0, 8, 14, 15)] 54 h 0 [(0, va_rf v0), (1, va_rf v1)] [] (f_X0_run v0 v1 h) := by
  unfold f_X0_run
  refine s_aload_n (pc := 0) 1 dX0_run_0 rfl rfl ?_
  refine s_iconst (pc := 1) (v := 0) dX0_run_1 (by decide) ?_
  refine s_aload_n (pc := 2) 0 dX0_run_2 rfl rfl ?_
  refine zS_ite (fun ht => ?_) (fun _ => zS_none)
  refine s_callV (pc := 3) (np := 0) (as := []) (rest := [.int 0, va_rf v1]) dX0_run_3 ht (q := (RX1, TX1, 11)) rfl (c_X1_run (by decide) v0 h) rfl rfl q2868 q2869 q2870 rfl (by simp [zcat_rf, zcat_i, zcat_l, zcat_f, zcat_d]) (zkI (fun x3 h4 => ?_)) (fun e2 h1 => zT_ite (fun hx => (zT_catch (q := (RJ34, TJ34, 0)) [] (0, 8, 11, 13) [(0, 8, 14, 15)] rfl (by rw [hx]; rfl) zp0 rfl (by decide) q2266 (Or.inl rfl) rfl (by exact s_sub (pc := 11) [] rfl (w_X0_run_11 (some e2.2) h1)))) (fun _ => zT_ite (fun hx => (zT_catch (q := (RJ39, TJ39, 0)) [(0, 8, 11, 13)] (0, 8, 14, 15) [] rfl (by rw [hx]; rfl) (zpn (by decide) q2266 (by decide +kernel) zp0) rfl (by decide) q2267 (Or.inl rfl) rfl (by exact s_sub (pc := 14) [] rfl (w_X0_run_14 (some e2.2) h1)))) (fun _ => zT_ite (fun hx => (zT_out (fun q hq => by rw [hx] at hq; cases hq; exact (zpn (by decide) q2266 (by decide +kernel) (zpn (by decide) q2267 (by decide +kernel) zp0))))) (fun _ => zT_ite (fun hx => (zT_out (fun q hq => by rw [hx] at hq; cases hq; exact (zpn (by decide) q2266 (by decide +kernel) (zpn (by decide) q2267 (by decide +kernel) zp0))))) (fun _ => zT_ite (fun hx => (zT_out (fun q hq => by rw [hx] at hq; cases hq; exact (zpn (by decide) q2266 (by decide +kernel) (zpn (by decide) q2267 (by decide +kernel) zp0))))) (fun _ => zT_ite (fun hx => (zT_out (fun q hq => by rw [hx] at hq; cases hq; exact (zpn (by decide) q2266 (by decide +kernel) (zpn (by decide) q2267 (by decide +kernel) zp0))))) (fun _ => zT_ite (fun hx => (zT_out (fun q hq => by rw [hx] at hq; cases hq; exact (zpn (by decide) q2266 (by decide +kernel) (zpn (by decide) q2267 (by decide +kernel) zp0))))) (fun _ => zT_ite (fun hx => (zT_out (fun q hq => by rw [hx] at hq; cases hq; exact (zpn (by decide) q2266 (by decide +kernel) (zpn (by decide) q2267 (by decide +kernel) zp0))))) (fun _ => zT_none)))))))))
  refine s_i2l (pc := 6) dX0_run_6 ?_
  refine s_last (pc := 7) dX0_run_7 (ztc rfl zt0) (fun h5 => ?_)
  refine s_goto (pc := 8) (tgt := 17) dX0_run_8 (by decide) ?_
  refine s_iconst (pc := 17) (v := 0) dX0_run_17 (by decide) ?_
  exact s_iret (pc := 18) dX0_run_18 rfl
theorem c_X0_run {d0 : Nat} (hd0 : 54 < d0) (v0 : Option Nat) (v1 : Option Nat) (h : zH) : zCal D z d0 h yX0_run [va_rf v0, va_rf v1] (f_X0_run v0 v1 h) :=
  ⟨cX0_run, 3, (some .int), [(0, 8, 11, 13), (0, 8, 14, 15)], 54, (show lv_args 0 [va_rf v0, va_rf v1] = [(0, va_rf v0), (1, va_rf v1)] by simp [lv_args, zcat_rf, zcat_i, zcat_l, zcat_f, zcat_d]) ▸ w_X0_run v0 v1 h, (plainFor_of_name (by decide)), by simp [lg_sl, zcat_rf, zcat_i, zcat_l, zcat_f, zcat_d], q2867, q94, hd0, by decide, by decide⟩
theorem w_X1_errorPosition_12 (a0 : Option Nat) (s0 : Int32) (h : zH) : zS D z yX1_errorPosition cX1_errorPosition 1 (some .int) [] 9 h 12 [(0, va_rf a0)] [.int s0] (f_X1_errorPosition_12 a0 s0 h) := by
  unfold f_X1_errorPosition_12
  refine s_callSS (pc := 12) (np := 1) (as := [.int s0]) (rest := []) dX1_errorPosition_12 (c_X1_checkElement (by decide) s0 h) rfl rfl q2612 q2395 rfl (by decide) (zkV (fun h2 => ?_)) zxo
  refine s_aload_n (pc := 15) 0 dX1_errorPosition_15 rfl rfl ?_
  refine s_gI (pc := 16) dX1_errorPosition_16 gf_X1_54 (fun x3 => ?_)
  exact s_iret (pc := 19) dX1_errorPosition_19 rfl
theorem w_X1_errorPosition (v0 : Option Nat) (h : zH) : zS D z yX1_errorPosition cX1_errorPosition 1 (some .int) [] 9 h 0 [(0, va_rf v0)] [] (f_X1_errorPosition v0 h) := by
  unfold f_X1_errorPosition
  refine s_aload_n (pc := 0) 0 dX1_errorPosition_0 rfl rfl ?_
  refine s_gI (pc := 1) dX1_errorPosition_1 gf_X1_54 (fun x1 => ?_)
  refine s_if_lt (pc := 4) (tgt := 11) dX1_errorPosition_4 (by decide) (fun _ => ?_) (fun _ => ?_)
  · refine s_iconst (pc := 11) (v := 0) dX1_errorPosition_11 (by decide) ?_
    exact s_sub (pc := 12) [0] rfl (w_X1_errorPosition_12 v0 0 h)
  · refine s_iconst (pc := 7) (v := 1) dX1_errorPosition_7 (by decide) ?_
    refine s_goto (pc := 8) (tgt := 12) dX1_errorPosition_8 (by decide) ?_
    exact s_sub (pc := 12) [0] rfl (w_X1_errorPosition_12 v0 1 h)
theorem c_X1_errorPosition {d0 : Nat} (hd0 : 9 < d0) (v0 : Option Nat) (h : zH) : zCal D z d0 h yX1_errorPosition [va_rf v0] (f_X1_errorPosition v0 h) :=
  ⟨cX1_errorPosition, 1, (some .int), [], 9, (show lv_args 0 [va_rf v0] = [(0, va_rf v0)] by simp [lv_args, zcat_rf, zcat_i, zcat_l, zcat_f, zcat_d]) ▸ w_X1_errorPosition v0 h, (plainFor_of_name (by decide)), by simp [lg_sl, zcat_rf, zcat_i, zcat_l, zcat_f, zcat_d], q3127, q95, hd0, by decide, by decide⟩
theorem w_X0_errorPosition_11 (s0 : Option Nat) (h : zH) : zS D z yX0_errorPosition cX0_errorPosition 3 (some .int) [(0, 8, 11, 21)] 10 h 11 [] [va_rf s0] (f_X0_errorPosition_11 s0 h) := by
  unfold f_X0_errorPosition_11
  refine s_ast_n (pc := 11) (L2 := []) [] dX0_errorPosition_11 rfl (by decide) rfl rfl (zcA rfl) ?_
  refine s_iconst (pc := 12) (v := 1) dX0_errorPosition_12 (by decide) ?_
  exact s_iret (pc := 13) dX0_errorPosition_13 rfl
theorem w_X0_errorPosition (v0 : Option Nat) (v1 : Option Nat) (h : zH) : zS D z yX0_errorPosition cX0_errorPosition 3 (some .int) [(0, 8, 11, 21)] 10 h 0 [(0, va_rf v0), (1, va_rf v1)] [] (f_X0_errorPosition v0 v1 h) := by
  unfold f_X0_errorPosition
  refine s_aload_n (pc := 0) 1 dX0_errorPosition_0 rfl rfl ?_
  refine s_iconst (pc := 1) (v := 0) dX0_errorPosition_1 (by decide) ?_
  refine s_aload_n (pc := 2) 0 dX0_errorPosition_2 rfl rfl ?_
  refine zS_ite (fun ht => ?_) (fun _ => zS_none)
  refine s_callV (pc := 3) (np := 0) (as := []) (rest := [.int 0, va_rf v1]) dX0_errorPosition_3 ht (q := (RX1, TX1, 11)) rfl (c_X1_errorPosition (by decide) v0 h) rfl rfl q3124 q3125 q3126 rfl (by simp [zcat_rf, zcat_i, zcat_l, zcat_f, zcat_d]) (zkI (fun x3 h4 => ?_)) (fun e2 h1 => zT_ite (fun hx => (zT_out (fun q hq => by rw [hx] at hq; cases hq; exact (zpn (by decide) q2375 (by decide +kernel) zp0)))) (fun _ => zT_ite (fun hx => (zT_out (fun q hq => by rw [hx] at hq; cases hq; exact (zpn (by decide) q2375 (by decide +kernel) zp0)))) (fun _ => zT_ite (fun hx => (zT_catch (q := (RJ28, TJ28, 0)) [] (0, 8, 11, 21) [] rfl (by rw [hx]; rfl) zp0 rfl (by decide) q2375 (Or.inl rfl) rfl (by exact s_sub (pc := 11) [] rfl (w_X0_errorPosition_11 (some e2.2) h1)))) (fun _ => zT_ite (fun hx => (zT_out (fun q hq => by rw [hx] at hq; cases hq; exact (zpn (by decide) q2375 (by decide +kernel) zp0)))) (fun _ => zT_ite (fun hx => (zT_out (fun q hq => by rw [hx] at hq; cases hq; exact (zpn (by decide) q2375 (by decide +kernel) zp0)))) (fun _ => zT_ite (fun hx => (zT_out (fun q hq => by rw [hx] at hq; cases hq; exact (zpn (by decide) q2375 (by decide +kernel) zp0)))) (fun _ => zT_ite (fun hx => (zT_out (fun q hq => by rw [hx] at hq; cases hq; exact (zpn (by decide) q2375 (by decide +kernel) zp0)))) (fun _ => zT_ite (fun hx => (zT_out (fun q hq => by rw [hx] at hq; cases hq; exact (zpn (by decide) q2375 (by decide +kernel) zp0)))) (fun _ => zT_none)))))))))
  refine s_i2l (pc := 6) dX0_errorPosition_6 ?_
  refine s_last (pc := 7) dX0_errorPosition_7 (ztc rfl zt0) (fun h5 => ?_)
  refine s_goto (pc := 8) (tgt := 14) dX0_errorPosition_8 (by decide) ?_
  refine s_iconst (pc := 14) (v := 0) dX0_errorPosition_14 (by decide) ?_
  exact s_iret (pc := 15) dX0_errorPosition_15 rfl
theorem c_X0_errorPosition {d0 : Nat} (hd0 : 10 < d0) (v0 : Option Nat) (v1 : Option Nat) (h : zH) : zCal D z d0 h yX0_errorPosition [va_rf v0, va_rf v1] (f_X0_errorPosition v0 v1 h) :=
  ⟨cX0_errorPosition, 3, (some .int), [(0, 8, 11, 21)], 10, (show lv_args 0 [va_rf v0, va_rf v1] = [(0, va_rf v0), (1, va_rf v1)] by simp [lv_args, zcat_rf, zcat_i, zcat_l, zcat_f, zcat_d]) ▸ w_X0_errorPosition v0 v1 h, (plainFor_of_name (by decide)), by simp [lg_sl, zcat_rf, zcat_i, zcat_l, zcat_f, zcat_d], q3123, q94, hd0, by decide, by decide⟩
theorem w_X1_failedCommand_12 (a0 : Option Nat) (s0 : Int32) (h : zH) : zS D z yX1_failedCommand cX1_failedCommand 1 (some .int) [] 9 h 12 [(0, va_rf a0)] [.int s0] (f_X1_failedCommand_12 a0 s0 h) := by
  unfold f_X1_failedCommand_12
  refine s_callSS (pc := 12) (np := 1) (as := [.int s0]) (rest := []) dX1_failedCommand_12 (c_X1_checkElement (by decide) s0 h) rfl rfl q2612 q2395 rfl (by decide) (zkV (fun h2 => ?_)) zxo
  refine s_aload_n (pc := 15) 0 dX1_failedCommand_15 rfl rfl ?_
  refine s_gI (pc := 16) dX1_failedCommand_16 gf_X1_58 (fun x3 => ?_)
  exact s_iret (pc := 19) dX1_failedCommand_19 rfl
theorem w_X1_failedCommand (v0 : Option Nat) (h : zH) : zS D z yX1_failedCommand cX1_failedCommand 1 (some .int) [] 9 h 0 [(0, va_rf v0)] [] (f_X1_failedCommand v0 h) := by
  unfold f_X1_failedCommand
  refine s_aload_n (pc := 0) 0 dX1_failedCommand_0 rfl rfl ?_
  refine s_gI (pc := 1) dX1_failedCommand_1 gf_X1_58 (fun x1 => ?_)
  refine s_if_lt (pc := 4) (tgt := 11) dX1_failedCommand_4 (by decide) (fun _ => ?_) (fun _ => ?_)
  · refine s_iconst (pc := 11) (v := 0) dX1_failedCommand_11 (by decide) ?_
    exact s_sub (pc := 12) [0] rfl (w_X1_failedCommand_12 v0 0 h)
  · refine s_iconst (pc := 7) (v := 1) dX1_failedCommand_7 (by decide) ?_
    refine s_goto (pc := 8) (tgt := 12) dX1_failedCommand_8 (by decide) ?_
    exact s_sub (pc := 12) [0] rfl (w_X1_failedCommand_12 v0 1 h)
theorem c_X1_failedCommand {d0 : Nat} (hd0 : 9 < d0) (v0 : Option Nat) (h : zH) : zCal D z d0 h yX1_failedCommand [va_rf v0] (f_X1_failedCommand v0 h) :=
  ⟨cX1_failedCommand, 1, (some .int), [], 9, (show lv_args 0 [va_rf v0] = [(0, va_rf v0)] by simp [lv_args, zcat_rf, zcat_i, zcat_l, zcat_f, zcat_d]) ▸ w_X1_failedCommand v0 h, (plainFor_of_name (by decide)), by simp [lg_sl, zcat_rf, zcat_i, zcat_l, zcat_f, zcat_d], q3134, q95, hd0, by decide, by decide⟩
theorem w_X0_failedCommand_11 (s0 : Option Nat) (h : zH) : zS D z yX0_failedCommand cX0_failedCommand 3 (some .int) [(0, 8, 11, 21)] 10 h 11 [] [va_rf s0] (f_X0_failedCommand_11 s0 h) := by
  unfold f_X0_failedCommand_11
  refine s_ast_n (pc := 11) (L2 := []) [] dX0_failedCommand_11 rfl (by decide) rfl rfl (zcA rfl) ?_
  refine s_iconst (pc := 12) (v := 1) dX0_failedCommand_12 (by decide) ?_
  exact s_iret (pc := 13) dX0_failedCommand_13 rfl
theorem w_X0_failedCommand (v0 : Option Nat) (v1 : Option Nat) (h : zH) : zS D z yX0_failedCommand cX0_failedCommand 3 (some .int) [(0, 8, 11, 21)] 10 h 0 [(0, va_rf v0), (1, va_rf v1)] [] (f_X0_failedCommand v0 v1 h) := by
  unfold f_X0_failedCommand
  refine s_aload_n (pc := 0) 1 dX0_failedCommand_0 rfl rfl ?_
  refine s_iconst (pc := 1) (v := 0) dX0_failedCommand_1 (by decide) ?_
  refine s_aload_n (pc := 2) 0 dX0_failedCommand_2 rfl rfl ?_
  refine zS_ite (fun ht => ?_) (fun _ => zS_none)
  refine s_callV (pc := 3) (np := 0) (as := []) (rest := [.int 0, va_rf v1]) dX0_failedCommand_3 ht (q := (RX1, TX1, 11)) rfl (c_X1_failedCommand (by decide) v0 h) rfl rfl q3131 q3132 q3133 rfl (by simp [zcat_rf, zcat_i, zcat_l, zcat_f, zcat_d]) (zkI (fun x3 h4 => ?_)) (fun e2 h1 => zT_ite (fun hx => (zT_out (fun q hq => by rw [hx] at hq; cases hq; exact (zpn (by decide) q2375 (by decide +kernel) zp0)))) (fun _ => zT_ite (fun hx => (zT_out (fun q hq => by rw [hx] at hq; cases hq; exact (zpn (by decide) q2375 (by decide +kernel) zp0)))) (fun _ => zT_ite (fun hx => (zT_catch (q := (RJ28, TJ28, 0)) [] (0, 8, 11, 21) [] rfl (by rw [hx]; rfl) zp0 rfl (by decide) q2375 (Or.inl rfl) rfl (by exact s_sub (pc := 11) [] rfl (w_X0_failedCommand_11 (some e2.2) h1)))) (fun _ => zT_ite (fun hx => (zT_out (fun q hq => by rw [hx] at hq; cases hq; exact (zpn (by decide) q2375 (by decide +kernel) zp0)))) (fun _ => zT_ite (fun hx => (zT_out (fun q hq => by rw [hx] at hq; cases hq; exact (zpn (by decide) q2375 (by decide +kernel) zp0)))) (fun _ => zT_ite (fun hx => (zT_out (fun q hq => by rw [hx] at hq; cases hq; exact (zpn (by decide) q2375 (by decide +kernel) zp0)))) (fun _ => zT_ite (fun hx => (zT_out (fun q hq => by rw [hx] at hq; cases hq; exact (zpn (by decide) q2375 (by decide +kernel) zp0)))) (fun _ => zT_ite (fun hx => (zT_out (fun q hq => by rw [hx] at hq; cases hq; exact (zpn (by decide) q2375 (by decide +kernel) zp0)))) (fun _ => zT_none)))))))))
  refine s_i2l (pc := 6) dX0_failedCommand_6 ?_
  refine s_last (pc := 7) dX0_failedCommand_7 (ztc rfl zt0) (fun h5 => ?_)
  refine s_goto (pc := 8) (tgt := 14) dX0_failedCommand_8 (by decide) ?_
  refine s_iconst (pc := 14) (v := 0) dX0_failedCommand_14 (by decide) ?_
  exact s_iret (pc := 15) dX0_failedCommand_15 rfl
theorem c_X0_failedCommand {d0 : Nat} (hd0 : 10 < d0) (v0 : Option Nat) (v1 : Option Nat) (h : zH) : zCal D z d0 h yX0_failedCommand [va_rf v0, va_rf v1] (f_X0_failedCommand v0 v1 h) :=
  ⟨cX0_failedCommand, 3, (some .int), [(0, 8, 11, 21)], 10, (show lv_args 0 [va_rf v0, va_rf v1] = [(0, va_rf v0), (1, va_rf v1)] by simp [lv_args, zcat_rf, zcat_i, zcat_l, zcat_f, zcat_d]) ▸ w_X0_failedCommand v0 v1 h, (plainFor_of_name (by decide)), by simp [lg_sl, zcat_rf, zcat_i, zcat_l, zcat_f, zcat_d], q3130, q94, hd0, by decide, by decide⟩
theorem w_X6_describeBill_112 (a2 : Option Nat) (h : zH) : zS D z yX6_describeBill cX6_describeBill 3 (some (.object "java/lang/String")) [] 7 h 112 [(2, va_rf a2)] [] (f_X6_describeBill_112 a2 h) := by
  unfold f_X6_describeBill_112
  refine s_aload_n (pc := 112) 0 dX6_describeBill_112 rfl rfl ?_
  refine zS_ite (fun ht => ?_) (fun _ => zS_none)
  refine s_callV (pc := 113) (np := 0) (as := []) (rest := []) dX6_describeBill_113 ht (q := (RJ8, TJ8, 4)) rfl (c_J8_toString (by decide) a2 h) rfl rfl q3152 q1002 q1003 rfl (by decide) (zkR (fun r38 h39 => ?_)) zxo
  exact s_aret (pc := 116) dX6_describeBill_116 rfl (Or.inl ⟨_, rfl⟩)
theorem w_X6_describeBill_108 (a2 : Option Nat) (s0 : Int32) (s1 : Option Nat) (h : zH) : zS D z yX6_describeBill cX6_describeBill 3 (some (.object "java/lang/String")) [] 7 h 108 [(2, va_rf a2)] [.int s0, va_rf s1] (f_X6_describeBill_108 a2 s0 s1 h) := by
  unfold f_X6_describeBill_108
  refine zS_ite (fun ht => ?_) (fun _ => zS_none)
  refine s_callV (pc := 108) (np := 1) (as := [.int s0]) (rest := []) dX6_describeBill_108 ht (q := (RJ8, TJ8, 4)) rfl (c_J8_append_3 (by decide) s1 s0 h) rfl rfl q3148 q1907 q1908 rfl (by decide) (zkR (fun r36 h37 => ?_)) zxo
  refine s_pop (pc := 111) dX6_describeBill_111 (zcat_rf _) ?_
  exact s_sub (pc := 112) [0] rfl (w_X6_describeBill_112 a2 h37)
theorem w_X6_describeBill_81 (a0 : Option Nat) (a1 : Int32) (a2 : Option Nat) (s0 : Option Nat) (s1 : Option Nat) (h : zH) : zS D z yX6_describeBill cX6_describeBill 3 (some (.object "java/lang/String")) [] 7 h 81 [(0, va_rf a0), (1, .int a1), (2, va_rf a2)] [va_rf s0, va_rf s1] (f_X6_describeBill_81 a0 a1 a2 s0 s1 h) := by
  unfold f_X6_describeBill_81
  refine zS_ite (fun ht => ?_) (fun _ => zS_none)
  refine s_callV (pc := 81) (np := 1) (as := [va_rf s0]) (rest := []) dX6_describeBill_81 ht (q := (RJ8, TJ8, 4)) rfl (c_J8_append (by decide) s1 s0 h) rfl rfl q3151 q859 q860 rfl (by decide) (zkR (fun r30 h31 => ?_)) zxo
  refine s_pop (pc := 84) dX6_describeBill_84 (zcat_rf _) ?_
  refine s_aload_n (pc := 85) 0 dX6_describeBill_85 rfl rfl ?_
  refine zS_ite (fun ht => ?_) (fun _ => zS_none)
  refine s_callV (pc := 86) (np := 0) (as := []) (rest := []) dX6_describeBill_86 ht (q := (RX6, TX6, 9)) rfl (c_X6_isInDock (by decide) a0 h31) rfl rfl q366 q367 q368 rfl (by decide) (zkI (fun x32 h33 => ?_)) zxo
  refine s_if_eq (pc := 89) (tgt := 112) dX6_describeBill_89 (by decide) (fun _ => ?_) (fun _ => ?_)
  · exact s_sub (pc := 112) [2] rfl (w_X6_describeBill_112 a2 h33)
  · refine s_aload_n (pc := 92) 2 dX6_describeBill_92 rfl rfl ?_
    refine s_aload_n (pc := 93) 0 dX6_describeBill_93 rfl rfl ?_
    refine s_iload_n (pc := 94) 1 dX6_describeBill_94 rfl rfl ?_
    refine zS_ite (fun ht => ?_) (fun _ => zS_none)
    refine s_callV (pc := 95) (np := 1) (as := [.int a1]) (rest := [va_rf a2]) dX6_describeBill_95 ht (q := (RX6, TX6, 9)) rfl (c_X6_rests (by decide) a0 a1 h33) rfl rfl q3154 q363 q364 rfl (by simp [zcat_rf, zcat_i, zcat_l, zcat_f, zcat_d]) (zkI (fun x34 h35 => ?_)) zxo
    refine s_if_eq (pc := 98) (tgt := 106) dX6_describeBill_98 (by decide) (fun _ => ?_) (fun _ => ?_)
    · refine s_bipush (pc := 106) (v := 126) dX6_describeBill_106 (by decide) ?_
      exact s_sub (pc := 108) [2] rfl (w_X6_describeBill_108 a2 126 a2 h35)
    · refine s_bipush (pc := 101) (v := 95) dX6_describeBill_101 (by decide) ?_
      refine s_goto (pc := 103) (tgt := 108) dX6_describeBill_103 (by decide) ?_
      exact s_sub (pc := 108) [2] rfl (w_X6_describeBill_108 a2 95 a2 h35)
theorem w_X6_describeBill (v0 : Option Nat) (v1 : Int32) (h : zH) : zS D z yX6_describeBill cX6_describeBill 3 (some (.object "java/lang/String")) [] 7 h 0 [(0, va_rf v0), (1, .int v1)] [] (f_X6_describeBill v0 v1 h) := by
  unfold f_X6_describeBill
  refine s_new (pc := 0) dX6_describeBill_0 nf_X6_60 (fun r1 h2 => ?_)
  refine s_dup (pc := 3) dX6_describeBill_3 (zcat_rf _) ?_
  refine zS_ite (fun hr => ?_) (fun _ => zS_none)
  refine s_callC (pc := 4) (np := 0) (as := []) (rest := [va_rf r1]) dX6_describeBill_4 hr (c_J8_init (by decide) r1 h2) ⟨_, _, q328⟩ rfl rfl rfl q3147 q327 rfl (by simp [zcat_rf, zcat_i, zcat_l, zcat_f, zcat_d]) (zkV (fun h3 => ?_)) zxo
  refine s_ast_n (pc := 7) (L2 := [(0, va_rf v0), (1, .int v1)]) [0, 1] dX6_describeBill_7 rfl (by decide) rfl rfl (zcB (j := 1) rfl rfl rfl) ?_
  refine s_aload_n (pc := 8) 0 dX6_describeBill_8 rfl rfl ?_
  refine s_bipush (pc := 9) (v := 35) dX6_describeBill_9 (by decide) ?_
  refine zS_ite (fun ht => ?_) (fun _ => zS_none)
  refine s_callV (pc := 11) (np := 1) (as := [.int 35]) (rest := []) dX6_describeBill_11 ht (q := (RJ8, TJ8, 4)) rfl (c_J8_append_3 (by decide) r1 35 h3) rfl rfl q3148 q1907 q1908 rfl (by decide) (zkR (fun r4 h5 => ?_)) zxo
  refine s_aload_n (pc := 14) 1 dX6_describeBill_14 rfl rfl ?_
  refine s_gI (pc := 15) dX6_describeBill_15 gf_X6_9 (fun x6 => ?_)
  refine zS_ite (fun ht => ?_) (fun _ => zS_none)
  refine s_callV (pc := 18) (np := 1) (as := [.int x6]) (rest := []) dX6_describeBill_18 ht (q := (RJ8, TJ8, 4)) rfl (c_J8_append_2 (by decide) r4 x6 h5) rfl rfl q3149 q977 q978 rfl (by decide) (zkR (fun r7 h8 => ?_)) zxo
  refine s_bipush (pc := 21) (v := 58) dX6_describeBill_21 (by decide) ?_
  refine zS_ite (fun ht => ?_) (fun _ => zS_none)
  refine s_callV (pc := 23) (np := 1) (as := [.int 58]) (rest := []) dX6_describeBill_23 ht (q := (RJ8, TJ8, 4)) rfl (c_J8_append_3 (by decide) r7 58 h8) rfl rfl q3148 q1907 q1908 rfl (by decide) (zkR (fun r9 h10 => ?_)) zxo
  refine s_aload_n (pc := 26) 1 dX6_describeBill_26 rfl rfl ?_
  refine s_gI (pc := 27) dX6_describeBill_27 gf_X6_30 (fun x11 => ?_)
  refine zS_ite (fun ht => ?_) (fun _ => zS_none)
  refine s_callV (pc := 30) (np := 1) (as := [.int x11]) (rest := []) dX6_describeBill_30 ht (q := (RJ8, TJ8, 4)) rfl (c_J8_append_2 (by decide) r9 x11 h10) rfl rfl q3149 q977 q978 rfl (by decide) (zkR (fun r12 h13 => ?_)) zxo
  refine s_bipush (pc := 33) (v := 47) dX6_describeBill_33 (by decide) ?_
  refine zS_ite (fun ht => ?_) (fun _ => zS_none)
  refine s_callV (pc := 35) (np := 1) (as := [.int 47]) (rest := []) dX6_describeBill_35 ht (q := (RJ8, TJ8, 4)) rfl (c_J8_append_3 (by decide) r12 47 h13) rfl rfl q3148 q1907 q1908 rfl (by decide) (zkR (fun r14 h15 => ?_)) zxo
  refine s_aload_n (pc := 38) 1 dX6_describeBill_38 rfl rfl ?_
  refine s_gI (pc := 39) dX6_describeBill_39 gf_X6_21 (fun x16 => ?_)
  refine zS_ite (fun ht => ?_) (fun _ => zS_none)
  refine s_callV (pc := 42) (np := 1) (as := [.int x16]) (rest := []) dX6_describeBill_42 ht (q := (RJ8, TJ8, 4)) rfl (c_J8_append_2 (by decide) r14 x16 h15) rfl rfl q3149 q977 q978 rfl (by decide) (zkR (fun r17 h18 => ?_)) zxo
  refine s_pop (pc := 45) dX6_describeBill_45 (zcat_rf _) ?_
  refine s_aload_n (pc := 46) 0 dX6_describeBill_46 rfl rfl ?_
  refine s_aload_n (pc := 47) 1 dX6_describeBill_47 rfl rfl ?_
  refine s_gI (pc := 48) dX6_describeBill_48 gf_X6_27 (fun x19 => ?_)
  refine s_if_le (pc := 51) (tgt := 79) dX6_describeBill_51 (by decide) (fun _ => ?_) (fun _ => ?_)
  · refine s_ldcS (pc := 79) (i := 12) (tx := "") dX6_describeBill_79 (List.mem_of_getElem? (i := 2) rfl) ?_
    exact s_sub (pc := 81) [1, 2, 0] rfl (w_X6_describeBill_81 v0 v1 r1 (some (zG h18 12)) r1 h18)
  · refine s_new (pc := 54) dX6_describeBill_54 nf_X6_60 (fun r20 h21 => ?_)
    refine s_dup (pc := 57) dX6_describeBill_57 (zcat_rf _) ?_
    refine zS_ite (fun hr => ?_) (fun _ => zS_none)
    refine s_callC (pc := 58) (np := 0) (as := []) (rest := [va_rf r20, va_rf r1]) dX6_describeBill_58 hr (c_J8_init (by decide) r20 h21) ⟨_, _, q328⟩ rfl rfl rfl q3147 q327 rfl (by simp [zcat_rf, zcat_i, zcat_l, zcat_f, zcat_d]) (zkV (fun h22 => ?_)) zxo
    refine s_ldcS (pc := 61) (i := 11) (tx := "!") dX6_describeBill_61 (List.mem_of_getElem? (i := 1) rfl) ?_
    refine zS_ite (fun ht => ?_) (fun _ => zS_none)
    refine s_callV (pc := 63) (np := 1) (as := [va_rf (some (zG h22 11))]) (rest := [va_rf r1]) dX6_describeBill_63 ht (q := (RJ8, TJ8, 4)) rfl (c_J8_append (by decide) r20 (some (zG h22 11)) h22) rfl rfl q3151 q859 q860 rfl (by simp [zcat_rf, zcat_i, zcat_l, zcat_f, zcat_d]) (zkR (fun r23 h24 => ?_)) zxo
    refine s_aload_n (pc := 66) 1 dX6_describeBill_66 rfl rfl ?_
    refine s_gI (pc := 67) dX6_describeBill_67 gf_X6_27 (fun x25 => ?_)
    refine zS_ite (fun ht => ?_) (fun _ => zS_none)
    refine s_callV (pc := 70) (np := 1) (as := [.int x25]) (rest := [va_rf r1]) dX6_describeBill_70 ht (q := (RJ8, TJ8, 4)) rfl (c_J8_append_2 (by decide) r23 x25 h24) rfl rfl q3149 q977 q978 rfl (by simp [zcat_rf, zcat_i, zcat_l, zcat_f, zcat_d]) (zkR (fun r26 h27 => ?_)) zxo
    refine zS_ite (fun ht => ?_) (fun _ => zS_none)
    refine s_callV (pc := 73) (np := 0) (as := []) (rest := [va_rf r1]) dX6_describeBill_73 ht (q := (RJ8, TJ8, 4)) rfl (c_J8_toString (by decide) r26 h27) rfl rfl q3152 q1002 q1003 rfl (by simp [zcat_rf, zcat_i, zcat_l, zcat_f, zcat_d]) (zkR (fun r28 h29 => ?_)) zxo
    refine s_goto (pc := 76) (tgt := 81) dX6_describeBill_76 (by decide) ?_
    exact s_sub (pc := 81) [1, 2, 0] rfl (w_X6_describeBill_81 v0 v1 r1 r28 r1 h29)
theorem c_X6_describeBill {d0 : Nat} (hd0 : 7 < d0) (v0 : Option Nat) (v1 : Int32) (h : zH) : zCal D z d0 h yX6_describeBill [va_rf v0, .int v1] (f_X6_describeBill v0 v1 h) :=
  ⟨cX6_describeBill, 3, (some (.object "java/lang/String")), [], 7, (show lv_args 0 [va_rf v0, .int v1] = [(0, va_rf v0), (1, .int v1)] by simp [lv_args, zcat_rf, zcat_i, zcat_l, zcat_f, zcat_d]) ▸ w_X6_describeBill v0 v1 h, (plainFor_of_name (by decide)), by simp [lg_sl, zcat_rf, zcat_i, zcat_l, zcat_f, zcat_d], q3145, q142, hd0, by decide, by decide⟩
theorem w_X1_describeBill (v0 : Option Nat) (v1 : Int32) (h : zH) : zS D z yX1_describeBill cX1_describeBill 2 (some .int) [] 10 h 0 [(0, va_rf v0), (1, .int v1)] [] (f_X1_describeBill v0 v1 h) := by
  unfold f_X1_describeBill
  refine s_aload_n (pc := 0) 0 dX1_describeBill_0 rfl rfl ?_
  refine s_aload_n (pc := 1) 0 dX1_describeBill_1 rfl rfl ?_
  refine s_gR (pc := 2) dX1_describeBill_2 gf_X1_30 (fun r1 => ?_)
  refine s_iload_n (pc := 5) 1 dX1_describeBill_5 rfl rfl ?_
  refine zS_ite (fun ht => ?_) (fun _ => zS_none)
  refine s_callV (pc := 6) (np := 1) (as := [.int v1]) (rest := [va_rf v0]) dX1_describeBill_6 ht (q := (RX2, TX2, 10)) rfl (c_X2_ship (by decide) r1 v1 h) rfl rfl q2564 q2387 q2388 rfl (by simp [zcat_rf, zcat_i, zcat_l, zcat_f, zcat_d]) (zkR (fun r2 h3 => ?_)) zxo
  refine s_aload_n (pc := 9) 0 dX1_describeBill_9 rfl rfl ?_
  refine s_gR (pc := 10) dX1_describeBill_10 gf_X1_30 (fun r4 => ?_)
  refine s_gI (pc := 13) dX1_describeBill_13 gf_X1_184 (fun x5 => ?_)
  refine zS_ite (fun ht => ?_) (fun _ => zS_none)
  refine s_callV (pc := 16) (np := 1) (as := [.int x5]) (rest := [va_rf v0]) dX1_describeBill_16 ht (q := (RX6, TX6, 9)) rfl (c_X6_describeBill (by decide) r2 x5 h3) rfl rfl q3142 q3143 q3144 rfl (by simp [zcat_rf, zcat_i, zcat_l, zcat_f, zcat_d]) (zkR (fun r6 h7 => ?_)) zxo
  refine s_putR (pc := 19) dX1_describeBill_19 pf_X1_50 (fun h8 => ?_)
  refine s_aload_n (pc := 22) 0 dX1_describeBill_22 rfl rfl ?_
  refine s_gR (pc := 23) dX1_describeBill_23 gf_X1_50 (fun r9 => ?_)
  refine zS_ite (fun ht => ?_) (fun _ => zS_none)
  refine s_callV (pc := 26) (np := 0) (as := []) (rest := []) dX1_describeBill_26 ht (q := (RJ9, TJ9, 4)) rfl (c_J9_length (by decide) r9 h8) rfl rfl q1927 q934 q935 rfl (by decide) (zkI (fun x10 h11 => ?_)) zxo
  exact s_iret (pc := 29) dX1_describeBill_29 rfl
theorem c_X1_describeBill {d0 : Nat} (hd0 : 10 < d0) (v0 : Option Nat) (v1 : Int32) (h : zH) : zCal D z d0 h yX1_describeBill [va_rf v0, .int v1] (f_X1_describeBill v0 v1 h) :=
  ⟨cX1_describeBill, 2, (some .int), [], 10, (show lv_args 0 [va_rf v0, .int v1] = [(0, va_rf v0), (1, .int v1)] by simp [lv_args, zcat_rf, zcat_i, zcat_l, zcat_f, zcat_d]) ▸ w_X1_describeBill v0 v1 h, (plainFor_of_name (by decide)), by simp [lg_sl, zcat_rf, zcat_i, zcat_l, zcat_f, zcat_d], q3141, q95, hd0, by decide, by decide⟩
theorem w_X0_describeBill_12 (s0 : Option Nat) (h : zH) : zS D z yX0_describeBill cX0_describeBill 4 (some .int) [(0, 9, 12, 21)] 11 h 12 [] [va_rf s0] (f_X0_describeBill_12 s0 h) := by
  unfold f_X0_describeBill_12
  refine s_ast_n (pc := 12) (L2 := []) [] dX0_describeBill_12 rfl (by decide) rfl rfl (zcA rfl) ?_
  refine s_iconst (pc := 13) (v := 1) dX0_describeBill_13 (by decide) ?_
  exact s_iret (pc := 14) dX0_describeBill_14 rfl
theorem w_X0_describeBill (v0 : Option Nat) (v1 : Int32) (v2 : Option Nat) (h : zH) : zS D z yX0_describeBill cX0_describeBill 4 (some .int) [(0, 9, 12, 21)] 11 h 0 [(0, va_rf v0), (1, .int v1), (2, va_rf v2)] [] (f_X0_describeBill v0 v1 v2 h) := by
  unfold f_X0_describeBill
  refine s_aload_n (pc := 0) 2 dX0_describeBill_0 rfl rfl ?_
  refine s_iconst (pc := 1) (v := 0) dX0_describeBill_1 (by decide) ?_
  refine s_aload_n (pc := 2) 0 dX0_describeBill_2 rfl rfl ?_
  refine s_iload_n (pc := 3) 1 dX0_describeBill_3 rfl rfl ?_
  refine zS_ite (fun ht => ?_) (fun _ => zS_none)
  refine s_callV (pc := 4) (np := 1) (as := [.int v1]) (rest := [.int 0, va_rf v2]) dX0_describeBill_4 ht (q := (RX1, TX1, 11)) rfl (c_X1_describeBill (by decide) v0 v1 h) rfl rfl q3138 q3139 q3140 rfl (by simp [zcat_rf, zcat_i, zcat_l, zcat_f, zcat_d]) (zkI (fun x3 h4 => ?_)) (fun e2 h1 => zT_ite (fun hx => (zT_out (fun q hq => by rw [hx] at hq; cases hq; exact (zpn (by decide) q2375 (by decide +kernel) zp0)))) (fun _ => zT_ite (fun hx => (zT_out (fun q hq => by rw [hx] at hq; cases hq; exact (zpn (by decide) q2375 (by decide +kernel) zp0)))) (fun _ => zT_ite (fun hx => (zT_catch (q := (RJ28, TJ28, 0)) [] (0, 9, 12, 21) [] rfl (by rw [hx]; rfl) zp0 rfl (by decide) q2375 (Or.inl rfl) rfl (by exact s_sub (pc := 12) [] rfl (w_X0_describeBill_12 (some e2.2) h1)))) (fun _ => zT_ite (fun hx => (zT_out (fun q hq => by rw [hx] at hq; cases hq; exact (zpn (by decide) q2375 (by decide +kernel) zp0)))) (fun _ => zT_ite (fun hx => (zT_out (fun q hq => by rw [hx] at hq; cases hq; exact (zpn (by decide) q2375 (by decide +kernel) zp0)))) (fun _ => zT_ite (fun hx => (zT_out (fun q hq => by rw [hx] at hq; cases hq; exact (zpn (by decide) q2375 (by decide +kernel) zp0)))) (fun _ => zT_ite (fun hx => (zT_out (fun q hq => by rw [hx] at hq; cases hq; exact (zpn (by decide) q2375 (by decide +kernel) zp0)))) (fun _ => zT_ite (fun hx => (zT_out (fun q hq => by rw [hx] at hq; cases hq; exact (zpn (by decide) q2375 (by decide +kernel) zp0)))) (fun _ => zT_none)))))))))
  refine s_i2l (pc := 7) dX0_describeBill_7 ?_
  refine s_last (pc := 8) dX0_describeBill_8 (ztc rfl zt0) (fun h5 => ?_)
  refine s_goto (pc := 9) (tgt := 15) dX0_describeBill_9 (by decide) ?_
  refine s_iconst (pc := 15) (v := 0) dX0_describeBill_15 (by decide) ?_
  exact s_iret (pc := 16) dX0_describeBill_16 rfl
theorem c_X0_describeBill {d0 : Nat} (hd0 : 11 < d0) (v0 : Option Nat) (v1 : Int32) (v2 : Option Nat) (h : zH) : zCal D z d0 h yX0_describeBill [va_rf v0, .int v1, va_rf v2] (f_X0_describeBill v0 v1 v2 h) :=
  ⟨cX0_describeBill, 4, (some .int), [(0, 9, 12, 21)], 11, (show lv_args 0 [va_rf v0, .int v1, va_rf v2] = [(0, va_rf v0), (1, .int v1), (2, va_rf v2)] by simp [lv_args, zcat_rf, zcat_i, zcat_l, zcat_f, zcat_d]) ▸ w_X0_describeBill v0 v1 v2 h, (plainFor_of_name (by decide)), by simp [lg_sl, zcat_rf, zcat_i, zcat_l, zcat_f, zcat_d], q3137, q94, hd0, by decide, by decide⟩
theorem w_X1_lineAt (v0 : Option Nat) (v1 : Int32) (h : zH) : zS D z yX1_lineAt cX1_lineAt 2 (some .char) [] 9 h 0 [(0, va_rf v0), (1, .int v1)] [] (f_X1_lineAt v0 v1 h) := by
  unfold f_X1_lineAt
  refine s_iload_n (pc := 0) 1 dX1_lineAt_0 rfl rfl ?_
  refine s_aload_n (pc := 1) 0 dX1_lineAt_1 rfl rfl ?_
  refine s_gR (pc := 2) dX1_lineAt_2 gf_X1_50 (fun r1 => ?_)
  refine zS_ite (fun ht => ?_) (fun _ => zS_none)
  refine s_callV (pc := 5) (np := 0) (as := []) (rest := [.int v1]) dX1_lineAt_5 ht (q := (RJ9, TJ9, 4)) rfl (c_J9_length (by decide) r1 h) rfl rfl q1927 q934 q935 rfl (by simp [zcat_rf, zcat_i, zcat_l, zcat_f, zcat_d]) (zkI (fun x2 h3 => ?_)) zxo
  refine s_callSS (pc := 8) (np := 2) (as := [.int v1, .int x2]) (rest := []) dX1_lineAt_8 (c_X1_checkIndex (by decide) v1 x2 h3) rfl rfl q3162 q2546 rfl (by decide) (zkV (fun h4 => ?_)) zxo
  refine s_aload_n (pc := 11) 0 dX1_lineAt_11 rfl rfl ?_
  refine s_gR (pc := 12) dX1_lineAt_12 gf_X1_50 (fun r5 => ?_)
  refine s_iload_n (pc := 15) 1 dX1_lineAt_15 rfl rfl ?_
  refine zS_ite (fun ht => ?_) (fun _ => zS_none)
  refine s_callV (pc := 16) (np := 1) (as := [.int v1]) (rest := []) dX1_lineAt_16 ht (q := (RJ9, TJ9, 4)) rfl (c_J9_charAt (by decide) r5 v1 h4) rfl rfl q3163 q2945 q2946 rfl (by decide) (zkI (fun x6 h7 => ?_)) zxo
  exact s_nret (pc := 19) dX1_lineAt_19 rfl
theorem c_X1_lineAt {d0 : Nat} (hd0 : 9 < d0) (v0 : Option Nat) (v1 : Int32) (h : zH) : zCal D z d0 h yX1_lineAt [va_rf v0, .int v1] (f_X1_lineAt v0 v1 h) :=
  ⟨cX1_lineAt, 2, (some .char), [], 9, (show lv_args 0 [va_rf v0, .int v1] = [(0, va_rf v0), (1, .int v1)] by simp [lv_args, zcat_rf, zcat_i, zcat_l, zcat_f, zcat_d]) ▸ w_X1_lineAt v0 v1 h, (plainFor_of_name (by decide)), by simp [lg_sl, zcat_rf, zcat_i, zcat_l, zcat_f, zcat_d], q3161, q95, hd0, by decide, by decide⟩
theorem w_X0_lineAt_12 (s0 : Option Nat) (h : zH) : zS D z yX0_lineAt cX0_lineAt 4 (some .int) [(0, 9, 12, 39)] 10 h 12 [] [va_rf s0] (f_X0_lineAt_12 s0 h) := by
  unfold f_X0_lineAt_12
  refine s_ast_n (pc := 12) (L2 := []) [] dX0_lineAt_12 rfl (by decide) rfl rfl (zcA rfl) ?_
  refine s_iconst (pc := 13) (v := 1) dX0_lineAt_13 (by decide) ?_
  exact s_iret (pc := 14) dX0_lineAt_14 rfl
theorem w_X0_lineAt (v0 : Option Nat) (v1 : Int32) (v2 : Option Nat) (h : zH) : zS D z yX0_lineAt cX0_lineAt 4 (some .int) [(0, 9, 12, 39)] 10 h 0 [(0, va_rf v0), (1, .int v1), (2, va_rf v2)] [] (f_X0_lineAt v0 v1 v2 h) := by
  unfold f_X0_lineAt
  refine s_aload_n (pc := 0) 2 dX0_lineAt_0 rfl rfl ?_
  refine s_iconst (pc := 1) (v := 0) dX0_lineAt_1 (by decide) ?_
  refine s_aload_n (pc := 2) 0 dX0_lineAt_2 rfl rfl ?_
  refine s_iload_n (pc := 3) 1 dX0_lineAt_3 rfl rfl ?_
  refine zS_ite (fun ht => ?_) (fun _ => zS_none)
  refine s_callV (pc := 4) (np := 1) (as := [.int v1]) (rest := [.int 0, va_rf v2]) dX0_lineAt_4 ht (q := (RX1, TX1, 11)) rfl (c_X1_lineAt (by decide) v0 v1 h) rfl rfl q3158 q3159 q3160 rfl (by simp [zcat_rf, zcat_i, zcat_l, zcat_f, zcat_d]) (zkI (fun x3 h4 => ?_)) (fun e2 h1 => zT_ite (fun hx => (zT_out (fun q hq => by rw [hx] at hq; cases hq; exact (zpn (by decide) q2521 (by decide +kernel) zp0)))) (fun _ => zT_ite (fun hx => (zT_out (fun q hq => by rw [hx] at hq; cases hq; exact (zpn (by decide) q2521 (by decide +kernel) zp0)))) (fun _ => zT_ite (fun hx => (zT_out (fun q hq => by rw [hx] at hq; cases hq; exact (zpn (by decide) q2521 (by decide +kernel) zp0)))) (fun _ => zT_ite (fun hx => (zT_out (fun q hq => by rw [hx] at hq; cases hq; exact (zpn (by decide) q2521 (by decide +kernel) zp0)))) (fun _ => zT_ite (fun hx => (zT_catch (q := (RJ29, TJ29, 0)) [] (0, 9, 12, 39) [] rfl (by rw [hx]; rfl) zp0 rfl (by decide) q2521 (Or.inl rfl) rfl (by exact s_sub (pc := 12) [] rfl (w_X0_lineAt_12 (some e2.2) h1)))) (fun _ => zT_ite (fun hx => (zT_out (fun q hq => by rw [hx] at hq; cases hq; exact (zpn (by decide) q2521 (by decide +kernel) zp0)))) (fun _ => zT_ite (fun hx => (zT_out (fun q hq => by rw [hx] at hq; cases hq; exact (zpn (by decide) q2521 (by decide +kernel) zp0)))) (fun _ => zT_ite (fun hx => (zT_out (fun q hq => by rw [hx] at hq; cases hq; exact (zpn (by decide) q2521 (by decide +kernel) zp0)))) (fun _ => zT_none)))))))))
  refine s_i2l (pc := 7) dX0_lineAt_7 ?_
  refine s_last (pc := 8) dX0_lineAt_8 (ztc rfl zt0) (fun h5 => ?_)
  refine s_goto (pc := 9) (tgt := 15) dX0_lineAt_9 (by decide) ?_
  refine s_iconst (pc := 15) (v := 0) dX0_lineAt_15 (by decide) ?_
  exact s_iret (pc := 16) dX0_lineAt_16 rfl
theorem c_X0_lineAt {d0 : Nat} (hd0 : 10 < d0) (v0 : Option Nat) (v1 : Int32) (v2 : Option Nat) (h : zH) : zCal D z d0 h yX0_lineAt [va_rf v0, .int v1, va_rf v2] (f_X0_lineAt v0 v1 v2 h) :=
  ⟨cX0_lineAt, 4, (some .int), [(0, 9, 12, 39)], 10, (show lv_args 0 [va_rf v0, .int v1, va_rf v2] = [(0, va_rf v0), (1, .int v1), (2, va_rf v2)] by simp [lv_args, zcat_rf, zcat_i, zcat_l, zcat_f, zcat_d]) ▸ w_X0_lineAt v0 v1 v2 h, (plainFor_of_name (by decide)), by simp [lg_sl, zcat_rf, zcat_i, zcat_l, zcat_f, zcat_d], q3157, q94, hd0, by decide, by decide⟩
theorem w_J1_isEmpty (v0 : Option Nat) (h : zH) : zS D z yJ1_isEmpty cJ1_isEmpty 1 (some .boolean) [] 1 h 0 [(0, va_rf v0)] [] (f_J1_isEmpty v0 h) := by
  unfold f_J1_isEmpty
  refine s_aload_n (pc := 0) 0 dJ1_isEmpty_0 rfl rfl ?_
  refine s_gI (pc := 1) dJ1_isEmpty_1 gf_J1_156 (fun x1 => ?_)
  refine s_if_ne (pc := 4) (tgt := 11) dJ1_isEmpty_4 (by decide) (fun _ => ?_) (fun _ => ?_)
  · refine s_iconst (pc := 11) (v := 0) dJ1_isEmpty_11 (by decide) ?_
    exact s_nret (pc := 12) dJ1_isEmpty_12 rfl
  · refine s_iconst (pc := 7) (v := 1) dJ1_isEmpty_7 (by decide) ?_
    refine s_goto (pc := 8) (tgt := 12) dJ1_isEmpty_8 (by decide) ?_
    exact s_nret (pc := 12) dJ1_isEmpty_12 rfl
theorem c_J1_isEmpty {d0 : Nat} (hd0 : 1 < d0) (v0 : Option Nat) (h : zH) : zCal D z d0 h yJ1_isEmpty [va_rf v0] (f_J1_isEmpty v0 h) :=
  ⟨cJ1_isEmpty, 1, (some .boolean), [], 1, (show lv_args 0 [va_rf v0] = [(0, va_rf v0)] by simp [lv_args, zcat_rf, zcat_i, zcat_l, zcat_f, zcat_d]) ▸ w_J1_isEmpty v0 h, (plainFor_of_name (by decide)), by simp [lg_sl, zcat_rf, zcat_i, zcat_l, zcat_f, zcat_d], q3194, q98, hd0, by decide, by decide⟩
theorem w_J47_init_2 (v0 : Option Nat) (h : zH) : zS D z yJ47_init_2 cJ47_init_2 1 none [] 4 h 0 [(0, va_rf v0)] [] (f_J47_init_2 v0 h) := by
  unfold f_J47_init_2
  refine s_aload_n (pc := 0) 0 dJ47_init_2_0 rfl rfl ?_
  refine zS_ite (fun hr => ?_) (fun _ => zS_none)
  refine s_callC (pc := 1) (np := 0) (as := []) (rest := []) dJ47_init_2_1 hr (c_J27_init (by decide) v0 h) ⟨_, _, q760⟩ rfl rfl rfl q3199 q759 rfl (by decide) (zkV (fun h1 => ?_)) zxo
  exact s_vret (pc := 4) dJ47_init_2_4 rfl
theorem c_J47_init_2 {d0 : Nat} (hd0 : 4 < d0) (v0 : Option Nat) (h : zH) : zCal D z d0 h yJ47_init_2 [va_rf v0] (f_J47_init_2 v0 h) :=
  ⟨cJ47_init_2, 1, none, [], 4, (show lv_args 0 [va_rf v0] = [(0, va_rf v0)] by simp [lv_args, zcat_rf, zcat_i, zcat_l, zcat_f, zcat_d]) ▸ w_J47_init_2 v0 h, (plainFor_of_name (by decide)), by simp [lg_sl, zcat_rf, zcat_i, zcat_l, zcat_f, zcat_d], q3198, q157, hd0, by decide, by decide⟩
theorem w_X2_meanDirt_62 (a0 : Option Nat) (a1 : Int32) (h : zH) : zS D z yX2_meanDirt cX2_meanDirt 4 (some .double) [] 10 h 62 [(0, va_rf a0), (1, .int a1)] [] (f_X2_meanDirt_62 a0 a1 h) := by
  unfold f_X2_meanDirt_62
  refine s_iload_n (pc := 62) 1 dX2_meanDirt_62 rfl rfl ?_
  refine s_i2d (pc := 63) dX2_meanDirt_63 ?_
  refine s_aload_n (pc := 64) 0 dX2_meanDirt_64 rfl rfl ?_
  refine s_gR (pc := 65) dX2_meanDirt_65 gf_X2_12 (fun r73 => ?_)
  refine zS_ite (fun ht => ?_) (fun _ => zS_none)
  refine s_callVU (pc := 68) (np := 0) (as := []) (rest := [.double (FP.i2d a1)]) (owner := "java/util/HashMap") dX2_meanDirt_68 ht (q := (RJ2, TJ2, 12)) rfl (c_J1_size (by decide) r73 h) ⟨_, _, _, q1427⟩ rfl rfl q2287 q1423 (Or.inl ⟨_, _, _, q1426, q1427⟩) (by decide) q1426 q1425 rfl (by simp [zcat_rf, zcat_i, zcat_l, zcat_f, zcat_d]) (zkI (fun x74 h75 => ?_)) zxo
  refine s_i2d (pc := 71) dX2_meanDirt_71 ?_
  refine s_ddiv (pc := 72) dX2_meanDirt_72 (fun _ => ?_)
  exact s_dret (pc := 73) dX2_meanDirt_73 rfl
theorem w_X2_meanDirt_33 : ∀ (n : Nat) (a0 : Option Nat) (a1 : Int32) (a2 : Option Nat) (h : zH), zS D z yX2_meanDirt cX2_meanDirt 4 (some .double) [] 10 h 33 [(0, va_rf a0), (1, .int a1), (2, va_rf a2)] [] (f_X2_meanDirt_33 n a0 a1 a2 h) := by
  intro n
  induction n with
  | zero => intros; exact zS_none
  | succ n ih =>
    intro a0 a1 a2 h
    rw [f_X2_meanDirt_33.eq_2]
    refine s_aload_n (pc := 33) 2 dX2_meanDirt_33 rfl rfl ?_
    refine zS_ite (fun ht => ?_) (fun _ => ?_)
    · refine s_callF (pc := 34) (np := 0) (as := []) (rest := []) dX2_meanDirt_34 ht (q := (RX9, TX9, 2)) rfl (c_X9_hasNext (by decide) a2 h) ⟨_, _, _, q637⟩ rfl rfl q629 (by decide +kernel) q635 q633 rfl (by decide) (zkI (fun x11 h12 => ?_)) zxo
      refine s_if_eq (pc := 39) (tgt := 62) dX2_meanDirt_39 (by decide) (fun _ => ?_) (fun _ => ?_)
      · exact s_sub (pc := 62) [0, 1] rfl (w_X2_meanDirt_62 a0 a1 h12)
      · refine s_aload_n (pc := 42) 2 dX2_meanDirt_42 rfl rfl ?_
        refine zS_ite (fun ht => ?_) (fun _ => ?_)
        · refine s_callF (pc := 43) (np := 0) (as := []) (rest := []) dX2_meanDirt_43 ht (q := (RX9, TX9, 2)) rfl (c_X9_next (by decide) a2 h12) ⟨_, _, _, q677⟩ rfl rfl q670 (by decide +kernel) q675 q673 rfl (by decide) (zkR (fun r13 h14 => ?_)) zxo
          refine s_cast (pc := 48) dX2_meanDirt_48 q836 zcs_FloatingDock_Ship ?_
          refine s_ast_n (pc := 51) (L2 := [(0, va_rf a0), (1, .int a1), (2, va_rf a2)]) [0, 1, 2] dX2_meanDirt_51 rfl (by decide) rfl rfl (zcB (j := 2) rfl (zcat_rf a2) rfl) ?_
          refine s_iload_n (pc := 52) 2 dX2_meanDirt_52 rfl rfl ?_
          refine s_aload_n (pc := 53) 0 dX2_meanDirt_53 rfl rfl ?_
          refine s_gI (pc := 54) dX2_meanDirt_54 gf_X2_176 (fun x15 => ?_)
          refine s_iadd (pc := 57) dX2_meanDirt_57 ?_
          refine s_nm (pc := 58) Value.int (fun x16 => ?_)
          refine s_ist_n (pc := 58) (L2 := [(0, va_rf a0), (2, va_rf a2)]) [1, 3] dX2_meanDirt_58 rfl (by decide) rfl rfl (zcB (j := 0) rfl (zcat_rf a0) rfl) ?_
          refine s_goto (pc := 59) (tgt := 33) dX2_meanDirt_59 (by decide) ?_
          exact s_sub (pc := 33) [1, 0, 2] rfl (ih a0 x16 a2 h14)
        refine zS_ite (fun ht => ?_) (fun _ => ?_)
        · refine s_callF (pc := 43) (np := 0) (as := []) (rest := []) dX2_meanDirt_43 ht (q := (RJ15, TJ15, 4)) rfl (c_J15_next (by decide) a2 h12) ⟨_, _, _, q788⟩ rfl rfl q670 (by decide +kernel) q786 q784 rfl (by decide) (zkR (fun r13 h14 => ?_)) zxo
          refine s_cast (pc := 48) dX2_meanDirt_48 q836 zcs_FloatingDock_Ship ?_
          refine s_ast_n (pc := 51) (L2 := [(0, va_rf a0), (1, .int a1), (2, va_rf a2)]) [0, 1, 2] dX2_meanDirt_51 rfl (by decide) rfl rfl (zcB (j := 2) rfl (zcat_rf a2) rfl) ?_
          refine s_iload_n (pc := 52) 2 dX2_meanDirt_52 rfl rfl ?_
          refine s_aload_n (pc := 53) 0 dX2_meanDirt_53 rfl rfl ?_
          refine s_gI (pc := 54) dX2_meanDirt_54 gf_X2_176 (fun x17 => ?_)
          refine s_iadd (pc := 57) dX2_meanDirt_57 ?_
          refine s_nm (pc := 58) Value.int (fun x18 => ?_)
          refine s_ist_n (pc := 58) (L2 := [(0, va_rf a0), (2, va_rf a2)]) [1, 3] dX2_meanDirt_58 rfl (by decide) rfl rfl (zcB (j := 0) rfl (zcat_rf a0) rfl) ?_
          refine s_goto (pc := 59) (tgt := 33) dX2_meanDirt_59 (by decide) ?_
          exact s_sub (pc := 33) [1, 0, 2] rfl (ih a0 x18 a2 h14)
        refine zS_ite (fun ht => ?_) (fun _ => ?_)
        · refine s_callF (pc := 43) (np := 0) (as := []) (rest := []) dX2_meanDirt_43 ht (q := (RJ17, TJ17, 5)) rfl (c_J17_next (by decide) a2 h12) ⟨_, _, _, q799⟩ rfl rfl q670 (by decide +kernel) q797 q795 rfl (by decide) (zkR (fun r13 h14 => ?_)) zxo
          refine s_cast (pc := 48) dX2_meanDirt_48 q836 zcs_FloatingDock_Ship ?_
          refine s_ast_n (pc := 51) (L2 := [(0, va_rf a0), (1, .int a1), (2, va_rf a2)]) [0, 1, 2] dX2_meanDirt_51 rfl (by decide) rfl rfl (zcB (j := 2) rfl (zcat_rf a2) rfl) ?_
          refine s_iload_n (pc := 52) 2 dX2_meanDirt_52 rfl rfl ?_
          refine s_aload_n (pc := 53) 0 dX2_meanDirt_53 rfl rfl ?_
          refine s_gI (pc := 54) dX2_meanDirt_54 gf_X2_176 (fun x19 => ?_)
          refine s_iadd (pc := 57) dX2_meanDirt_57 ?_
          refine s_nm (pc := 58) Value.int (fun x20 => ?_)
          refine s_ist_n (pc := 58) (L2 := [(0, va_rf a0), (2, va_rf a2)]) [1, 3] dX2_meanDirt_58 rfl (by decide) rfl rfl (zcB (j := 0) rfl (zcat_rf a0) rfl) ?_
          refine s_goto (pc := 59) (tgt := 33) dX2_meanDirt_59 (by decide) ?_
          exact s_sub (pc := 33) [1, 0, 2] rfl (ih a0 x20 a2 h14)
        refine zS_ite (fun ht => ?_) (fun _ => ?_)
        · refine s_callF (pc := 43) (np := 0) (as := []) (rest := []) dX2_meanDirt_43 ht (q := (RJ21, TJ21, 5)) rfl (c_J21_next (by decide) a2 h12) ⟨_, _, _, q812⟩ rfl rfl q670 (by decide +kernel) q810 q808 rfl (by decide) (zkR (fun r13 h14 => ?_)) zxo
          refine s_cast (pc := 48) dX2_meanDirt_48 q836 zcs_FloatingDock_Ship ?_
          refine s_ast_n (pc := 51) (L2 := [(0, va_rf a0), (1, .int a1), (2, va_rf a2)]) [0, 1, 2] dX2_meanDirt_51 rfl (by decide) rfl rfl (zcB (j := 2) rfl (zcat_rf a2) rfl) ?_
          refine s_iload_n (pc := 52) 2 dX2_meanDirt_52 rfl rfl ?_
          refine s_aload_n (pc := 53) 0 dX2_meanDirt_53 rfl rfl ?_
          refine s_gI (pc := 54) dX2_meanDirt_54 gf_X2_176 (fun x21 => ?_)
          refine s_iadd (pc := 57) dX2_meanDirt_57 ?_
          refine s_nm (pc := 58) Value.int (fun x22 => ?_)
          refine s_ist_n (pc := 58) (L2 := [(0, va_rf a0), (2, va_rf a2)]) [1, 3] dX2_meanDirt_58 rfl (by decide) rfl rfl (zcB (j := 0) rfl (zcat_rf a0) rfl) ?_
          refine s_goto (pc := 59) (tgt := 33) dX2_meanDirt_59 (by decide) ?_
          exact s_sub (pc := 33) [1, 0, 2] rfl (ih a0 x22 a2 h14)
        refine zS_ite (fun ht => ?_) (fun _ => zS_none)
        refine s_callF (pc := 43) (np := 0) (as := []) (rest := []) dX2_meanDirt_43 ht (q := (RJ22, TJ22, 5)) rfl (c_J22_next (by decide) a2 h12) ⟨_, _, _, q832⟩ rfl rfl q670 (by decide +kernel) q830 q828 rfl (by decide) (zkR (fun r13 h14 => ?_)) zxo
        refine s_cast (pc := 48) dX2_meanDirt_48 q836 zcs_FloatingDock_Ship ?_
        refine s_ast_n (pc := 51) (L2 := [(0, va_rf a0), (1, .int a1), (2, va_rf a2)]) [0, 1, 2] dX2_meanDirt_51 rfl (by decide) rfl rfl (zcB (j := 2) rfl (zcat_rf a2) rfl) ?_
        refine s_iload_n (pc := 52) 2 dX2_meanDirt_52 rfl rfl ?_
        refine s_aload_n (pc := 53) 0 dX2_meanDirt_53 rfl rfl ?_
        refine s_gI (pc := 54) dX2_meanDirt_54 gf_X2_176 (fun x23 => ?_)
        refine s_iadd (pc := 57) dX2_meanDirt_57 ?_
        refine s_nm (pc := 58) Value.int (fun x24 => ?_)
        refine s_ist_n (pc := 58) (L2 := [(0, va_rf a0), (2, va_rf a2)]) [1, 3] dX2_meanDirt_58 rfl (by decide) rfl rfl (zcB (j := 0) rfl (zcat_rf a0) rfl) ?_
        refine s_goto (pc := 59) (tgt := 33) dX2_meanDirt_59 (by decide) ?_
        exact s_sub (pc := 33) [1, 0, 2] rfl (ih a0 x24 a2 h14)
    refine zS_ite (fun ht => ?_) (fun _ => ?_)
    · refine s_callF (pc := 34) (np := 0) (as := []) (rest := []) dX2_meanDirt_34 ht (q := (RJ15, TJ15, 4)) rfl (c_J15_hasNext (by decide) a2 h) ⟨_, _, _, q653⟩ rfl rfl q629 (by decide +kernel) q651 q649 rfl (by decide) (zkI (fun x11 h12 => ?_)) zxo
      refine s_if_eq (pc := 39) (tgt := 62) dX2_meanDirt_39 (by decide) (fun _ => ?_) (fun _ => ?_)
      · exact s_sub (pc := 62) [0, 1] rfl (w_X2_meanDirt_62 a0 a1 h12)
      · refine s_aload_n (pc := 42) 2 dX2_meanDirt_42 rfl rfl ?_
        refine zS_ite (fun ht => ?_) (fun _ => ?_)
        · refine s_callF (pc := 43) (np := 0) (as := []) (rest := []) dX2_meanDirt_43 ht (q := (RX9, TX9, 2)) rfl (c_X9_next (by decide) a2 h12) ⟨_, _, _, q677⟩ rfl rfl q670 (by decide +kernel) q675 q673 rfl (by decide) (zkR (fun r25 h26 => ?_)) zxo
          refine s_cast (pc := 48) dX2_meanDirt_48 q836 zcs_FloatingDock_Ship ?_
          refine s_ast_n (pc := 51) (L2 := [(0, va_rf a0), (1, .int a1), (2, va_rf a2)]) [0, 1, 2] dX2_meanDirt_51 rfl (by decide) rfl rfl (zcB (j := 2) rfl (zcat_rf a2) rfl) ?_
          refine s_iload_n (pc := 52) 2 dX2_meanDirt_52 rfl rfl ?_
          refine s_aload_n (pc := 53) 0 dX2_meanDirt_53 rfl rfl ?_
          refine s_gI (pc := 54) dX2_meanDirt_54 gf_X2_176 (fun x27 => ?_)
          refine s_iadd (pc := 57) dX2_meanDirt_57 ?_
          refine s_nm (pc := 58) Value.int (fun x28 => ?_)
          refine s_ist_n (pc := 58) (L2 := [(0, va_rf a0), (2, va_rf a2)]) [1, 3] dX2_meanDirt_58 rfl (by decide) rfl rfl (zcB (j := 0) rfl (zcat_rf a0) rfl) ?_
          refine s_goto (pc := 59) (tgt := 33) dX2_meanDirt_59 (by decide) ?_
          exact s_sub (pc := 33) [1, 0, 2] rfl (ih a0 x28 a2 h26)
        refine zS_ite (fun ht => ?_) (fun _ => ?_)
        · refine s_callF (pc := 43) (np := 0) (as := []) (rest := []) dX2_meanDirt_43 ht (q := (RJ15, TJ15, 4)) rfl (c_J15_next (by decide) a2 h12) ⟨_, _, _, q788⟩ rfl rfl q670 (by decide +kernel) q786 q784 rfl (by decide) (zkR (fun r25 h26 => ?_)) zxo
          refine s_cast (pc := 48) dX2_meanDirt_48 q836 zcs_FloatingDock_Ship ?_
          refine s_ast_n (pc := 51) (L2 := [(0, va_rf a0), (1, .int a1), (2, va_rf a2)]) [0, 1, 2] dX2_meanDirt_51 rfl (by decide) rfl rfl (zcB (j := 2) rfl (zcat_rf a2) rfl) ?_
          refine s_iload_n (pc := 52) 2 dX2_meanDirt_52 rfl rfl ?_
          refine s_aload_n (pc := 53) 0 dX2_meanDirt_53 rfl rfl ?_
          refine s_gI (pc := 54) dX2_meanDirt_54 gf_X2_176 (fun x29 => ?_)
          refine s_iadd (pc := 57) dX2_meanDirt_57 ?_
          refine s_nm (pc := 58) Value.int (fun x30 => ?_)
          refine s_ist_n (pc := 58) (L2 := [(0, va_rf a0), (2, va_rf a2)]) [1, 3] dX2_meanDirt_58 rfl (by decide) rfl rfl (zcB (j := 0) rfl (zcat_rf a0) rfl) ?_
          refine s_goto (pc := 59) (tgt := 33) dX2_meanDirt_59 (by decide) ?_
          exact s_sub (pc := 33) [1, 0, 2] rfl (ih a0 x30 a2 h26)
        refine zS_ite (fun ht => ?_) (fun _ => ?_)
        · refine s_callF (pc := 43) (np := 0) (as := []) (rest := []) dX2_meanDirt_43 ht (q := (RJ17, TJ17, 5)) rfl (c_J17_next (by decide) a2 h12) ⟨_, _, _, q799⟩ rfl rfl q670 (by decide +kernel) q797 q795 rfl (by decide) (zkR (fun r25 h26 => ?_)) zxo
          refine s_cast (pc := 48) dX2_meanDirt_48 q836 zcs_FloatingDock_Ship ?_
          refine s_ast_n (pc := 51) (L2 := [(0, va_rf a0), (1, .int a1), (2, va_rf a2)]) [0, 1, 2] dX2_meanDirt_51 rfl (by decide) rfl rfl (zcB (j := 2) rfl (zcat_rf a2) rfl) ?_
          refine s_iload_n (pc := 52) 2 dX2_meanDirt_52 rfl rfl ?_
          refine s_aload_n (pc := 53) 0 dX2_meanDirt_53 rfl rfl ?_
          refine s_gI (pc := 54) dX2_meanDirt_54 gf_X2_176 (fun x31 => ?_)
          refine s_iadd (pc := 57) dX2_meanDirt_57 ?_
          refine s_nm (pc := 58) Value.int (fun x32 => ?_)
          refine s_ist_n (pc := 58) (L2 := [(0, va_rf a0), (2, va_rf a2)]) [1, 3] dX2_meanDirt_58 rfl (by decide) rfl rfl (zcB (j := 0) rfl (zcat_rf a0) rfl) ?_
          refine s_goto (pc := 59) (tgt := 33) dX2_meanDirt_59 (by decide) ?_
          exact s_sub (pc := 33) [1, 0, 2] rfl (ih a0 x32 a2 h26)
        refine zS_ite (fun ht => ?_) (fun _ => ?_)
        · refine s_callF (pc := 43) (np := 0) (as := []) (rest := []) dX2_meanDirt_43 ht (q := (RJ21, TJ21, 5)) rfl (c_J21_next (by decide) a2 h12) ⟨_, _, _, q812⟩ rfl rfl q670 (by decide +kernel) q810 q808 rfl (by decide) (zkR (fun r25 h26 => ?_)) zxo
          refine s_cast (pc := 48) dX2_meanDirt_48 q836 zcs_FloatingDock_Ship ?_
          refine s_ast_n (pc := 51) (L2 := [(0, va_rf a0), (1, .int a1), (2, va_rf a2)]) [0, 1, 2] dX2_meanDirt_51 rfl (by decide) rfl rfl (zcB (j := 2) rfl (zcat_rf a2) rfl) ?_
          refine s_iload_n (pc := 52) 2 dX2_meanDirt_52 rfl rfl ?_
          refine s_aload_n (pc := 53) 0 dX2_meanDirt_53 rfl rfl ?_
          refine s_gI (pc := 54) dX2_meanDirt_54 gf_X2_176 (fun x33 => ?_)
          refine s_iadd (pc := 57) dX2_meanDirt_57 ?_
          refine s_nm (pc := 58) Value.int (fun x34 => ?_)
          refine s_ist_n (pc := 58) (L2 := [(0, va_rf a0), (2, va_rf a2)]) [1, 3] dX2_meanDirt_58 rfl (by decide) rfl rfl (zcB (j := 0) rfl (zcat_rf a0) rfl) ?_
          refine s_goto (pc := 59) (tgt := 33) dX2_meanDirt_59 (by decide) ?_
          exact s_sub (pc := 33) [1, 0, 2] rfl (ih a0 x34 a2 h26)
        refine zS_ite (fun ht => ?_) (fun _ => zS_none)
        refine s_callF (pc := 43) (np := 0) (as := []) (rest := []) dX2_meanDirt_43 ht (q := (RJ22, TJ22, 5)) rfl (c_J22_next (by decide) a2 h12) ⟨_, _, _, q832⟩ rfl rfl q670 (by decide +kernel) q830 q828 rfl (by decide) (zkR (fun r25 h26 => ?_)) zxo
        refine s_cast (pc := 48) dX2_meanDirt_48 q836 zcs_FloatingDock_Ship ?_
        refine s_ast_n (pc := 51) (L2 := [(0, va_rf a0), (1, .int a1), (2, va_rf a2)]) [0, 1, 2] dX2_meanDirt_51 rfl (by decide) rfl rfl (zcB (j := 2) rfl (zcat_rf a2) rfl) ?_
        refine s_iload_n (pc := 52) 2 dX2_meanDirt_52 rfl rfl ?_
        refine s_aload_n (pc := 53) 0 dX2_meanDirt_53 rfl rfl ?_
        refine s_gI (pc := 54) dX2_meanDirt_54 gf_X2_176 (fun x35 => ?_)
        refine s_iadd (pc := 57) dX2_meanDirt_57 ?_
        refine s_nm (pc := 58) Value.int (fun x36 => ?_)
        refine s_ist_n (pc := 58) (L2 := [(0, va_rf a0), (2, va_rf a2)]) [1, 3] dX2_meanDirt_58 rfl (by decide) rfl rfl (zcB (j := 0) rfl (zcat_rf a0) rfl) ?_
        refine s_goto (pc := 59) (tgt := 33) dX2_meanDirt_59 (by decide) ?_
        exact s_sub (pc := 33) [1, 0, 2] rfl (ih a0 x36 a2 h26)
    refine zS_ite (fun ht => ?_) (fun _ => ?_)
    · refine s_callF (pc := 34) (np := 0) (as := []) (rest := []) dX2_meanDirt_34 ht (q := (RJ17, TJ17, 5)) rfl (c_J16_hasNext (by decide) a2 h) ⟨_, _, _, q659⟩ rfl rfl q629 (by decide +kernel) q657 q655 rfl (by decide) (zkI (fun x11 h12 => ?_)) zxo
      refine s_if_eq (pc := 39) (tgt := 62) dX2_meanDirt_39 (by decide) (fun _ => ?_) (fun _ => ?_)
      · exact s_sub (pc := 62) [0, 1] rfl (w_X2_meanDirt_62 a0 a1 h12)
      · refine s_aload_n (pc := 42) 2 dX2_meanDirt_42 rfl rfl ?_
        refine zS_ite (fun ht => ?_) (fun _ => ?_)
        · refine s_callF (pc := 43) (np := 0) (as := []) (rest := []) dX2_meanDirt_43 ht (q := (RX9, TX9, 2)) rfl (c_X9_next (by decide) a2 h12) ⟨_, _, _, q677⟩ rfl rfl q670 (by decide +kernel) q675 q673 rfl (by decide) (zkR (fun r37 h38 => ?_)) zxo
          refine s_cast (pc := 48) dX2_meanDirt_48 q836 zcs_FloatingDock_Ship ?_
          refine s_ast_n (pc := 51) (L2 := [(0, va_rf a0), (1, .int a1), (2, va_rf a2)]) [0, 1, 2] dX2_meanDirt_51 rfl (by decide) rfl rfl (zcB (j := 2) rfl (zcat_rf a2) rfl) ?_
          refine s_iload_n (pc := 52) 2 dX2_meanDirt_52 rfl rfl ?_
          refine s_aload_n (pc := 53) 0 dX2_meanDirt_53 rfl rfl ?_
          refine s_gI (pc := 54) dX2_meanDirt_54 gf_X2_176 (fun x39 => ?_)
          refine s_iadd (pc := 57) dX2_meanDirt_57 ?_
          refine s_nm (pc := 58) Value.int (fun x40 => ?_)
          refine s_ist_n (pc := 58) (L2 := [(0, va_rf a0), (2, va_rf a2)]) [1, 3] dX2_meanDirt_58 rfl (by decide) rfl rfl (zcB (j := 0) rfl (zcat_rf a0) rfl) ?_
          refine s_goto (pc := 59) (tgt := 33) dX2_meanDirt_59 (by decide) ?_
          exact s_sub (pc := 33) [1, 0, 2] rfl (ih a0 x40 a2 h38)
        refine zS_ite (fun ht => ?_) (fun _ => ?_)
        · refine s_callF (pc := 43) (np := 0) (as := []) (rest := []) dX2_meanDirt_43 ht (q := (RJ15, TJ15, 4)) rfl (c_J15_next (by decide) a2 h12) ⟨_, _, _, q788⟩ rfl rfl q670 (by decide +kernel) q786 q784 rfl (by decide) (zkR (fun r37 h38 => ?_)) zxo
          refine s_cast (pc := 48) dX2_meanDirt_48 q836 zcs_FloatingDock_Ship ?_
          refine s_ast_n (pc := 51) (L2 := [(0, va_rf a0), (1, .int a1), (2, va_rf a2)]) [0, 1, 2] dX2_meanDirt_51 rfl (by decide) rfl rfl (zcB (j := 2) rfl (zcat_rf a2) rfl) ?_
          refine s_iload_n (pc := 52) 2 dX2_meanDirt_52 rfl rfl ?_
          refine s_aload_n (pc := 53) 0 dX2_meanDirt_53 rfl rfl ?_
          refine s_gI (pc := 54) dX2_meanDirt_54 gf_X2_176 (fun x41 => ?_)
          refine s_iadd (pc := 57) dX2_meanDirt_57 ?_
          refine s_nm (pc := 58) Value.int (fun x42 => ?_)
          refine s_ist_n (pc := 58) (L2 := [(0, va_rf a0), (2, va_rf a2)]) [1, 3] dX2_meanDirt_58 rfl (by decide) rfl rfl (zcB (j := 0) rfl (zcat_rf a0) rfl) ?_
          refine s_goto (pc := 59) (tgt := 33) dX2_meanDirt_59 (by decide) ?_
          exact s_sub (pc := 33) [1, 0, 2] rfl (ih a0 x42 a2 h38)
        refine zS_ite (fun ht => ?_) (fun _ => ?_)
        · refine s_callF (pc := 43) (np := 0) (as := []) (rest := []) dX2_meanDirt_43 ht (q := (RJ17, TJ17, 5)) rfl (c_J17_next (by decide) a2 h12) ⟨_, _, _, q799⟩ rfl rfl q670 (by decide +kernel) q797 q795 rfl (by decide) (zkR (fun r37 h38 => ?_)) zxo
          refine s_cast (pc := 48) dX2_meanDirt_48 q836 zcs_FloatingDock_Ship ?_
          refine s_ast_n (pc := 51) (L2 := [(0, va_rf a0), (1, .int a1), (2, va_rf a2)]) [0, 1, 2] dX2_meanDirt_51 rfl (by decide) rfl rfl (zcB (j := 2) rfl (zcat_rf a2) rfl) ?_
          refine s_iload_n (pc := 52) 2 dX2_meanDirt_52 rfl rfl ?_
          refine s_aload_n (pc := 53) 0 dX2_meanDirt_53 rfl rfl ?_
          refine s_gI (pc := 54) dX2_meanDirt_54 gf_X2_176 (fun x43 => ?_)
          refine s_iadd (pc := 57) dX2_meanDirt_57 ?_
          refine s_nm (pc := 58) Value.int (fun x44 => ?_)
          refine s_ist_n (pc := 58) (L2 := [(0, va_rf a0), (2, va_rf a2)]) [1, 3] dX2_meanDirt_58 rfl (by decide) rfl rfl (zcB (j := 0) rfl (zcat_rf a0) rfl) ?_
          refine s_goto (pc := 59) (tgt := 33) dX2_meanDirt_59 (by decide) ?_
          exact s_sub (pc := 33) [1, 0, 2] rfl (ih a0 x44 a2 h38)
        refine zS_ite (fun ht => ?_) (fun _ => ?_)
        · refine s_callF (pc := 43) (np := 0) (as := []) (rest := []) dX2_meanDirt_43 ht (q := (RJ21, TJ21, 5)) rfl (c_J21_next (by decide) a2 h12) ⟨_, _, _, q812⟩ rfl rfl q670 (by decide +kernel) q810 q808 rfl (by decide) (zkR (fun r37 h38 => ?_)) zxo
          refine s_cast (pc := 48) dX2_meanDirt_48 q836 zcs_FloatingDock_Ship ?_
          refine s_ast_n (pc := 51) (L2 := [(0, va_rf a0), (1, .int a1), (2, va_rf a2)]) [0, 1, 2] dX2_meanDirt_51 rfl (by decide) rfl rfl (zcB (j := 2) rfl (zcat_rf a2) rfl) ?_
          refine s_iload_n (pc := 52) 2 dX2_meanDirt_52 rfl rfl ?_
          refine s_aload_n (pc := 53) 0 dX2_meanDirt_53 rfl rfl ?_
          refine s_gI (pc := 54) dX2_meanDirt_54 gf_X2_176 (fun x45 => ?_)
          refine s_iadd (pc := 57) dX2_meanDirt_57 ?_
          refine s_nm (pc := 58) Value.int (fun x46 => ?_)
          refine s_ist_n (pc := 58) (L2 := [(0, va_rf a0), (2, va_rf a2)]) [1, 3] dX2_meanDirt_58 rfl (by decide) rfl rfl (zcB (j := 0) rfl (zcat_rf a0) rfl) ?_
          refine s_goto (pc := 59) (tgt := 33) dX2_meanDirt_59 (by decide) ?_
          exact s_sub (pc := 33) [1, 0, 2] rfl (ih a0 x46 a2 h38)
        refine zS_ite (fun ht => ?_) (fun _ => zS_none)
        refine s_callF (pc := 43) (np := 0) (as := []) (rest := []) dX2_meanDirt_43 ht (q := (RJ22, TJ22, 5)) rfl (c_J22_next (by decide) a2 h12) ⟨_, _, _, q832⟩ rfl rfl q670 (by decide +kernel) q830 q828 rfl (by decide) (zkR (fun r37 h38 => ?_)) zxo
        refine s_cast (pc := 48) dX2_meanDirt_48 q836 zcs_FloatingDock_Ship ?_
        refine s_ast_n (pc := 51) (L2 := [(0, va_rf a0), (1, .int a1), (2, va_rf a2)]) [0, 1, 2] dX2_meanDirt_51 rfl (by decide) rfl rfl (zcB (j := 2) rfl (zcat_rf a2) rfl) ?_
        refine s_iload_n (pc := 52) 2 dX2_meanDirt_52 rfl rfl ?_
        refine s_aload_n (pc := 53) 0 dX2_meanDirt_53 rfl rfl ?_
        refine s_gI (pc := 54) dX2_meanDirt_54 gf_X2_176 (fun x47 => ?_)
        refine s_iadd (pc := 57) dX2_meanDirt_57 ?_
        refine s_nm (pc := 58) Value.int (fun x48 => ?_)
        refine s_ist_n (pc := 58) (L2 := [(0, va_rf a0), (2, va_rf a2)]) [1, 3] dX2_meanDirt_58 rfl (by decide) rfl rfl (zcB (j := 0) rfl (zcat_rf a0) rfl) ?_
        refine s_goto (pc := 59) (tgt := 33) dX2_meanDirt_59 (by decide) ?_
        exact s_sub (pc := 33) [1, 0, 2] rfl (ih a0 x48 a2 h38)
    refine zS_ite (fun ht => ?_) (fun _ => ?_)
    · refine s_callF (pc := 34) (np := 0) (as := []) (rest := []) dX2_meanDirt_34 ht (q := (RJ21, TJ21, 5)) rfl (c_J20_hasNext (by decide) a2 h) ⟨_, _, _, q665⟩ rfl rfl q629 (by decide +kernel) q663 q661 rfl (by decide) (zkI (fun x11 h12 => ?_)) zxo
      refine s_if_eq (pc := 39) (tgt := 62) dX2_meanDirt_39 (by decide) (fun _ => ?_) (fun _ => ?_)
      · exact s_sub (pc := 62) [0, 1] rfl (w_X2_meanDirt_62 a0 a1 h12)
      · refine s_aload_n (pc := 42) 2 dX2_meanDirt_42 rfl rfl ?_
        refine zS_ite (fun ht => ?_) (fun _ => ?_)
        · refine s_callF (pc := 43) (np := 0) (as := []) (rest := []) dX2_meanDirt_43 ht (q := (RX9, TX9, 2)) rfl (c_X9_next (by decide) a2 h12) ⟨_, _, _, q677⟩ rfl rfl q670 (by decide +kernel) q675 q673 rfl (by decide) (zkR (fun r49 h50 => ?_)) zxo
          refine s_cast (pc := 48) dX2_meanDirt_48 q836 zcs_FloatingDock_Ship ?_
          refine s_ast_n (pc := 51) (L2 := [(0, va_rf a0), (1, .int a1), (2, va_rf a2)]) [0, 1, 2] dX2_meanDirt_51 rfl (by decide) rfl rfl (zcB (j := 2) rfl (zcat_rf a2) rfl) ?_
          refine s_iload_n (pc := 52) 2 dX2_meanDirt_52 rfl rfl ?_
          refine s_aload_n (pc := 53) 0 dX2_meanDirt_53 rfl rfl ?_
          refine s_gI (pc := 54) dX2_meanDirt_54 gf_X2_176 (fun x51 => ?_)
          refine s_iadd (pc := 57) dX2_meanDirt_57 ?_
          refine s_nm (pc := 58) Value.int (fun x52 => ?_)
          refine s_ist_n (pc := 58) (L2 := [(0, va_rf a0), (2, va_rf a2)]) [1, 3] dX2_meanDirt_58 rfl (by decide) rfl rfl (zcB (j := 0) rfl (zcat_rf a0) rfl) ?_
          refine s_goto (pc := 59) (tgt := 33) dX2_meanDirt_59 (by decide) ?_
          exact s_sub (pc := 33) [1, 0, 2] rfl (ih a0 x52 a2 h50)
        refine zS_ite (fun ht => ?_) (fun _ => ?_)
        · refine s_callF (pc := 43) (np := 0) (as := []) (rest := []) dX2_meanDirt_43 ht (q := (RJ15, TJ15, 4)) rfl (c_J15_next (by decide) a2 h12) ⟨_, _, _, q788⟩ rfl rfl q670 (by decide +kernel) q786 q784 rfl (by decide) (zkR (fun r49 h50 => ?_)) zxo
          refine s_cast (pc := 48) dX2_meanDirt_48 q836 zcs_FloatingDock_Ship ?_
          refine s_ast_n (pc := 51) (L2 := [(0, va_rf a0), (1, .int a1), (2, va_rf a2)]) [0, 1, 2] dX2_meanDirt_51 rfl (by decide) rfl rfl (zcB (j := 2) rfl (zcat_rf a2) rfl) ?_
          refine s_iload_n (pc := 52) 2 dX2_meanDirt_52 rfl rfl ?_
          refine s_aload_n (pc := 53) 0 dX2_meanDirt_53 rfl rfl ?_
          refine s_gI (pc := 54) dX2_meanDirt_54 gf_X2_176 (fun x53 => ?_)
          refine s_iadd (pc := 57) dX2_meanDirt_57 ?_
          refine s_nm (pc := 58) Value.int (fun x54 => ?_)
          refine s_ist_n (pc := 58) (L2 := [(0, va_rf a0), (2, va_rf a2)]) [1, 3] dX2_meanDirt_58 rfl (by decide) rfl rfl (zcB (j := 0) rfl (zcat_rf a0) rfl) ?_
          refine s_goto (pc := 59) (tgt := 33) dX2_meanDirt_59 (by decide) ?_
          exact s_sub (pc := 33) [1, 0, 2] rfl (ih a0 x54 a2 h50)
        refine zS_ite (fun ht => ?_) (fun _ => ?_)
        · refine s_callF (pc := 43) (np := 0) (as := []) (rest := []) dX2_meanDirt_43 ht (q := (RJ17, TJ17, 5)) rfl (c_J17_next (by decide) a2 h12) ⟨_, _, _, q799⟩ rfl rfl q670 (by decide +kernel) q797 q795 rfl (by decide) (zkR (fun r49 h50 => ?_)) zxo
          refine s_cast (pc := 48) dX2_meanDirt_48 q836 zcs_FloatingDock_Ship ?_
          refine s_ast_n (pc := 51) (L2 := [(0, va_rf a0), (1, .int a1), (2, va_rf a2)]) [0, 1, 2] dX2_meanDirt_51 rfl (by decide) rfl rfl (zcB (j := 2) rfl (zcat_rf a2) rfl) ?_
          refine s_iload_n (pc := 52) 2 dX2_meanDirt_52 rfl rfl ?_
          refine s_aload_n (pc := 53) 0 dX2_meanDirt_53 rfl rfl ?_
          refine s_gI (pc := 54) dX2_meanDirt_54 gf_X2_176 (fun x55 => ?_)
          refine s_iadd (pc := 57) dX2_meanDirt_57 ?_
          refine s_nm (pc := 58) Value.int (fun x56 => ?_)
          refine s_ist_n (pc := 58) (L2 := [(0, va_rf a0), (2, va_rf a2)]) [1, 3] dX2_meanDirt_58 rfl (by decide) rfl rfl (zcB (j := 0) rfl (zcat_rf a0) rfl) ?_
          refine s_goto (pc := 59) (tgt := 33) dX2_meanDirt_59 (by decide) ?_
          exact s_sub (pc := 33) [1, 0, 2] rfl (ih a0 x56 a2 h50)
        refine zS_ite (fun ht => ?_) (fun _ => ?_)
        · refine s_callF (pc := 43) (np := 0) (as := []) (rest := []) dX2_meanDirt_43 ht (q := (RJ21, TJ21, 5)) rfl (c_J21_next (by decide) a2 h12) ⟨_, _, _, q812⟩ rfl rfl q670 (by decide +kernel) q810 q808 rfl (by decide) (zkR (fun r49 h50 => ?_)) zxo
          refine s_cast (pc := 48) dX2_meanDirt_48 q836 zcs_FloatingDock_Ship ?_
          refine s_ast_n (pc := 51) (L2 := [(0, va_rf a0), (1, .int a1), (2, va_rf a2)]) [0, 1, 2] dX2_meanDirt_51 rfl (by decide) rfl rfl (zcB (j := 2) rfl (zcat_rf a2) rfl) ?_
          refine s_iload_n (pc := 52) 2 dX2_meanDirt_52 rfl rfl ?_
          refine s_aload_n (pc := 53) 0 dX2_meanDirt_53 rfl rfl ?_
          refine s_gI (pc := 54) dX2_meanDirt_54 gf_X2_176 (fun x57 => ?_)
          refine s_iadd (pc := 57) dX2_meanDirt_57 ?_
          refine s_nm (pc := 58) Value.int (fun x58 => ?_)
          refine s_ist_n (pc := 58) (L2 := [(0, va_rf a0), (2, va_rf a2)]) [1, 3] dX2_meanDirt_58 rfl (by decide) rfl rfl (zcB (j := 0) rfl (zcat_rf a0) rfl) ?_
          refine s_goto (pc := 59) (tgt := 33) dX2_meanDirt_59 (by decide) ?_
          exact s_sub (pc := 33) [1, 0, 2] rfl (ih a0 x58 a2 h50)
        refine zS_ite (fun ht => ?_) (fun _ => zS_none)
        refine s_callF (pc := 43) (np := 0) (as := []) (rest := []) dX2_meanDirt_43 ht (q := (RJ22, TJ22, 5)) rfl (c_J22_next (by decide) a2 h12) ⟨_, _, _, q832⟩ rfl rfl q670 (by decide +kernel) q830 q828 rfl (by decide) (zkR (fun r49 h50 => ?_)) zxo
        refine s_cast (pc := 48) dX2_meanDirt_48 q836 zcs_FloatingDock_Ship ?_
        refine s_ast_n (pc := 51) (L2 := [(0, va_rf a0), (1, .int a1), (2, va_rf a2)]) [0, 1, 2] dX2_meanDirt_51 rfl (by decide) rfl rfl (zcB (j := 2) rfl (zcat_rf a2) rfl) ?_
        refine s_iload_n (pc := 52) 2 dX2_meanDirt_52 rfl rfl ?_
        refine s_aload_n (pc := 53) 0 dX2_meanDirt_53 rfl rfl ?_
        refine s_gI (pc := 54) dX2_meanDirt_54 gf_X2_176 (fun x59 => ?_)
        refine s_iadd (pc := 57) dX2_meanDirt_57 ?_
        refine s_nm (pc := 58) Value.int (fun x60 => ?_)
        refine s_ist_n (pc := 58) (L2 := [(0, va_rf a0), (2, va_rf a2)]) [1, 3] dX2_meanDirt_58 rfl (by decide) rfl rfl (zcB (j := 0) rfl (zcat_rf a0) rfl) ?_
        refine s_goto (pc := 59) (tgt := 33) dX2_meanDirt_59 (by decide) ?_
        exact s_sub (pc := 33) [1, 0, 2] rfl (ih a0 x60 a2 h50)
    refine zS_ite (fun ht => ?_) (fun _ => zS_none)
    refine s_callF (pc := 34) (np := 0) (as := []) (rest := []) dX2_meanDirt_34 ht (q := (RJ22, TJ22, 5)) rfl (c_J20_hasNext (by decide) a2 h) ⟨_, _, _, q665⟩ rfl rfl q629 (by decide +kernel) q663 q667 rfl (by decide) (zkI (fun x11 h12 => ?_)) zxo
    refine s_if_eq (pc := 39) (tgt := 62) dX2_meanDirt_39 (by decide) (fun _ => ?_) (fun _ => ?_)
    · exact s_sub (pc := 62) [0, 1] rfl (w_X2_meanDirt_62 a0 a1 h12)
    · refine s_aload_n (pc := 42) 2 dX2_meanDirt_42 rfl rfl ?_
      refine zS_ite (fun ht => ?_) (fun _ => ?_)
      · refine s_callF (pc := 43) (np := 0) (as := []) (rest := []) dX2_meanDirt_43 ht (q := (RX9, TX9, 2)) rfl (c_X9_next (by decide) a2 h12) ⟨_, _, _, q677⟩ rfl rfl q670 (by decide +kernel) q675 q673 rfl (by decide) (zkR (fun r61 h62 => ?_)) zxo
        refine s_cast (pc := 48) dX2_meanDirt_48 q836 zcs_FloatingDock_Ship ?_
        refine s_ast_n (pc := 51) (L2 := [(0, va_rf a0), (1, .int a1), (2, va_rf a2)]) [0, 1, 2] dX2_meanDirt_51 rfl (by decide) rfl rfl (zcB (j := 2) rfl (zcat_rf a2) rfl) ?_
        refine s_iload_n (pc := 52) 2 dX2_meanDirt_52 rfl rfl ?_
        refine s_aload_n (pc := 53) 0 dX2_meanDirt_53 rfl rfl ?_
        refine s_gI (pc := 54) dX2_meanDirt_54 gf_X2_176 (fun x63 => ?_)
        refine s_iadd (pc := 57) dX2_meanDirt_57 ?_
        refine s_nm (pc := 58) Value.int (fun x64 => ?_)
        refine s_ist_n (pc := 58) (L2 := [(0, va_rf a0), (2, va_rf a2)]) [1, 3] dX2_meanDirt_58 rfl (by decide) rfl rfl (zcB (j := 0) rfl (zcat_rf a0) rfl) ?_
        refine s_goto (pc := 59) (tgt := 33) dX2_meanDirt_59 (by decide) ?_
        exact s_sub (pc := 33) [1, 0, 2] rfl (ih a0 x64 a2 h62)
      refine zS_ite (fun ht => ?_) (fun _ => ?_)
      · refine s_callF (pc := 43) (np := 0) (as := []) (rest := []) dX2_meanDirt_43 ht (q := (RJ15, TJ15, 4)) rfl (c_J15_next (by decide) a2 h12) ⟨_, _, _, q788⟩ rfl rfl q670 (by decide +kernel) q786 q784 rfl (by decide) (zkR (fun r61 h62 => ?_)) zxo
        refine s_cast (pc := 48) dX2_meanDirt_48 q836 zcs_FloatingDock_Ship ?_
        refine s_ast_n (pc := 51) (L2 := [(0, va_rf a0), (1, .int a1), (2, va_rf a2)]) [0, 1, 2] dX2_meanDirt_51 rfl (by decide) rfl rfl (zcB (j := 2) rfl (zcat_rf a2) rfl) ?_
        refine s_iload_n (pc := 52) 2 dX2_meanDirt_52 rfl rfl ?_
        refine s_aload_n (pc := 53) 0 dX2_meanDirt_53 rfl rfl ?_
        refine s_gI (pc := 54) dX2_meanDirt_54 gf_X2_176 (fun x65 => ?_)
        refine s_iadd (pc := 57) dX2_meanDirt_57 ?_
        refine s_nm (pc := 58) Value.int (fun x66 => ?_)
        refine s_ist_n (pc := 58) (L2 := [(0, va_rf a0), (2, va_rf a2)]) [1, 3] dX2_meanDirt_58 rfl (by decide) rfl rfl (zcB (j := 0) rfl (zcat_rf a0) rfl) ?_
        refine s_goto (pc := 59) (tgt := 33) dX2_meanDirt_59 (by decide) ?_
        exact s_sub (pc := 33) [1, 0, 2] rfl (ih a0 x66 a2 h62)
      refine zS_ite (fun ht => ?_) (fun _ => ?_)
      · refine s_callF (pc := 43) (np := 0) (as := []) (rest := []) dX2_meanDirt_43 ht (q := (RJ17, TJ17, 5)) rfl (c_J17_next (by decide) a2 h12) ⟨_, _, _, q799⟩ rfl rfl q670 (by decide +kernel) q797 q795 rfl (by decide) (zkR (fun r61 h62 => ?_)) zxo
        refine s_cast (pc := 48) dX2_meanDirt_48 q836 zcs_FloatingDock_Ship ?_
        refine s_ast_n (pc := 51) (L2 := [(0, va_rf a0), (1, .int a1), (2, va_rf a2)]) [0, 1, 2] dX2_meanDirt_51 rfl (by decide) rfl rfl (zcB (j := 2) rfl (zcat_rf a2) rfl) ?_
        refine s_iload_n (pc := 52) 2 dX2_meanDirt_52 rfl rfl ?_
        refine s_aload_n (pc := 53) 0 dX2_meanDirt_53 rfl rfl ?_
        refine s_gI (pc := 54) dX2_meanDirt_54 gf_X2_176 (fun x67 => ?_)
        refine s_iadd (pc := 57) dX2_meanDirt_57 ?_
        refine s_nm (pc := 58) Value.int (fun x68 => ?_)
        refine s_ist_n (pc := 58) (L2 := [(0, va_rf a0), (2, va_rf a2)]) [1, 3] dX2_meanDirt_58 rfl (by decide) rfl rfl (zcB (j := 0) rfl (zcat_rf a0) rfl) ?_
        refine s_goto (pc := 59) (tgt := 33) dX2_meanDirt_59 (by decide) ?_
        exact s_sub (pc := 33) [1, 0, 2] rfl (ih a0 x68 a2 h62)
      refine zS_ite (fun ht => ?_) (fun _ => ?_)
      · refine s_callF (pc := 43) (np := 0) (as := []) (rest := []) dX2_meanDirt_43 ht (q := (RJ21, TJ21, 5)) rfl (c_J21_next (by decide) a2 h12) ⟨_, _, _, q812⟩ rfl rfl q670 (by decide +kernel) q810 q808 rfl (by decide) (zkR (fun r61 h62 => ?_)) zxo
        refine s_cast (pc := 48) dX2_meanDirt_48 q836 zcs_FloatingDock_Ship ?_
        refine s_ast_n (pc := 51) (L2 := [(0, va_rf a0), (1, .int a1), (2, va_rf a2)]) [0, 1, 2] dX2_meanDirt_51 rfl (by decide) rfl rfl (zcB (j := 2) rfl (zcat_rf a2) rfl) ?_
        refine s_iload_n (pc := 52) 2 dX2_meanDirt_52 rfl rfl ?_
        refine s_aload_n (pc := 53) 0 dX2_meanDirt_53 rfl rfl ?_
        refine s_gI (pc := 54) dX2_meanDirt_54 gf_X2_176 (fun x69 => ?_)
        refine s_iadd (pc := 57) dX2_meanDirt_57 ?_
        refine s_nm (pc := 58) Value.int (fun x70 => ?_)
        refine s_ist_n (pc := 58) (L2 := [(0, va_rf a0), (2, va_rf a2)]) [1, 3] dX2_meanDirt_58 rfl (by decide) rfl rfl (zcB (j := 0) rfl (zcat_rf a0) rfl) ?_
        refine s_goto (pc := 59) (tgt := 33) dX2_meanDirt_59 (by decide) ?_
        exact s_sub (pc := 33) [1, 0, 2] rfl (ih a0 x70 a2 h62)
      refine zS_ite (fun ht => ?_) (fun _ => zS_none)
      refine s_callF (pc := 43) (np := 0) (as := []) (rest := []) dX2_meanDirt_43 ht (q := (RJ22, TJ22, 5)) rfl (c_J22_next (by decide) a2 h12) ⟨_, _, _, q832⟩ rfl rfl q670 (by decide +kernel) q830 q828 rfl (by decide) (zkR (fun r61 h62 => ?_)) zxo
      refine s_cast (pc := 48) dX2_meanDirt_48 q836 zcs_FloatingDock_Ship ?_
      refine s_ast_n (pc := 51) (L2 := [(0, va_rf a0), (1, .int a1), (2, va_rf a2)]) [0, 1, 2] dX2_meanDirt_51 rfl (by decide) rfl rfl (zcB (j := 2) rfl (zcat_rf a2) rfl) ?_
      refine s_iload_n (pc := 52) 2 dX2_meanDirt_52 rfl rfl ?_
      refine s_aload_n (pc := 53) 0 dX2_meanDirt_53 rfl rfl ?_
      refine s_gI (pc := 54) dX2_meanDirt_54 gf_X2_176 (fun x71 => ?_)
      refine s_iadd (pc := 57) dX2_meanDirt_57 ?_
      refine s_nm (pc := 58) Value.int (fun x72 => ?_)
      refine s_ist_n (pc := 58) (L2 := [(0, va_rf a0), (2, va_rf a2)]) [1, 3] dX2_meanDirt_58 rfl (by decide) rfl rfl (zcB (j := 0) rfl (zcat_rf a0) rfl) ?_
      refine s_goto (pc := 59) (tgt := 33) dX2_meanDirt_59 (by decide) ?_
      exact s_sub (pc := 33) [1, 0, 2] rfl (ih a0 x72 a2 h62)
theorem w_X2_meanDirt (v0 : Option Nat) (h : zH) : zS D z yX2_meanDirt cX2_meanDirt 4 (some .double) [] 10 h 0 [(0, va_rf v0)] [] (f_X2_meanDirt v0 h) := by
  unfold f_X2_meanDirt
  refine s_aload_n (pc := 0) 0 dX2_meanDirt_0 rfl rfl ?_
  refine s_gR (pc := 1) dX2_meanDirt_1 gf_X2_12 (fun r1 => ?_)
  refine zS_ite (fun ht => ?_) (fun _ => zS_none)
  refine s_callVU (pc := 4) (np := 0) (as := []) (rest := []) (owner := "java/util/HashMap") dX2_meanDirt_4 ht (q := (RJ2, TJ2, 12)) rfl (c_J1_isEmpty (by decide) r1 h) ⟨_, _, _, q3194⟩ rfl rfl q3189 q3190 (Or.inl ⟨_, _, _, q3193, q3194⟩) (by decide) q3193 q3192 rfl (by decide) (zkI (fun x2 h3 => ?_)) zxo
  refine s_if_eq (pc := 7) (tgt := 18) dX2_meanDirt_7 (by decide) (fun _ => ?_) (fun _ => ?_)
  · refine s_iconst (pc := 18) (v := 0) dX2_meanDirt_18 (by decide) ?_
    refine s_ist_n (pc := 19) (L2 := [(0, va_rf v0)]) [0] dX2_meanDirt_19 rfl (by decide) rfl rfl (zcB (j := 0) rfl (zcat_rf v0) rfl) ?_
    refine s_aload_n (pc := 20) 1 dX2_meanDirt_20 rfl rfl ?_
    refine s_gR (pc := 21) dX2_meanDirt_21 gf_X2_12 (fun r4 => ?_)
    refine zS_ite (fun ht => ?_) (fun _ => zS_none)
    refine s_callV (pc := 24) (np := 0) (as := []) (rest := []) dX2_meanDirt_24 ht (q := (RJ2, TJ2, 12)) rfl (c_J2_values (by decide) r4 h3) rfl rfl q413 q414 q415 rfl (by decide) (zkR (fun r5 h6 => ?_)) zxo
    refine zS_ite (fun ht => ?_) (fun _ => zS_none)
    refine s_callF (pc := 27) (np := 0) (as := []) (rest := []) dX2_meanDirt_27 ht (q := (RJ13, TJ13, 2)) rfl (c_J13_iterator (by decide) r5 h6) ⟨_, _, _, q615⟩ rfl rfl q436 (by decide +kernel) q613 q611 rfl (by decide) (zkR (fun r7 h8 => ?_)) zxo
    refine s_ast_n (pc := 32) (L2 := [(1, .int 0), (0, va_rf v0)]) [0, 1] dX2_meanDirt_32 rfl (by decide) rfl rfl (zcB (j := 0) rfl rfl rfl) ?_
    exact s_sub (pc := 33) [2, 1, 0] rfl (w_X2_meanDirt_33 zfuel v0 0 r7 h8)
  · refine s_make0 (pc := 10) dX2_meanDirt_10 dX2_meanDirt_13 dX2_meanDirt_14 xf_X2_354_356 (by decide) (by decide) (fun r9 h10 => ?_)
    exact s_athrow (pc := 17) dX2_meanDirt_17 rfl (fun x => zxo x _)
theorem c_X2_meanDirt {d0 : Nat} (hd0 : 10 < d0) (v0 : Option Nat) (h : zH) : zCal D z d0 h yX2_meanDirt [va_rf v0] (f_X2_meanDirt v0 h) :=
  ⟨cX2_meanDirt, 4, (some .double), [], 10, (show lv_args 0 [va_rf v0] = [(0, va_rf v0)] by simp [lv_args, zcat_rf, zcat_i, zcat_l, zcat_f, zcat_d]) ▸ w_X2_meanDirt v0 h, (plainFor_of_name (by decide)), by simp [lg_sl, zcat_rf, zcat_i, zcat_l, zcat_f, zcat_d], q3188, q96, hd0, by decide, by decide⟩
theorem w_X1_meanDirt (v0 : Option Nat) (h : zH) : zS D z yX1_meanDirt cX1_meanDirt 1 (some .double) [] 11 h 0 [(0, va_rf v0)] [] (f_X1_meanDirt v0 h) := by
  unfold f_X1_meanDirt
  refine s_aload_n (pc := 0) 0 dX1_meanDirt_0 rfl rfl ?_
  refine s_gR (pc := 1) dX1_meanDirt_1 gf_X1_30 (fun r1 => ?_)
  refine zS_ite (fun ht => ?_) (fun _ => zS_none)
  refine s_callV (pc := 4) (np := 0) (as := []) (rest := []) dX1_meanDirt_4 ht (q := (RX2, TX2, 10)) rfl (c_X2_meanDirt (by decide) r1 h) rfl rfl q3185 q3186 q3187 rfl (by decide) (zkD (fun x2 h3 => ?_)) zxo
  exact s_dret (pc := 7) dX1_meanDirt_7 rfl
theorem c_X1_meanDirt {d0 : Nat} (hd0 : 11 < d0) (v0 : Option Nat) (h : zH) : zCal D z d0 h yX1_meanDirt [va_rf v0] (f_X1_meanDirt v0 h) :=
  ⟨cX1_meanDirt, 1, (some .double), [], 11, (show lv_args 0 [va_rf v0] = [(0, va_rf v0)] by simp [lv_args, zcat_rf, zcat_i, zcat_l, zcat_f, zcat_d]) ▸ w_X1_meanDirt v0 h, (plainFor_of_name (by decide)), by simp [lg_sl, zcat_rf, zcat_i, zcat_l, zcat_f, zcat_d], q3184, q95, hd0, by decide, by decide⟩
theorem w_X0_meanDirt_10 (s0 : Option Nat) (h : zH) : zS D z yX0_meanDirt cX0_meanDirt 3 (some .int) [(0, 7, 10, 143)] 12 h 10 [] [va_rf s0] (f_X0_meanDirt_10 s0 h) := by
  unfold f_X0_meanDirt_10
  refine s_ast_n (pc := 10) (L2 := []) [] dX0_meanDirt_10 rfl (by decide) rfl rfl (zcA rfl) ?_
  refine s_iconst (pc := 11) (v := 1) dX0_meanDirt_11 (by decide) ?_
  exact s_iret (pc := 12) dX0_meanDirt_12 rfl
theorem w_X0_meanDirt (v0 : Option Nat) (v1 : Option Nat) (h : zH) : zS D z yX0_meanDirt cX0_meanDirt 3 (some .int) [(0, 7, 10, 143)] 12 h 0 [(0, va_rf v0), (1, va_rf v1)] [] (f_X0_meanDirt v0 v1 h) := by
  unfold f_X0_meanDirt
  refine s_aload_n (pc := 0) 1 dX0_meanDirt_0 rfl rfl ?_
  refine s_iconst (pc := 1) (v := 0) dX0_meanDirt_1 (by decide) ?_
  refine s_aload_n (pc := 2) 0 dX0_meanDirt_2 rfl rfl ?_
  refine zS_ite (fun ht => ?_) (fun _ => zS_none)
  refine s_callV (pc := 3) (np := 0) (as := []) (rest := [.int 0, va_rf v1]) dX0_meanDirt_3 ht (q := (RX1, TX1, 11)) rfl (c_X1_meanDirt (by decide) v0 h) rfl rfl q3181 q3182 q3183 rfl (by simp [zcat_rf, zcat_i, zcat_l, zcat_f, zcat_d]) (zkD (fun x3 h4 => ?_)) (fun e2 h1 => zT_ite (fun hx => (zT_out (fun q hq => by rw [hx] at hq; cases hq; exact (zpn (by decide) q3167 (by decide +kernel) zp0)))) (fun _ => zT_ite (fun hx => (zT_out (fun q hq => by rw [hx] at hq; cases hq; exact (zpn (by decide) q3167 (by decide +kernel) zp0)))) (fun _ => zT_ite (fun hx => (zT_out (fun q hq => by rw [hx] at hq; cases hq; exact (zpn (by decide) q3167 (by decide +kernel) zp0)))) (fun _ => zT_ite (fun hx => (zT_out (fun q hq => by rw [hx] at hq; cases hq; exact (zpn (by decide) q3167 (by decide +kernel) zp0)))) (fun _ => zT_ite (fun hx => (zT_out (fun q hq => by rw [hx] at hq; cases hq; exact (zpn (by decide) q3167 (by decide +kernel) zp0)))) (fun _ => zT_ite (fun hx => (zT_catch (q := (RJ47, TJ47, 0)) [] (0, 7, 10, 143) [] rfl (by rw [hx]; rfl) zp0 rfl (by decide) q3167 (Or.inl rfl) rfl (by exact s_sub (pc := 10) [] rfl (w_X0_meanDirt_10 (some e2.2) h1)))) (fun _ => zT_ite (fun hx => (zT_out (fun q hq => by rw [hx] at hq; cases hq; exact (zpn (by decide) q3167 (by decide +kernel) zp0)))) (fun _ => zT_ite (fun hx => (zT_out (fun q hq => by rw [hx] at hq; cases hq; exact (zpn (by decide) q3167 (by decide +kernel) zp0)))) (fun _ => zT_none)))))))))
  refine s_dast (pc := 6) dX0_meanDirt_6 (ztc rfl zt0) (fun h5 => ?_)
  refine s_goto (pc := 7) (tgt := 13) dX0_meanDirt_7 (by decide) ?_
  refine s_iconst (pc := 13) (v := 0) dX0_meanDirt_13 (by decide) ?_
  exact s_iret (pc := 14) dX0_meanDirt_14 rfl
theorem c_X0_meanDirt {d0 : Nat} (hd0 : 12 < d0) (v0 : Option Nat) (v1 : Option Nat) (h : zH) : zCal D z d0 h yX0_meanDirt [va_rf v0, va_rf v1] (f_X0_meanDirt v0 v1 h) :=
  ⟨cX0_meanDirt, 3, (some .int), [(0, 7, 10, 143)], 12, (show lv_args 0 [va_rf v0, va_rf v1] = [(0, va_rf v0), (1, va_rf v1)] by simp [lv_args, zcat_rf, zcat_i, zcat_l, zcat_f, zcat_d]) ▸ w_X0_meanDirt v0 v1 h, (plainFor_of_name (by decide)), by simp [lg_sl, zcat_rf, zcat_i, zcat_l, zcat_f, zcat_d], q3166, q94, hd0, by decide, by decide⟩
theorem w_J6_isEmpty (v0 : Option Nat) (h : zH) : zS D z yJ6_isEmpty cJ6_isEmpty 1 (some .boolean) [] 1 h 0 [(0, va_rf v0)] [] (f_J6_isEmpty v0 h) := by
  unfold f_J6_isEmpty
  refine s_aload_n (pc := 0) 0 dJ6_isEmpty_0 rfl rfl ?_
  refine s_gI (pc := 1) dJ6_isEmpty_1 gf_J6_24 (fun x1 => ?_)
  refine s_aload_n (pc := 4) 0 dJ6_isEmpty_4 rfl rfl ?_
  refine s_gI (pc := 5) dJ6_isEmpty_5 gf_J6_20 (fun x2 => ?_)
  refine s_icmp_ne (pc := 8) (tgt := 15) dJ6_isEmpty_8 (by decide) (fun _ => ?_) (fun _ => ?_)
  · refine s_iconst (pc := 15) (v := 0) dJ6_isEmpty_15 (by decide) ?_
    exact s_nret (pc := 16) dJ6_isEmpty_16 rfl
  · refine s_iconst (pc := 11) (v := 1) dJ6_isEmpty_11 (by decide) ?_
    refine s_goto (pc := 12) (tgt := 16) dJ6_isEmpty_12 (by decide) ?_
    exact s_nret (pc := 16) dJ6_isEmpty_16 rfl
theorem c_J6_isEmpty {d0 : Nat} (hd0 : 1 < d0) (v0 : Option Nat) (h : zH) : zCal D z d0 h yJ6_isEmpty [va_rf v0] (f_J6_isEmpty v0 h) :=
  ⟨cJ6_isEmpty, 1, (some .boolean), [], 1, (show lv_args 0 [va_rf v0] = [(0, va_rf v0)] by simp [lv_args, zcat_rf, zcat_i, zcat_l, zcat_f, zcat_d]) ▸ w_J6_isEmpty v0 h, (plainFor_of_name (by decide)), by simp [lg_sl, zcat_rf, zcat_i, zcat_l, zcat_f, zcat_d], q3210, q103, hd0, by decide, by decide⟩
theorem w_J6_dec (v0 : Int32) (v1 : Int32) (h : zH) : zS D z yJ6_dec cJ6_dec 2 (some .int) [] 1 h 0 [(0, .int v0), (1, .int v1)] [] (f_J6_dec v0 v1 h) := by
  unfold f_J6_dec
  refine s_inc (pc := 0) (v := -1) (L2 := [(1, .int v1)]) 0 [1] dJ6_dec_0 rfl (by decide) (by decide) rfl rfl (zcA rfl) (fun x1 => ?_)
  refine s_iload_n (pc := 3) 0 dJ6_dec_3 rfl rfl ?_
  refine s_if_ge (pc := 4) (tgt := 11) dJ6_dec_4 (by decide) (fun _ => ?_) (fun _ => ?_)
  · refine s_iload_n (pc := 11) 0 dJ6_dec_11 rfl rfl ?_
    exact s_iret (pc := 12) dJ6_dec_12 rfl
  · refine s_iload_n (pc := 7) 1 dJ6_dec_7 rfl rfl ?_
    refine s_iconst (pc := 8) (v := 1) dJ6_dec_8 (by decide) ?_
    refine s_isub (pc := 9) dJ6_dec_9 ?_
    refine s_nm (pc := 10) Value.int (fun x2 => ?_)
    refine s_ist_n (pc := 10) (L2 := []) [] dJ6_dec_10 rfl (by decide) rfl rfl (zcA rfl) ?_
    refine s_iload_n (pc := 11) 0 dJ6_dec_11 rfl rfl ?_
    exact s_iret (pc := 12) dJ6_dec_12 rfl
theorem c_J6_dec {d0 : Nat} (hd0 : 1 < d0) (v0 : Int32) (v1 : Int32) (h : zH) : zCal D z d0 h yJ6_dec [.int v0, .int v1] (f_J6_dec v0 v1 h) :=
  ⟨cJ6_dec, 2, (some .int), [], 1, (show lv_args 0 [.int v0, .int v1] = [(0, .int v0), (1, .int v1)] by simp [lv_args, zcat_rf, zcat_i, zcat_l, zcat_f, zcat_d]) ▸ w_J6_dec v0 v1 h, (plainFor_of_name (by decide)), by simp [lg_sl, zcat_rf, zcat_i, zcat_l, zcat_f, zcat_d], q3221, q103, hd0, by decide, by decide⟩
theorem w_J6_pollLast (v0 : Option Nat) (h : zH) : zS D z yJ6_pollLast cJ6_pollLast 4 (some (.object "java/lang/Object")) [] 2 h 0 [(0, va_rf v0)] [] (f_J6_pollLast v0 h) := by
  unfold f_J6_pollLast
  refine s_aload_n (pc := 0) 0 dJ6_pollLast_0 rfl rfl ?_
  refine s_gR (pc := 1) dJ6_pollLast_1 gf_J6_3 (fun r1 => ?_)
  refine s_dup (pc := 4) dJ6_pollLast_4 (zcat_rf _) ?_
  refine s_ast_n (pc := 5) (L2 := [(0, va_rf v0)]) [0] dJ6_pollLast_5 rfl (by decide) rfl rfl (zcB (j := 0) rfl (zcat_rf v0) rfl) ?_
  refine s_aload_n (pc := 6) 1 dJ6_pollLast_6 rfl rfl ?_
  refine s_gI (pc := 7) dJ6_pollLast_7 gf_J6_20 (fun x2 => ?_)
  refine s_aload_n (pc := 10) 0 dJ6_pollLast_10 rfl rfl ?_
  refine s_alen (pc := 11) dJ6_pollLast_11 zarrs_ok (fun x3 => ?_)
  refine s_callSS (pc := 12) (np := 2) (as := [.int x2, .int x3]) (rest := [va_rf r1]) dJ6_pollLast_12 (c_J6_dec (by decide) x2 x3 h) rfl rfl q3219 q3220 rfl (by simp [zcat_rf, zcat_i, zcat_l, zcat_f, zcat_d]) (zkI (fun x4 h5 => ?_)) zxo
  refine s_dup (pc := 15) dJ6_pollLast_15 rfl ?_
  refine s_ist_n (pc := 16) (L2 := [(1, va_rf r1), (0, va_rf v0)]) [0, 1] dJ6_pollLast_16 rfl (by decide) rfl rfl (zcB (j := 0) rfl (zcat_rf r1) rfl) ?_
  refine s_callSS (pc := 17) (np := 2) (as := [va_rf r1, .int x4]) (rest := []) dJ6_pollLast_17 (c_J6_elementAt (by decide) r1 x4 h5) rfl rfl q2352 q2353 rfl (by decide) (zkR (fun r6 h7 => ?_)) zxo
  refine s_ast_n (pc := 20) (L2 := [(2, .int x4), (1, va_rf r1), (0, va_rf v0)]) [0, 1, 2] dJ6_pollLast_20 rfl (by decide) rfl rfl (zcB (j := 0) rfl rfl rfl) ?_
  refine s_aload_n (pc := 21) 0 dJ6_pollLast_21 rfl rfl ?_
  refine s_ifnull (pc := 22) (tgt := 34) dJ6_pollLast_22 (by decide) (fun _ => ?_) (fun _ => ?_)
  · refine s_aload_n (pc := 34) 0 dJ6_pollLast_34 rfl rfl ?_
    exact s_aret (pc := 35) dJ6_pollLast_35 rfl (Or.inl ⟨_, rfl⟩)
  · refine s_aload_n (pc := 25) 2 dJ6_pollLast_25 rfl rfl ?_
    refine s_aload_n (pc := 26) 3 dJ6_pollLast_26 rfl rfl ?_
    refine s_iload_n (pc := 27) 1 dJ6_pollLast_27 rfl rfl ?_
    refine s_dup_x1 (pc := 28) dJ6_pollLast_28 rfl (zcat_rf _) ?_
    refine s_putI (pc := 29) dJ6_pollLast_29 pf_J6_20 (fun h8 => ?_)
    refine s_null (pc := 32) dJ6_pollLast_32 ?_
    refine s_aast (pc := 33) dJ6_pollLast_33 (ztc ⟨rfl, by decide⟩ zt0) zcs_java_lang_Object (fun h9 => ?_)
    refine s_aload_n (pc := 34) 0 dJ6_pollLast_34 rfl rfl ?_
    exact s_aret (pc := 35) dJ6_pollLast_35 rfl (Or.inl ⟨_, rfl⟩)
theorem c_J6_pollLast {d0 : Nat} (hd0 : 2 < d0) (v0 : Option Nat) (h : zH) : zCal D z d0 h yJ6_pollLast [va_rf v0] (f_J6_pollLast v0 h) :=
  ⟨cJ6_pollLast, 4, (some (.object "java/lang/Object")), [], 2, (show lv_args 0 [va_rf v0] = [(0, va_rf v0)] by simp [lv_args, zcat_rf, zcat_i, zcat_l, zcat_f, zcat_d]) ▸ w_J6_pollLast v0 h, (plainFor_of_name (by decide)), by simp [lg_sl, zcat_rf, zcat_i, zcat_l, zcat_f, zcat_d], q3218, q103, hd0, by decide, by decide⟩
theorem w_J6_removeLast (v0 : Option Nat) (h : zH) : zS D z yJ6_removeLast cJ6_removeLast 2 (some (.object "java/lang/Object")) [] 8 h 0 [(0, va_rf v0)] [] (f_J6_removeLast v0 h) := by
  unfold f_J6_removeLast
  refine s_aload_n (pc := 0) 0 dJ6_removeLast_0 rfl rfl ?_
  refine zS_ite (fun ht => ?_) (fun _ => zS_none)
  refine s_callV (pc := 1) (np := 0) (as := []) (rest := []) dJ6_removeLast_1 ht (q := (RJ6, TJ6, 3)) rfl (c_J6_pollLast (by decide) v0 h) rfl rfl q3215 q3216 q3217 rfl (by decide) (zkR (fun r1 h2 => ?_)) zxo
  refine s_ast_n (pc := 4) (L2 := []) [] dJ6_removeLast_4 rfl (by decide) rfl rfl (zcA rfl) ?_
  refine s_aload_n (pc := 5) 0 dJ6_removeLast_5 rfl rfl ?_
  refine s_ifnonnull (pc := 6) (tgt := 17) dJ6_removeLast_6 (by decide) (fun _ => ?_) (fun _ => ?_)
  · refine s_aload_n (pc := 17) 0 dJ6_removeLast_17 rfl rfl ?_
    exact s_aret (pc := 18) dJ6_removeLast_18 rfl (Or.inl ⟨_, rfl⟩)
  · refine s_make0 (pc := 9) dJ6_removeLast_9 dJ6_removeLast_12 dJ6_removeLast_13 xf_J6_97_99 (by decide) (by decide) (fun r3 h4 => ?_)
    exact s_athrow (pc := 16) dJ6_removeLast_16 rfl (fun x => zxo x _)
theorem c_J6_removeLast {d0 : Nat} (hd0 : 8 < d0) (v0 : Option Nat) (h : zH) : zCal D z d0 h yJ6_removeLast [va_rf v0] (f_J6_removeLast v0 h) :=
  ⟨cJ6_removeLast, 2, (some (.object "java/lang/Object")), [], 8, (show lv_args 0 [va_rf v0] = [(0, va_rf v0)] by simp [lv_args, zcat_rf, zcat_i, zcat_l, zcat_f, zcat_d]) ▸ w_J6_removeLast v0 h, (plainFor_of_name (by decide)), by simp [lg_sl, zcat_rf, zcat_i, zcat_l, zcat_f, zcat_d], q3214, q103, hd0, by decide, by decide⟩
theorem w_X1_undo_15 (a0 : Option Nat) (s0 : Int32) (h : zH) : zS D z yX1_undo cX1_undo 1 (some .int) [] 9 h 15 [(0, va_rf a0)] [.int s0] (f_X1_undo_15 a0 s0 h) := by
  unfold f_X1_undo_15
  refine s_callSS (pc := 15) (np := 1) (as := [.int s0]) (rest := []) dX1_undo_15 (c_X1_checkState (by decide) s0 h) rfl rfl q2863 q2289 rfl (by decide) (zkV (fun h4 => ?_)) zxo
  refine s_aload_n (pc := 18) 0 dX1_undo_18 rfl rfl ?_
  refine s_aload_n (pc := 19) 0 dX1_undo_19 rfl rfl ?_
  refine s_gR (pc := 20) dX1_undo_20 gf_X1_37 (fun r5 => ?_)
  refine zS_ite (fun ht => ?_) (fun _ => zS_none)
  refine s_callV (pc := 23) (np := 0) (as := []) (rest := [va_rf a0]) dX1_undo_23 ht (q := (RJ6, TJ6, 3)) rfl (c_J6_removeLast (by decide) r5 h4) rfl rfl q3211 q3212 q3213 rfl (by simp [zcat_rf, zcat_i, zcat_l, zcat_f, zcat_d]) (zkR (fun r6 h7 => ?_)) zxo
  refine s_cast (pc := 26) dX1_undo_26 q172 zcs_FloatingDock_Yard ?_
  refine s_putR (pc := 29) dX1_undo_29 pf_X1_30 (fun h8 => ?_)
  refine s_aload_n (pc := 32) 0 dX1_undo_32 rfl rfl ?_
  refine s_gR (pc := 33) dX1_undo_33 gf_X1_37 (fun r9 => ?_)
  refine zS_ite (fun ht => ?_) (fun _ => zS_none)
  refine s_callV (pc := 36) (np := 0) (as := []) (rest := []) dX1_undo_36 ht (q := (RJ6, TJ6, 3)) rfl (c_J6_size (by decide) r9 h8) rfl rfl q2343 q452 q453 rfl (by decide) (zkI (fun x10 h11 => ?_)) zxo
  exact s_iret (pc := 39) dX1_undo_39 rfl
theorem w_X1_undo (v0 : Option Nat) (h : zH) : zS D z yX1_undo cX1_undo 1 (some .int) [] 9 h 0 [(0, va_rf v0)] [] (f_X1_undo v0 h) := by
  unfold f_X1_undo
  refine s_aload_n (pc := 0) 0 dX1_undo_0 rfl rfl ?_
  refine s_gR (pc := 1) dX1_undo_1 gf_X1_37 (fun r1 => ?_)
  refine zS_ite (fun ht => ?_) (fun _ => zS_none)
  refine s_callV (pc := 4) (np := 0) (as := []) (rest := []) dX1_undo_4 ht (q := (RJ6, TJ6, 3)) rfl (c_J6_isEmpty (by decide) r1 h) rfl rfl q3207 q3208 q3209 rfl (by decide) (zkI (fun x2 h3 => ?_)) zxo
  refine s_if_ne (pc := 7) (tgt := 14) dX1_undo_7 (by decide) (fun _ => ?_) (fun _ => ?_)
  · refine s_iconst (pc := 14) (v := 0) dX1_undo_14 (by decide) ?_
    exact s_sub (pc := 15) [0] rfl (w_X1_undo_15 v0 0 h3)
  · refine s_iconst (pc := 10) (v := 1) dX1_undo_10 (by decide) ?_
    refine s_goto (pc := 11) (tgt := 15) dX1_undo_11 (by decide) ?_
    exact s_sub (pc := 15) [0] rfl (w_X1_undo_15 v0 1 h3)
theorem c_X1_undo {d0 : Nat} (hd0 : 9 < d0) (v0 : Option Nat) (h : zH) : zCal D z d0 h yX1_undo [va_rf v0] (f_X1_undo v0 h) :=
  ⟨cX1_undo, 1, (some .int), [], 9, (show lv_args 0 [va_rf v0] = [(0, va_rf v0)] by simp [lv_args, zcat_rf, zcat_i, zcat_l, zcat_f, zcat_d]) ▸ w_X1_undo v0 h, (plainFor_of_name (by decide)), by simp [lg_sl, zcat_rf, zcat_i, zcat_l, zcat_f, zcat_d], q3206, q95, hd0, by decide, by decide⟩
theorem w_X0_undo_11 (s0 : Option Nat) (h : zH) : zS D z yX0_undo cX0_undo 3 (some .int) [(0, 8, 11, 15)] 10 h 11 [] [va_rf s0] (f_X0_undo_11 s0 h) := by
  unfold f_X0_undo_11
  refine s_ast_n (pc := 11) (L2 := []) [] dX0_undo_11 rfl (by decide) rfl rfl (zcA rfl) ?_
  refine s_iconst (pc := 12) (v := 1) dX0_undo_12 (by decide) ?_
  exact s_iret (pc := 13) dX0_undo_13 rfl
theorem w_X0_undo (v0 : Option Nat) (v1 : Option Nat) (h : zH) : zS D z yX0_undo cX0_undo 3 (some .int) [(0, 8, 11, 15)] 10 h 0 [(0, va_rf v0), (1, va_rf v1)] [] (f_X0_undo v0 v1 h) := by
  unfold f_X0_undo
  refine s_aload_n (pc := 0) 1 dX0_undo_0 rfl rfl ?_
  refine s_iconst (pc := 1) (v := 0) dX0_undo_1 (by decide) ?_
  refine s_aload_n (pc := 2) 0 dX0_undo_2 rfl rfl ?_
  refine zS_ite (fun ht => ?_) (fun _ => zS_none)
  refine s_callV (pc := 3) (np := 0) (as := []) (rest := [.int 0, va_rf v1]) dX0_undo_3 ht (q := (RX1, TX1, 11)) rfl (c_X1_undo (by decide) v0 h) rfl rfl q3203 q3204 q3205 rfl (by simp [zcat_rf, zcat_i, zcat_l, zcat_f, zcat_d]) (zkI (fun x3 h4 => ?_)) (fun e2 h1 => zT_ite (fun hx => (zT_out (fun q hq => by rw [hx] at hq; cases hq; exact (zpn (by decide) q2267 (by decide +kernel) zp0)))) (fun _ => zT_ite (fun hx => (zT_catch (q := (RJ39, TJ39, 0)) [] (0, 8, 11, 15) [] rfl (by rw [hx]; rfl) zp0 rfl (by decide) q2267 (Or.inl rfl) rfl (by exact s_sub (pc := 11) [] rfl (w_X0_undo_11 (some e2.2) h1)))) (fun _ => zT_ite (fun hx => (zT_out (fun q hq => by rw [hx] at hq; cases hq; exact (zpn (by decide) q2267 (by decide +kernel) zp0)))) (fun _ => zT_ite (fun hx => (zT_out (fun q hq => by rw [hx] at hq; cases hq; exact (zpn (by decide) q2267 (by decide +kernel) zp0)))) (fun _ => zT_ite (fun hx => (zT_out (fun q hq => by rw [hx] at hq; cases hq; exact (zpn (by decide) q2267 (by decide +kernel) zp0)))) (fun _ => zT_ite (fun hx => (zT_out (fun q hq => by rw [hx] at hq; cases hq; exact (zpn (by decide) q2267 (by decide +kernel) zp0)))) (fun _ => zT_ite (fun hx => (zT_out (fun q hq => by rw [hx] at hq; cases hq; exact (zpn (by decide) q2267 (by decide +kernel) zp0)))) (fun _ => zT_ite (fun hx => (zT_out (fun q hq => by rw [hx] at hq; cases hq; exact (zpn (by decide) q2267 (by decide +kernel) zp0)))) (fun _ => zT_none)))))))))
  refine s_i2l (pc := 6) dX0_undo_6 ?_
  refine s_last (pc := 7) dX0_undo_7 (ztc rfl zt0) (fun h5 => ?_)
  refine s_goto (pc := 8) (tgt := 14) dX0_undo_8 (by decide) ?_
  refine s_iconst (pc := 14) (v := 0) dX0_undo_14 (by decide) ?_
  exact s_iret (pc := 15) dX0_undo_15 rfl
theorem c_X0_undo {d0 : Nat} (hd0 : 10 < d0) (v0 : Option Nat) (v1 : Option Nat) (h : zH) : zCal D z d0 h yX0_undo [va_rf v0, va_rf v1] (f_X0_undo v0 v1 h) :=
  ⟨cX0_undo, 3, (some .int), [(0, 8, 11, 15)], 10, (show lv_args 0 [va_rf v0, va_rf v1] = [(0, va_rf v0), (1, va_rf v1)] by simp [lv_args, zcat_rf, zcat_i, zcat_l, zcat_f, zcat_d]) ▸ w_X0_undo v0 v1 h, (plainFor_of_name (by decide)), by simp [lg_sl, zcat_rf, zcat_i, zcat_l, zcat_f, zcat_d], q3202, q94, hd0, by decide, by decide⟩
theorem w_J6_circularClear_12 : ∀ (n : Nat) (a0 : Option Nat) (a1 : Int32) (a2 : Int32) (a3 : Int32) (h : zH), zS D z yJ6_circularClear cJ6_circularClear 4 none [] 1 h 12 [(0, va_rf a0), (1, .int a1), (2, .int a2), (3, .int a3)] [] (f_J6_circularClear_12 n a0 a1 a2 a3 h) := by
  intro n
  induction n with
  | zero => intros; exact zS_none
  | succ n ih =>
    intro a0 a1 a2 a3 h
    rw [f_J6_circularClear_12.eq_2]
    refine s_iload_n (pc := 12) 1 dJ6_circularClear_12 rfl rfl ?_
    refine s_iload_n (pc := 13) 3 dJ6_circularClear_13 rfl rfl ?_
    refine s_icmp_ge (pc := 14) (tgt := 27) dJ6_circularClear_14 (by decide) (fun _ => ?_) (fun _ => ?_)
    · refine s_iload_n (pc := 27) 3 dJ6_circularClear_27 rfl rfl ?_
      refine s_iload_n (pc := 28) 2 dJ6_circularClear_28 rfl rfl ?_
      refine s_icmp_ne (pc := 29) (tgt := 35) dJ6_circularClear_29 (by decide) (fun _ => ?_) (fun _ => ?_)
      · refine s_iconst (pc := 35) (v := 0) dJ6_circularClear_35 (by decide) ?_
        refine s_ist_n (pc := 36) (L2 := [(0, va_rf a0), (2, .int a2)]) [0, 2] dJ6_circularClear_36 rfl (by decide) rfl rfl (zcB (j := 0) rfl (zcat_rf a0) rfl) ?_
        refine s_iload_n (pc := 37) 2 dJ6_circularClear_37 rfl rfl ?_
        refine s_ist_n (pc := 38) (L2 := [(1, .int 0), (0, va_rf a0), (2, .int a2)]) [0, 1, 2] dJ6_circularClear_38 rfl (by decide) rfl rfl (zcB (j := 2) rfl rfl rfl) ?_
        refine s_goto (pc := 39) (tgt := 12) dJ6_circularClear_39 (by decide) ?_
        exact s_sub (pc := 12) [2, 1, 3, 0] rfl (ih a0 0 a2 a2 h)
      · refine s_goto (pc := 32) (tgt := 42) dJ6_circularClear_32 (by decide) ?_
        exact s_vret (pc := 42) dJ6_circularClear_42 rfl
    · refine s_aload_n (pc := 17) 0 dJ6_circularClear_17 rfl rfl ?_
      refine s_iload_n (pc := 18) 1 dJ6_circularClear_18 rfl rfl ?_
      refine s_null (pc := 19) dJ6_circularClear_19 ?_
      refine s_aast (pc := 20) dJ6_circularClear_20 (ztc ⟨rfl, by decide⟩ zt0) zcs_java_lang_Object (fun h2 => ?_)
      refine s_inc (pc := 21) (v := 1) (L2 := [(0, va_rf a0), (2, .int a2), (3, .int a3)]) 1 [0, 2, 3] dJ6_circularClear_21 rfl (by decide) (by decide) rfl rfl (zcB (j := 0) rfl (zcat_rf a0) rfl) (fun x3 => ?_)
      refine s_goto (pc := 24) (tgt := 12) dJ6_circularClear_24 (by decide) ?_
      exact s_sub (pc := 12) [1, 0, 2, 3] rfl (ih a0 x3 a2 a3 h2)
theorem w_J6_circularClear_11 (a0 : Option Nat) (a1 : Int32) (a2 : Int32) (s0 : Int32) (h : zH) : zS D z yJ6_circularClear cJ6_circularClear 4 none [] 1 h 11 [(0, va_rf a0), (1, .int a1), (2, .int a2)] [.int s0] (f_J6_circularClear_11 a0 a1 a2 s0 h) := by
  unfold f_J6_circularClear_11
  refine s_ist_n (pc := 11) (L2 := [(0, va_rf a0), (1, .int a1), (2, .int a2)]) [0, 1, 2] dJ6_circularClear_11 rfl (by decide) rfl rfl (zcB (j := 2) rfl rfl rfl) ?_
  exact s_sub (pc := 12) [1, 2, 3, 0] rfl (w_J6_circularClear_12 zfuel a0 a1 a2 s0 h)
theorem w_J6_circularClear (v0 : Option Nat) (v1 : Int32) (v2 : Int32) (h : zH) : zS D z yJ6_circularClear cJ6_circularClear 4 none [] 1 h 0 [(0, va_rf v0), (1, .int v1), (2, .int v2)] [] (f_J6_circularClear v0 v1 v2 h) := by
  unfold f_J6_circularClear
  refine s_iload_n (pc := 0) 1 dJ6_circularClear_0 rfl rfl ?_
  refine s_iload_n (pc := 1) 2 dJ6_circularClear_1 rfl rfl ?_
  refine s_icmp_gt (pc := 2) (tgt := 9) dJ6_circularClear_2 (by decide) (fun _ => ?_) (fun _ => ?_)
  · refine s_aload_n (pc := 9) 0 dJ6_circularClear_9 rfl rfl ?_
    refine s_alen (pc := 10) dJ6_circularClear_10 zarrs_ok (fun x1 => ?_)
    exact s_sub (pc := 11) [0, 1, 2] rfl (w_J6_circularClear_11 v0 v1 v2 x1 h)
  · refine s_iload_n (pc := 5) 2 dJ6_circularClear_5 rfl rfl ?_
    refine s_goto (pc := 6) (tgt := 11) dJ6_circularClear_6 (by decide) ?_
    exact s_sub (pc := 11) [0, 1, 2] rfl (w_J6_circularClear_11 v0 v1 v2 v2 h)
theorem c_J6_circularClear {d0 : Nat} (hd0 : 1 < d0) (v0 : Option Nat) (v1 : Int32) (v2 : Int32) (h : zH) : zCal D z d0 h yJ6_circularClear [va_rf v0, .int v1, .int v2] (f_J6_circularClear v0 v1 v2 h) :=
  ⟨cJ6_circularClear, 4, none, [], 1, (show lv_args 0 [va_rf v0, .int v1, .int v2] = [(0, va_rf v0), (1, .int v1), (2, .int v2)] by simp [lv_args, zcat_rf, zcat_i, zcat_l, zcat_f, zcat_d]) ▸ w_J6_circularClear v0 v1 v2 h, (plainFor_of_name (by decide)), by simp [lg_sl, zcat_rf, zcat_i, zcat_l, zcat_f, zcat_d], q3235, q103, hd0, by decide, by decide⟩
theorem w_J6_clear (v0 : Option Nat) (h : zH) : zS D z yJ6_clear cJ6_clear 1 none [] 2 h 0 [(0, va_rf v0)] [] (f_J6_clear v0 h) := by
  unfold f_J6_clear
  refine s_aload_n (pc := 0) 0 dJ6_clear_0 rfl rfl ?_
  refine s_gR (pc := 1) dJ6_clear_1 gf_J6_3 (fun r1 => ?_)
  refine s_aload_n (pc := 4) 0 dJ6_clear_4 rfl rfl ?_
  refine s_gI (pc := 5) dJ6_clear_5 gf_J6_24 (fun x2 => ?_)
  refine s_aload_n (pc := 8) 0 dJ6_clear_8 rfl rfl ?_
  refine s_gI (pc := 9) dJ6_clear_9 gf_J6_20 (fun x3 => ?_)
  refine s_callSS (pc := 12) (np := 3) (as := [va_rf r1, .int x2, .int x3]) (rest := []) dJ6_clear_12 (c_J6_circularClear (by decide) r1 x2 x3 h) rfl rfl q3233 q3234 rfl (by decide) (zkV (fun h4 => ?_)) zxo
  refine s_aload_n (pc := 15) 0 dJ6_clear_15 rfl rfl ?_
  refine s_aload_n (pc := 16) 0 dJ6_clear_16 rfl rfl ?_
  refine s_iconst (pc := 17) (v := 0) dJ6_clear_17 (by decide) ?_
  refine s_dup_x1 (pc := 18) dJ6_clear_18 rfl (zcat_rf _) ?_
  refine s_putI (pc := 19) dJ6_clear_19 pf_J6_20 (fun h5 => ?_)
  refine s_putI (pc := 22) dJ6_clear_22 pf_J6_24 (fun h6 => ?_)
  exact s_vret (pc := 25) dJ6_clear_25 rfl
theorem c_J6_clear {d0 : Nat} (hd0 : 2 < d0) (v0 : Option Nat) (h : zH) : zCal D z d0 h yJ6_clear [va_rf v0] (f_J6_clear v0 h) :=
  ⟨cJ6_clear, 1, none, [], 2, (show lv_args 0 [va_rf v0] = [(0, va_rf v0)] by simp [lv_args, zcat_rf, zcat_i, zcat_l, zcat_f, zcat_d]) ▸ w_J6_clear v0 h, (plainFor_of_name (by decide)), by simp [lg_sl, zcat_rf, zcat_i, zcat_l, zcat_f, zcat_d], q3232, q103, hd0, by decide, by decide⟩
theorem w_X1_restore_12 (a0 : Option Nat) (s0 : Int32) (h : zH) : zS D z yX1_restore cX1_restore 1 (some .int) [] 11 h 12 [(0, va_rf a0)] [.int s0] (f_X1_restore_12 a0 s0 h) := by
  unfold f_X1_restore_12
  refine s_callSS (pc := 12) (np := 1) (as := [.int s0]) (rest := []) dX1_restore_12 (c_X1_checkState (by decide) s0 h) rfl rfl q2863 q2289 rfl (by decide) (zkV (fun h2 => ?_)) zxo
  refine s_aload_n (pc := 15) 0 dX1_restore_15 rfl rfl ?_
  refine s_new (pc := 16) dX1_restore_16 nf_X1_27 (fun r3 h4 => ?_)
  refine s_dup (pc := 19) dX1_restore_19 (zcat_rf _) ?_
  refine s_aload_n (pc := 20) 0 dX1_restore_20 rfl rfl ?_
  refine s_gR (pc := 21) dX1_restore_21 gf_X1_351 (fun r5 => ?_)
  refine zS_ite (fun hr => ?_) (fun _ => zS_none)
  refine s_callC (pc := 24) (np := 1) (as := [va_rf r5]) (rest := [va_rf r3, va_rf a0]) dX1_restore_24 hr (c_X2_init_2 (by decide) r3 r5 h4) ⟨_, _, q1994⟩ rfl rfl rfl q1992 q1993 rfl (by simp [zcat_rf, zcat_i, zcat_l, zcat_f, zcat_d]) (zkV (fun h6 => ?_)) zxo
  refine s_putR (pc := 27) dX1_restore_27 pf_X1_30 (fun h7 => ?_)
  refine s_aload_n (pc := 30) 0 dX1_restore_30 rfl rfl ?_
  refine s_gR (pc := 31) dX1_restore_31 gf_X1_37 (fun r8 => ?_)
  refine zS_ite (fun ht => ?_) (fun _ => zS_none)
  refine s_callV (pc := 34) (np := 0) (as := []) (rest := []) dX1_restore_34 ht (q := (RJ6, TJ6, 3)) rfl (c_J6_clear (by decide) r8 h7) rfl rfl q3229 q3230 q3231 rfl (by decide) (zkV (fun h9 => ?_)) zxo
  refine s_aload_n (pc := 37) 0 dX1_restore_37 rfl rfl ?_
  refine s_gR (pc := 38) dX1_restore_38 gf_X1_30 (fun r10 => ?_)
  refine s_gR (pc := 41) dX1_restore_41 gf_X1_151 (fun r11 => ?_)
  refine zS_ite (fun ht => ?_) (fun _ => zS_none)
  refine s_callVU (pc := 44) (np := 0) (as := []) (rest := []) (owner := "java/util/HashMap") dX1_restore_44 ht (q := (RJ2, TJ2, 12)) rfl (c_J1_size (by decide) r11 h9) ⟨_, _, _, q1427⟩ rfl rfl q1422 q1423 (Or.inl ⟨_, _, _, q1426, q1427⟩) (by decide) q1426 q1425 rfl (by decide) (zkI (fun x12 h13 => ?_)) zxo
  exact s_iret (pc := 47) dX1_restore_47 rfl
theorem w_X1_restore (v0 : Option Nat) (h : zH) : zS D z yX1_restore cX1_restore 1 (some .int) [] 11 h 0 [(0, va_rf v0)] [] (f_X1_restore v0 h) := by
  unfold f_X1_restore
  refine s_aload_n (pc := 0) 0 dX1_restore_0 rfl rfl ?_
  refine s_gR (pc := 1) dX1_restore_1 gf_X1_351 (fun r1 => ?_)
  refine s_ifnull (pc := 4) (tgt := 11) dX1_restore_4 (by decide) (fun _ => ?_) (fun _ => ?_)
  · refine s_iconst (pc := 11) (v := 0) dX1_restore_11 (by decide) ?_
    exact s_sub (pc := 12) [0] rfl (w_X1_restore_12 v0 0 h)
  · refine s_iconst (pc := 7) (v := 1) dX1_restore_7 (by decide) ?_
    refine s_goto (pc := 8) (tgt := 12) dX1_restore_8 (by decide) ?_
    exact s_sub (pc := 12) [0] rfl (w_X1_restore_12 v0 1 h)
theorem c_X1_restore {d0 : Nat} (hd0 : 11 < d0) (v0 : Option Nat) (h : zH) : zCal D z d0 h yX1_restore [va_rf v0] (f_X1_restore v0 h) :=
  ⟨cX1_restore, 1, (some .int), [], 11, (show lv_args 0 [va_rf v0] = [(0, va_rf v0)] by simp [lv_args, zcat_rf, zcat_i, zcat_l, zcat_f, zcat_d]) ▸ w_X1_restore v0 h, (plainFor_of_name (by decide)), by simp [lg_sl, zcat_rf, zcat_i, zcat_l, zcat_f, zcat_d], q3228, q95, hd0, by decide, by decide⟩
theorem w_X0_restore_11 (s0 : Option Nat) (h : zH) : zS D z yX0_restore cX0_restore 3 (some .int) [(0, 8, 11, 15)] 12 h 11 [] [va_rf s0] (f_X0_restore_11 s0 h) := by
  unfold f_X0_restore_11
  refine s_ast_n (pc := 11) (L2 := []) [] dX0_restore_11 rfl (by decide) rfl rfl (zcA rfl) ?_
  refine s_iconst (pc := 12) (v := 1) dX0_restore_12 (by decide) ?_
  exact s_iret (pc := 13) dX0_restore_13 rfl
theorem w_X0_restore (v0 : Option Nat) (v1 : Option Nat) (h : zH) : zS D z yX0_restore cX0_restore 3 (some .int) [(0, 8, 11, 15)] 12 h 0 [(0, va_rf v0), (1, va_rf v1)] [] (f_X0_restore v0 v1 h) := by
  unfold f_X0_restore
  refine s_aload_n (pc := 0) 1 dX0_restore_0 rfl rfl ?_
  refine s_iconst (pc := 1) (v := 0) dX0_restore_1 (by decide) ?_
  refine s_aload_n (pc := 2) 0 dX0_restore_2 rfl rfl ?_
  refine zS_ite (fun ht => ?_) (fun _ => zS_none)
  refine s_callV (pc := 3) (np := 0) (as := []) (rest := [.int 0, va_rf v1]) dX0_restore_3 ht (q := (RX1, TX1, 11)) rfl (c_X1_restore (by decide) v0 h) rfl rfl q3225 q3226 q3227 rfl (by simp [zcat_rf, zcat_i, zcat_l, zcat_f, zcat_d]) (zkI (fun x3 h4 => ?_)) (fun e2 h1 => zT_ite (fun hx => (zT_out (fun q hq => by rw [hx] at hq; cases hq; exact (zpn (by decide) q2267 (by decide +kernel) zp0)))) (fun _ => zT_ite (fun hx => (zT_catch (q := (RJ39, TJ39, 0)) [] (0, 8, 11, 15) [] rfl (by rw [hx]; rfl) zp0 rfl (by decide) q2267 (Or.inl rfl) rfl (by exact s_sub (pc := 11) [] rfl (w_X0_restore_11 (some e2.2) h1)))) (fun _ => zT_ite (fun hx => (zT_out (fun q hq => by rw [hx] at hq; cases hq; exact (zpn (by decide) q2267 (by decide +kernel) zp0)))) (fun _ => zT_ite (fun hx => (zT_out (fun q hq => by rw [hx] at hq; cases hq; exact (zpn (by decide) q2267 (by decide +kernel) zp0)))) (fun _ => zT_ite (fun hx => (zT_out (fun q hq => by rw [hx] at hq; cases hq; exact (zpn (by decide) q2267 (by decide +kernel) zp0)))) (fun _ => zT_ite (fun hx => (zT_out (fun q hq => by rw [hx] at hq; cases hq; exact (zpn (by decide) q2267 (by decide +kernel) zp0)))) (fun _ => zT_ite (fun hx => (zT_out (fun q hq => by rw [hx] at hq; cases hq; exact (zpn (by decide) q2267 (by decide +kernel) zp0)))) (fun _ => zT_ite (fun hx => (zT_out (fun q hq => by rw [hx] at hq; cases hq; exact (zpn (by decide) q2267 (by decide +kernel) zp0)))) (fun _ => zT_none)))))))))
  refine s_i2l (pc := 6) dX0_restore_6 ?_
  refine s_last (pc := 7) dX0_restore_7 (ztc rfl zt0) (fun h5 => ?_)
  refine s_goto (pc := 8) (tgt := 14) dX0_restore_8 (by decide) ?_
  refine s_iconst (pc := 14) (v := 0) dX0_restore_14 (by decide) ?_
  exact s_iret (pc := 15) dX0_restore_15 rfl
theorem c_X0_restore {d0 : Nat} (hd0 : 12 < d0) (v0 : Option Nat) (v1 : Option Nat) (h : zH) : zCal D z d0 h yX0_restore [va_rf v0, va_rf v1] (f_X0_restore v0 v1 h) :=
  ⟨cX0_restore, 3, (some .int), [(0, 8, 11, 15)], 12, (show lv_args 0 [va_rf v0, va_rf v1] = [(0, va_rf v0), (1, va_rf v1)] by simp [lv_args, zcat_rf, zcat_i, zcat_l, zcat_f, zcat_d]) ▸ w_X0_restore v0 v1 h, (plainFor_of_name (by decide)), by simp [lg_sl, zcat_rf, zcat_i, zcat_l, zcat_f, zcat_d], q3224, q94, hd0, by decide, by decide⟩
theorem w_X2_init (v0 : Option Nat) (h : zH) : zS D z yX2_init cX2_init 1 none [] 4 h 0 [(0, va_rf v0)] [] (f_X2_init v0 h) := by
  unfold f_X2_init
  refine s_aload_n (pc := 0) 0 dX2_init_0 rfl rfl ?_
  refine zS_ite (fun hr => ?_) (fun _ => zS_none)
  refine s_objinit (pc := 1) dX2_init_1 hr q177 q164 q165 (by decide) (by decide) ?_
  refine s_aload_n (pc := 4) 0 dX2_init_4 rfl rfl ?_
  refine s_new (pc := 5) dX2_init_5 nf_X2_9 (fun r1 h2 => ?_)
  refine s_dup (pc := 8) dX2_init_8 (zcat_rf _) ?_
  refine zS_ite (fun hr => ?_) (fun _ => zS_none)
  refine s_callC (pc := 9) (np := 0) (as := []) (rest := [va_rf r1, va_rf v0]) dX2_init_9 hr (c_J2_init (by decide) r1 h2) ⟨_, _, q182⟩ rfl rfl rfl q180 q181 rfl (by simp [zcat_rf, zcat_i, zcat_l, zcat_f, zcat_d]) (zkV (fun h3 => ?_)) zxo
  refine s_putR (pc := 12) dX2_init_12 pf_X2_12 (fun h4 => ?_)
  refine s_aload_n (pc := 15) 0 dX2_init_15 rfl rfl ?_
  refine s_new (pc := 16) dX2_init_16 nf_X2_18 (fun r5 h6 => ?_)
  refine s_dup (pc := 19) dX2_init_19 (zcat_rf _) ?_
  refine zS_ite (fun hr => ?_) (fun _ => zS_none)
  refine s_callC (pc := 20) (np := 0) (as := []) (rest := [va_rf r5, va_rf v0]) dX2_init_20 hr (c_J5_init (by decide) r5 h6) ⟨_, _, q243⟩ rfl rfl rfl q241 q242 rfl (by simp [zcat_rf, zcat_i, zcat_l, zcat_f, zcat_d]) (zkV (fun h7 => ?_)) zxo
  refine s_putR (pc := 23) dX2_init_23 pf_X2_21 (fun h8 => ?_)
  refine s_aload_n (pc := 26) 0 dX2_init_26 rfl rfl ?_
  refine s_bipush (pc := 27) (v := 100) dX2_init_27 (by decide) ?_
  refine s_putI (pc := 29) dX2_init_29 pf_X2_25 (fun h9 => ?_)
  refine s_aload_n (pc := 32) 0 dX2_init_32 rfl rfl ?_
  refine s_iconst (pc := 33) (v := 3) dX2_init_33 (by decide) ?_
  refine s_putI (pc := 34) dX2_init_34 pf_X2_29 (fun h10 => ?_)
  refine s_aload_n (pc := 37) 0 dX2_init_37 rfl rfl ?_
  refine s_iconst (pc := 38) (v := 1) dX2_init_38 (by decide) ?_
  refine s_putN (pc := 39) dX2_init_39 pf_X2_32 (fun h11 => ?_)
  exact s_vret (pc := 42) dX2_init_42 rfl
theorem c_X2_init {d0 : Nat} (hd0 : 4 < d0) (v0 : Option Nat) (h : zH) : zCal D z d0 h yX2_init [va_rf v0] (f_X2_init v0 h) :=
  ⟨cX2_init, 1, none, [], 4, (show lv_args 0 [va_rf v0] = [(0, va_rf v0)] by simp [lv_args, zcat_rf, zcat_i, zcat_l, zcat_f, zcat_d]) ▸ w_X2_init v0 h, (plainFor_of_name (by decide)), by simp [lg_sl, zcat_rf, zcat_i, zcat_l, zcat_f, zcat_d], q176, q96, hd0, by decide, by decide⟩
theorem w_J6_init (v0 : Option Nat) (h : zH) : zS D z yJ6_init cJ6_init 1 none [] 2 h 0 [(0, va_rf v0)] [] (f_J6_init v0 h) := by
  unfold f_J6_init
  refine s_aload_n (pc := 0) 0 dJ6_init_0 rfl rfl ?_
  refine zS_ite (fun hr => ?_) (fun _ => zS_none)
  refine s_callC (pc := 1) (np := 0) (as := []) (rest := []) dJ6_init_1 hr (c_J3_init (by decide) v0 h) ⟨_, _, q249⟩ rfl rfl rfl q309 q248 rfl (by decide) (zkV (fun h1 => ?_)) zxo
  refine s_aload_n (pc := 4) 0 dJ6_init_4 rfl rfl ?_
  refine s_bipush (pc := 5) (v := 17) dJ6_init_5 (by decide) ?_
  refine s_newq (pc := 7) (E := "java/lang/Object") dJ6_init_7 ⟨rfl, by decide⟩ q310 q311 (fun r2 h3 => ?_)
  refine s_putA (pc := 10) dJ6_init_10 pf_J6_3 (fun h4 => ?_)
  exact s_vret (pc := 13) dJ6_init_13 rfl
theorem c_J6_init {d0 : Nat} (hd0 : 2 < d0) (v0 : Option Nat) (h : zH) : zCal D z d0 h yJ6_init [va_rf v0] (f_J6_init v0 h) :=
  ⟨cJ6_init, 1, none, [], 2, (show lv_args 0 [va_rf v0] = [(0, va_rf v0)] by simp [lv_args, zcat_rf, zcat_i, zcat_l, zcat_f, zcat_d]) ▸ w_J6_init v0 h, (plainFor_of_name (by decide)), by simp [lg_sl, zcat_rf, zcat_i, zcat_l, zcat_f, zcat_d], q308, q103, hd0, by decide, by decide⟩
theorem w_X1_init (v0 : Option Nat) (h : zH) : zS D z yX1_init cX1_init 5 none [] 50 h 0 [(0, va_rf v0)] [] (f_X1_init v0 h) := by
  unfold f_X1_init
  refine s_aload_n (pc := 0) 0 dX1_init_0 rfl rfl ?_
  refine zS_ite (fun hr => ?_) (fun _ => zS_none)
  refine s_objinit (pc := 1) dX1_init_1 hr q163 q164 q165 (by decide) (by decide) ?_
  refine s_aload_n (pc := 4) 0 dX1_init_4 rfl rfl ?_
  refine s_iconst (pc := 5) (v := 3) dX1_init_5 (by decide) ?_
  refine s_newq (pc := 6) (E := "FloatingDock$Charge") dX1_init_6 ⟨rfl, by decide⟩ q166 q167 (fun r1 h2 => ?_)
  refine s_putA (pc := 9) dX1_init_9 pf_X1_9 (fun h3 => ?_)
  refine s_aload_n (pc := 12) 0 dX1_init_12 rfl rfl ?_
  refine s_iconst (pc := 13) (v := 2) dX1_init_13 (by decide) ?_
  refine s_newq (pc := 14) (E := "FloatingDock$GapFinder") dX1_init_14 ⟨rfl, by decide⟩ q168 q169 (fun r4 h5 => ?_)
  refine s_putA (pc := 17) dX1_init_17 pf_X1_17 (fun h6 => ?_)
  refine s_aload_n (pc := 20) 0 dX1_init_20 rfl rfl ?_
  refine s_iconst (pc := 21) (v := 2) dX1_init_21 (by decide) ?_
  refine s_newq (pc := 22) (E := "FloatingDock$Packer") dX1_init_22 ⟨rfl, by decide⟩ q170 q171 (fun r7 h8 => ?_)
  refine s_putA (pc := 25) dX1_init_25 pf_X1_23 (fun h9 => ?_)
  refine s_aload_n (pc := 28) 0 dX1_init_28 rfl rfl ?_
  refine s_new (pc := 29) dX1_init_29 nf_X1_27 (fun r10 h11 => ?_)
  refine s_dup (pc := 32) dX1_init_32 (zcat_rf _) ?_
  refine zS_ite (fun hr => ?_) (fun _ => zS_none)
  refine s_callC (pc := 33) (np := 0) (as := []) (rest := [va_rf r10, va_rf v0]) dX1_init_33 hr (c_X2_init (by decide) r10 h11) ⟨_, _, q176⟩ rfl rfl rfl q174 q175 rfl (by simp [zcat_rf, zcat_i, zcat_l, zcat_f, zcat_d]) (zkV (fun h12 => ?_)) zxo
  refine s_putR (pc := 36) dX1_init_36 pf_X1_30 (fun h13 => ?_)
  refine s_aload_n (pc := 39) 0 dX1_init_39 rfl rfl ?_
  refine s_new (pc := 40) dX1_init_40 nf_X1_34 (fun r14 h15 => ?_)
  refine s_dup (pc := 43) dX1_init_43 (zcat_rf _) ?_
  refine zS_ite (fun hr => ?_) (fun _ => zS_none)
  refine s_callC (pc := 44) (np := 0) (as := []) (rest := [va_rf r14, va_rf v0]) dX1_init_44 hr (c_J6_init (by decide) r14 h15) ⟨_, _, q308⟩ rfl rfl rfl q306 q307 rfl (by simp [zcat_rf, zcat_i, zcat_l, zcat_f, zcat_d]) (zkV (fun h16 => ?_)) zxo
  refine s_putR (pc := 47) dX1_init_47 pf_X1_37 (fun h17 => ?_)
  refine s_aload_n (pc := 50) 0 dX1_init_50 rfl rfl ?_
  refine s_new (pc := 51) dX1_init_51 nf_X1_41 (fun r18 h19 => ?_)
  refine s_dup (pc := 54) dX1_init_54 (zcat_rf _) ?_
  refine zS_ite (fun hr => ?_) (fun _ => zS_none)
  refine s_callC (pc := 55) (np := 0) (as := []) (rest := [va_rf r18, va_rf v0]) dX1_init_55 hr (c_J8_init (by decide) r18 h19) ⟨_, _, q328⟩ rfl rfl rfl q326 q327 rfl (by simp [zcat_rf, zcat_i, zcat_l, zcat_f, zcat_d]) (zkV (fun h20 => ?_)) zxo
  refine s_putR (pc := 58) dX1_init_58 pf_X1_44 (fun h21 => ?_)
  refine s_aload_n (pc := 61) 0 dX1_init_61 rfl rfl ?_
  refine s_ldcS (pc := 62) (i := 10) (tx := "") dX1_init_62 (List.mem_of_getElem? (i := 0) rfl) ?_
  refine s_putR (pc := 64) dX1_init_64 pf_X1_50 (fun h22 => ?_)
  refine s_aload_n (pc := 67) 0 dX1_init_67 rfl rfl ?_
  refine s_iconst (pc := 68) (v := -1) dX1_init_68 (by decide) ?_
  refine s_putI (pc := 69) dX1_init_69 pf_X1_54 (fun h23 => ?_)
  refine s_aload_n (pc := 72) 0 dX1_init_72 rfl rfl ?_
  refine s_iconst (pc := 73) (v := -1) dX1_init_73 (by decide) ?_
  refine s_putI (pc := 74) dX1_init_74 pf_X1_58 (fun h24 => ?_)
  refine s_iconst (pc := 77) (v := 2) dX1_init_77 (by decide) ?_
  refine s_ist_n (pc := 78) (L2 := [(0, va_rf v0)]) [0] dX1_init_78 rfl (by decide) rfl rfl (zcB (j := 0) rfl (zcat_rf v0) rfl) ?_
  refine s_iconst (pc := 79) (v := 2) dX1_init_79 (by decide) ?_
  refine s_ist_n (pc := 80) (L2 := [(1, .int 2), (0, va_rf v0)]) [0, 1] dX1_init_80 rfl (by decide) rfl rfl (zcB (j := 0) rfl rfl rfl) ?_
  refine s_iconst (pc := 81) (v := 3) dX1_init_81 (by decide) ?_
  refine s_ist_n (pc := 82) (L2 := [(2, .int 2), (1, .int 2), (0, va_rf v0)]) [0, 1, 2] dX1_init_82 rfl (by decide) rfl rfl (zcB (j := 0) rfl rfl rfl) ?_
  refine s_iconst (pc := 83) (v := 3) dX1_init_83 (by decide) ?_
  refine s_ist (pc := 84) (L2 := [(3, .int 3), (2, .int 2), (1, .int 2), (0, va_rf v0)]) [0, 1, 2, 3] dX1_init_84 (by decide) rfl rfl (zcB (j := 0) rfl rfl rfl) ?_
  refine s_aload_n (pc := 86) 4 dX1_init_86 rfl rfl ?_
  refine s_gR (pc := 87) dX1_init_87 gf_X1_9 (fun r25 => ?_)
  refine s_iconst (pc := 90) (v := 0) dX1_init_90 (by decide) ?_
  refine s_iload_n (pc := 91) 3 dX1_init_91 rfl rfl ?_
  refine s_lamM (pc := 92) (t := 300) (q := zSh siteWord_1_1) (vals := [.int 2]) (rest := [.int 0, va_rf r25]) dX1_init_92 rfl rfl rfl rfl rfl rfl zk_0 ⟨zok_i _, trivial⟩ rfl (by simp [zcat_rf, zcat_i, zcat_l, zcat_f, zcat_d]) (by decide) (fun r26 h27 => ?_)
  refine s_aast (pc := 97) dX1_init_97 (ztc ⟨rfl, by decide⟩ zt0) zcs_FloatingDock_Charge (fun h28 => ?_)
  refine s_aload_n (pc := 98) 4 dX1_init_98 rfl rfl ?_
  refine s_gR (pc := 99) dX1_init_99 gf_X1_9 (fun r29 => ?_)
  refine s_iconst (pc := 102) (v := 1) dX1_init_102 (by decide) ?_
  refine s_iload_n (pc := 103) 2 dX1_init_103 rfl rfl ?_
  refine s_lamM (pc := 104) (t := 301) (q := zSh siteWord_1_2) (vals := [.int 2]) (rest := [.int 1, va_rf r29]) dX1_init_104 rfl rfl rfl rfl rfl rfl zk_1 ⟨zok_i _, trivial⟩ rfl (by simp [zcat_rf, zcat_i, zcat_l, zcat_f, zcat_d]) (by decide) (fun r30 h31 => ?_)
  refine s_aast (pc := 109) dX1_init_109 (ztc ⟨rfl, by decide⟩ zt0) zcs_FloatingDock_Charge (fun h32 => ?_)
  refine s_aload_n (pc := 110) 4 dX1_init_110 rfl rfl ?_
  refine s_gR (pc := 111) dX1_init_111 gf_X1_9 (fun r33 => ?_)
  refine s_iconst (pc := 114) (v := 2) dX1_init_114 (by decide) ?_
  refine s_iload_n (pc := 115) 2 dX1_init_115 rfl rfl ?_
  refine s_iload (pc := 116) 0 dX1_init_116 rfl ?_
  refine s_iload_n (pc := 118) 1 dX1_init_118 rfl rfl ?_
  refine s_lamM (pc := 119) (t := 302) (q := zSh siteWord_1_3) (vals := [.int 2, .int 3, .int 3]) (rest := [.int 2, va_rf r33]) dX1_init_119 rfl rfl rfl rfl rfl rfl zk_2 ⟨zok_i _, ⟨zok_i _, ⟨zok_i _, trivial⟩⟩⟩ rfl (by simp [zcat_rf, zcat_i, zcat_l, zcat_f, zcat_d]) (by decide) (fun r34 h35 => ?_)
  refine s_aast (pc := 124) dX1_init_124 (ztc ⟨rfl, by decide⟩ zt0) zcs_FloatingDock_Charge (fun h36 => ?_)
  refine s_aload_n (pc := 125) 4 dX1_init_125 rfl rfl ?_
  refine s_gR (pc := 126) dX1_init_126 gf_X1_17 (fun r37 => ?_)
  refine s_iconst (pc := 129) (v := 0) dX1_init_129 (by decide) ?_
  refine s_lamC (pc := 130) (t := 303) (q := zSh siteWord_1_4) dX1_init_130 rfl rfl rfl rfl (by simp [zcat_rf, zcat_i, zcat_l, zcat_f, zcat_d]) (by decide) ?_
  refine s_aast (pc := 135) dX1_init_135 (ztc ⟨rfl, by decide⟩ zt0) zcs_FloatingDock_GapFinder (fun h40 => ?_)
  refine s_aload_n (pc := 136) 4 dX1_init_136 rfl rfl ?_
  refine s_gR (pc := 137) dX1_init_137 gf_X1_17 (fun r41 => ?_)
  refine s_iconst (pc := 140) (v := 1) dX1_init_140 (by decide) ?_
  refine s_lamC (pc := 141) (t := 304) (q := zSh siteWord_1_5) dX1_init_141 rfl rfl rfl rfl (by simp [zcat_rf, zcat_i, zcat_l, zcat_f, zcat_d]) (by decide) ?_
  refine s_aast (pc := 146) dX1_init_146 (ztc ⟨rfl, by decide⟩ zt0) zcs_FloatingDock_GapFinder (fun h44 => ?_)
  refine s_aload_n (pc := 147) 4 dX1_init_147 rfl rfl ?_
  refine s_gR (pc := 148) dX1_init_148 gf_X1_23 (fun r45 => ?_)
  refine s_iconst (pc := 151) (v := 0) dX1_init_151 (by decide) ?_
  refine s_lamC (pc := 152) (t := 305) (q := zSh siteWord_1_6) dX1_init_152 rfl rfl rfl rfl (by simp [zcat_rf, zcat_i, zcat_l, zcat_f, zcat_d]) (by decide) ?_
  refine s_aast (pc := 157) dX1_init_157 (ztc ⟨rfl, by decide⟩ zt0) zcs_FloatingDock_Packer (fun h48 => ?_)
  refine s_aload_n (pc := 158) 4 dX1_init_158 rfl rfl ?_
  refine s_gR (pc := 159) dX1_init_159 gf_X1_23 (fun r49 => ?_)
  refine s_iconst (pc := 162) (v := 1) dX1_init_162 (by decide) ?_
  refine s_lamC (pc := 163) (t := 306) (q := zSh siteWord_1_7) dX1_init_163 rfl rfl rfl rfl (by simp [zcat_rf, zcat_i, zcat_l, zcat_f, zcat_d]) (by decide) ?_
  refine s_aast (pc := 168) dX1_init_168 (ztc ⟨rfl, by decide⟩ zt0) zcs_FloatingDock_Packer (fun h52 => ?_)
  exact s_vret (pc := 169) dX1_init_169 rfl
theorem c_X1_init {d0 : Nat} (hd0 : 50 < d0) (v0 : Option Nat) (h : zH) : zCal D z d0 h yX1_init [va_rf v0] (f_X1_init v0 h) :=
  ⟨cX1_init, 5, none, [], 50, (show lv_args 0 [va_rf v0] = [(0, va_rf v0)] by simp [lv_args, zcat_rf, zcat_i, zcat_l, zcat_f, zcat_d]) ▸ w_X1_init v0 h, (plainFor_of_name (by decide)), by simp [lg_sl, zcat_rf, zcat_i, zcat_l, zcat_f, zcat_d], q162, q95, hd0, by decide, by decide⟩
end WW7
