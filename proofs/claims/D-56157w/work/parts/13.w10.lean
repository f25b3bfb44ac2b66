set_option maxRecDepth 100000
theorem gf_X5_110 : zFg RX5 110 [4] 8 := ⟨_, _, _, .inl q3250, ztc ⟨_, rfl, by decide, rfl, rfl, .inl rfl, in_X5⟩ (zt0)⟩
theorem gf_X5_35 : zFg RX5 35 [4] 14 := ⟨_, _, _, .inl q3256, ztc ⟨_, rfl, by decide, rfl, rfl, .inl rfl, in_X5⟩ (zt0)⟩
theorem pf_X5_223 {nm : String} : zFp RX5 223 [4] 12 nm (.int) := ⟨_, _, _, .inl q3254, by decide +kernel, ztc ⟨_, tyX5, rfl, by decide, rfl, rfl, .inl rfl, in_X5, tyX5_ok, nmX5, .inl rfl⟩ (zt0)⟩
theorem gf_X5_32 : zFg RX5 32 [4] 11 := ⟨_, _, _, .inl q3253, ztc ⟨_, rfl, by decide, rfl, rfl, .inl rfl, in_X5⟩ (zt0)⟩
theorem gf_X5_223 : zFg RX5 223 [4] 12 := ⟨_, _, _, .inl q3254, ztc ⟨_, rfl, by decide, rfl, rfl, .inl rfl, in_X5⟩ (zt0)⟩
theorem gf_X5_229 : zFg RX5 229 [4] 10 := ⟨_, _, _, .inl q3252, ztc ⟨_, rfl, by decide, rfl, rfl, .inl rfl, in_X5⟩ (zt0)⟩
theorem gf_X5_29 : zFg RX5 29 [4] 9 := ⟨_, _, _, .inl q3251, ztc ⟨_, rfl, by decide, rfl, rfl, .inl rfl, in_X5⟩ (zt0)⟩
theorem pf_X5_229 {nm : String} : zFp RX5 229 [4] 10 nm (.int) := ⟨_, _, _, .inl q3252, by decide +kernel, ztc ⟨_, tyX5, rfl, by decide, rfl, rfl, .inl rfl, in_X5, tyX5_ok, nmX5, .inl rfl⟩ (zt0)⟩
section WW10
variable {D : va_G} {z : Nat}
theorem w_X5_pays_50 (a0 : Option Nat) (a2 : Int32) (a3 : Int32) (s0 : Int32) (s1 : Int32) (s2 : Int32) (s3 : Option Nat) (h : zH) : zS D z yX5_pays cX5_pays 5 (some .int) [] 5 h 50 [(0, va_rf a0), (2, .int a2), (3, .int a3)] [.int s0, .int s1, .int s2, va_rf s3] (f_X5_pays_50 a0 a2 a3 s0 s1 s2 s3 h) := by
  unfold f_X5_pays_50
  refine s_iconst (pc := 50) (v := 1) dX5_pays_50 (by decide) ?_
  refine zS_ite (fun ht => ?_) (fun _ => zS_none)
  refine s_callV (pc := 51) (np := 4) (as := [.int s2, .int s1, .int s0, .int 1]) (rest := []) dX5_pays_51 ht (q := (RX5, TX5, 20)) rfl (c_X5_holds (by decide) s3 s2 s1 s0 1 h) rfl rfl q3315 q3317 qs45 rfl (by decide) (zkI (fun x7 h8 => ?_)) zxo
  refine s_if_ne (pc := 54) (tgt := 59) dX5_pays_54 (by decide) (fun _ => ?_) (fun _ => ?_)
  · refine s_aload_n (pc := 59) 0 dX5_pays_59 rfl rfl ?_
    refine s_gR (pc := 60) dX5_pays_60 gf_X5_9 (fun r9 => ?_)
    refine s_iload_n (pc := 63) 2 dX5_pays_63 rfl rfl ?_
    refine s_bipush (pc := 64) (v := 8) dX5_pays_64 (by decide) ?_
    refine s_callSS (pc := 66) (np := 2) (as := [.int a3, .int 8]) (rest := [va_rf r9]) dX5_pays_66 (c_X5_place (by decide) a3 8 h8) rfl rfl q3345 q3346 rfl (by simp [zcat_rf, zcat_i, zcat_l, zcat_f, zcat_d]) (zkI (fun x10 h11 => ?_)) zxo
    refine s_dup2_11 (pc := 69) dX5_pays_69 rfl (zcat_rf _) ?_
    refine s_iald (pc := 70) dX5_pays_70 (ztc rfl zt0) (fun x12 => ?_)
    refine s_iload_n (pc := 71) 1 dX5_pays_71 rfl rfl ?_
    refine s_isub (pc := 72) dX5_pays_72 ?_
    refine s_iast (pc := 73) dX5_pays_73 (ztc rfl zt0) (fun h13 => ?_)
    refine s_aload_n (pc := 74) 0 dX5_pays_74 rfl rfl ?_
    refine s_gR (pc := 75) dX5_pays_75 gf_X5_9 (fun r14 => ?_)
    refine s_bipush (pc := 78) (v := 7) dX5_pays_78 (by decide) ?_
    refine s_dup2_11 (pc := 80) dX5_pays_80 rfl (zcat_rf _) ?_
    refine s_iald (pc := 81) dX5_pays_81 (ztc rfl zt0) (fun x15 => ?_)
    refine s_iload_n (pc := 82) 1 dX5_pays_82 rfl rfl ?_
    refine s_iadd (pc := 83) dX5_pays_83 ?_
    refine s_iast (pc := 84) dX5_pays_84 (ztc rfl zt0) (fun h16 => ?_)
    refine s_aload_n (pc := 85) 0 dX5_pays_85 rfl rfl ?_
    refine s_iload_n (pc := 86) 2 dX5_pays_86 rfl rfl ?_
    refine s_bipush (pc := 87) (v := 8) dX5_pays_87 (by decide) ?_
    refine zS_ite (fun ht => ?_) (fun _ => zS_none)
    refine s_callV (pc := 89) (np := 2) (as := [.int a3, .int 8]) (rest := []) dX5_pays_89 ht (q := (RX5, TX5, 20)) rfl (c_X5_of (by decide) a0 a3 8 h16) rfl rfl q3369 q3371 qs52 rfl (by decide) (zkI (fun x17 h18 => ?_)) zxo
    exact s_iret (pc := 92) dX5_pays_92 rfl
  · refine s_iconst (pc := 57) (v := 0) dX5_pays_57 (by decide) ?_
    exact s_iret (pc := 58) dX5_pays_58 rfl
theorem w_X5_pays_49 (a0 : Option Nat) (a2 : Int32) (a3 : Int32) (s0 : Int32) (s1 : Int32) (s2 : Option Nat) (h : zH) : zS D z yX5_pays cX5_pays 5 (some .int) [] 5 h 49 [(0, va_rf a0), (2, .int a2), (3, .int a3)] [.int s0, .int s1, va_rf s2] (f_X5_pays_49 a0 a2 a3 s0 s1 s2 h) := by
  unfold f_X5_pays_49
  refine s_iconst (pc := 49) (v := 0) dX5_pays_49 (by decide) ?_
  exact s_sub (pc := 50) [0, 1, 2] rfl (w_X5_pays_50 a0 a2 a3 0 s0 s1 s2 h)
theorem w_X5_pays_27 (a0 : Option Nat) (a2 : Int32) (a3 : Int32) (a4 : Int32) (s0 : Int32) (s1 : Option Nat) (h : zH) : zS D z yX5_pays cX5_pays 5 (some .int) [] 5 h 27 [(0, va_rf a0), (2, .int a2), (3, .int a3), (4, .int a4)] [.int s0, va_rf s1] (f_X5_pays_27 a0 a2 a3 a4 s0 s1 h) := by
  unfold f_X5_pays_27
  refine s_iload (pc := 27) 3 dX5_pays_27 rfl ?_
  refine s_iload (pc := 29) 3 dX5_pays_29 rfl ?_
  refine s_if_eq (pc := 31) (tgt := 49) dX5_pays_31 (by decide) (fun _ => ?_) (fun _ => ?_)
  · exact s_sub (pc := 49) [0, 1, 2] rfl (w_X5_pays_49 a0 a2 a3 a4 s0 s1 h)
  · refine s_aload_n (pc := 34) 0 dX5_pays_34 rfl rfl ?_
    refine s_iload_n (pc := 35) 2 dX5_pays_35 rfl rfl ?_
    refine s_bipush (pc := 36) (v := 8) dX5_pays_36 (by decide) ?_
    refine zS_ite (fun ht => ?_) (fun _ => zS_none)
    refine s_callV (pc := 38) (np := 2) (as := [.int a3, .int 8]) (rest := [.int a4, .int s0, va_rf s1]) dX5_pays_38 ht (q := (RX5, TX5, 20)) rfl (c_X5_of (by decide) a0 a3 8 h) rfl rfl q3369 q3371 qs52 rfl (by simp [zcat_rf, zcat_i, zcat_l, zcat_f, zcat_d]) (zkI (fun x5 h6 => ?_)) zxo
    refine s_iload_n (pc := 41) 1 dX5_pays_41 rfl rfl ?_
    refine s_icmp_lt (pc := 42) (tgt := 49) dX5_pays_42 (by decide) (fun _ => ?_) (fun _ => ?_)
    · exact s_sub (pc := 49) [0, 1, 2] rfl (w_X5_pays_49 a0 a2 a3 a4 s0 s1 h6)
    · refine s_iconst (pc := 45) (v := 1) dX5_pays_45 (by decide) ?_
      refine s_goto (pc := 46) (tgt := 50) dX5_pays_46 (by decide) ?_
      exact s_sub (pc := 50) [0, 1, 2] rfl (w_X5_pays_50 a0 a2 a3 1 a4 s0 s1 h6)
theorem w_X5_pays (v0 : Option Nat) (v1 : Int32) (v2 : Int32) (h : zH) : zS D z yX5_pays cX5_pays 5 (some .int) [] 5 h 0 [(0, va_rf v0), (1, .int v1), (2, .int v2)] [] (f_X5_pays v0 v1 v2 h) := by
  unfold f_X5_pays
  refine s_aload_n (pc := 0) 0 dX5_pays_0 rfl rfl ?_
  refine s_iload_n (pc := 1) 1 dX5_pays_1 rfl rfl ?_
  refine zS_ite (fun ht => ?_) (fun _ => zS_none)
  refine s_callV (pc := 2) (np := 1) (as := [.int v1]) (rest := []) dX5_pays_2 ht (q := (RX5, TX5, 20)) rfl (c_X5_find (by decide) v0 v1 h) rfl rfl q3365 q3367 qs51 rfl (by decide) (zkI (fun x1 h2 => ?_)) zxo
  refine s_ist_n (pc := 5) (L2 := [(0, va_rf v0), (2, .int v2)]) [0, 2] dX5_pays_5 rfl (by decide) rfl rfl (zcB (j := 1) rfl rfl rfl) ?_
  refine s_iload_n (pc := 6) 2 dX5_pays_6 rfl rfl ?_
  refine s_iconst (pc := 7) (v := 1) dX5_pays_7 (by decide) ?_
  refine s_sipush (pc := 8) (v := 999) dX5_pays_8 (by decide) ?_
  refine s_callSS (pc := 11) (np := 3) (as := [.int v2, .int 1, .int 999]) (rest := []) dX5_pays_11 (c_X5_isIn (by decide) v2 1 999 h2) rfl rfl q3342 q3343 rfl (by decide) (zkI (fun x3 h4 => ?_)) zxo
  refine s_ist (pc := 14) (L2 := [(3, .int x1), (0, va_rf v0), (2, .int v2)]) [0, 1, 2] dX5_pays_14 (by decide) rfl rfl (zcB (j := 0) rfl rfl rfl) ?_
  refine s_aload_n (pc := 16) 2 dX5_pays_16 rfl rfl ?_
  refine s_iload_n (pc := 17) 1 dX5_pays_17 rfl rfl ?_
  refine s_iconst (pc := 18) (v := -1) dX5_pays_18 (by decide) ?_
  refine s_icmp_eq (pc := 19) (tgt := 26) dX5_pays_19 (by decide) (fun _ => ?_) (fun _ => ?_)
  · refine s_iconst (pc := 26) (v := 0) dX5_pays_26 (by decide) ?_
    exact s_sub (pc := 27) [2, 3, 1, 0] rfl (w_X5_pays_27 v0 v2 x1 x3 0 v0 h4)
  · refine s_iconst (pc := 22) (v := 1) dX5_pays_22 (by decide) ?_
    refine s_goto (pc := 23) (tgt := 27) dX5_pays_23 (by decide) ?_
    exact s_sub (pc := 27) [2, 3, 1, 0] rfl (w_X5_pays_27 v0 v2 x1 x3 1 v0 h4)
theorem c_X5_pays {d0 : Nat} (hd0 : 5 < d0) (v0 : Option Nat) (v1 : Int32) (v2 : Int32) (h : zH) : zCal D z d0 h yX5_pays [va_rf v0, .int v1, .int v2] (f_X5_pays v0 v1 v2 h) :=
  ⟨cX5_pays, 5, (some .int), [], 5, (show lv_args 0 [va_rf v0, .int v1, .int v2] = [(0, va_rf v0), (1, .int v1), (2, .int v2)] by simp [lv_args, zcat_rf, zcat_i, zcat_l, zcat_f, zcat_d]) ▸ w_X5_pays v0 v1 v2 h, (plainFor_of_name (by decide)), by simp [lg_sl, zcat_rf, zcat_i, zcat_l, zcat_f, zcat_d], q3431, q140, hd0, by decide, by decide⟩
theorem w_X5_pay (v0 : Option Nat) (v1 : Int32) (v2 : Int32) (h : zH) : zS D z yX5_pay cX5_pay 3 (some .int) [] 6 h 0 [(0, va_rf v0), (1, .int v1), (2, .int v2)] [] (f_X5_pay v0 v1 v2 h) := by
  unfold f_X5_pay
  refine s_aload_n (pc := 0) 0 dX5_pay_0 rfl rfl ?_
  refine zS_ite (fun ht => ?_) (fun _ => zS_none)
  refine s_callV (pc := 1) (np := 0) (as := []) (rest := []) dX5_pay_1 ht (q := (RX5, TX5, 20)) rfl (c_X5_begins (by decide) v0 h) rfl rfl q3334 q3336 qs46 rfl (by decide) (zkV (fun h1 => ?_)) zxo
  refine s_aload_n (pc := 4) 0 dX5_pay_4 rfl rfl ?_
  refine s_aload_n (pc := 5) 0 dX5_pay_5 rfl rfl ?_
  refine s_iload_n (pc := 6) 1 dX5_pay_6 rfl rfl ?_
  refine s_iload_n (pc := 7) 2 dX5_pay_7 rfl rfl ?_
  refine zS_ite (fun ht => ?_) (fun _ => zS_none)
  refine s_callV (pc := 8) (np := 2) (as := [.int v1, .int v2]) (rest := [va_rf v0]) dX5_pay_8 ht (q := (RX5, TX5, 20)) rfl (c_X5_pays (by decide) v0 v1 v2 h1) rfl rfl q3428 q3430 qs62 rfl (by simp [zcat_rf, zcat_i, zcat_l, zcat_f, zcat_d]) (zkI (fun x2 h3 => ?_)) zxo
  refine zS_ite (fun ht => ?_) (fun _ => zS_none)
  refine s_callV (pc := 11) (np := 1) (as := [.int x2]) (rest := []) dX5_pay_11 ht (q := (RX5, TX5, 20)) rfl (c_X5_ends (by decide) v0 x2 h3) rfl rfl q3349 q3351 qs48 rfl (by decide) (zkI (fun x4 h5 => ?_)) zxo
  exact s_iret (pc := 14) dX5_pay_14 rfl
theorem c_X5_pay {d0 : Nat} (hd0 : 6 < d0) (v0 : Option Nat) (v1 : Int32) (v2 : Int32) (h : zH) : zCal D z d0 h yX5_pay [va_rf v0, .int v1, .int v2] (f_X5_pay v0 v1 v2 h) :=
  ⟨cX5_pay, 3, (some .int), [], 6, (show lv_args 0 [va_rf v0, .int v1, .int v2] = [(0, va_rf v0), (1, .int v1), (2, .int v2)] by simp [lv_args, zcat_rf, zcat_i, zcat_l, zcat_f, zcat_d]) ▸ w_X5_pay v0 v1 v2 h, (plainFor_of_name (by decide)), by simp [lg_sl, zcat_rf, zcat_i, zcat_l, zcat_f, zcat_d], q3427, q140, hd0, by decide, by decide⟩
theorem w_X5_seaAt (v0 : Int32) (h : zH) : zS D z yX5_seaAt cX5_seaAt 2 (some .int) [] 1 h 0 [(0, .int v0)] [] (f_X5_seaAt v0 h) := by
  unfold f_X5_seaAt
  refine s_iload_n (pc := 0) 0 dX5_seaAt_0 rfl rfl ?_
  refine s_bipush (pc := 1) (v := 12) dX5_seaAt_1 (by decide) ?_
  refine s_irem (pc := 3) dX5_seaAt_3 (fun _ => ?_)
  refine s_nm (pc := 4) Value.int (fun x1 => ?_)
  refine s_ist_n (pc := 4) (L2 := []) [] dX5_seaAt_4 rfl (by decide) rfl rfl (zcA rfl) ?_
  refine s_iload_n (pc := 5) 0 dX5_seaAt_5 rfl rfl ?_
  refine s_bipush (pc := 6) (v := 6) dX5_seaAt_6 (by decide) ?_
  refine s_icmp_gt (pc := 8) (tgt := 21) dX5_seaAt_8 (by decide) (fun _ => ?_) (fun _ => ?_)
  · refine s_sipush (pc := 21) (v := 160) dX5_seaAt_21 (by decide) ?_
    refine s_bipush (pc := 24) (v := 20) dX5_seaAt_24 (by decide) ?_
    refine s_iload_n (pc := 26) 0 dX5_seaAt_26 rfl rfl ?_
    refine s_bipush (pc := 27) (v := 6) dX5_seaAt_27 (by decide) ?_
    refine s_isub (pc := 29) dX5_seaAt_29 ?_
    refine s_imul (pc := 30) dX5_seaAt_30 ?_
    refine s_isub (pc := 31) dX5_seaAt_31 ?_
    exact s_iret (pc := 32) dX5_seaAt_32 rfl
  · refine s_bipush (pc := 11) (v := 40) dX5_seaAt_11 (by decide) ?_
    refine s_bipush (pc := 13) (v := 20) dX5_seaAt_13 (by decide) ?_
    refine s_iload_n (pc := 15) 0 dX5_seaAt_15 rfl rfl ?_
    refine s_imul (pc := 16) dX5_seaAt_16 ?_
    refine s_iadd (pc := 17) dX5_seaAt_17 ?_
    refine s_goto (pc := 18) (tgt := 32) dX5_seaAt_18 (by decide) ?_
    exact s_iret (pc := 32) dX5_seaAt_32 rfl
theorem c_X5_seaAt {d0 : Nat} (hd0 : 1 < d0) (v0 : Int32) (h : zH) : zCal D z d0 h yX5_seaAt [.int v0] (f_X5_seaAt v0 h) :=
  ⟨cX5_seaAt, 2, (some .int), [], 1, (show lv_args 0 [.int v0] = [(0, .int v0)] by simp [lv_args, zcat_rf, zcat_i, zcat_l, zcat_f, zcat_d]) ▸ w_X5_seaAt v0 h, (plainFor_of_name (by decide)), by simp [lg_sl, zcat_rf, zcat_i, zcat_l, zcat_f, zcat_d], q3442, q140, hd0, by decide, by decide⟩
theorem w_X5_gates_51 (a0 : Option Nat) (a1 : Int32) (a3 : Int32) (s0 : Int32) (s1 : Option Nat) (h : zH) : zS D z yX5_gates cX5_gates 4 (some .int) [] 3 h 51 [(0, va_rf a0), (1, .int a1), (3, .int a3)] [.int s0, va_rf s1] (f_X5_gates_51 a0 a1 a3 s0 s1 h) := by
  unfold f_X5_gates_51
  refine zS_ite (fun ht => ?_) (fun _ => zS_none)
  refine s_callV (pc := 51) (np := 1) (as := [.int s0]) (rest := []) dX5_gates_51 ht (q := (RX5, TX5, 20)) rfl (c_X5_goes (by decide) s1 s0 h) rfl rfl q3311 q3313 qs44 rfl (by decide) (zkI (fun x11 h12 => ?_)) zxo
  refine s_if_eq (pc := 54) (tgt := 64) dX5_gates_54 (by decide) (fun _ => ?_) (fun _ => ?_)
  · refine s_iload_n (pc := 64) 2 dX5_gates_64 rfl rfl ?_
    exact s_iret (pc := 65) dX5_gates_65 rfl
  · refine s_aload_n (pc := 57) 0 dX5_gates_57 rfl rfl ?_
    refine s_gR (pc := 58) dX5_gates_58 gf_X5_9 (fun r13 => ?_)
    refine s_iconst (pc := 61) (v := 2) dX5_gates_61 (by decide) ?_
    refine s_iload_n (pc := 62) 1 dX5_gates_62 rfl rfl ?_
    refine s_iast (pc := 63) dX5_gates_63 (ztc rfl zt0) (fun h14 => ?_)
    refine s_iload_n (pc := 64) 2 dX5_gates_64 rfl rfl ?_
    exact s_iret (pc := 65) dX5_gates_65 rfl
theorem w_X5_gates_46 (a0 : Option Nat) (a1 : Int32) (a3 : Int32) (s0 : Option Nat) (h : zH) : zS D z yX5_gates cX5_gates 4 (some .int) [] 3 h 46 [(0, va_rf a0), (1, .int a1), (3, .int a3)] [va_rf s0] (f_X5_gates_46 a0 a1 a3 s0 h) := by
  unfold f_X5_gates_46
  refine s_iconst (pc := 46) (v := 1) dX5_gates_46 (by decide) ?_
  refine s_goto (pc := 47) (tgt := 51) dX5_gates_47 (by decide) ?_
  exact s_sub (pc := 51) [0, 1, 2] rfl (w_X5_gates_51 a0 a1 a3 1 s0 h)
theorem w_X5_gates_29 (a0 : Option Nat) (a1 : Int32) (s0 : Int32) (h : zH) : zS D z yX5_gates cX5_gates 4 (some .int) [] 3 h 29 [(0, va_rf a0), (1, .int a1)] [.int s0] (f_X5_gates_29 a0 a1 s0 h) := by
  unfold f_X5_gates_29
  refine s_ist_n (pc := 29) (L2 := [(0, va_rf a0), (1, .int a1)]) [0, 1] dX5_gates_29 rfl (by decide) rfl rfl (zcB (j := 1) rfl rfl rfl) ?_
  refine s_aload_n (pc := 30) 1 dX5_gates_30 rfl rfl ?_
  refine s_gR (pc := 31) dX5_gates_31 gf_X5_9 (fun r9 => ?_)
  refine s_iconst (pc := 34) (v := 2) dX5_gates_34 (by decide) ?_
  refine s_iald (pc := 35) dX5_gates_35 (ztc rfl zt0) (fun x10 => ?_)
  refine s_ist_n (pc := 36) (L2 := [(2, .int s0), (0, va_rf a0), (1, .int a1)]) [0, 1, 2] dX5_gates_36 rfl (by decide) rfl rfl (zcB (j := 0) rfl rfl rfl) ?_
  refine s_aload_n (pc := 37) 2 dX5_gates_37 rfl rfl ?_
  refine s_iload_n (pc := 38) 3 dX5_gates_38 rfl rfl ?_
  refine s_if_eq (pc := 39) (tgt := 46) dX5_gates_39 (by decide) (fun _ => ?_) (fun _ => ?_)
  · exact s_sub (pc := 46) [2, 3, 0] rfl (w_X5_gates_46 a0 a1 x10 a0 h)
  · refine s_iload_n (pc := 42) 1 dX5_gates_42 rfl rfl ?_
    refine s_if_eq (pc := 43) (tgt := 50) dX5_gates_43 (by decide) (fun _ => ?_) (fun _ => ?_)
    · refine s_iconst (pc := 50) (v := 0) dX5_gates_50 (by decide) ?_
      exact s_sub (pc := 51) [2, 3, 0] rfl (w_X5_gates_51 a0 a1 x10 0 a0 h)
    · exact s_sub (pc := 46) [2, 3, 0] rfl (w_X5_gates_46 a0 a1 x10 a0 h)
theorem w_X5_gates (v0 : Option Nat) (v1 : Int32) (h : zH) : zS D z yX5_gates cX5_gates 4 (some .int) [] 3 h 0 [(0, va_rf v0), (1, .int v1)] [] (f_X5_gates v0 v1 h) := by
  unfold f_X5_gates
  refine s_aload_n (pc := 0) 0 dX5_gates_0 rfl rfl ?_
  refine s_gR (pc := 1) dX5_gates_1 gf_X5_9 (fun r1 => ?_)
  refine s_iconst (pc := 4) (v := 1) dX5_gates_4 (by decide) ?_
  refine s_iald (pc := 5) dX5_gates_5 (ztc rfl zt0) (fun x2 => ?_)
  refine s_aload_n (pc := 6) 0 dX5_gates_6 rfl rfl ?_
  refine s_gR (pc := 7) dX5_gates_7 gf_X5_9 (fun r3 => ?_)
  refine s_iconst (pc := 10) (v := 0) dX5_gates_10 (by decide) ?_
  refine s_iald (pc := 11) dX5_gates_11 (ztc rfl zt0) (fun x4 => ?_)
  refine s_callSS (pc := 12) (np := 1) (as := [.int x4]) (rest := [.int x2]) dX5_gates_12 (c_X5_seaAt (by decide) x4 h) rfl rfl q3440 q3441 rfl (by simp [zcat_rf, zcat_i, zcat_l, zcat_f, zcat_d]) (zkI (fun x5 h6 => ?_)) zxo
  refine s_isub (pc := 15) dX5_gates_15 ?_
  refine s_callSS (pc := 16) (np := 1) (as := [.int (x2 - x5)]) (rest := []) dX5_gates_16 (c_J11_abs (by decide) (x2 - x5) h6) rfl rfl q3443 q2627 rfl (by decide) (zkI (fun x7 h8 => ?_)) zxo
  refine s_bipush (pc := 19) (v := 20) dX5_gates_19 (by decide) ?_
  refine s_icmp_gt (pc := 21) (tgt := 28) dX5_gates_21 (by decide) (fun _ => ?_) (fun _ => ?_)
  · refine s_iconst (pc := 28) (v := 0) dX5_gates_28 (by decide) ?_
    exact s_sub (pc := 29) [0, 1] rfl (w_X5_gates_29 v0 v1 0 h8)
  · refine s_iconst (pc := 24) (v := 1) dX5_gates_24 (by decide) ?_
    refine s_goto (pc := 25) (tgt := 29) dX5_gates_25 (by decide) ?_
    exact s_sub (pc := 29) [0, 1] rfl (w_X5_gates_29 v0 v1 1 h8)
theorem c_X5_gates {d0 : Nat} (hd0 : 3 < d0) (v0 : Option Nat) (v1 : Int32) (h : zH) : zCal D z d0 h yX5_gates [va_rf v0, .int v1] (f_X5_gates v0 v1 h) :=
  ⟨cX5_gates, 4, (some .int), [], 3, (show lv_args 0 [va_rf v0, .int v1] = [(0, va_rf v0), (1, .int v1)] by simp [lv_args, zcat_rf, zcat_i, zcat_l, zcat_f, zcat_d]) ▸ w_X5_gates v0 v1 h, (plainFor_of_name (by decide)), by simp [lg_sl, zcat_rf, zcat_i, zcat_l, zcat_f, zcat_d], q3439, q140, hd0, by decide, by decide⟩
theorem w_X5_setGate_15 (s0 : Int32) (s1 : Option Nat) (s2 : Option Nat) (h : zH) : zS D z yX5_setGate cX5_setGate 2 (some .boolean) [] 4 h 15 [] [.int s0, va_rf s1, va_rf s2] (f_X5_setGate_15 s0 s1 s2 h) := by
  unfold f_X5_setGate_15
  refine zS_ite (fun ht => ?_) (fun _ => zS_none)
  refine s_callV (pc := 15) (np := 1) (as := [.int s0]) (rest := [va_rf s2]) dX5_setGate_15 ht (q := (RX5, TX5, 20)) rfl (c_X5_gates (by decide) s1 s0 h) rfl rfl q3436 q3438 qs63 rfl (by simp [zcat_rf, zcat_i, zcat_l, zcat_f, zcat_d]) (zkI (fun x2 h3 => ?_)) zxo
  refine zS_ite (fun ht => ?_) (fun _ => zS_none)
  refine s_callV (pc := 18) (np := 1) (as := [.int x2]) (rest := []) dX5_setGate_18 ht (q := (RX5, TX5, 20)) rfl (c_X5_ends (by decide) s2 x2 h3) rfl rfl q3349 q3351 qs48 rfl (by decide) (zkI (fun x4 h5 => ?_)) zxo
  refine s_iconst (pc := 21) (v := 1) dX5_setGate_21 (by decide) ?_
  refine s_icmp_ne (pc := 22) (tgt := 29) dX5_setGate_22 (by decide) (fun _ => ?_) (fun _ => ?_)
  · refine s_iconst (pc := 29) (v := 0) dX5_setGate_29 (by decide) ?_
    exact s_nret (pc := 30) dX5_setGate_30 rfl
  · refine s_iconst (pc := 25) (v := 1) dX5_setGate_25 (by decide) ?_
    refine s_goto (pc := 26) (tgt := 30) dX5_setGate_26 (by decide) ?_
    exact s_nret (pc := 30) dX5_setGate_30 rfl
theorem w_X5_setGate (v0 : Option Nat) (v1 : Int32) (h : zH) : zS D z yX5_setGate cX5_setGate 2 (some .boolean) [] 4 h 0 [(0, va_rf v0), (1, .int v1)] [] (f_X5_setGate v0 v1 h) := by
  unfold f_X5_setGate
  refine s_aload_n (pc := 0) 0 dX5_setGate_0 rfl rfl ?_
  refine zS_ite (fun ht => ?_) (fun _ => zS_none)
  refine s_callV (pc := 1) (np := 0) (as := []) (rest := []) dX5_setGate_1 ht (q := (RX5, TX5, 20)) rfl (c_X5_begins (by decide) v0 h) rfl rfl q3334 q3336 qs46 rfl (by decide) (zkV (fun h1 => ?_)) zxo
  refine s_aload_n (pc := 4) 0 dX5_setGate_4 rfl rfl ?_
  refine s_aload_n (pc := 5) 0 dX5_setGate_5 rfl rfl ?_
  refine s_iload_n (pc := 6) 1 dX5_setGate_6 rfl rfl ?_
  refine s_if_eq (pc := 7) (tgt := 14) dX5_setGate_7 (by decide) (fun _ => ?_) (fun _ => ?_)
  · refine s_iconst (pc := 14) (v := 0) dX5_setGate_14 (by decide) ?_
    exact s_sub (pc := 15) [] rfl (w_X5_setGate_15 0 v0 v0 h1)
  · refine s_iconst (pc := 10) (v := 1) dX5_setGate_10 (by decide) ?_
    refine s_goto (pc := 11) (tgt := 15) dX5_setGate_11 (by decide) ?_
    exact s_sub (pc := 15) [] rfl (w_X5_setGate_15 1 v0 v0 h1)
theorem c_X5_setGate {d0 : Nat} (hd0 : 4 < d0) (v0 : Option Nat) (v1 : Int32) (h : zH) : zCal D z d0 h yX5_setGate [va_rf v0, .int v1] (f_X5_setGate v0 v1 h) :=
  ⟨cX5_setGate, 2, (some .boolean), [], 4, (show lv_args 0 [va_rf v0, .int v1] = [(0, va_rf v0), (1, .int v1)] by simp [lv_args, zcat_rf, zcat_i, zcat_l, zcat_f, zcat_d]) ▸ w_X5_setGate v0 v1 h, (plainFor_of_name (by decide)), by simp [lg_sl, zcat_rf, zcat_i, zcat_l, zcat_f, zcat_d], q3435, q140, hd0, by decide, by decide⟩
theorem w_X5_pumps (v0 : Option Nat) (v1 : Int32) (h : zH) : zS D z yX5_pumps cX5_pumps 3 (some .int) [] 3 h 0 [(0, va_rf v0), (1, .int v1)] [] (f_X5_pumps v0 v1 h) := by
  unfold f_X5_pumps
  refine s_aload_n (pc := 0) 0 dX5_pumps_0 rfl rfl ?_
  refine s_gR (pc := 1) dX5_pumps_1 gf_X5_9 (fun r1 => ?_)
  refine s_iconst (pc := 4) (v := 3) dX5_pumps_4 (by decide) ?_
  refine s_iald (pc := 5) dX5_pumps_5 (ztc rfl zt0) (fun x2 => ?_)
  refine s_ist_n (pc := 6) (L2 := [(0, va_rf v0), (1, .int v1)]) [0, 1] dX5_pumps_6 rfl (by decide) rfl rfl (zcB (j := 1) rfl rfl rfl) ?_
  refine s_aload_n (pc := 7) 1 dX5_pumps_7 rfl rfl ?_
  refine s_iload_n (pc := 8) 2 dX5_pumps_8 rfl rfl ?_
  refine s_bipush (pc := 9) (v := -30) dX5_pumps_9 (by decide) ?_
  refine s_bipush (pc := 11) (v := 30) dX5_pumps_11 (by decide) ?_
  refine s_callSS (pc := 13) (np := 3) (as := [.int v1, .int (-30), .int 30]) (rest := [va_rf v0]) dX5_pumps_13 (c_X5_isIn (by decide) v1 (-30) 30 h) rfl rfl q3342 q3343 rfl (by simp [zcat_rf, zcat_i, zcat_l, zcat_f, zcat_d]) (zkI (fun x3 h4 => ?_)) zxo
  refine zS_ite (fun ht => ?_) (fun _ => zS_none)
  refine s_callV (pc := 16) (np := 1) (as := [.int x3]) (rest := []) dX5_pumps_16 ht (q := (RX5, TX5, 20)) rfl (c_X5_goes (by decide) v0 x3 h4) rfl rfl q3311 q3313 qs44 rfl (by decide) (zkI (fun x5 h6 => ?_)) zxo
  refine s_if_eq (pc := 19) (tgt := 29) dX5_pumps_19 (by decide) (fun _ => ?_) (fun _ => ?_)
  · refine s_iload_n (pc := 29) 0 dX5_pumps_29 rfl rfl ?_
    exact s_iret (pc := 30) dX5_pumps_30 rfl
  · refine s_aload_n (pc := 22) 1 dX5_pumps_22 rfl rfl ?_
    refine s_gR (pc := 23) dX5_pumps_23 gf_X5_9 (fun r7 => ?_)
    refine s_iconst (pc := 26) (v := 3) dX5_pumps_26 (by decide) ?_
    refine s_iload_n (pc := 27) 2 dX5_pumps_27 rfl rfl ?_
    refine s_iast (pc := 28) dX5_pumps_28 (ztc rfl zt0) (fun h8 => ?_)
    refine s_iload_n (pc := 29) 0 dX5_pumps_29 rfl rfl ?_
    exact s_iret (pc := 30) dX5_pumps_30 rfl
theorem c_X5_pumps {d0 : Nat} (hd0 : 3 < d0) (v0 : Option Nat) (v1 : Int32) (h : zH) : zCal D z d0 h yX5_pumps [va_rf v0, .int v1] (f_X5_pumps v0 v1 h) :=
  ⟨cX5_pumps, 3, (some .int), [], 3, (show lv_args 0 [va_rf v0, .int v1] = [(0, va_rf v0), (1, .int v1)] by simp [lv_args, zcat_rf, zcat_i, zcat_l, zcat_f, zcat_d]) ▸ w_X5_pumps v0 v1 h, (plainFor_of_name (by decide)), by simp [lg_sl, zcat_rf, zcat_i, zcat_l, zcat_f, zcat_d], q3451, q140, hd0, by decide, by decide⟩
theorem w_X5_setPump (v0 : Option Nat) (v1 : Int32) (h : zH) : zS D z yX5_setPump cX5_setPump 2 (some .int) [] 4 h 0 [(0, va_rf v0), (1, .int v1)] [] (f_X5_setPump v0 v1 h) := by
  unfold f_X5_setPump
  refine s_aload_n (pc := 0) 0 dX5_setPump_0 rfl rfl ?_
  refine zS_ite (fun ht => ?_) (fun _ => zS_none)
  refine s_callV (pc := 1) (np := 0) (as := []) (rest := []) dX5_setPump_1 ht (q := (RX5, TX5, 20)) rfl (c_X5_begins (by decide) v0 h) rfl rfl q3334 q3336 qs46 rfl (by decide) (zkV (fun h1 => ?_)) zxo
  refine s_aload_n (pc := 4) 0 dX5_setPump_4 rfl rfl ?_
  refine s_aload_n (pc := 5) 0 dX5_setPump_5 rfl rfl ?_
  refine s_iload_n (pc := 6) 1 dX5_setPump_6 rfl rfl ?_
  refine zS_ite (fun ht => ?_) (fun _ => zS_none)
  refine s_callV (pc := 7) (np := 1) (as := [.int v1]) (rest := [va_rf v0]) dX5_setPump_7 ht (q := (RX5, TX5, 20)) rfl (c_X5_pumps (by decide) v0 v1 h1) rfl rfl q3448 q3450 qs64 rfl (by simp [zcat_rf, zcat_i, zcat_l, zcat_f, zcat_d]) (zkI (fun x2 h3 => ?_)) zxo
  refine zS_ite (fun ht => ?_) (fun _ => zS_none)
  refine s_callV (pc := 10) (np := 1) (as := [.int x2]) (rest := []) dX5_setPump_10 ht (q := (RX5, TX5, 20)) rfl (c_X5_ends (by decide) v0 x2 h3) rfl rfl q3349 q3351 qs48 rfl (by decide) (zkI (fun x4 h5 => ?_)) zxo
  exact s_iret (pc := 13) dX5_setPump_13 rfl
theorem c_X5_setPump {d0 : Nat} (hd0 : 4 < d0) (v0 : Option Nat) (v1 : Int32) (h : zH) : zCal D z d0 h yX5_setPump [va_rf v0, .int v1] (f_X5_setPump v0 v1 h) :=
  ⟨cX5_setPump, 2, (some .int), [], 4, (show lv_args 0 [va_rf v0, .int v1] = [(0, va_rf v0), (1, .int v1)] by simp [lv_args, zcat_rf, zcat_i, zcat_l, zcat_f, zcat_d]) ▸ w_X5_setPump v0 v1 h, (plainFor_of_name (by decide)), by simp [lg_sl, zcat_rf, zcat_i, zcat_l, zcat_f, zcat_d], q3447, q140, hd0, by decide, by decide⟩
theorem w_X5_blocks_4 : ∀ (n : Nat) (a0 : Option Nat) (a1 : Int32) (a2 : Int32) (h : zH), zS D z yX5_blocks cX5_blocks 3 (some .int) [] 1 h 4 [(0, va_rf a0), (1, .int a1), (2, .int a2)] [] (f_X5_blocks_4 n a0 a1 a2 h) := by
  intro n
  induction n with
  | zero => intros; exact zS_none
  | succ n ih =>
    intro a0 a1 a2 h
    rw [f_X5_blocks_4.eq_2]
    refine s_iload_n (pc := 4) 2 dX5_blocks_4 rfl rfl ?_
    refine s_bipush (pc := 5) (v := 60) dX5_blocks_5 (by decide) ?_
    refine s_icmp_ge (pc := 7) (tgt := 28) dX5_blocks_7 (by decide) (fun _ => ?_) (fun _ => ?_)
    · refine s_iload_n (pc := 28) 1 dX5_blocks_28 rfl rfl ?_
      exact s_iret (pc := 29) dX5_blocks_29 rfl
    · refine s_iload_n (pc := 10) 1 dX5_blocks_10 rfl rfl ?_
      refine s_aload_n (pc := 11) 0 dX5_blocks_11 rfl rfl ?_
      refine s_gR (pc := 12) dX5_blocks_12 gf_X5_9 (fun r1 => ?_)
      refine s_bipush (pc := 15) (v := 80) dX5_blocks_15 (by decide) ?_
      refine s_iload_n (pc := 17) 2 dX5_blocks_17 rfl rfl ?_
      refine s_iadd (pc := 18) dX5_blocks_18 ?_
      refine s_iald (pc := 19) dX5_blocks_19 (ztc rfl zt0) (fun x2 => ?_)
      refine s_iadd (pc := 20) dX5_blocks_20 ?_
      refine s_nm (pc := 21) Value.int (fun x3 => ?_)
      refine s_ist_n (pc := 21) (L2 := [(0, va_rf a0), (2, .int a2)]) [0, 2] dX5_blocks_21 rfl (by decide) rfl rfl (zcB (j := 0) rfl (zcat_rf a0) rfl) ?_
      refine s_inc (pc := 22) (v := 1) (L2 := [(1, .int x3), (0, va_rf a0)]) 2 [0, 1] dX5_blocks_22 rfl (by decide) (by decide) rfl rfl (zcB (j := 0) rfl rfl rfl) (fun x4 => ?_)
      refine s_goto (pc := 25) (tgt := 4) dX5_blocks_25 (by decide) ?_
      exact s_sub (pc := 4) [2, 1, 0] rfl (ih a0 x3 x4 h)
theorem w_X5_blocks (v0 : Option Nat) (h : zH) : zS D z yX5_blocks cX5_blocks 3 (some .int) [] 1 h 0 [(0, va_rf v0)] [] (f_X5_blocks v0 h) := by
  unfold f_X5_blocks
  refine s_iconst (pc := 0) (v := 0) dX5_blocks_0 (by decide) ?_
  refine s_ist_n (pc := 1) (L2 := [(0, va_rf v0)]) [0] dX5_blocks_1 rfl (by decide) rfl rfl (zcB (j := 0) rfl (zcat_rf v0) rfl) ?_
  refine s_iconst (pc := 2) (v := 0) dX5_blocks_2 (by decide) ?_
  refine s_ist_n (pc := 3) (L2 := [(1, .int 0), (0, va_rf v0)]) [0, 1] dX5_blocks_3 rfl (by decide) rfl rfl (zcB (j := 0) rfl rfl rfl) ?_
  exact s_sub (pc := 4) [2, 1, 0] rfl (w_X5_blocks_4 zfuel v0 0 0 h)
theorem c_X5_blocks {d0 : Nat} (hd0 : 1 < d0) (v0 : Option Nat) (h : zH) : zCal D z d0 h yX5_blocks [va_rf v0] (f_X5_blocks v0 h) :=
  ⟨cX5_blocks, 3, (some .int), [], 1, (show lv_args 0 [va_rf v0] = [(0, va_rf v0)] by simp [lv_args, zcat_rf, zcat_i, zcat_l, zcat_f, zcat_d]) ▸ w_X5_blocks v0 h, (plainFor_of_name (by decide)), by simp [lg_sl, zcat_rf, zcat_i, zcat_l, zcat_f, zcat_d], q3463, q140, hd0, by decide, by decide⟩
theorem w_X5_isBlock (v0 : Option Nat) (v1 : Int32) (h : zH) : zS D z yX5_isBlock cX5_isBlock 2 (some .boolean) [] 3 h 0 [(0, va_rf v0), (1, .int v1)] [] (f_X5_isBlock v0 v1 h) := by
  unfold f_X5_isBlock
  refine s_iload_n (pc := 0) 1 dX5_isBlock_0 rfl rfl ?_
  refine s_callSS (pc := 1) (np := 1) (as := [.int v1]) (rest := []) dX5_isBlock_1 (c_X5_isMetre (by decide) v1 h) rfl rfl q3385 q3386 rfl (by decide) (zkI (fun x1 h2 => ?_)) zxo
  refine s_if_eq (pc := 4) (tgt := 24) dX5_isBlock_4 (by decide) (fun _ => ?_) (fun _ => ?_)
  · refine s_iconst (pc := 24) (v := 0) dX5_isBlock_24 (by decide) ?_
    exact s_nret (pc := 25) dX5_isBlock_25 rfl
  · refine s_aload_n (pc := 7) 0 dX5_isBlock_7 rfl rfl ?_
    refine s_gR (pc := 8) dX5_isBlock_8 gf_X5_9 (fun r3 => ?_)
    refine s_bipush (pc := 11) (v := 80) dX5_isBlock_11 (by decide) ?_
    refine s_iload_n (pc := 13) 1 dX5_isBlock_13 rfl rfl ?_
    refine s_iadd (pc := 14) dX5_isBlock_14 ?_
    refine s_iald (pc := 15) dX5_isBlock_15 (ztc rfl zt0) (fun x4 => ?_)
    refine s_iconst (pc := 16) (v := 1) dX5_isBlock_16 (by decide) ?_
    refine s_icmp_ne (pc := 17) (tgt := 24) dX5_isBlock_17 (by decide) (fun _ => ?_) (fun _ => ?_)
    · refine s_iconst (pc := 24) (v := 0) dX5_isBlock_24 (by decide) ?_
      exact s_nret (pc := 25) dX5_isBlock_25 rfl
    · refine s_iconst (pc := 20) (v := 1) dX5_isBlock_20 (by decide) ?_
      refine s_goto (pc := 21) (tgt := 25) dX5_isBlock_21 (by decide) ?_
      exact s_nret (pc := 25) dX5_isBlock_25 rfl
theorem c_X5_isBlock {d0 : Nat} (hd0 : 3 < d0) (v0 : Option Nat) (v1 : Int32) (h : zH) : zCal D z d0 h yX5_isBlock [va_rf v0, .int v1] (f_X5_isBlock v0 v1 h) :=
  ⟨cX5_isBlock, 2, (some .boolean), [], 3, (show lv_args 0 [va_rf v0, .int v1] = [(0, va_rf v0), (1, .int v1)] by simp [lv_args, zcat_rf, zcat_i, zcat_l, zcat_f, zcat_d]) ▸ w_X5_isBlock v0 v1 h, (plainFor_of_name (by decide)), by simp [lg_sl, zcat_rf, zcat_i, zcat_l, zcat_f, zcat_d], q3467, q140, hd0, by decide, by decide⟩
theorem w_X5_lays_54 (a0 : Option Nat) (a1 : Int32) (s0 : Int32) (s1 : Int32) (s2 : Int32) (s3 : Option Nat) (h : zH) : zS D z yX5_lays cX5_lays 3 (some .int) [] 6 h 54 [(0, va_rf a0), (1, .int a1)] [.int s0, .int s1, .int s2, va_rf s3] (f_X5_lays_54 a0 a1 s0 s1 s2 s3 h) := by
  unfold f_X5_lays_54
  refine s_iconst (pc := 54) (v := 1) dX5_lays_54 (by decide) ?_
  refine zS_ite (fun ht => ?_) (fun _ => zS_none)
  refine s_callV (pc := 55) (np := 4) (as := [.int s2, .int s1, .int s0, .int 1]) (rest := []) dX5_lays_55 ht (q := (RX5, TX5, 20)) rfl (c_X5_holds (by decide) s3 s2 s1 s0 1 h) rfl rfl q3315 q3317 qs45 rfl (by decide) (zkI (fun x11 h12 => ?_)) zxo
  refine s_if_ne (pc := 58) (tgt := 63) dX5_lays_58 (by decide) (fun _ => ?_) (fun _ => ?_)
  · refine s_aload_n (pc := 63) 0 dX5_lays_63 rfl rfl ?_
    refine s_gR (pc := 64) dX5_lays_64 gf_X5_9 (fun r13 => ?_)
    refine s_bipush (pc := 67) (v := 80) dX5_lays_67 (by decide) ?_
    refine s_iload_n (pc := 69) 1 dX5_lays_69 rfl rfl ?_
    refine s_iadd (pc := 70) dX5_lays_70 ?_
    refine s_iconst (pc := 71) (v := 1) dX5_lays_71 (by decide) ?_
    refine s_iast (pc := 72) dX5_lays_72 (ztc rfl zt0) (fun h14 => ?_)
    refine s_aload_n (pc := 73) 0 dX5_lays_73 rfl rfl ?_
    refine zS_ite (fun ht => ?_) (fun _ => zS_none)
    refine s_callV (pc := 74) (np := 0) (as := []) (rest := []) dX5_lays_74 ht (q := (RX5, TX5, 20)) rfl (c_X5_blocks (by decide) a0 h14) rfl rfl q3460 q3462 qs66 rfl (by decide) (zkI (fun x15 h16 => ?_)) zxo
    exact s_iret (pc := 77) dX5_lays_77 rfl
  · refine s_iconst (pc := 61) (v := 0) dX5_lays_61 (by decide) ?_
    exact s_iret (pc := 62) dX5_lays_62 rfl
theorem w_X5_lays_53 (a0 : Option Nat) (a1 : Int32) (s0 : Int32) (s1 : Int32) (s2 : Option Nat) (h : zH) : zS D z yX5_lays cX5_lays 3 (some .int) [] 6 h 53 [(0, va_rf a0), (1, .int a1)] [.int s0, .int s1, va_rf s2] (f_X5_lays_53 a0 a1 s0 s1 s2 h) := by
  unfold f_X5_lays_53
  refine s_iconst (pc := 53) (v := 0) dX5_lays_53 (by decide) ?_
  exact s_sub (pc := 54) [0, 1] rfl (w_X5_lays_54 a0 a1 0 s0 s1 s2 h)
theorem w_X5_lays_22 (a0 : Option Nat) (a1 : Int32) (s0 : Int32) (h : zH) : zS D z yX5_lays cX5_lays 3 (some .int) [] 6 h 22 [(0, va_rf a0), (1, .int a1)] [.int s0] (f_X5_lays_22 a0 a1 s0 h) := by
  unfold f_X5_lays_22
  refine s_ist_n (pc := 22) (L2 := [(0, va_rf a0), (1, .int a1)]) [0, 1] dX5_lays_22 rfl (by decide) rfl rfl (zcB (j := 1) rfl rfl rfl) ?_
  refine s_aload_n (pc := 23) 1 dX5_lays_23 rfl rfl ?_
  refine s_iload_n (pc := 24) 2 dX5_lays_24 rfl rfl ?_
  refine s_callSS (pc := 25) (np := 1) (as := [.int a1]) (rest := [va_rf a0]) dX5_lays_25 (c_X5_isMetre (by decide) a1 h) rfl rfl q3385 q3386 rfl (by simp [zcat_rf, zcat_i, zcat_l, zcat_f, zcat_d]) (zkI (fun x5 h6 => ?_)) zxo
  refine s_iload_n (pc := 28) 0 dX5_lays_28 rfl rfl ?_
  refine s_aload_n (pc := 29) 1 dX5_lays_29 rfl rfl ?_
  refine s_gR (pc := 30) dX5_lays_30 gf_X5_9 (fun r7 => ?_)
  refine s_iconst (pc := 33) (v := 1) dX5_lays_33 (by decide) ?_
  refine s_iald (pc := 34) dX5_lays_34 (ztc rfl zt0) (fun x8 => ?_)
  refine s_bipush (pc := 35) (v := 30) dX5_lays_35 (by decide) ?_
  refine s_icmp_gt (pc := 37) (tgt := 53) dX5_lays_37 (by decide) (fun _ => ?_) (fun _ => ?_)
  · exact s_sub (pc := 53) [1, 2] rfl (w_X5_lays_53 a0 a1 s0 x5 a0 h6)
  · refine s_aload_n (pc := 40) 1 dX5_lays_40 rfl rfl ?_
    refine s_iload_n (pc := 41) 2 dX5_lays_41 rfl rfl ?_
    refine zS_ite (fun ht => ?_) (fun _ => zS_none)
    refine s_callV (pc := 42) (np := 1) (as := [.int a1]) (rest := [.int s0, .int x5, va_rf a0]) dX5_lays_42 ht (q := (RX5, TX5, 20)) rfl (c_X5_at (by decide) a0 a1 h6) rfl rfl q3392 q3394 qs56 rfl (by simp [zcat_rf, zcat_i, zcat_l, zcat_f, zcat_d]) (zkI (fun x9 h10 => ?_)) zxo
    refine s_iconst (pc := 45) (v := -1) dX5_lays_45 (by decide) ?_
    refine s_icmp_ne (pc := 46) (tgt := 53) dX5_lays_46 (by decide) (fun _ => ?_) (fun _ => ?_)
    · exact s_sub (pc := 53) [1, 2] rfl (w_X5_lays_53 a0 a1 s0 x5 a0 h10)
    · refine s_iconst (pc := 49) (v := 1) dX5_lays_49 (by decide) ?_
      refine s_goto (pc := 50) (tgt := 54) dX5_lays_50 (by decide) ?_
      exact s_sub (pc := 54) [1, 2] rfl (w_X5_lays_54 a0 a1 1 s0 x5 a0 h10)
theorem w_X5_lays_21 (a0 : Option Nat) (a1 : Int32) (h : zH) : zS D z yX5_lays cX5_lays 3 (some .int) [] 6 h 21 [(0, va_rf a0), (1, .int a1)] [] (f_X5_lays_21 a0 a1 h) := by
  unfold f_X5_lays_21
  refine s_iconst (pc := 21) (v := 0) dX5_lays_21 (by decide) ?_
  exact s_sub (pc := 22) [0, 1] rfl (w_X5_lays_22 a0 a1 0 h)
theorem w_X5_lays (v0 : Option Nat) (v1 : Int32) (h : zH) : zS D z yX5_lays cX5_lays 3 (some .int) [] 6 h 0 [(0, va_rf v0), (1, .int v1)] [] (f_X5_lays v0 v1 h) := by
  unfold f_X5_lays
  refine s_aload_n (pc := 0) 0 dX5_lays_0 rfl rfl ?_
  refine zS_ite (fun ht => ?_) (fun _ => zS_none)
  refine s_callV (pc := 1) (np := 0) (as := []) (rest := []) dX5_lays_1 ht (q := (RX5, TX5, 20)) rfl (c_X5_blocks (by decide) v0 h) rfl rfl q3460 q3462 qs66 rfl (by decide) (zkI (fun x1 h2 => ?_)) zxo
  refine s_bipush (pc := 4) (v := 20) dX5_lays_4 (by decide) ?_
  refine s_icmp_ge (pc := 6) (tgt := 21) dX5_lays_6 (by decide) (fun _ => ?_) (fun _ => ?_)
  · exact s_sub (pc := 21) [0, 1] rfl (w_X5_lays_21 v0 v1 h2)
  · refine s_aload_n (pc := 9) 0 dX5_lays_9 rfl rfl ?_
    refine s_iload_n (pc := 10) 1 dX5_lays_10 rfl rfl ?_
    refine zS_ite (fun ht => ?_) (fun _ => zS_none)
    refine s_callV (pc := 11) (np := 1) (as := [.int v1]) (rest := []) dX5_lays_11 ht (q := (RX5, TX5, 20)) rfl (c_X5_isBlock (by decide) v0 v1 h2) rfl rfl q3464 q3466 qs67 rfl (by decide) (zkI (fun x3 h4 => ?_)) zxo
    refine s_if_ne (pc := 14) (tgt := 21) dX5_lays_14 (by decide) (fun _ => ?_) (fun _ => ?_)
    · exact s_sub (pc := 21) [0, 1] rfl (w_X5_lays_21 v0 v1 h4)
    · refine s_iconst (pc := 17) (v := 1) dX5_lays_17 (by decide) ?_
      refine s_goto (pc := 18) (tgt := 22) dX5_lays_18 (by decide) ?_
      exact s_sub (pc := 22) [0, 1] rfl (w_X5_lays_22 v0 v1 1 h4)
theorem c_X5_lays {d0 : Nat} (hd0 : 6 < d0) (v0 : Option Nat) (v1 : Int32) (h : zH) : zCal D z d0 h yX5_lays [va_rf v0, .int v1] (f_X5_lays v0 v1 h) :=
  ⟨cX5_lays, 3, (some .int), [], 6, (show lv_args 0 [va_rf v0, .int v1] = [(0, va_rf v0), (1, .int v1)] by simp [lv_args, zcat_rf, zcat_i, zcat_l, zcat_f, zcat_d]) ▸ w_X5_lays v0 v1 h, (plainFor_of_name (by decide)), by simp [lg_sl, zcat_rf, zcat_i, zcat_l, zcat_f, zcat_d], q3459, q140, hd0, by decide, by decide⟩
theorem w_X5_placeBlock (v0 : Option Nat) (v1 : Int32) (h : zH) : zS D z yX5_placeBlock cX5_placeBlock 2 (some .int) [] 7 h 0 [(0, va_rf v0), (1, .int v1)] [] (f_X5_placeBlock v0 v1 h) := by
  unfold f_X5_placeBlock
  refine s_aload_n (pc := 0) 0 dX5_placeBlock_0 rfl rfl ?_
  refine zS_ite (fun ht => ?_) (fun _ => zS_none)
  refine s_callV (pc := 1) (np := 0) (as := []) (rest := []) dX5_placeBlock_1 ht (q := (RX5, TX5, 20)) rfl (c_X5_begins (by decide) v0 h) rfl rfl q3334 q3336 qs46 rfl (by decide) (zkV (fun h1 => ?_)) zxo
  refine s_aload_n (pc := 4) 0 dX5_placeBlock_4 rfl rfl ?_
  refine s_aload_n (pc := 5) 0 dX5_placeBlock_5 rfl rfl ?_
  refine s_iload_n (pc := 6) 1 dX5_placeBlock_6 rfl rfl ?_
  refine zS_ite (fun ht => ?_) (fun _ => zS_none)
  refine s_callV (pc := 7) (np := 1) (as := [.int v1]) (rest := [va_rf v0]) dX5_placeBlock_7 ht (q := (RX5, TX5, 20)) rfl (c_X5_lays (by decide) v0 v1 h1) rfl rfl q3456 q3458 qs65 rfl (by simp [zcat_rf, zcat_i, zcat_l, zcat_f, zcat_d]) (zkI (fun x2 h3 => ?_)) zxo
  refine zS_ite (fun ht => ?_) (fun _ => zS_none)
  refine s_callV (pc := 10) (np := 1) (as := [.int x2]) (rest := []) dX5_placeBlock_10 ht (q := (RX5, TX5, 20)) rfl (c_X5_ends (by decide) v0 x2 h3) rfl rfl q3349 q3351 qs48 rfl (by decide) (zkI (fun x4 h5 => ?_)) zxo
  exact s_iret (pc := 13) dX5_placeBlock_13 rfl
theorem c_X5_placeBlock {d0 : Nat} (hd0 : 7 < d0) (v0 : Option Nat) (v1 : Int32) (h : zH) : zCal D z d0 h yX5_placeBlock [va_rf v0, .int v1] (f_X5_placeBlock v0 v1 h) :=
  ⟨cX5_placeBlock, 2, (some .int), [], 7, (show lv_args 0 [va_rf v0, .int v1] = [(0, va_rf v0), (1, .int v1)] by simp [lv_args, zcat_rf, zcat_i, zcat_l, zcat_f, zcat_d]) ▸ w_X5_placeBlock v0 v1 h, (plainFor_of_name (by decide)), by simp [lg_sl, zcat_rf, zcat_i, zcat_l, zcat_f, zcat_d], q3455, q140, hd0, by decide, by decide⟩
theorem w_X5_takes_35 (a0 : Option Nat) (a1 : Int32) (s0 : Int32) (s1 : Int32) (s2 : Int32) (s3 : Option Nat) (h : zH) : zS D z yX5_takes cX5_takes 2 (some .int) [] 6 h 35 [(0, va_rf a0), (1, .int a1)] [.int s0, .int s1, .int s2, va_rf s3] (f_X5_takes_35 a0 a1 s0 s1 s2 s3 h) := by
  unfold f_X5_takes_35
  refine s_iconst (pc := 35) (v := 1) dX5_takes_35 (by decide) ?_
  refine zS_ite (fun ht => ?_) (fun _ => zS_none)
  refine s_callV (pc := 36) (np := 4) (as := [.int s2, .int s1, .int s0, .int 1]) (rest := []) dX5_takes_36 ht (q := (RX5, TX5, 20)) rfl (c_X5_holds (by decide) s3 s2 s1 s0 1 h) rfl rfl q3315 q3317 qs45 rfl (by decide) (zkI (fun x9 h10 => ?_)) zxo
  refine s_if_ne (pc := 39) (tgt := 44) dX5_takes_39 (by decide) (fun _ => ?_) (fun _ => ?_)
  · refine s_aload_n (pc := 44) 0 dX5_takes_44 rfl rfl ?_
    refine s_gR (pc := 45) dX5_takes_45 gf_X5_9 (fun r11 => ?_)
    refine s_bipush (pc := 48) (v := 80) dX5_takes_48 (by decide) ?_
    refine s_iload_n (pc := 50) 1 dX5_takes_50 rfl rfl ?_
    refine s_iadd (pc := 51) dX5_takes_51 ?_
    refine s_iconst (pc := 52) (v := 0) dX5_takes_52 (by decide) ?_
    refine s_iast (pc := 53) dX5_takes_53 (ztc rfl zt0) (fun h12 => ?_)
    refine s_aload_n (pc := 54) 0 dX5_takes_54 rfl rfl ?_
    refine zS_ite (fun ht => ?_) (fun _ => zS_none)
    refine s_callV (pc := 55) (np := 0) (as := []) (rest := []) dX5_takes_55 ht (q := (RX5, TX5, 20)) rfl (c_X5_blocks (by decide) a0 h12) rfl rfl q3460 q3462 qs66 rfl (by decide) (zkI (fun x13 h14 => ?_)) zxo
    exact s_iret (pc := 58) dX5_takes_58 rfl
  · refine s_iconst (pc := 42) (v := 0) dX5_takes_42 (by decide) ?_
    exact s_iret (pc := 43) dX5_takes_43 rfl
theorem w_X5_takes_34 (a0 : Option Nat) (a1 : Int32) (s0 : Int32) (s1 : Int32) (s2 : Option Nat) (h : zH) : zS D z yX5_takes cX5_takes 2 (some .int) [] 6 h 34 [(0, va_rf a0), (1, .int a1)] [.int s0, .int s1, va_rf s2] (f_X5_takes_34 a0 a1 s0 s1 s2 h) := by
  unfold f_X5_takes_34
  refine s_iconst (pc := 34) (v := 0) dX5_takes_34 (by decide) ?_
  exact s_sub (pc := 35) [0, 1] rfl (w_X5_takes_35 a0 a1 0 s0 s1 s2 h)
theorem w_X5_takes (v0 : Option Nat) (v1 : Int32) (h : zH) : zS D z yX5_takes cX5_takes 2 (some .int) [] 6 h 0 [(0, va_rf v0), (1, .int v1)] [] (f_X5_takes v0 v1 h) := by
  unfold f_X5_takes
  refine s_aload_n (pc := 0) 0 dX5_takes_0 rfl rfl ?_
  refine s_iload_n (pc := 1) 1 dX5_takes_1 rfl rfl ?_
  refine s_callSS (pc := 2) (np := 1) (as := [.int v1]) (rest := [va_rf v0]) dX5_takes_2 (c_X5_isMetre (by decide) v1 h) rfl rfl q3385 q3386 rfl (by simp [zcat_rf, zcat_i, zcat_l, zcat_f, zcat_d]) (zkI (fun x1 h2 => ?_)) zxo
  refine s_aload_n (pc := 5) 0 dX5_takes_5 rfl rfl ?_
  refine s_iload_n (pc := 6) 1 dX5_takes_6 rfl rfl ?_
  refine zS_ite (fun ht => ?_) (fun _ => zS_none)
  refine s_callV (pc := 7) (np := 1) (as := [.int v1]) (rest := [.int x1, va_rf v0]) dX5_takes_7 ht (q := (RX5, TX5, 20)) rfl (c_X5_isBlock (by decide) v0 v1 h2) rfl rfl q3464 q3466 qs67 rfl (by simp [zcat_rf, zcat_i, zcat_l, zcat_f, zcat_d]) (zkI (fun x3 h4 => ?_)) zxo
  refine s_aload_n (pc := 10) 0 dX5_takes_10 rfl rfl ?_
  refine s_gR (pc := 11) dX5_takes_11 gf_X5_9 (fun r5 => ?_)
  refine s_iconst (pc := 14) (v := 1) dX5_takes_14 (by decide) ?_
  refine s_iald (pc := 15) dX5_takes_15 (ztc rfl zt0) (fun x6 => ?_)
  refine s_bipush (pc := 16) (v := 30) dX5_takes_16 (by decide) ?_
  refine s_icmp_gt (pc := 18) (tgt := 34) dX5_takes_18 (by decide) (fun _ => ?_) (fun _ => ?_)
  · exact s_sub (pc := 34) [0, 1] rfl (w_X5_takes_34 v0 v1 x3 x1 v0 h4)
  · refine s_aload_n (pc := 21) 0 dX5_takes_21 rfl rfl ?_
    refine s_iload_n (pc := 22) 1 dX5_takes_22 rfl rfl ?_
    refine zS_ite (fun ht => ?_) (fun _ => zS_none)
    refine s_callV (pc := 23) (np := 1) (as := [.int v1]) (rest := [.int x3, .int x1, va_rf v0]) dX5_takes_23 ht (q := (RX5, TX5, 20)) rfl (c_X5_at (by decide) v0 v1 h4) rfl rfl q3392 q3394 qs56 rfl (by simp [zcat_rf, zcat_i, zcat_l, zcat_f, zcat_d]) (zkI (fun x7 h8 => ?_)) zxo
    refine s_iconst (pc := 26) (v := -1) dX5_takes_26 (by decide) ?_
    refine s_icmp_ne (pc := 27) (tgt := 34) dX5_takes_27 (by decide) (fun _ => ?_) (fun _ => ?_)
    · exact s_sub (pc := 34) [0, 1] rfl (w_X5_takes_34 v0 v1 x3 x1 v0 h8)
    · refine s_iconst (pc := 30) (v := 1) dX5_takes_30 (by decide) ?_
      refine s_goto (pc := 31) (tgt := 35) dX5_takes_31 (by decide) ?_
      exact s_sub (pc := 35) [0, 1] rfl (w_X5_takes_35 v0 v1 1 x3 x1 v0 h8)
theorem c_X5_takes {d0 : Nat} (hd0 : 6 < d0) (v0 : Option Nat) (v1 : Int32) (h : zH) : zCal D z d0 h yX5_takes [va_rf v0, .int v1] (f_X5_takes v0 v1 h) :=
  ⟨cX5_takes, 2, (some .int), [], 6, (show lv_args 0 [va_rf v0, .int v1] = [(0, va_rf v0), (1, .int v1)] by simp [lv_args, zcat_rf, zcat_i, zcat_l, zcat_f, zcat_d]) ▸ w_X5_takes v0 v1 h, (plainFor_of_name (by decide)), by simp [lg_sl, zcat_rf, zcat_i, zcat_l, zcat_f, zcat_d], q3475, q140, hd0, by decide, by decide⟩
theorem w_X5_removeBlock (v0 : Option Nat) (v1 : Int32) (h : zH) : zS D z yX5_removeBlock cX5_removeBlock 2 (some .int) [] 7 h 0 [(0, va_rf v0), (1, .int v1)] [] (f_X5_removeBlock v0 v1 h) := by
  unfold f_X5_removeBlock
  refine s_aload_n (pc := 0) 0 dX5_removeBlock_0 rfl rfl ?_
  refine zS_ite (fun ht => ?_) (fun _ => zS_none)
  refine s_callV (pc := 1) (np := 0) (as := []) (rest := []) dX5_removeBlock_1 ht (q := (RX5, TX5, 20)) rfl (c_X5_begins (by decide) v0 h) rfl rfl q3334 q3336 qs46 rfl (by decide) (zkV (fun h1 => ?_)) zxo
  refine s_aload_n (pc := 4) 0 dX5_removeBlock_4 rfl rfl ?_
  refine s_aload_n (pc := 5) 0 dX5_removeBlock_5 rfl rfl ?_
  refine s_iload_n (pc := 6) 1 dX5_removeBlock_6 rfl rfl ?_
  refine zS_ite (fun ht => ?_) (fun _ => zS_none)
  refine s_callV (pc := 7) (np := 1) (as := [.int v1]) (rest := [va_rf v0]) dX5_removeBlock_7 ht (q := (RX5, TX5, 20)) rfl (c_X5_takes (by decide) v0 v1 h1) rfl rfl q3472 q3474 qs68 rfl (by simp [zcat_rf, zcat_i, zcat_l, zcat_f, zcat_d]) (zkI (fun x2 h3 => ?_)) zxo
  refine zS_ite (fun ht => ?_) (fun _ => zS_none)
  refine s_callV (pc := 10) (np := 1) (as := [.int x2]) (rest := []) dX5_removeBlock_10 ht (q := (RX5, TX5, 20)) rfl (c_X5_ends (by decide) v0 x2 h3) rfl rfl q3349 q3351 qs48 rfl (by decide) (zkI (fun x4 h5 => ?_)) zxo
  exact s_iret (pc := 13) dX5_removeBlock_13 rfl
theorem c_X5_removeBlock {d0 : Nat} (hd0 : 7 < d0) (v0 : Option Nat) (v1 : Int32) (h : zH) : zCal D z d0 h yX5_removeBlock [va_rf v0, .int v1] (f_X5_removeBlock v0 v1 h) :=
  ⟨cX5_removeBlock, 2, (some .int), [], 7, (show lv_args 0 [va_rf v0, .int v1] = [(0, va_rf v0), (1, .int v1)] by simp [lv_args, zcat_rf, zcat_i, zcat_l, zcat_f, zcat_d]) ▸ w_X5_removeBlock v0 v1 h, (plainFor_of_name (by decide)), by simp [lg_sl, zcat_rf, zcat_i, zcat_l, zcat_f, zcat_d], q3471, q140, hd0, by decide, by decide⟩
theorem w_X5_levelThen (v0 : Option Nat) (v1 : Int32) (v2 : Int32) (h : zH) : zS D z yX5_levelThen cX5_levelThen 3 (some .int) [] 2 h 0 [(0, va_rf v0), (1, .int v1), (2, .int v2)] [] (f_X5_levelThen v0 v1 v2 h) := by
  unfold f_X5_levelThen
  refine s_aload_n (pc := 0) 0 dX5_levelThen_0 rfl rfl ?_
  refine s_gR (pc := 1) dX5_levelThen_1 gf_X5_9 (fun r1 => ?_)
  refine s_iconst (pc := 4) (v := 2) dX5_levelThen_4 (by decide) ?_
  refine s_iald (pc := 5) dX5_levelThen_5 (ztc rfl zt0) (fun x2 => ?_)
  refine s_if_ne (pc := 6) (tgt := 28) dX5_levelThen_6 (by decide) (fun _ => ?_) (fun _ => ?_)
  · refine s_iload_n (pc := 28) 1 dX5_levelThen_28 rfl rfl ?_
    refine s_bipush (pc := 29) (v := -20) dX5_levelThen_29 (by decide) ?_
    refine s_bipush (pc := 31) (v := 20) dX5_levelThen_31 (by decide) ?_
    refine s_iload_n (pc := 33) 2 dX5_levelThen_33 rfl rfl ?_
    refine s_callSS (pc := 34) (np := 1) (as := [.int v2]) (rest := [.int 20, .int (-20), .int v1]) dX5_levelThen_34 (c_X5_seaAt (by decide) v2 h) rfl rfl q3440 q3441 rfl (by simp [zcat_rf, zcat_i, zcat_l, zcat_f, zcat_d]) (zkI (fun x3 h4 => ?_)) zxo
    refine s_iload_n (pc := 37) 1 dX5_levelThen_37 rfl rfl ?_
    refine s_isub (pc := 38) dX5_levelThen_38 ?_
    refine s_callSS (pc := 39) (np := 2) (as := [.int 20, .int (x3 - v1)]) (rest := [.int (-20), .int v1]) dX5_levelThen_39 (c_J11_min (by decide) 20 (x3 - v1) h4) rfl rfl q3488 q377 rfl (by simp [zcat_rf, zcat_i, zcat_l, zcat_f, zcat_d]) (zkI (fun x5 h6 => ?_)) zxo
    refine s_callSS (pc := 42) (np := 2) (as := [.int (-20), .int x5]) (rest := [.int v1]) dX5_levelThen_42 (c_J11_max (by decide) (-20) x5 h6) rfl rfl q3348 q881 rfl (by simp [zcat_rf, zcat_i, zcat_l, zcat_f, zcat_d]) (zkI (fun x7 h8 => ?_)) zxo
    refine s_iadd (pc := 45) dX5_levelThen_45 ?_
    exact s_iret (pc := 46) dX5_levelThen_46 rfl
  · refine s_iconst (pc := 9) (v := 0) dX5_levelThen_9 (by decide) ?_
    refine s_sipush (pc := 10) (v := 200) dX5_levelThen_10 (by decide) ?_
    refine s_iload_n (pc := 13) 1 dX5_levelThen_13 rfl rfl ?_
    refine s_aload_n (pc := 14) 0 dX5_levelThen_14 rfl rfl ?_
    refine s_gR (pc := 15) dX5_levelThen_15 gf_X5_9 (fun r9 => ?_)
    refine s_iconst (pc := 18) (v := 3) dX5_levelThen_18 (by decide) ?_
    refine s_iald (pc := 19) dX5_levelThen_19 (ztc rfl zt0) (fun x10 => ?_)
    refine s_iadd (pc := 20) dX5_levelThen_20 ?_
    refine s_callSS (pc := 21) (np := 2) (as := [.int 200, .int (v1 + x10)]) (rest := [.int 0]) dX5_levelThen_21 (c_J11_min (by decide) 200 (v1 + x10) h) rfl rfl q3488 q377 rfl (by simp [zcat_rf, zcat_i, zcat_l, zcat_f, zcat_d]) (zkI (fun x11 h12 => ?_)) zxo
    refine s_callSS (pc := 24) (np := 2) (as := [.int 0, .int x11]) (rest := []) dX5_levelThen_24 (c_J11_max (by decide) 0 x11 h12) rfl rfl q3348 q881 rfl (by decide) (zkI (fun x13 h14 => ?_)) zxo
    exact s_iret (pc := 27) dX5_levelThen_27 rfl
theorem c_X5_levelThen {d0 : Nat} (hd0 : 2 < d0) (v0 : Option Nat) (v1 : Int32) (v2 : Int32) (h : zH) : zCal D z d0 h yX5_levelThen [va_rf v0, .int v1, .int v2] (f_X5_levelThen v0 v1 v2 h) :=
  ⟨cX5_levelThen, 3, (some .int), [], 2, (show lv_args 0 [va_rf v0, .int v1, .int v2] = [(0, va_rf v0), (1, .int v1), (2, .int v2)] by simp [lv_args, zcat_rf, zcat_i, zcat_l, zcat_f, zcat_d]) ▸ w_X5_levelThen v0 v1 v2 h, (plainFor_of_name (by decide)), by simp [lg_sl, zcat_rf, zcat_i, zcat_l, zcat_f, zcat_d], q3487, q140, hd0, by decide, by decide⟩
theorem w_X5_beneath_33 (K4 : Option Nat → Int32 → Int32 → Int32 → zH → zO) (hK4 : ∀ (a0 : Option Nat) (a1 : Int32) (a2 : Int32) (a3 : Int32) (h : zH), zS D z yX5_beneath cX5_beneath 4 (some .int) [] 6 h 4 [(0, va_rf a0), (1, .int a1), (2, .int a2), (3, .int a3)] [] (K4 a0 a1 a2 a3 h)) (a0 : Option Nat) (a1 : Int32) (a3 : Int32) (s0 : Int32) (s1 : Int32) (h : zH) : zS D z yX5_beneath cX5_beneath 4 (some .int) [] 6 h 33 [(0, va_rf a0), (1, .int a1), (3, .int a3)] [.int s0, .int s1] (f_X5_beneath_33 K4 a0 a1 a3 s0 s1 h) := by
  unfold f_X5_beneath_33
  refine s_iadd (pc := 33) dX5_beneath_33 ?_
  refine s_nm (pc := 34) Value.int (fun x5 => ?_)
  refine s_ist_n (pc := 34) (L2 := [(0, va_rf a0), (1, .int a1), (3, .int a3)]) [0, 1, 2] dX5_beneath_34 rfl (by decide) rfl rfl (zcB (j := 1) rfl rfl rfl) ?_
  refine s_inc (pc := 35) (v := 1) (L2 := [(2, .int x5), (0, va_rf a0), (1, .int a1)]) 3 [0, 1, 2] dX5_beneath_35 rfl (by decide) (by decide) rfl rfl (zcB (j := 0) rfl rfl rfl) (fun x6 => ?_)
  refine s_goto (pc := 38) (tgt := 4) dX5_beneath_38 (by decide) ?_
  exact s_sub (pc := 4) [2, 3, 1, 0] rfl (hK4 a0 a1 x5 x6 h)
theorem w_X5_beneath_41 (a0 : Option Nat) (a1 : Int32) (a2 : Int32) (h : zH) : zS D z yX5_beneath cX5_beneath 4 (some .int) [] 6 h 41 [(0, va_rf a0), (1, .int a1), (2, .int a2)] [] (f_X5_beneath_41 a0 a1 a2 h) := by
  unfold f_X5_beneath_41
  refine s_aload_n (pc := 41) 0 dX5_beneath_41 rfl rfl ?_
  refine s_iload_n (pc := 42) 1 dX5_beneath_42 rfl rfl ?_
  refine zS_ite (fun ht => ?_) (fun _ => zS_none)
  refine s_callV (pc := 43) (np := 1) (as := [.int a1]) (rest := []) dX5_beneath_43 ht (q := (RX5, TX5, 20)) rfl (c_X5_isDocked (by decide) a0 a1 h) rfl rfl q3373 q3375 qs53 rfl (by decide) (zkI (fun x7 h8 => ?_)) zxo
  refine s_if_eq (pc := 46) (tgt := 53) dX5_beneath_46 (by decide) (fun _ => ?_) (fun _ => ?_)
  · refine s_iconst (pc := 53) (v := 0) dX5_beneath_53 (by decide) ?_
    exact s_iret (pc := 54) dX5_beneath_54 rfl
  · refine s_iload_n (pc := 49) 2 dX5_beneath_49 rfl rfl ?_
    refine s_goto (pc := 50) (tgt := 54) dX5_beneath_50 (by decide) ?_
    exact s_iret (pc := 54) dX5_beneath_54 rfl
theorem w_X5_beneath_4 : ∀ (n : Nat) (a0 : Option Nat) (a1 : Int32) (a2 : Int32) (a3 : Int32) (h : zH), zS D z yX5_beneath cX5_beneath 4 (some .int) [] 6 h 4 [(0, va_rf a0), (1, .int a1), (2, .int a2), (3, .int a3)] [] (f_X5_beneath_4 n a0 a1 a2 a3 h) := by
  intro n
  induction n with
  | zero => intros; exact zS_none
  | succ n ih =>
    intro a0 a1 a2 a3 h
    rw [f_X5_beneath_4.eq_2]
    refine s_iload_n (pc := 4) 3 dX5_beneath_4 rfl rfl ?_
    refine s_bipush (pc := 5) (v := 60) dX5_beneath_5 (by decide) ?_
    refine s_icmp_ge (pc := 7) (tgt := 41) dX5_beneath_7 (by decide) (fun _ => ?_) (fun _ => ?_)
    · exact s_sub (pc := 41) [0, 1, 2] rfl (w_X5_beneath_41 a0 a1 a2 h)
    · refine s_iload_n (pc := 10) 2 dX5_beneath_10 rfl rfl ?_
      refine s_aload_n (pc := 11) 0 dX5_beneath_11 rfl rfl ?_
      refine s_iload_n (pc := 12) 3 dX5_beneath_12 rfl rfl ?_
      refine zS_ite (fun ht => ?_) (fun _ => zS_none)
      refine s_callV (pc := 13) (np := 1) (as := [.int a3]) (rest := [.int a2]) dX5_beneath_13 ht (q := (RX5, TX5, 20)) rfl (c_X5_at (by decide) a0 a3 h) rfl rfl q3392 q3394 qs56 rfl (by simp [zcat_rf, zcat_i, zcat_l, zcat_f, zcat_d]) (zkI (fun x1 h2 => ?_)) zxo
      refine s_iload_n (pc := 16) 1 dX5_beneath_16 rfl rfl ?_
      refine s_icmp_ne (pc := 17) (tgt := 32) dX5_beneath_17 (by decide) (fun _ => ?_) (fun _ => ?_)
      · refine s_iconst (pc := 32) (v := 0) dX5_beneath_32 (by decide) ?_
        exact s_sub (pc := 33) [0, 1, 3] rfl (w_X5_beneath_33 (f_X5_beneath_4 n) ih a0 a1 a3 0 a2 h2)
      · refine s_aload_n (pc := 20) 0 dX5_beneath_20 rfl rfl ?_
        refine s_gR (pc := 21) dX5_beneath_21 gf_X5_9 (fun r3 => ?_)
        refine s_bipush (pc := 24) (v := 80) dX5_beneath_24 (by decide) ?_
        refine s_iload_n (pc := 26) 3 dX5_beneath_26 rfl rfl ?_
        refine s_iadd (pc := 27) dX5_beneath_27 ?_
        refine s_iald (pc := 28) dX5_beneath_28 (ztc rfl zt0) (fun x4 => ?_)
        refine s_goto (pc := 29) (tgt := 33) dX5_beneath_29 (by decide) ?_
        exact s_sub (pc := 33) [0, 1, 3] rfl (w_X5_beneath_33 (f_X5_beneath_4 n) ih a0 a1 a3 x4 a2 h2)
theorem w_X5_beneath (v0 : Option Nat) (v1 : Int32) (h : zH) : zS D z yX5_beneath cX5_beneath 4 (some .int) [] 6 h 0 [(0, va_rf v0), (1, .int v1)] [] (f_X5_beneath v0 v1 h) := by
  unfold f_X5_beneath
  refine s_iconst (pc := 0) (v := 0) dX5_beneath_0 (by decide) ?_
  refine s_ist_n (pc := 1) (L2 := [(0, va_rf v0), (1, .int v1)]) [0, 1] dX5_beneath_1 rfl (by decide) rfl rfl (zcB (j := 1) rfl rfl rfl) ?_
  refine s_iconst (pc := 2) (v := 0) dX5_beneath_2 (by decide) ?_
  refine s_ist_n (pc := 3) (L2 := [(2, .int 0), (0, va_rf v0), (1, .int v1)]) [0, 1, 2] dX5_beneath_3 rfl (by decide) rfl rfl (zcB (j := 0) rfl rfl rfl) ?_
  exact s_sub (pc := 4) [2, 3, 1, 0] rfl (w_X5_beneath_4 zfuel v0 v1 0 0 h)
theorem c_X5_beneath {d0 : Nat} (hd0 : 6 < d0) (v0 : Option Nat) (v1 : Int32) (h : zH) : zCal D z d0 h yX5_beneath [va_rf v0, .int v1] (f_X5_beneath v0 v1 h) :=
  ⟨cX5_beneath, 4, (some .int), [], 6, (show lv_args 0 [va_rf v0, .int v1] = [(0, va_rf v0), (1, .int v1)] by simp [lv_args, zcat_rf, zcat_i, zcat_l, zcat_f, zcat_d]) ▸ w_X5_beneath v0 v1 h, (plainFor_of_name (by decide)), by simp [lg_sl, zcat_rf, zcat_i, zcat_l, zcat_f, zcat_d], q3496, q140, hd0, by decide, by decide⟩
theorem w_X5_charges (v0 : Option Nat) (v1 : Int32) (v2 : Int32) (h : zH) : zS D z yX5_charges cX5_charges 3 none [] 3 h 0 [(0, va_rf v0), (1, .int v1), (2, .int v2)] [] (f_X5_charges v0 v1 v2 h) := by
  unfold f_X5_charges
  refine s_aload_n (pc := 0) 0 dX5_charges_0 rfl rfl ?_
  refine s_gR (pc := 1) dX5_charges_1 gf_X5_9 (fun r1 => ?_)
  refine s_iload_n (pc := 4) 1 dX5_charges_4 rfl rfl ?_
  refine s_bipush (pc := 5) (v := 8) dX5_charges_5 (by decide) ?_
  refine s_callSS (pc := 7) (np := 2) (as := [.int v1, .int 8]) (rest := [va_rf r1]) dX5_charges_7 (c_X5_place (by decide) v1 8 h) rfl rfl q3345 q3346 rfl (by simp [zcat_rf, zcat_i, zcat_l, zcat_f, zcat_d]) (zkI (fun x2 h3 => ?_)) zxo
  refine s_dup2_11 (pc := 10) dX5_charges_10 rfl (zcat_rf _) ?_
  refine s_iald (pc := 11) dX5_charges_11 (ztc rfl zt0) (fun x4 => ?_)
  refine s_iload_n (pc := 12) 2 dX5_charges_12 rfl rfl ?_
  refine s_iadd (pc := 13) dX5_charges_13 ?_
  refine s_iast (pc := 14) dX5_charges_14 (ztc rfl zt0) (fun h5 => ?_)
  refine s_aload_n (pc := 15) 0 dX5_charges_15 rfl rfl ?_
  refine s_gR (pc := 16) dX5_charges_16 gf_X5_9 (fun r6 => ?_)
  refine s_bipush (pc := 19) (v := 6) dX5_charges_19 (by decide) ?_
  refine s_dup2_11 (pc := 21) dX5_charges_21 rfl (zcat_rf _) ?_
  refine s_iald (pc := 22) dX5_charges_22 (ztc rfl zt0) (fun x7 => ?_)
  refine s_iload_n (pc := 23) 2 dX5_charges_23 rfl rfl ?_
  refine s_iadd (pc := 24) dX5_charges_24 ?_
  refine s_iast (pc := 25) dX5_charges_25 (ztc rfl zt0) (fun h8 => ?_)
  exact s_vret (pc := 26) dX5_charges_26 rfl
theorem c_X5_charges {d0 : Nat} (hd0 : 3 < d0) (v0 : Option Nat) (v1 : Int32) (v2 : Int32) (h : zH) : zCal D z d0 h yX5_charges [va_rf v0, .int v1, .int v2] (f_X5_charges v0 v1 v2 h) :=
  ⟨cX5_charges, 3, none, [], 3, (show lv_args 0 [va_rf v0, .int v1, .int v2] = [(0, va_rf v0), (1, .int v1), (2, .int v2)] by simp [lv_args, zcat_rf, zcat_i, zcat_l, zcat_f, zcat_d]) ▸ w_X5_charges v0 v1 v2 h, (plainFor_of_name (by decide)), by simp [lg_sl, zcat_rf, zcat_i, zcat_l, zcat_f, zcat_d], q3500, q140, hd0, by decide, by decide⟩
theorem w_X5_spends_83 (a0 : Option Nat) (a1 : Int32) (a2 : Int32) (s0 : Int32) (h : zH) : zS D z yX5_spends cX5_spends 4 (some .int) [] 7 h 83 [(0, va_rf a0), (1, .int a1), (2, .int a2)] [.int s0] (f_X5_spends_83 a0 a1 a2 s0 h) := by
  unfold f_X5_spends_83
  refine s_ist_n (pc := 83) (L2 := [(0, va_rf a0), (1, .int a1), (2, .int a2)]) [0, 1, 2] dX5_spends_83 rfl (by decide) rfl rfl (zcB (j := 2) rfl rfl rfl) ?_
  refine s_aload_n (pc := 84) 1 dX5_spends_84 rfl rfl ?_
  refine s_gR (pc := 85) dX5_spends_85 gf_X5_9 (fun r22 => ?_)
  refine s_iload_n (pc := 88) 2 dX5_spends_88 rfl rfl ?_
  refine s_iconst (pc := 89) (v := 3) dX5_spends_89 (by decide) ?_
  refine s_callSS (pc := 90) (np := 2) (as := [.int a1, .int 3]) (rest := [va_rf r22]) dX5_spends_90 (c_X5_place (by decide) a1 3 h) rfl rfl q3345 q3346 rfl (by simp [zcat_rf, zcat_i, zcat_l, zcat_f, zcat_d]) (zkI (fun x23 h24 => ?_)) zxo
  refine s_dup2_11 (pc := 93) dX5_spends_93 rfl (zcat_rf _) ?_
  refine s_iald (pc := 94) dX5_spends_94 (ztc rfl zt0) (fun x25 => ?_)
  refine s_iload_n (pc := 95) 0 dX5_spends_95 rfl rfl ?_
  refine s_isub (pc := 96) dX5_spends_96 ?_
  refine s_iast (pc := 97) dX5_spends_97 (ztc rfl zt0) (fun h26 => ?_)
  refine s_aload_n (pc := 98) 1 dX5_spends_98 rfl rfl ?_
  refine s_iload_n (pc := 99) 2 dX5_spends_99 rfl rfl ?_
  refine s_iload_n (pc := 100) 3 dX5_spends_100 rfl rfl ?_
  refine s_iconst (pc := 101) (v := 3) dX5_spends_101 (by decide) ?_
  refine s_iload_n (pc := 102) 0 dX5_spends_102 rfl rfl ?_
  refine s_imul (pc := 103) dX5_spends_103 ?_
  refine s_iadd (pc := 104) dX5_spends_104 ?_
  refine zS_ite (fun ht => ?_) (fun _ => zS_none)
  refine s_callV (pc := 105) (np := 2) (as := [.int a1, .int (a2 + ((3 : Int32) * s0))]) (rest := []) dX5_spends_105 ht (q := (RX5, TX5, 20)) rfl (c_X5_charges (by decide) a0 a1 (a2 + ((3 : Int32) * s0)) h26) rfl rfl q3497 q3499 qs73 rfl (by decide) (zkV (fun h27 => ?_)) zxo
  refine s_iload_n (pc := 108) 0 dX5_spends_108 rfl rfl ?_
  exact s_iret (pc := 109) dX5_spends_109 rfl
theorem w_X5_spends (v0 : Option Nat) (v1 : Int32) (h : zH) : zS D z yX5_spends cX5_spends 4 (some .int) [] 7 h 0 [(0, va_rf v0), (1, .int v1)] [] (f_X5_spends v0 v1 h) := by
  unfold f_X5_spends
  refine s_aload_n (pc := 0) 0 dX5_spends_0 rfl rfl ?_
  refine s_iload_n (pc := 1) 1 dX5_spends_1 rfl rfl ?_
  refine zS_ite (fun ht => ?_) (fun _ => zS_none)
  refine s_callV (pc := 2) (np := 1) (as := [.int v1]) (rest := []) dX5_spends_2 ht (q := (RX5, TX5, 20)) rfl (c_X5_beneath (by decide) v0 v1 h) rfl rfl q3493 q3495 qs72 rfl (by decide) (zkI (fun x1 h2 => ?_)) zxo
  refine s_ist_n (pc := 5) (L2 := [(0, va_rf v0), (1, .int v1)]) [0, 1] dX5_spends_5 rfl (by decide) rfl rfl (zcB (j := 1) rfl rfl rfl) ?_
  refine s_aload_n (pc := 6) 1 dX5_spends_6 rfl rfl ?_
  refine s_iload_n (pc := 7) 2 dX5_spends_7 rfl rfl ?_
  refine s_iconst (pc := 8) (v := 2) dX5_spends_8 (by decide) ?_
  refine zS_ite (fun ht => ?_) (fun _ => zS_none)
  refine s_callV (pc := 9) (np := 2) (as := [.int v1, .int 2]) (rest := []) dX5_spends_9 ht (q := (RX5, TX5, 20)) rfl (c_X5_charges (by decide) v0 v1 2 h2) rfl rfl q3497 q3499 qs73 rfl (by decide) (zkV (fun h3 => ?_)) zxo
  refine s_aload_n (pc := 12) 1 dX5_spends_12 rfl rfl ?_
  refine s_iload_n (pc := 13) 2 dX5_spends_13 rfl rfl ?_
  refine zS_ite (fun ht => ?_) (fun _ => zS_none)
  refine s_callV (pc := 14) (np := 1) (as := [.int v1]) (rest := []) dX5_spends_14 ht (q := (RX5, TX5, 20)) rfl (c_X5_floats (by decide) v0 v1 h3) rfl rfl q3412 q3414 qs60 rfl (by decide) (zkI (fun x4 h5 => ?_)) zxo
  refine s_if_eq (pc := 17) (tgt := 37) dX5_spends_17 (by decide) (fun _ => ?_) (fun _ => ?_)
  · refine s_iload_n (pc := 37) 0 dX5_spends_37 rfl rfl ?_
    refine s_iconst (pc := 38) (v := 2) dX5_spends_38 (by decide) ?_
    refine s_icmp_ge (pc := 39) (tgt := 59) dX5_spends_39 (by decide) (fun _ => ?_) (fun _ => ?_)
    · refine s_aload_n (pc := 59) 1 dX5_spends_59 rfl rfl ?_
      refine s_iload_n (pc := 60) 2 dX5_spends_60 rfl rfl ?_
      refine s_iconst (pc := 61) (v := 5) dX5_spends_61 (by decide) ?_
      refine zS_ite (fun ht => ?_) (fun _ => zS_none)
      refine s_callV (pc := 62) (np := 2) (as := [.int v1, .int 5]) (rest := []) dX5_spends_62 ht (q := (RX5, TX5, 20)) rfl (c_X5_of (by decide) v0 v1 5 h5) rfl rfl q3369 q3371 qs52 rfl (by decide) (zkI (fun x6 h7 => ?_)) zxo
      refine s_iconst (pc := 65) (v := 1) dX5_spends_65 (by decide) ?_
      refine s_icmp_ne (pc := 66) (tgt := 82) dX5_spends_66 (by decide) (fun _ => ?_) (fun _ => ?_)
      · refine s_iconst (pc := 82) (v := 0) dX5_spends_82 (by decide) ?_
        exact s_sub (pc := 83) [1, 2, 0] rfl (w_X5_spends_83 v0 v1 x1 0 h7)
      · refine s_iconst (pc := 69) (v := 3) dX5_spends_69 (by decide) ?_
        refine s_aload_n (pc := 70) 1 dX5_spends_70 rfl rfl ?_
        refine s_iload_n (pc := 71) 2 dX5_spends_71 rfl rfl ?_
        refine s_iconst (pc := 72) (v := 3) dX5_spends_72 (by decide) ?_
        refine zS_ite (fun ht => ?_) (fun _ => zS_none)
        refine s_callV (pc := 73) (np := 2) (as := [.int v1, .int 3]) (rest := [.int 3]) dX5_spends_73 ht (q := (RX5, TX5, 20)) rfl (c_X5_of (by decide) v0 v1 3 h7) rfl rfl q3369 q3371 qs52 rfl (by simp [zcat_rf, zcat_i, zcat_l, zcat_f, zcat_d]) (zkI (fun x8 h9 => ?_)) zxo
        refine s_callSS (pc := 76) (np := 2) (as := [.int 3, .int x8]) (rest := []) dX5_spends_76 (c_J11_min (by decide) 3 x8 h9) rfl rfl q3488 q377 rfl (by decide) (zkI (fun x10 h11 => ?_)) zxo
        refine s_goto (pc := 79) (tgt := 83) dX5_spends_79 (by decide) ?_
        exact s_sub (pc := 83) [1, 2, 0] rfl (w_X5_spends_83 v0 v1 x1 x10 h11)
    · refine s_aload_n (pc := 42) 1 dX5_spends_42 rfl rfl ?_
      refine s_gR (pc := 43) dX5_spends_43 gf_X5_9 (fun r12 => ?_)
      refine s_iload_n (pc := 46) 2 dX5_spends_46 rfl rfl ?_
      refine s_bipush (pc := 47) (v := 6) dX5_spends_47 (by decide) ?_
      refine s_callSS (pc := 49) (np := 2) (as := [.int v1, .int 6]) (rest := [va_rf r12]) dX5_spends_49 (c_X5_place (by decide) v1 6 h5) rfl rfl q3345 q3346 rfl (by simp [zcat_rf, zcat_i, zcat_l, zcat_f, zcat_d]) (zkI (fun x13 h14 => ?_)) zxo
      refine s_dup2_11 (pc := 52) dX5_spends_52 rfl (zcat_rf _) ?_
      refine s_iald (pc := 53) dX5_spends_53 (ztc rfl zt0) (fun x15 => ?_)
      refine s_iconst (pc := 54) (v := 1) dX5_spends_54 (by decide) ?_
      refine s_iadd (pc := 55) dX5_spends_55 ?_
      refine s_iast (pc := 56) dX5_spends_56 (ztc rfl zt0) (fun h16 => ?_)
      refine s_iconst (pc := 57) (v := 0) dX5_spends_57 (by decide) ?_
      exact s_iret (pc := 58) dX5_spends_58 rfl
  · refine s_aload_n (pc := 20) 1 dX5_spends_20 rfl rfl ?_
    refine s_gR (pc := 21) dX5_spends_21 gf_X5_9 (fun r17 => ?_)
    refine s_iload_n (pc := 24) 2 dX5_spends_24 rfl rfl ?_
    refine s_bipush (pc := 25) (v := 7) dX5_spends_25 (by decide) ?_
    refine s_callSS (pc := 27) (np := 2) (as := [.int v1, .int 7]) (rest := [va_rf r17]) dX5_spends_27 (c_X5_place (by decide) v1 7 h5) rfl rfl q3345 q3346 rfl (by simp [zcat_rf, zcat_i, zcat_l, zcat_f, zcat_d]) (zkI (fun x18 h19 => ?_)) zxo
    refine s_dup2_11 (pc := 30) dX5_spends_30 rfl (zcat_rf _) ?_
    refine s_iald (pc := 31) dX5_spends_31 (ztc rfl zt0) (fun x20 => ?_)
    refine s_iconst (pc := 32) (v := 1) dX5_spends_32 (by decide) ?_
    refine s_iadd (pc := 33) dX5_spends_33 ?_
    refine s_iast (pc := 34) dX5_spends_34 (ztc rfl zt0) (fun h21 => ?_)
    refine s_iconst (pc := 35) (v := 0) dX5_spends_35 (by decide) ?_
    exact s_iret (pc := 36) dX5_spends_36 rfl
theorem c_X5_spends {d0 : Nat} (hd0 : 7 < d0) (v0 : Option Nat) (v1 : Int32) (h : zH) : zCal D z d0 h yX5_spends [va_rf v0, .int v1] (f_X5_spends v0 v1 h) :=
  ⟨cX5_spends, 4, (some .int), [], 7, (show lv_args 0 [va_rf v0, .int v1] = [(0, va_rf v0), (1, .int v1)] by simp [lv_args, zcat_rf, zcat_i, zcat_l, zcat_f, zcat_d]) ▸ w_X5_spends v0 v1 h, (plainFor_of_name (by decide)), by simp [lg_sl, zcat_rf, zcat_i, zcat_l, zcat_f, zcat_d], q3492, q140, hd0, by decide, by decide⟩
theorem w_X5_waits_91 (K20 : Option Nat → Int32 → Int32 → Int32 → zH → zO) (hK20 : ∀ (a0 : Option Nat) (a1 : Int32) (a2 : Int32) (a3 : Int32) (h : zH), zS D z yX5_waits cX5_waits 5 (some .int) [] 8 h 20 [(0, va_rf a0), (1, .int a1), (2, .int a2), (3, .int a3)] [] (K20 a0 a1 a2 a3 h)) (K60 : Option Nat → Int32 → Int32 → Int32 → Int32 → zH → zO) (hK60 : ∀ (a0 : Option Nat) (a1 : Int32) (a2 : Int32) (a3 : Int32) (a4 : Int32) (h : zH), zS D z yX5_waits cX5_waits 5 (some .int) [] 8 h 60 [(0, va_rf a0), (1, .int a1), (2, .int a2), (3, .int a3), (4, .int a4)] [] (K60 a0 a1 a2 a3 a4 h)) (a0 : Option Nat) (a1 : Int32) (a3 : Int32) (a4 : Int32) (s0 : Int32) (s1 : Int32) (h : zH) : zS D z yX5_waits cX5_waits 5 (some .int) [] 8 h 91 [(0, va_rf a0), (1, .int a1), (3, .int a3), (4, .int a4)] [.int s0, .int s1] (f_X5_waits_91 K20 K60 a0 a1 a3 a4 s0 s1 h) := by
  unfold f_X5_waits_91
  refine s_iadd (pc := 91) dX5_waits_91 ?_
  refine s_nm (pc := 92) Value.int (fun x22 => ?_)
  refine s_ist_n (pc := 92) (L2 := [(0, va_rf a0), (1, .int a1), (3, .int a3), (4, .int a4)]) [0, 1, 2, 3] dX5_waits_92 rfl (by decide) rfl rfl (zcB (j := 1) rfl rfl rfl) ?_
  refine s_inc (pc := 93) (v := 1) (L2 := [(2, .int x22), (0, va_rf a0), (1, .int a1), (3, .int a3)]) 4 [0, 1, 2, 3] dX5_waits_93 rfl (by decide) (by decide) rfl rfl (zcB (j := 3) rfl rfl rfl) (fun x23 => ?_)
  refine s_goto (pc := 96) (tgt := 60) dX5_waits_96 (by decide) ?_
  exact s_sub (pc := 60) [2, 3, 1, 4, 0] rfl (hK60 a0 a1 x22 a3 x23 h)
theorem w_X5_waits_99 (K20 : Option Nat → Int32 → Int32 → Int32 → zH → zO) (hK20 : ∀ (a0 : Option Nat) (a1 : Int32) (a2 : Int32) (a3 : Int32) (h : zH), zS D z yX5_waits cX5_waits 5 (some .int) [] 8 h 20 [(0, va_rf a0), (1, .int a1), (2, .int a2), (3, .int a3)] [] (K20 a0 a1 a2 a3 h)) (a0 : Option Nat) (a1 : Int32) (a2 : Int32) (a3 : Int32) (h : zH) : zS D z yX5_waits cX5_waits 5 (some .int) [] 8 h 99 [(0, va_rf a0), (1, .int a1), (2, .int a2), (3, .int a3)] [] (f_X5_waits_99 K20 a0 a1 a2 a3 h) := by
  unfold f_X5_waits_99
  refine s_inc (pc := 99) (v := 1) (L2 := [(0, va_rf a0), (1, .int a1), (2, .int a2)]) 3 [0, 1, 2] dX5_waits_99 rfl (by decide) (by decide) rfl rfl (zcB (j := 2) rfl rfl rfl) (fun x24 => ?_)
  refine s_goto (pc := 102) (tgt := 20) dX5_waits_102 (by decide) ?_
  exact s_sub (pc := 20) [1, 2, 3, 0] rfl (hK20 a0 a1 a2 x24 h)
theorem w_X5_waits_60 (K20 : Option Nat → Int32 → Int32 → Int32 → zH → zO) (hK20 : ∀ (a0 : Option Nat) (a1 : Int32) (a2 : Int32) (a3 : Int32) (h : zH), zS D z yX5_waits cX5_waits 5 (some .int) [] 8 h 20 [(0, va_rf a0), (1, .int a1), (2, .int a2), (3, .int a3)] [] (K20 a0 a1 a2 a3 h)) : ∀ (n : Nat) (a0 : Option Nat) (a1 : Int32) (a2 : Int32) (a3 : Int32) (a4 : Int32) (h : zH), zS D z yX5_waits cX5_waits 5 (some .int) [] 8 h 60 [(0, va_rf a0), (1, .int a1), (2, .int a2), (3, .int a3), (4, .int a4)] [] (f_X5_waits_60 K20 n a0 a1 a2 a3 a4 h) := by
  intro n
  induction n with
  | zero => intros; exact zS_none
  | succ n ih =>
    intro a0 a1 a2 a3 a4 h
    rw [f_X5_waits_60.eq_2]
    refine s_iload (pc := 60) 4 dX5_waits_60 rfl ?_
    refine s_aload_n (pc := 62) 0 dX5_waits_62 rfl rfl ?_
    refine s_gR (pc := 63) dX5_waits_63 gf_X5_9 (fun r16 => ?_)
    refine s_iconst (pc := 66) (v := 4) dX5_waits_66 (by decide) ?_
    refine s_iald (pc := 67) dX5_waits_67 (ztc rfl zt0) (fun x17 => ?_)
    refine s_icmp_ge (pc := 68) (tgt := 99) dX5_waits_68 (by decide) (fun _ => ?_) (fun _ => ?_)
    · exact s_sub (pc := 99) [0, 1, 2, 3] rfl (w_X5_waits_99 K20 hK20 a0 a1 a2 a3 h)
    · refine s_iload_n (pc := 71) 2 dX5_waits_71 rfl rfl ?_
      refine s_aload_n (pc := 72) 0 dX5_waits_72 rfl rfl ?_
      refine s_iload (pc := 73) 4 dX5_waits_73 rfl ?_
      refine zS_ite (fun ht => ?_) (fun _ => zS_none)
      refine s_callV (pc := 75) (np := 1) (as := [.int a4]) (rest := [.int a2]) dX5_waits_75 ht (q := (RX5, TX5, 20)) rfl (c_X5_isDocked (by decide) a0 a4 h) rfl rfl q3373 q3375 qs53 rfl (by simp [zcat_rf, zcat_i, zcat_l, zcat_f, zcat_d]) (zkI (fun x18 h19 => ?_)) zxo
      refine s_if_eq (pc := 78) (tgt := 90) dX5_waits_78 (by decide) (fun _ => ?_) (fun _ => ?_)
      · refine s_iconst (pc := 90) (v := 0) dX5_waits_90 (by decide) ?_
        exact s_sub (pc := 91) [0, 1, 3, 4] rfl (w_X5_waits_91 K20 hK20 (f_X5_waits_60 K20 n) ih a0 a1 a3 a4 0 a2 h19)
      · refine s_aload_n (pc := 81) 0 dX5_waits_81 rfl rfl ?_
        refine s_iload (pc := 82) 4 dX5_waits_82 rfl ?_
        refine zS_ite (fun ht => ?_) (fun _ => zS_none)
        refine s_callV (pc := 84) (np := 1) (as := [.int a4]) (rest := [.int a2]) dX5_waits_84 ht (q := (RX5, TX5, 20)) rfl (c_X5_spends (by decide) a0 a4 h19) rfl rfl q3489 q3491 qs71 rfl (by simp [zcat_rf, zcat_i, zcat_l, zcat_f, zcat_d]) (zkI (fun x20 h21 => ?_)) zxo
        refine s_goto (pc := 87) (tgt := 91) dX5_waits_87 (by decide) ?_
        exact s_sub (pc := 91) [0, 1, 3, 4] rfl (w_X5_waits_91 K20 hK20 (f_X5_waits_60 K20 n) ih a0 a1 a3 a4 x20 a2 h21)
theorem w_X5_waits_20 : ∀ (n : Nat) (a0 : Option Nat) (a1 : Int32) (a2 : Int32) (a3 : Int32) (h : zH), zS D z yX5_waits cX5_waits 5 (some .int) [] 8 h 20 [(0, va_rf a0), (1, .int a1), (2, .int a2), (3, .int a3)] [] (f_X5_waits_20 n a0 a1 a2 a3 h) := by
  intro n
  induction n with
  | zero => intros; exact zS_none
  | succ n ih =>
    intro a0 a1 a2 a3 h
    rw [f_X5_waits_20.eq_2]
    refine s_iload_n (pc := 20) 3 dX5_waits_20 rfl rfl ?_
    refine s_iload_n (pc := 21) 1 dX5_waits_21 rfl rfl ?_
    refine s_icmp_ge (pc := 22) (tgt := 105) dX5_waits_22 (by decide) (fun _ => ?_) (fun _ => ?_)
    · refine s_iload_n (pc := 105) 2 dX5_waits_105 rfl rfl ?_
      exact s_iret (pc := 106) dX5_waits_106 rfl
    · refine s_aload_n (pc := 25) 0 dX5_waits_25 rfl rfl ?_
      refine s_gR (pc := 26) dX5_waits_26 gf_X5_9 (fun r5 => ?_)
      refine s_iconst (pc := 29) (v := 0) dX5_waits_29 (by decide) ?_
      refine s_dup2_11 (pc := 30) dX5_waits_30 rfl (zcat_rf _) ?_
      refine s_iald (pc := 31) dX5_waits_31 (ztc rfl zt0) (fun x6 => ?_)
      refine s_iconst (pc := 32) (v := 1) dX5_waits_32 (by decide) ?_
      refine s_iadd (pc := 33) dX5_waits_33 ?_
      refine s_iast (pc := 34) dX5_waits_34 (ztc rfl zt0) (fun h7 => ?_)
      refine s_aload_n (pc := 35) 0 dX5_waits_35 rfl rfl ?_
      refine s_gR (pc := 36) dX5_waits_36 gf_X5_9 (fun r8 => ?_)
      refine s_iconst (pc := 39) (v := 1) dX5_waits_39 (by decide) ?_
      refine s_aload_n (pc := 40) 0 dX5_waits_40 rfl rfl ?_
      refine s_aload_n (pc := 41) 0 dX5_waits_41 rfl rfl ?_
      refine s_gR (pc := 42) dX5_waits_42 gf_X5_9 (fun r9 => ?_)
      refine s_iconst (pc := 45) (v := 1) dX5_waits_45 (by decide) ?_
      refine s_iald (pc := 46) dX5_waits_46 (ztc rfl zt0) (fun x10 => ?_)
      refine s_aload_n (pc := 47) 0 dX5_waits_47 rfl rfl ?_
      refine s_gR (pc := 48) dX5_waits_48 gf_X5_9 (fun r11 => ?_)
      refine s_iconst (pc := 51) (v := 0) dX5_waits_51 (by decide) ?_
      refine s_iald (pc := 52) dX5_waits_52 (ztc rfl zt0) (fun x12 => ?_)
      refine zS_ite (fun ht => ?_) (fun _ => zS_none)
      refine s_callV (pc := 53) (np := 2) (as := [.int x10, .int x12]) (rest := [.int 1, va_rf r8]) dX5_waits_53 ht (q := (RX5, TX5, 20)) rfl (c_X5_levelThen (by decide) a0 x10 x12 h7) rfl rfl q3484 q3486 qs70 rfl (by simp [zcat_rf, zcat_i, zcat_l, zcat_f, zcat_d]) (zkI (fun x13 h14 => ?_)) zxo
      refine s_iast (pc := 56) dX5_waits_56 (ztc rfl zt0) (fun h15 => ?_)
      refine s_iconst (pc := 57) (v := 0) dX5_waits_57 (by decide) ?_
      refine s_ist (pc := 58) (L2 := [(0, va_rf a0), (1, .int a1), (2, .int a2), (3, .int a3)]) [0, 1, 2, 3] dX5_waits_58 (by decide) rfl rfl (zcB (j := 3) rfl rfl rfl) ?_
      exact s_sub (pc := 60) [1, 2, 3, 4, 0] rfl (w_X5_waits_60 (f_X5_waits_20 n) ih zfuel a0 a1 a2 a3 0 h15)
theorem w_X5_waits (v0 : Option Nat) (v1 : Int32) (h : zH) : zS D z yX5_waits cX5_waits 5 (some .int) [] 8 h 0 [(0, va_rf v0), (1, .int v1)] [] (f_X5_waits v0 v1 h) := by
  unfold f_X5_waits
  refine s_aload_n (pc := 0) 0 dX5_waits_0 rfl rfl ?_
  refine s_iload_n (pc := 1) 1 dX5_waits_1 rfl rfl ?_
  refine s_iconst (pc := 2) (v := 1) dX5_waits_2 (by decide) ?_
  refine s_bipush (pc := 3) (v := 48) dX5_waits_3 (by decide) ?_
  refine s_callSS (pc := 5) (np := 3) (as := [.int v1, .int 1, .int 48]) (rest := [va_rf v0]) dX5_waits_5 (c_X5_isIn (by decide) v1 1 48 h) rfl rfl q3342 q3343 rfl (by simp [zcat_rf, zcat_i, zcat_l, zcat_f, zcat_d]) (zkI (fun x1 h2 => ?_)) zxo
  refine zS_ite (fun ht => ?_) (fun _ => zS_none)
  refine s_callV (pc := 8) (np := 1) (as := [.int x1]) (rest := []) dX5_waits_8 ht (q := (RX5, TX5, 20)) rfl (c_X5_goes (by decide) v0 x1 h2) rfl rfl q3311 q3313 qs44 rfl (by decide) (zkI (fun x3 h4 => ?_)) zxo
  refine s_if_ne (pc := 11) (tgt := 16) dX5_waits_11 (by decide) (fun _ => ?_) (fun _ => ?_)
  · refine s_iconst (pc := 16) (v := 0) dX5_waits_16 (by decide) ?_
    refine s_ist_n (pc := 17) (L2 := [(0, va_rf v0), (1, .int v1)]) [0, 1] dX5_waits_17 rfl (by decide) rfl rfl (zcB (j := 1) rfl rfl rfl) ?_
    refine s_iconst (pc := 18) (v := 0) dX5_waits_18 (by decide) ?_
    refine s_ist_n (pc := 19) (L2 := [(2, .int 0), (0, va_rf v0), (1, .int v1)]) [0, 1, 2] dX5_waits_19 rfl (by decide) rfl rfl (zcB (j := 0) rfl rfl rfl) ?_
    exact s_sub (pc := 20) [2, 3, 1, 0] rfl (w_X5_waits_20 zfuel v0 v1 0 0 h4)
  · refine s_iconst (pc := 14) (v := 0) dX5_waits_14 (by decide) ?_
    exact s_iret (pc := 15) dX5_waits_15 rfl
theorem c_X5_waits {d0 : Nat} (hd0 : 8 < d0) (v0 : Option Nat) (v1 : Int32) (h : zH) : zCal D z d0 h yX5_waits [va_rf v0, .int v1] (f_X5_waits v0 v1 h) :=
  ⟨cX5_waits, 5, (some .int), [], 8, (show lv_args 0 [va_rf v0, .int v1] = [(0, va_rf v0), (1, .int v1)] by simp [lv_args, zcat_rf, zcat_i, zcat_l, zcat_f, zcat_d]) ▸ w_X5_waits v0 v1 h, (plainFor_of_name (by decide)), by simp [lg_sl, zcat_rf, zcat_i, zcat_l, zcat_f, zcat_d], q3483, q140, hd0, by decide, by decide⟩
theorem w_X5_pass (v0 : Option Nat) (v1 : Int32) (h : zH) : zS D z yX5_pass cX5_pass 2 (some .int) [] 9 h 0 [(0, va_rf v0), (1, .int v1)] [] (f_X5_pass v0 v1 h) := by
  unfold f_X5_pass
  refine s_aload_n (pc := 0) 0 dX5_pass_0 rfl rfl ?_
  refine zS_ite (fun ht => ?_) (fun _ => zS_none)
  refine s_callV (pc := 1) (np := 0) (as := []) (rest := []) dX5_pass_1 ht (q := (RX5, TX5, 20)) rfl (c_X5_begins (by decide) v0 h) rfl rfl q3334 q3336 qs46 rfl (by decide) (zkV (fun h1 => ?_)) zxo
  refine s_aload_n (pc := 4) 0 dX5_pass_4 rfl rfl ?_
  refine s_aload_n (pc := 5) 0 dX5_pass_5 rfl rfl ?_
  refine s_iload_n (pc := 6) 1 dX5_pass_6 rfl rfl ?_
  refine zS_ite (fun ht => ?_) (fun _ => zS_none)
  refine s_callV (pc := 7) (np := 1) (as := [.int v1]) (rest := [va_rf v0]) dX5_pass_7 ht (q := (RX5, TX5, 20)) rfl (c_X5_waits (by decide) v0 v1 h1) rfl rfl q3480 q3482 qs69 rfl (by simp [zcat_rf, zcat_i, zcat_l, zcat_f, zcat_d]) (zkI (fun x2 h3 => ?_)) zxo
  refine zS_ite (fun ht => ?_) (fun _ => zS_none)
  refine s_callV (pc := 10) (np := 1) (as := [.int x2]) (rest := []) dX5_pass_10 ht (q := (RX5, TX5, 20)) rfl (c_X5_ends (by decide) v0 x2 h3) rfl rfl q3349 q3351 qs48 rfl (by decide) (zkI (fun x4 h5 => ?_)) zxo
  exact s_iret (pc := 13) dX5_pass_13 rfl
theorem c_X5_pass {d0 : Nat} (hd0 : 9 < d0) (v0 : Option Nat) (v1 : Int32) (h : zH) : zCal D z d0 h yX5_pass [va_rf v0, .int v1] (f_X5_pass v0 v1 h) :=
  ⟨cX5_pass, 2, (some .int), [], 9, (show lv_args 0 [va_rf v0, .int v1] = [(0, va_rf v0), (1, .int v1)] by simp [lv_args, zcat_rf, zcat_i, zcat_l, zcat_f, zcat_d]) ▸ w_X5_pass v0 v1 h, (plainFor_of_name (by decide)), by simp [lg_sl, zcat_rf, zcat_i, zcat_l, zcat_f, zcat_d], q3479, q140, hd0, by decide, by decide⟩
theorem w_X5_shipCount (v0 : Option Nat) (h : zH) : zS D z yX5_shipCount cX5_shipCount 1 (some .int) [] 1 h 0 [(0, va_rf v0)] [] (f_X5_shipCount v0 h) := by
  unfold f_X5_shipCount
  refine s_aload_n (pc := 0) 0 dX5_shipCount_0 rfl rfl ?_
  refine s_iconst (pc := 1) (v := 0) dX5_shipCount_1 (by decide) ?_
  refine s_putI (pc := 2) dX5_shipCount_2 pf_X5_42 (fun h1 => ?_)
  refine s_aload_n (pc := 5) 0 dX5_shipCount_5 rfl rfl ?_
  refine s_gR (pc := 6) dX5_shipCount_6 gf_X5_9 (fun r2 => ?_)
  refine s_iconst (pc := 9) (v := 4) dX5_shipCount_9 (by decide) ?_
  refine s_iald (pc := 10) dX5_shipCount_10 (ztc rfl zt0) (fun x3 => ?_)
  exact s_iret (pc := 11) dX5_shipCount_11 rfl
theorem c_X5_shipCount {d0 : Nat} (hd0 : 1 < d0) (v0 : Option Nat) (h : zH) : zCal D z d0 h yX5_shipCount [va_rf v0] (f_X5_shipCount v0 h) :=
  ⟨cX5_shipCount, 1, (some .int), [], 1, (show lv_args 0 [va_rf v0] = [(0, va_rf v0)] by simp [lv_args, zcat_rf, zcat_i, zcat_l, zcat_f, zcat_d]) ▸ w_X5_shipCount v0 h, (plainFor_of_name (by decide)), by simp [lg_sl, zcat_rf, zcat_i, zcat_l, zcat_f, zcat_d], q3504, q140, hd0, by decide, by decide⟩
theorem w_X5_shipAt (v0 : Option Nat) (v1 : Int32) (h : zH) : zS D z yX5_shipAt cX5_shipAt 2 (some .int) [] 4 h 0 [(0, va_rf v0), (1, .int v1)] [] (f_X5_shipAt v0 v1 h) := by
  unfold f_X5_shipAt
  refine s_aload_n (pc := 0) 0 dX5_shipAt_0 rfl rfl ?_
  refine s_iload_n (pc := 1) 1 dX5_shipAt_1 rfl rfl ?_
  refine s_iconst (pc := 2) (v := 0) dX5_shipAt_2 (by decide) ?_
  refine s_aload_n (pc := 3) 0 dX5_shipAt_3 rfl rfl ?_
  refine s_gR (pc := 4) dX5_shipAt_4 gf_X5_9 (fun r1 => ?_)
  refine s_iconst (pc := 7) (v := 4) dX5_shipAt_7 (by decide) ?_
  refine s_iald (pc := 8) dX5_shipAt_8 (ztc rfl zt0) (fun x2 => ?_)
  refine s_iconst (pc := 9) (v := 1) dX5_shipAt_9 (by decide) ?_
  refine s_isub (pc := 10) dX5_shipAt_10 ?_
  refine s_callSS (pc := 11) (np := 3) (as := [.int v1, .int 0, .int (x2 - 1)]) (rest := [va_rf v0]) dX5_shipAt_11 (c_X5_isIn (by decide) v1 0 (x2 - 1) h) rfl rfl q3342 q3343 rfl (by simp [zcat_rf, zcat_i, zcat_l, zcat_f, zcat_d]) (zkI (fun x3 h4 => ?_)) zxo
  refine zS_ite (fun ht => ?_) (fun _ => zS_none)
  refine s_callV (pc := 14) (np := 1) (as := [.int x3]) (rest := []) dX5_shipAt_14 ht (q := (RX5, TX5, 20)) rfl (c_X5_goes (by decide) v0 x3 h4) rfl rfl q3311 q3313 qs44 rfl (by decide) (zkI (fun x5 h6 => ?_)) zxo
  refine s_if_eq (pc := 17) (tgt := 29) dX5_shipAt_17 (by decide) (fun _ => ?_) (fun _ => ?_)
  · refine s_iconst (pc := 29) (v := 0) dX5_shipAt_29 (by decide) ?_
    exact s_iret (pc := 30) dX5_shipAt_30 rfl
  · refine s_aload_n (pc := 20) 0 dX5_shipAt_20 rfl rfl ?_
    refine s_iload_n (pc := 21) 1 dX5_shipAt_21 rfl rfl ?_
    refine s_iconst (pc := 22) (v := 0) dX5_shipAt_22 (by decide) ?_
    refine zS_ite (fun ht => ?_) (fun _ => zS_none)
    refine s_callV (pc := 23) (np := 2) (as := [.int v1, .int 0]) (rest := []) dX5_shipAt_23 ht (q := (RX5, TX5, 20)) rfl (c_X5_of (by decide) v0 v1 0 h6) rfl rfl q3369 q3371 qs52 rfl (by decide) (zkI (fun x7 h8 => ?_)) zxo
    refine s_goto (pc := 26) (tgt := 30) dX5_shipAt_26 (by decide) ?_
    exact s_iret (pc := 30) dX5_shipAt_30 rfl
theorem c_X5_shipAt {d0 : Nat} (hd0 : 4 < d0) (v0 : Option Nat) (v1 : Int32) (h : zH) : zCal D z d0 h yX5_shipAt [va_rf v0, .int v1] (f_X5_shipAt v0 v1 h) :=
  ⟨cX5_shipAt, 2, (some .int), [], 4, (show lv_args 0 [va_rf v0, .int v1] = [(0, va_rf v0), (1, .int v1)] by simp [lv_args, zcat_rf, zcat_i, zcat_l, zcat_f, zcat_d]) ▸ w_X5_shipAt v0 v1 h, (plainFor_of_name (by decide)), by simp [lg_sl, zcat_rf, zcat_i, zcat_l, zcat_f, zcat_d], q3508, q140, hd0, by decide, by decide⟩
theorem w_X5_asks_17 (a0 : Option Nat) (a2 : Int32) (a3 : Int32) (s0 : Int32) (s1 : Option Nat) (h : zH) : zS D z yX5_asks cX5_asks 4 (some .int) [] 5 h 17 [(0, va_rf a0), (2, .int a2), (3, .int a3)] [.int s0, va_rf s1] (f_X5_asks_17 a0 a2 a3 s0 s1 h) := by
  unfold f_X5_asks_17
  refine zS_ite (fun ht => ?_) (fun _ => zS_none)
  refine s_callV (pc := 17) (np := 1) (as := [.int s0]) (rest := []) dX5_asks_17 ht (q := (RX5, TX5, 20)) rfl (c_X5_goes (by decide) s1 s0 h) rfl rfl q3311 q3313 qs44 rfl (by decide) (zkI (fun x3 h4 => ?_)) zxo
  refine s_if_eq (pc := 20) (tgt := 32) dX5_asks_20 (by decide) (fun _ => ?_) (fun _ => ?_)
  · refine s_iconst (pc := 32) (v := 0) dX5_asks_32 (by decide) ?_
    exact s_iret (pc := 33) dX5_asks_33 rfl
  · refine s_aload_n (pc := 23) 0 dX5_asks_23 rfl rfl ?_
    refine s_iload_n (pc := 24) 2 dX5_asks_24 rfl rfl ?_
    refine s_iload_n (pc := 25) 1 dX5_asks_25 rfl rfl ?_
    refine zS_ite (fun ht => ?_) (fun _ => zS_none)
    refine s_callV (pc := 26) (np := 2) (as := [.int a3, .int a2]) (rest := []) dX5_asks_26 ht (q := (RX5, TX5, 20)) rfl (c_X5_of (by decide) a0 a3 a2 h4) rfl rfl q3369 q3371 qs52 rfl (by decide) (zkI (fun x5 h6 => ?_)) zxo
    refine s_goto (pc := 29) (tgt := 33) dX5_asks_29 (by decide) ?_
    exact s_iret (pc := 33) dX5_asks_33 rfl
theorem w_X5_asks (v0 : Option Nat) (v1 : Int32) (v2 : Int32) (h : zH) : zS D z yX5_asks cX5_asks 4 (some .int) [] 5 h 0 [(0, va_rf v0), (1, .int v1), (2, .int v2)] [] (f_X5_asks v0 v1 v2 h) := by
  unfold f_X5_asks
  refine s_aload_n (pc := 0) 0 dX5_asks_0 rfl rfl ?_
  refine s_iload_n (pc := 1) 1 dX5_asks_1 rfl rfl ?_
  refine zS_ite (fun ht => ?_) (fun _ => zS_none)
  refine s_callV (pc := 2) (np := 1) (as := [.int v1]) (rest := []) dX5_asks_2 ht (q := (RX5, TX5, 20)) rfl (c_X5_find (by decide) v0 v1 h) rfl rfl q3365 q3367 qs51 rfl (by decide) (zkI (fun x1 h2 => ?_)) zxo
  refine s_ist_n (pc := 5) (L2 := [(0, va_rf v0), (2, .int v2)]) [0, 2] dX5_asks_5 rfl (by decide) rfl rfl (zcB (j := 1) rfl rfl rfl) ?_
  refine s_aload_n (pc := 6) 1 dX5_asks_6 rfl rfl ?_
  refine s_iload_n (pc := 7) 0 dX5_asks_7 rfl rfl ?_
  refine s_iconst (pc := 8) (v := -1) dX5_asks_8 (by decide) ?_
  refine s_icmp_eq (pc := 9) (tgt := 16) dX5_asks_9 (by decide) (fun _ => ?_) (fun _ => ?_)
  · refine s_iconst (pc := 16) (v := 0) dX5_asks_16 (by decide) ?_
    exact s_sub (pc := 17) [1, 2, 0] rfl (w_X5_asks_17 v0 v2 x1 0 v0 h2)
  · refine s_iconst (pc := 12) (v := 1) dX5_asks_12 (by decide) ?_
    refine s_goto (pc := 13) (tgt := 17) dX5_asks_13 (by decide) ?_
    exact s_sub (pc := 17) [1, 2, 0] rfl (w_X5_asks_17 v0 v2 x1 1 v0 h2)
theorem c_X5_asks {d0 : Nat} (hd0 : 5 < d0) (v0 : Option Nat) (v1 : Int32) (v2 : Int32) (h : zH) : zCal D z d0 h yX5_asks [va_rf v0, .int v1, .int v2] (f_X5_asks v0 v1 v2 h) :=
  ⟨cX5_asks, 4, (some .int), [], 5, (show lv_args 0 [va_rf v0, .int v1, .int v2] = [(0, va_rf v0), (1, .int v1), (2, .int v2)] by simp [lv_args, zcat_rf, zcat_i, zcat_l, zcat_f, zcat_d]) ▸ w_X5_asks v0 v1 v2 h, (plainFor_of_name (by decide)), by simp [lg_sl, zcat_rf, zcat_i, zcat_l, zcat_f, zcat_d], q3516, q140, hd0, by decide, by decide⟩
theorem w_X5_isInDock (v0 : Option Nat) (v1 : Int32) (h : zH) : zS D z yX5_isInDock cX5_isInDock 2 (some .boolean) [] 6 h 0 [(0, va_rf v0), (1, .int v1)] [] (f_X5_isInDock v0 v1 h) := by
  unfold f_X5_isInDock
  refine s_aload_n (pc := 0) 0 dX5_isInDock_0 rfl rfl ?_
  refine s_iload_n (pc := 1) 1 dX5_isInDock_1 rfl rfl ?_
  refine s_iconst (pc := 2) (v := 4) dX5_isInDock_2 (by decide) ?_
  refine zS_ite (fun ht => ?_) (fun _ => zS_none)
  refine s_callV (pc := 3) (np := 2) (as := [.int v1, .int 4]) (rest := []) dX5_isInDock_3 ht (q := (RX5, TX5, 20)) rfl (c_X5_asks (by decide) v0 v1 4 h) rfl rfl q3513 q3515 qs74 rfl (by decide) (zkI (fun x1 h2 => ?_)) zxo
  refine s_iconst (pc := 6) (v := -1) dX5_isInDock_6 (by decide) ?_
  refine s_icmp_eq (pc := 7) (tgt := 21) dX5_isInDock_7 (by decide) (fun _ => ?_) (fun _ => ?_)
  · refine s_iconst (pc := 21) (v := 0) dX5_isInDock_21 (by decide) ?_
    exact s_nret (pc := 22) dX5_isInDock_22 rfl
  · refine s_aload_n (pc := 10) 0 dX5_isInDock_10 rfl rfl ?_
    refine s_gI (pc := 11) dX5_isInDock_11 gf_X5_42 (fun x3 => ?_)
    refine s_if_ne (pc := 14) (tgt := 21) dX5_isInDock_14 (by decide) (fun _ => ?_) (fun _ => ?_)
    · refine s_iconst (pc := 21) (v := 0) dX5_isInDock_21 (by decide) ?_
      exact s_nret (pc := 22) dX5_isInDock_22 rfl
    · refine s_iconst (pc := 17) (v := 1) dX5_isInDock_17 (by decide) ?_
      refine s_goto (pc := 18) (tgt := 22) dX5_isInDock_18 (by decide) ?_
      exact s_nret (pc := 22) dX5_isInDock_22 rfl
theorem c_X5_isInDock {d0 : Nat} (hd0 : 6 < d0) (v0 : Option Nat) (v1 : Int32) (h : zH) : zCal D z d0 h yX5_isInDock [va_rf v0, .int v1] (f_X5_isInDock v0 v1 h) :=
  ⟨cX5_isInDock, 2, (some .boolean), [], 6, (show lv_args 0 [va_rf v0, .int v1] = [(0, va_rf v0), (1, .int v1)] by simp [lv_args, zcat_rf, zcat_i, zcat_l, zcat_f, zcat_d]) ▸ w_X5_isInDock v0 v1 h, (plainFor_of_name (by decide)), by simp [lg_sl, zcat_rf, zcat_i, zcat_l, zcat_f, zcat_d], q3512, q140, hd0, by decide, by decide⟩
theorem w_X5_positionOf_17 (a0 : Option Nat) (a2 : Int32) (s0 : Int32) (s1 : Option Nat) (h : zH) : zS D z yX5_positionOf cX5_positionOf 3 (some .int) [] 5 h 17 [(0, va_rf a0), (2, .int a2)] [.int s0, va_rf s1] (f_X5_positionOf_17 a0 a2 s0 s1 h) := by
  unfold f_X5_positionOf_17
  refine s_aload_n (pc := 17) 0 dX5_positionOf_17 rfl rfl ?_
  refine s_iload_n (pc := 18) 1 dX5_positionOf_18 rfl rfl ?_
  refine zS_ite (fun ht => ?_) (fun _ => zS_none)
  refine s_callV (pc := 19) (np := 1) (as := [.int a2]) (rest := [.int s0, va_rf s1]) dX5_positionOf_19 ht (q := (RX5, TX5, 20)) rfl (c_X5_isDocked (by decide) a0 a2 h) rfl rfl q3373 q3375 qs53 rfl (by simp [zcat_rf, zcat_i, zcat_l, zcat_f, zcat_d]) (zkI (fun x3 h4 => ?_)) zxo
  refine s_iconst (pc := 22) (v := 1) dX5_positionOf_22 (by decide) ?_
  refine s_iconst (pc := 23) (v := 1) dX5_positionOf_23 (by decide) ?_
  refine zS_ite (fun ht => ?_) (fun _ => zS_none)
  refine s_callV (pc := 24) (np := 4) (as := [.int s0, .int x3, .int 1, .int 1]) (rest := []) dX5_positionOf_24 ht (q := (RX5, TX5, 20)) rfl (c_X5_holds (by decide) s1 s0 x3 1 1 h4) rfl rfl q3315 q3317 qs45 rfl (by decide) (zkI (fun x5 h6 => ?_)) zxo
  refine s_if_eq (pc := 27) (tgt := 39) dX5_positionOf_27 (by decide) (fun _ => ?_) (fun _ => ?_)
  · refine s_iconst (pc := 39) (v := 0) dX5_positionOf_39 (by decide) ?_
    exact s_iret (pc := 40) dX5_positionOf_40 rfl
  · refine s_aload_n (pc := 30) 0 dX5_positionOf_30 rfl rfl ?_
    refine s_iload_n (pc := 31) 1 dX5_positionOf_31 rfl rfl ?_
    refine s_iconst (pc := 32) (v := 4) dX5_positionOf_32 (by decide) ?_
    refine zS_ite (fun ht => ?_) (fun _ => zS_none)
    refine s_callV (pc := 33) (np := 2) (as := [.int a2, .int 4]) (rest := []) dX5_positionOf_33 ht (q := (RX5, TX5, 20)) rfl (c_X5_of (by decide) a0 a2 4 h6) rfl rfl q3369 q3371 qs52 rfl (by decide) (zkI (fun x7 h8 => ?_)) zxo
    refine s_goto (pc := 36) (tgt := 40) dX5_positionOf_36 (by decide) ?_
    exact s_iret (pc := 40) dX5_positionOf_40 rfl
theorem w_X5_positionOf (v0 : Option Nat) (v1 : Int32) (h : zH) : zS D z yX5_positionOf cX5_positionOf 3 (some .int) [] 5 h 0 [(0, va_rf v0), (1, .int v1)] [] (f_X5_positionOf v0 v1 h) := by
  unfold f_X5_positionOf
  refine s_aload_n (pc := 0) 0 dX5_positionOf_0 rfl rfl ?_
  refine s_iload_n (pc := 1) 1 dX5_positionOf_1 rfl rfl ?_
  refine zS_ite (fun ht => ?_) (fun _ => zS_none)
  refine s_callV (pc := 2) (np := 1) (as := [.int v1]) (rest := []) dX5_positionOf_2 ht (q := (RX5, TX5, 20)) rfl (c_X5_find (by decide) v0 v1 h) rfl rfl q3365 q3367 qs51 rfl (by decide) (zkI (fun x1 h2 => ?_)) zxo
  refine s_ist_n (pc := 5) (L2 := [(0, va_rf v0)]) [0] dX5_positionOf_5 rfl (by decide) rfl rfl (zcA rfl) ?_
  refine s_aload_n (pc := 6) 1 dX5_positionOf_6 rfl rfl ?_
  refine s_iload_n (pc := 7) 0 dX5_positionOf_7 rfl rfl ?_
  refine s_iconst (pc := 8) (v := -1) dX5_positionOf_8 (by decide) ?_
  refine s_icmp_eq (pc := 9) (tgt := 16) dX5_positionOf_9 (by decide) (fun _ => ?_) (fun _ => ?_)
  · refine s_iconst (pc := 16) (v := 0) dX5_positionOf_16 (by decide) ?_
    exact s_sub (pc := 17) [1, 0] rfl (w_X5_positionOf_17 v0 x1 0 v0 h2)
  · refine s_iconst (pc := 12) (v := 1) dX5_positionOf_12 (by decide) ?_
    refine s_goto (pc := 13) (tgt := 17) dX5_positionOf_13 (by decide) ?_
    exact s_sub (pc := 17) [1, 0] rfl (w_X5_positionOf_17 v0 x1 1 v0 h2)
theorem c_X5_positionOf {d0 : Nat} (hd0 : 5 < d0) (v0 : Option Nat) (v1 : Int32) (h : zH) : zCal D z d0 h yX5_positionOf [va_rf v0, .int v1] (f_X5_positionOf v0 v1 h) :=
  ⟨cX5_positionOf, 3, (some .int), [], 5, (show lv_args 0 [va_rf v0, .int v1] = [(0, va_rf v0), (1, .int v1)] by simp [lv_args, zcat_rf, zcat_i, zcat_l, zcat_f, zcat_d]) ▸ w_X5_positionOf v0 v1 h, (plainFor_of_name (by decide)), by simp [lg_sl, zcat_rf, zcat_i, zcat_l, zcat_f, zcat_d], q3520, q140, hd0, by decide, by decide⟩
theorem w_X5_dirtOf (v0 : Option Nat) (v1 : Int32) (h : zH) : zS D z yX5_dirtOf cX5_dirtOf 2 (some .int) [] 6 h 0 [(0, va_rf v0), (1, .int v1)] [] (f_X5_dirtOf v0 v1 h) := by
  unfold f_X5_dirtOf
  refine s_aload_n (pc := 0) 0 dX5_dirtOf_0 rfl rfl ?_
  refine s_iload_n (pc := 1) 1 dX5_dirtOf_1 rfl rfl ?_
  refine s_iconst (pc := 2) (v := 3) dX5_dirtOf_2 (by decide) ?_
  refine zS_ite (fun ht => ?_) (fun _ => zS_none)
  refine s_callV (pc := 3) (np := 2) (as := [.int v1, .int 3]) (rest := []) dX5_dirtOf_3 ht (q := (RX5, TX5, 20)) rfl (c_X5_asks (by decide) v0 v1 3 h) rfl rfl q3513 q3515 qs74 rfl (by decide) (zkI (fun x1 h2 => ?_)) zxo
  exact s_iret (pc := 6) dX5_dirtOf_6 rfl
theorem c_X5_dirtOf {d0 : Nat} (hd0 : 6 < d0) (v0 : Option Nat) (v1 : Int32) (h : zH) : zCal D z d0 h yX5_dirtOf [va_rf v0, .int v1] (f_X5_dirtOf v0 v1 h) :=
  ⟨cX5_dirtOf, 2, (some .int), [], 6, (show lv_args 0 [va_rf v0, .int v1] = [(0, va_rf v0), (1, .int v1)] by simp [lv_args, zcat_rf, zcat_i, zcat_l, zcat_f, zcat_d]) ▸ w_X5_dirtOf v0 v1 h, (plainFor_of_name (by decide)), by simp [lg_sl, zcat_rf, zcat_i, zcat_l, zcat_f, zcat_d], q3524, q140, hd0, by decide, by decide⟩
theorem w_X5_damageOf (v0 : Option Nat) (v1 : Int32) (h : zH) : zS D z yX5_damageOf cX5_damageOf 2 (some .int) [] 6 h 0 [(0, va_rf v0), (1, .int v1)] [] (f_X5_damageOf v0 v1 h) := by
  unfold f_X5_damageOf
  refine s_aload_n (pc := 0) 0 dX5_damageOf_0 rfl rfl ?_
  refine s_iload_n (pc := 1) 1 dX5_damageOf_1 rfl rfl ?_
  refine s_bipush (pc := 2) (v := 6) dX5_damageOf_2 (by decide) ?_
  refine zS_ite (fun ht => ?_) (fun _ => zS_none)
  refine s_callV (pc := 4) (np := 2) (as := [.int v1, .int 6]) (rest := []) dX5_damageOf_4 ht (q := (RX5, TX5, 20)) rfl (c_X5_asks (by decide) v0 v1 6 h) rfl rfl q3513 q3515 qs74 rfl (by decide) (zkI (fun x1 h2 => ?_)) zxo
  exact s_iret (pc := 7) dX5_damageOf_7 rfl
theorem c_X5_damageOf {d0 : Nat} (hd0 : 6 < d0) (v0 : Option Nat) (v1 : Int32) (h : zH) : zCal D z d0 h yX5_damageOf [va_rf v0, .int v1] (f_X5_damageOf v0 v1 h) :=
  ⟨cX5_damageOf, 2, (some .int), [], 6, (show lv_args 0 [va_rf v0, .int v1] = [(0, va_rf v0), (1, .int v1)] by simp [lv_args, zcat_rf, zcat_i, zcat_l, zcat_f, zcat_d]) ▸ w_X5_damageOf v0 v1 h, (plainFor_of_name (by decide)), by simp [lg_sl, zcat_rf, zcat_i, zcat_l, zcat_f, zcat_d], q3528, q140, hd0, by decide, by decide⟩
theorem w_X5_hoursAfloat (v0 : Option Nat) (v1 : Int32) (h : zH) : zS D z yX5_hoursAfloat cX5_hoursAfloat 2 (some .int) [] 6 h 0 [(0, va_rf v0), (1, .int v1)] [] (f_X5_hoursAfloat v0 v1 h) := by
  unfold f_X5_hoursAfloat
  refine s_aload_n (pc := 0) 0 dX5_hoursAfloat_0 rfl rfl ?_
  refine s_iload_n (pc := 1) 1 dX5_hoursAfloat_1 rfl rfl ?_
  refine s_bipush (pc := 2) (v := 7) dX5_hoursAfloat_2 (by decide) ?_
  refine zS_ite (fun ht => ?_) (fun _ => zS_none)
  refine s_callV (pc := 4) (np := 2) (as := [.int v1, .int 7]) (rest := []) dX5_hoursAfloat_4 ht (q := (RX5, TX5, 20)) rfl (c_X5_asks (by decide) v0 v1 7 h) rfl rfl q3513 q3515 qs74 rfl (by decide) (zkI (fun x1 h2 => ?_)) zxo
  exact s_iret (pc := 7) dX5_hoursAfloat_7 rfl
theorem c_X5_hoursAfloat {d0 : Nat} (hd0 : 6 < d0) (v0 : Option Nat) (v1 : Int32) (h : zH) : zCal D z d0 h yX5_hoursAfloat [va_rf v0, .int v1] (f_X5_hoursAfloat v0 v1 h) :=
  ⟨cX5_hoursAfloat, 2, (some .int), [], 6, (show lv_args 0 [va_rf v0, .int v1] = [(0, va_rf v0), (1, .int v1)] by simp [lv_args, zcat_rf, zcat_i, zcat_l, zcat_f, zcat_d]) ▸ w_X5_hoursAfloat v0 v1 h, (plainFor_of_name (by decide)), by simp [lg_sl, zcat_rf, zcat_i, zcat_l, zcat_f, zcat_d], q3532, q140, hd0, by decide, by decide⟩
theorem w_X5_isAfloat_17 (a0 : Option Nat) (a2 : Int32) (s0 : Int32) (s1 : Option Nat) (h : zH) : zS D z yX5_isAfloat cX5_isAfloat 3 (some .boolean) [] 6 h 17 [(0, va_rf a0), (2, .int a2)] [.int s0, va_rf s1] (f_X5_isAfloat_17 a0 a2 s0 s1 h) := by
  unfold f_X5_isAfloat_17
  refine zS_ite (fun ht => ?_) (fun _ => zS_none)
  refine s_callV (pc := 17) (np := 1) (as := [.int s0]) (rest := []) dX5_isAfloat_17 ht (q := (RX5, TX5, 20)) rfl (c_X5_goes (by decide) s1 s0 h) rfl rfl q3311 q3313 qs44 rfl (by decide) (zkI (fun x3 h4 => ?_)) zxo
  refine s_if_eq (pc := 20) (tgt := 35) dX5_isAfloat_20 (by decide) (fun _ => ?_) (fun _ => ?_)
  · refine s_iconst (pc := 35) (v := 0) dX5_isAfloat_35 (by decide) ?_
    exact s_nret (pc := 36) dX5_isAfloat_36 rfl
  · refine s_aload_n (pc := 23) 0 dX5_isAfloat_23 rfl rfl ?_
    refine s_iload_n (pc := 24) 1 dX5_isAfloat_24 rfl rfl ?_
    refine zS_ite (fun ht => ?_) (fun _ => zS_none)
    refine s_callV (pc := 25) (np := 1) (as := [.int a2]) (rest := []) dX5_isAfloat_25 ht (q := (RX5, TX5, 20)) rfl (c_X5_floats (by decide) a0 a2 h4) rfl rfl q3412 q3414 qs60 rfl (by decide) (zkI (fun x5 h6 => ?_)) zxo
    refine s_if_eq (pc := 28) (tgt := 35) dX5_isAfloat_28 (by decide) (fun _ => ?_) (fun _ => ?_)
    · refine s_iconst (pc := 35) (v := 0) dX5_isAfloat_35 (by decide) ?_
      exact s_nret (pc := 36) dX5_isAfloat_36 rfl
    · refine s_iconst (pc := 31) (v := 1) dX5_isAfloat_31 (by decide) ?_
      refine s_goto (pc := 32) (tgt := 36) dX5_isAfloat_32 (by decide) ?_
      exact s_nret (pc := 36) dX5_isAfloat_36 rfl
theorem w_X5_isAfloat (v0 : Option Nat) (v1 : Int32) (h : zH) : zS D z yX5_isAfloat cX5_isAfloat 3 (some .boolean) [] 6 h 0 [(0, va_rf v0), (1, .int v1)] [] (f_X5_isAfloat v0 v1 h) := by
  unfold f_X5_isAfloat
  refine s_aload_n (pc := 0) 0 dX5_isAfloat_0 rfl rfl ?_
  refine s_iload_n (pc := 1) 1 dX5_isAfloat_1 rfl rfl ?_
  refine zS_ite (fun ht => ?_) (fun _ => zS_none)
  refine s_callV (pc := 2) (np := 1) (as := [.int v1]) (rest := []) dX5_isAfloat_2 ht (q := (RX5, TX5, 20)) rfl (c_X5_find (by decide) v0 v1 h) rfl rfl q3365 q3367 qs51 rfl (by decide) (zkI (fun x1 h2 => ?_)) zxo
  refine s_ist_n (pc := 5) (L2 := [(0, va_rf v0)]) [0] dX5_isAfloat_5 rfl (by decide) rfl rfl (zcA rfl) ?_
  refine s_aload_n (pc := 6) 1 dX5_isAfloat_6 rfl rfl ?_
  refine s_iload_n (pc := 7) 0 dX5_isAfloat_7 rfl rfl ?_
  refine s_iconst (pc := 8) (v := -1) dX5_isAfloat_8 (by decide) ?_
  refine s_icmp_eq (pc := 9) (tgt := 16) dX5_isAfloat_9 (by decide) (fun _ => ?_) (fun _ => ?_)
  · refine s_iconst (pc := 16) (v := 0) dX5_isAfloat_16 (by decide) ?_
    exact s_sub (pc := 17) [1, 0] rfl (w_X5_isAfloat_17 v0 x1 0 v0 h2)
  · refine s_iconst (pc := 12) (v := 1) dX5_isAfloat_12 (by decide) ?_
    refine s_goto (pc := 13) (tgt := 17) dX5_isAfloat_13 (by decide) ?_
    exact s_sub (pc := 17) [1, 0] rfl (w_X5_isAfloat_17 v0 x1 1 v0 h2)
theorem c_X5_isAfloat {d0 : Nat} (hd0 : 6 < d0) (v0 : Option Nat) (v1 : Int32) (h : zH) : zCal D z d0 h yX5_isAfloat [va_rf v0, .int v1] (f_X5_isAfloat v0 v1 h) :=
  ⟨cX5_isAfloat, 3, (some .boolean), [], 6, (show lv_args 0 [va_rf v0, .int v1] = [(0, va_rf v0), (1, .int v1)] by simp [lv_args, zcat_rf, zcat_i, zcat_l, zcat_f, zcat_d]) ▸ w_X5_isAfloat v0 v1 h, (plainFor_of_name (by decide)), by simp [lg_sl, zcat_rf, zcat_i, zcat_l, zcat_f, zcat_d], q3536, q140, hd0, by decide, by decide⟩
theorem w_X5_refusalReason_13 (a0 : Option Nat) (s0 : Int32) (s1 : Option Nat) (h : zH) : zS D z yX5_refusalReason cX5_refusalReason 1 (some .int) [] 3 h 13 [(0, va_rf a0)] [.int s0, va_rf s1] (f_X5_refusalReason_13 a0 s0 s1 h) := by
  unfold f_X5_refusalReason_13
  refine zS_ite (fun ht => ?_) (fun _ => zS_none)
  refine s_callV (pc := 13) (np := 1) (as := [.int s0]) (rest := []) dX5_refusalReason_13 ht (q := (RX5, TX5, 20)) rfl (c_X5_goes (by decide) s1 s0 h) rfl rfl q3311 q3313 qs44 rfl (by decide) (zkI (fun x2 h3 => ?_)) zxo
  refine s_if_eq (pc := 16) (tgt := 26) dX5_refusalReason_16 (by decide) (fun _ => ?_) (fun _ => ?_)
  · refine s_iconst (pc := 26) (v := 0) dX5_refusalReason_26 (by decide) ?_
    exact s_iret (pc := 27) dX5_refusalReason_27 rfl
  · refine s_aload_n (pc := 19) 0 dX5_refusalReason_19 rfl rfl ?_
    refine s_gI (pc := 20) dX5_refusalReason_20 gf_X5_110 (fun x4 => ?_)
    refine s_goto (pc := 23) (tgt := 27) dX5_refusalReason_23 (by decide) ?_
    exact s_iret (pc := 27) dX5_refusalReason_27 rfl
theorem w_X5_refusalReason (v0 : Option Nat) (h : zH) : zS D z yX5_refusalReason cX5_refusalReason 1 (some .int) [] 3 h 0 [(0, va_rf v0)] [] (f_X5_refusalReason v0 h) := by
  unfold f_X5_refusalReason
  refine s_aload_n (pc := 0) 0 dX5_refusalReason_0 rfl rfl ?_
  refine s_aload_n (pc := 1) 0 dX5_refusalReason_1 rfl rfl ?_
  refine s_gI (pc := 2) dX5_refusalReason_2 gf_X5_110 (fun x1 => ?_)
  refine s_if_eq (pc := 5) (tgt := 12) dX5_refusalReason_5 (by decide) (fun _ => ?_) (fun _ => ?_)
  · refine s_iconst (pc := 12) (v := 0) dX5_refusalReason_12 (by decide) ?_
    exact s_sub (pc := 13) [0] rfl (w_X5_refusalReason_13 v0 0 v0 h)
  · refine s_iconst (pc := 8) (v := 1) dX5_refusalReason_8 (by decide) ?_
    refine s_goto (pc := 9) (tgt := 13) dX5_refusalReason_9 (by decide) ?_
    exact s_sub (pc := 13) [0] rfl (w_X5_refusalReason_13 v0 1 v0 h)
theorem c_X5_refusalReason {d0 : Nat} (hd0 : 3 < d0) (v0 : Option Nat) (h : zH) : zCal D z d0 h yX5_refusalReason [va_rf v0] (f_X5_refusalReason v0 h) :=
  ⟨cX5_refusalReason, 1, (some .int), [], 3, (show lv_args 0 [va_rf v0] = [(0, va_rf v0)] by simp [lv_args, zcat_rf, zcat_i, zcat_l, zcat_f, zcat_d]) ▸ w_X5_refusalReason v0 h, (plainFor_of_name (by decide)), by simp [lg_sl, zcat_rf, zcat_i, zcat_l, zcat_f, zcat_d], q3540, q140, hd0, by decide, by decide⟩
theorem w_X5_billOf (v0 : Option Nat) (v1 : Int32) (h : zH) : zS D z yX5_billOf cX5_billOf 2 (some .int) [] 6 h 0 [(0, va_rf v0), (1, .int v1)] [] (f_X5_billOf v0 v1 h) := by
  unfold f_X5_billOf
  refine s_aload_n (pc := 0) 0 dX5_billOf_0 rfl rfl ?_
  refine s_iload_n (pc := 1) 1 dX5_billOf_1 rfl rfl ?_
  refine s_bipush (pc := 2) (v := 8) dX5_billOf_2 (by decide) ?_
  refine zS_ite (fun ht => ?_) (fun _ => zS_none)
  refine s_callV (pc := 4) (np := 2) (as := [.int v1, .int 8]) (rest := []) dX5_billOf_4 ht (q := (RX5, TX5, 20)) rfl (c_X5_asks (by decide) v0 v1 8 h) rfl rfl q3513 q3515 qs74 rfl (by decide) (zkI (fun x1 h2 => ?_)) zxo
  exact s_iret (pc := 7) dX5_billOf_7 rfl
theorem c_X5_billOf {d0 : Nat} (hd0 : 6 < d0) (v0 : Option Nat) (v1 : Int32) (h : zH) : zCal D z d0 h yX5_billOf [va_rf v0, .int v1] (f_X5_billOf v0 v1 h) :=
  ⟨cX5_billOf, 2, (some .int), [], 6, (show lv_args 0 [va_rf v0, .int v1] = [(0, va_rf v0), (1, .int v1)] by simp [lv_args, zcat_rf, zcat_i, zcat_l, zcat_f, zcat_d]) ▸ w_X5_billOf v0 v1 h, (plainFor_of_name (by decide)), by simp [lg_sl, zcat_rf, zcat_i, zcat_l, zcat_f, zcat_d], q3544, q140, hd0, by decide, by decide⟩
theorem w_X5_isGateOpen (v0 : Option Nat) (h : zH) : zS D z yX5_isGateOpen cX5_isGateOpen 1 (some .boolean) [] 1 h 0 [(0, va_rf v0)] [] (f_X5_isGateOpen v0 h) := by
  unfold f_X5_isGateOpen
  refine s_aload_n (pc := 0) 0 dX5_isGateOpen_0 rfl rfl ?_
  refine s_iconst (pc := 1) (v := 0) dX5_isGateOpen_1 (by decide) ?_
  refine s_putI (pc := 2) dX5_isGateOpen_2 pf_X5_42 (fun h1 => ?_)
  refine s_aload_n (pc := 5) 0 dX5_isGateOpen_5 rfl rfl ?_
  refine s_gR (pc := 6) dX5_isGateOpen_6 gf_X5_9 (fun r2 => ?_)
  refine s_iconst (pc := 9) (v := 2) dX5_isGateOpen_9 (by decide) ?_
  refine s_iald (pc := 10) dX5_isGateOpen_10 (ztc rfl zt0) (fun x3 => ?_)
  refine s_iconst (pc := 11) (v := 1) dX5_isGateOpen_11 (by decide) ?_
  refine s_icmp_ne (pc := 12) (tgt := 19) dX5_isGateOpen_12 (by decide) (fun _ => ?_) (fun _ => ?_)
  · refine s_iconst (pc := 19) (v := 0) dX5_isGateOpen_19 (by decide) ?_
    exact s_nret (pc := 20) dX5_isGateOpen_20 rfl
  · refine s_iconst (pc := 15) (v := 1) dX5_isGateOpen_15 (by decide) ?_
    refine s_goto (pc := 16) (tgt := 20) dX5_isGateOpen_16 (by decide) ?_
    exact s_nret (pc := 20) dX5_isGateOpen_20 rfl
theorem c_X5_isGateOpen {d0 : Nat} (hd0 : 1 < d0) (v0 : Option Nat) (h : zH) : zCal D z d0 h yX5_isGateOpen [va_rf v0] (f_X5_isGateOpen v0 h) :=
  ⟨cX5_isGateOpen, 1, (some .boolean), [], 1, (show lv_args 0 [va_rf v0] = [(0, va_rf v0)] by simp [lv_args, zcat_rf, zcat_i, zcat_l, zcat_f, zcat_d]) ▸ w_X5_isGateOpen v0 h, (plainFor_of_name (by decide)), by simp [lg_sl, zcat_rf, zcat_i, zcat_l, zcat_f, zcat_d], q3548, q140, hd0, by decide, by decide⟩
theorem w_X5_level (v0 : Option Nat) (h : zH) : zS D z yX5_level cX5_level 1 (some .int) [] 1 h 0 [(0, va_rf v0)] [] (f_X5_level v0 h) := by
  unfold f_X5_level
  refine s_aload_n (pc := 0) 0 dX5_level_0 rfl rfl ?_
  refine s_iconst (pc := 1) (v := 0) dX5_level_1 (by decide) ?_
  refine s_putI (pc := 2) dX5_level_2 pf_X5_42 (fun h1 => ?_)
  refine s_aload_n (pc := 5) 0 dX5_level_5 rfl rfl ?_
  refine s_gR (pc := 6) dX5_level_6 gf_X5_9 (fun r2 => ?_)
  refine s_iconst (pc := 9) (v := 1) dX5_level_9 (by decide) ?_
  refine s_iald (pc := 10) dX5_level_10 (ztc rfl zt0) (fun x3 => ?_)
  exact s_iret (pc := 11) dX5_level_11 rfl
theorem c_X5_level {d0 : Nat} (hd0 : 1 < d0) (v0 : Option Nat) (h : zH) : zCal D z d0 h yX5_level [va_rf v0] (f_X5_level v0 h) :=
  ⟨cX5_level, 1, (some .int), [], 1, (show lv_args 0 [va_rf v0] = [(0, va_rf v0)] by simp [lv_args, zcat_rf, zcat_i, zcat_l, zcat_f, zcat_d]) ▸ w_X5_level v0 h, (plainFor_of_name (by decide)), by simp [lg_sl, zcat_rf, zcat_i, zcat_l, zcat_f, zcat_d], q3552, q140, hd0, by decide, by decide⟩
theorem w_X5_sea (v0 : Option Nat) (v1 : Int32) (h : zH) : zS D z yX5_sea cX5_sea 2 (some .int) [] 3 h 0 [(0, va_rf v0), (1, .int v1)] [] (f_X5_sea v0 v1 h) := by
  unfold f_X5_sea
  refine s_aload_n (pc := 0) 0 dX5_sea_0 rfl rfl ?_
  refine s_iload_n (pc := 1) 1 dX5_sea_1 rfl rfl ?_
  refine s_iconst (pc := 2) (v := 0) dX5_sea_2 (by decide) ?_
  refine s_sipush (pc := 3) (v := 9999) dX5_sea_3 (by decide) ?_
  refine s_callSS (pc := 6) (np := 3) (as := [.int v1, .int 0, .int 9999]) (rest := [va_rf v0]) dX5_sea_6 (c_X5_isIn (by decide) v1 0 9999 h) rfl rfl q3342 q3343 rfl (by simp [zcat_rf, zcat_i, zcat_l, zcat_f, zcat_d]) (zkI (fun x1 h2 => ?_)) zxo
  refine zS_ite (fun ht => ?_) (fun _ => zS_none)
  refine s_callV (pc := 9) (np := 1) (as := [.int x1]) (rest := []) dX5_sea_9 ht (q := (RX5, TX5, 20)) rfl (c_X5_goes (by decide) v0 x1 h2) rfl rfl q3311 q3313 qs44 rfl (by decide) (zkI (fun x3 h4 => ?_)) zxo
  refine s_if_eq (pc := 12) (tgt := 22) dX5_sea_12 (by decide) (fun _ => ?_) (fun _ => ?_)
  · refine s_iconst (pc := 22) (v := 0) dX5_sea_22 (by decide) ?_
    exact s_iret (pc := 23) dX5_sea_23 rfl
  · refine s_iload_n (pc := 15) 1 dX5_sea_15 rfl rfl ?_
    refine s_callSS (pc := 16) (np := 1) (as := [.int v1]) (rest := []) dX5_sea_16 (c_X5_seaAt (by decide) v1 h4) rfl rfl q3440 q3441 rfl (by decide) (zkI (fun x5 h6 => ?_)) zxo
    refine s_goto (pc := 19) (tgt := 23) dX5_sea_19 (by decide) ?_
    exact s_iret (pc := 23) dX5_sea_23 rfl
theorem c_X5_sea {d0 : Nat} (hd0 : 3 < d0) (v0 : Option Nat) (v1 : Int32) (h : zH) : zCal D z d0 h yX5_sea [va_rf v0, .int v1] (f_X5_sea v0 v1 h) :=
  ⟨cX5_sea, 2, (some .int), [], 3, (show lv_args 0 [va_rf v0, .int v1] = [(0, va_rf v0), (1, .int v1)] by simp [lv_args, zcat_rf, zcat_i, zcat_l, zcat_f, zcat_d]) ▸ w_X5_sea v0 v1 h, (plainFor_of_name (by decide)), by simp [lg_sl, zcat_rf, zcat_i, zcat_l, zcat_f, zcat_d], q3560, q140, hd0, by decide, by decide⟩
theorem w_X5_seaLevel (v0 : Option Nat) (v1 : Int32) (h : zH) : zS D z yX5_seaLevel cX5_seaLevel 2 (some .int) [] 4 h 0 [(0, va_rf v0), (1, .int v1)] [] (f_X5_seaLevel v0 v1 h) := by
  unfold f_X5_seaLevel
  refine s_aload_n (pc := 0) 0 dX5_seaLevel_0 rfl rfl ?_
  refine s_iload_n (pc := 1) 1 dX5_seaLevel_1 rfl rfl ?_
  refine zS_ite (fun ht => ?_) (fun _ => zS_none)
  refine s_callV (pc := 2) (np := 1) (as := [.int v1]) (rest := []) dX5_seaLevel_2 ht (q := (RX5, TX5, 20)) rfl (c_X5_sea (by decide) v0 v1 h) rfl rfl q3557 q3559 qs75 rfl (by decide) (zkI (fun x1 h2 => ?_)) zxo
  exact s_iret (pc := 5) dX5_seaLevel_5 rfl
theorem c_X5_seaLevel {d0 : Nat} (hd0 : 4 < d0) (v0 : Option Nat) (v1 : Int32) (h : zH) : zCal D z d0 h yX5_seaLevel [va_rf v0, .int v1] (f_X5_seaLevel v0 v1 h) :=
  ⟨cX5_seaLevel, 2, (some .int), [], 4, (show lv_args 0 [va_rf v0, .int v1] = [(0, va_rf v0), (1, .int v1)] by simp [lv_args, zcat_rf, zcat_i, zcat_l, zcat_f, zcat_d]) ▸ w_X5_seaLevel v0 v1 h, (plainFor_of_name (by decide)), by simp [lg_sl, zcat_rf, zcat_i, zcat_l, zcat_f, zcat_d], q3556, q140, hd0, by decide, by decide⟩
theorem w_X5_seaLevelByHours (v0 : Option Nat) (v1 : Int32) (h : zH) : zS D z yX5_seaLevelByHours cX5_seaLevelByHours 2 (some .int) [] 4 h 0 [(0, va_rf v0), (1, .int v1)] [] (f_X5_seaLevelByHours v0 v1 h) := by
  unfold f_X5_seaLevelByHours
  refine s_aload_n (pc := 0) 0 dX5_seaLevelByHours_0 rfl rfl ?_
  refine s_iload_n (pc := 1) 1 dX5_seaLevelByHours_1 rfl rfl ?_
  refine zS_ite (fun ht => ?_) (fun _ => zS_none)
  refine s_callV (pc := 2) (np := 1) (as := [.int v1]) (rest := []) dX5_seaLevelByHours_2 ht (q := (RX5, TX5, 20)) rfl (c_X5_sea (by decide) v0 v1 h) rfl rfl q3557 q3559 qs75 rfl (by decide) (zkI (fun x1 h2 => ?_)) zxo
  exact s_iret (pc := 5) dX5_seaLevelByHours_5 rfl
theorem c_X5_seaLevelByHours {d0 : Nat} (hd0 : 4 < d0) (v0 : Option Nat) (v1 : Int32) (h : zH) : zCal D z d0 h yX5_seaLevelByHours [va_rf v0, .int v1] (f_X5_seaLevelByHours v0 v1 h) :=
  ⟨cX5_seaLevelByHours, 2, (some .int), [], 4, (show lv_args 0 [va_rf v0, .int v1] = [(0, va_rf v0), (1, .int v1)] by simp [lv_args, zcat_rf, zcat_i, zcat_l, zcat_f, zcat_d]) ▸ w_X5_seaLevelByHours v0 v1 h, (plainFor_of_name (by decide)), by simp [lg_sl, zcat_rf, zcat_i, zcat_l, zcat_f, zcat_d], q3564, q140, hd0, by decide, by decide⟩
theorem w_X5_hour (v0 : Option Nat) (h : zH) : zS D z yX5_hour cX5_hour 1 (some .int) [] 1 h 0 [(0, va_rf v0)] [] (f_X5_hour v0 h) := by
  unfold f_X5_hour
  refine s_aload_n (pc := 0) 0 dX5_hour_0 rfl rfl ?_
  refine s_iconst (pc := 1) (v := 0) dX5_hour_1 (by decide) ?_
  refine s_putI (pc := 2) dX5_hour_2 pf_X5_42 (fun h1 => ?_)
  refine s_aload_n (pc := 5) 0 dX5_hour_5 rfl rfl ?_
  refine s_gR (pc := 6) dX5_hour_6 gf_X5_9 (fun r2 => ?_)
  refine s_iconst (pc := 9) (v := 0) dX5_hour_9 (by decide) ?_
  refine s_iald (pc := 10) dX5_hour_10 (ztc rfl zt0) (fun x3 => ?_)
  exact s_iret (pc := 11) dX5_hour_11 rfl
theorem c_X5_hour {d0 : Nat} (hd0 : 1 < d0) (v0 : Option Nat) (h : zH) : zCal D z d0 h yX5_hour [va_rf v0] (f_X5_hour v0 h) :=
  ⟨cX5_hour, 1, (some .int), [], 1, (show lv_args 0 [va_rf v0] = [(0, va_rf v0)] by simp [lv_args, zcat_rf, zcat_i, zcat_l, zcat_f, zcat_d]) ▸ w_X5_hour v0 h, (plainFor_of_name (by decide)), by simp [lg_sl, zcat_rf, zcat_i, zcat_l, zcat_f, zcat_d], q3568, q140, hd0, by decide, by decide⟩
theorem w_X5_levelAfter_40 (a0 : Option Nat) (a1 : Int32) (a2 : Int32) (h : zH) : zS D z yX5_levelAfter cX5_levelAfter 4 (some .int) [] 3 h 40 [(0, va_rf a0), (1, .int a1), (2, .int a2)] [] (f_X5_levelAfter_40 a0 a1 a2 h) := by
  unfold f_X5_levelAfter_40
  refine s_aload_n (pc := 40) 0 dX5_levelAfter_40 rfl rfl ?_
  refine s_iload_n (pc := 41) 1 dX5_levelAfter_41 rfl rfl ?_
  refine s_iconst (pc := 42) (v := 0) dX5_levelAfter_42 (by decide) ?_
  refine s_bipush (pc := 43) (v := 96) dX5_levelAfter_43 (by decide) ?_
  refine s_callSS (pc := 45) (np := 3) (as := [.int a1, .int 0, .int 96]) (rest := [va_rf a0]) dX5_levelAfter_45 (c_X5_isIn (by decide) a1 0 96 h) rfl rfl q3342 q3343 rfl (by simp [zcat_rf, zcat_i, zcat_l, zcat_f, zcat_d]) (zkI (fun x8 h9 => ?_)) zxo
  refine zS_ite (fun ht => ?_) (fun _ => zS_none)
  refine s_callV (pc := 48) (np := 1) (as := [.int x8]) (rest := []) dX5_levelAfter_48 ht (q := (RX5, TX5, 20)) rfl (c_X5_goes (by decide) a0 x8 h9) rfl rfl q3311 q3313 qs44 rfl (by decide) (zkI (fun x10 h11 => ?_)) zxo
  refine s_if_eq (pc := 51) (tgt := 58) dX5_levelAfter_51 (by decide) (fun _ => ?_) (fun _ => ?_)
  · refine s_iconst (pc := 58) (v := 0) dX5_levelAfter_58 (by decide) ?_
    exact s_iret (pc := 59) dX5_levelAfter_59 rfl
  · refine s_iload_n (pc := 54) 2 dX5_levelAfter_54 rfl rfl ?_
    refine s_goto (pc := 55) (tgt := 59) dX5_levelAfter_55 (by decide) ?_
    exact s_iret (pc := 59) dX5_levelAfter_59 rfl
theorem w_X5_levelAfter_9 : ∀ (n : Nat) (a0 : Option Nat) (a1 : Int32) (a2 : Int32) (a3 : Int32) (h : zH), zS D z yX5_levelAfter cX5_levelAfter 4 (some .int) [] 3 h 9 [(0, va_rf a0), (1, .int a1), (2, .int a2), (3, .int a3)] [] (f_X5_levelAfter_9 n a0 a1 a2 a3 h) := by
  intro n
  induction n with
  | zero => intros; exact zS_none
  | succ n ih =>
    intro a0 a1 a2 a3 h
    rw [f_X5_levelAfter_9.eq_2]
    refine s_iload_n (pc := 9) 3 dX5_levelAfter_9 rfl rfl ?_
    refine s_iload_n (pc := 10) 1 dX5_levelAfter_10 rfl rfl ?_
    refine s_icmp_gt (pc := 11) (tgt := 40) dX5_levelAfter_11 (by decide) (fun _ => ?_) (fun _ => ?_)
    · exact s_sub (pc := 40) [0, 1, 2] rfl (w_X5_levelAfter_40 a0 a1 a2 h)
    · refine s_iload_n (pc := 14) 1 dX5_levelAfter_14 rfl rfl ?_
      refine s_bipush (pc := 15) (v := 96) dX5_levelAfter_15 (by decide) ?_
      refine s_icmp_gt (pc := 17) (tgt := 40) dX5_levelAfter_17 (by decide) (fun _ => ?_) (fun _ => ?_)
      · exact s_sub (pc := 40) [0, 1, 2] rfl (w_X5_levelAfter_40 a0 a1 a2 h)
      · refine s_aload_n (pc := 20) 0 dX5_levelAfter_20 rfl rfl ?_
        refine s_iload_n (pc := 21) 2 dX5_levelAfter_21 rfl rfl ?_
        refine s_aload_n (pc := 22) 0 dX5_levelAfter_22 rfl rfl ?_
        refine s_gR (pc := 23) dX5_levelAfter_23 gf_X5_9 (fun r3 => ?_)
        refine s_iconst (pc := 26) (v := 0) dX5_levelAfter_26 (by decide) ?_
        refine s_iald (pc := 27) dX5_levelAfter_27 (ztc rfl zt0) (fun x4 => ?_)
        refine s_iload_n (pc := 28) 3 dX5_levelAfter_28 rfl rfl ?_
        refine s_iadd (pc := 29) dX5_levelAfter_29 ?_
        refine zS_ite (fun ht => ?_) (fun _ => zS_none)
        refine s_callV (pc := 30) (np := 2) (as := [.int a2, .int (x4 + a3)]) (rest := []) dX5_levelAfter_30 ht (q := (RX5, TX5, 20)) rfl (c_X5_levelThen (by decide) a0 a2 (x4 + a3) h) rfl rfl q3484 q3486 qs70 rfl (by decide) (zkI (fun x5 h6 => ?_)) zxo
        refine s_ist_n (pc := 33) (L2 := [(0, va_rf a0), (1, .int a1), (3, .int a3)]) [0, 1, 3] dX5_levelAfter_33 rfl (by decide) rfl rfl (zcB (j := 1) rfl rfl rfl) ?_
        refine s_inc (pc := 34) (v := 1) (L2 := [(2, .int x5), (0, va_rf a0), (1, .int a1)]) 3 [0, 1, 2] dX5_levelAfter_34 rfl (by decide) (by decide) rfl rfl (zcB (j := 0) rfl rfl rfl) (fun x7 => ?_)
        refine s_goto (pc := 37) (tgt := 9) dX5_levelAfter_37 (by decide) ?_
        exact s_sub (pc := 9) [2, 3, 1, 0] rfl (ih a0 a1 x5 x7 h6)
theorem w_X5_levelAfter (v0 : Option Nat) (v1 : Int32) (h : zH) : zS D z yX5_levelAfter cX5_levelAfter 4 (some .int) [] 3 h 0 [(0, va_rf v0), (1, .int v1)] [] (f_X5_levelAfter v0 v1 h) := by
  unfold f_X5_levelAfter
  refine s_aload_n (pc := 0) 0 dX5_levelAfter_0 rfl rfl ?_
  refine s_gR (pc := 1) dX5_levelAfter_1 gf_X5_9 (fun r1 => ?_)
  refine s_iconst (pc := 4) (v := 1) dX5_levelAfter_4 (by decide) ?_
  refine s_iald (pc := 5) dX5_levelAfter_5 (ztc rfl zt0) (fun x2 => ?_)
  refine s_ist_n (pc := 6) (L2 := [(0, va_rf v0), (1, .int v1)]) [0, 1] dX5_levelAfter_6 rfl (by decide) rfl rfl (zcB (j := 1) rfl rfl rfl) ?_
  refine s_iconst (pc := 7) (v := 1) dX5_levelAfter_7 (by decide) ?_
  refine s_ist_n (pc := 8) (L2 := [(2, .int x2), (0, va_rf v0), (1, .int v1)]) [0, 1, 2] dX5_levelAfter_8 rfl (by decide) rfl rfl (zcB (j := 0) rfl rfl rfl) ?_
  exact s_sub (pc := 9) [2, 3, 1, 0] rfl (w_X5_levelAfter_9 zfuel v0 v1 x2 1 h)
theorem c_X5_levelAfter {d0 : Nat} (hd0 : 3 < d0) (v0 : Option Nat) (v1 : Int32) (h : zH) : zCal D z d0 h yX5_levelAfter [va_rf v0, .int v1] (f_X5_levelAfter v0 v1 h) :=
  ⟨cX5_levelAfter, 4, (some .int), [], 3, (show lv_args 0 [va_rf v0, .int v1] = [(0, va_rf v0), (1, .int v1)] by simp [lv_args, zcat_rf, zcat_i, zcat_l, zcat_f, zcat_d]) ▸ w_X5_levelAfter v0 v1 h, (plainFor_of_name (by decide)), by simp [lg_sl, zcat_rf, zcat_i, zcat_l, zcat_f, zcat_d], q3572, q140, hd0, by decide, by decide⟩
theorem w_X5_hoursUntilAfloat_77 (K31 : Option Nat → Int32 → Int32 → Int32 → Int32 → zH → zO) (hK31 : ∀ (a0 : Option Nat) (a2 : Int32) (a3 : Int32) (a4 : Int32) (a5 : Int32) (h : zH), zS D z yX5_hoursUntilAfloat cX5_hoursUntilAfloat 6 (some .int) [] 6 h 31 [(0, va_rf a0), (2, .int a2), (3, .int a3), (4, .int a4), (5, .int a5)] [] (K31 a0 a2 a3 a4 a5 h)) (a0 : Option Nat) (a2 : Int32) (a4 : Int32) (a5 : Int32) (s0 : Int32) (h : zH) : zS D z yX5_hoursUntilAfloat cX5_hoursUntilAfloat 6 (some .int) [] 6 h 77 [(0, va_rf a0), (2, .int a2), (4, .int a4), (5, .int a5)] [.int s0] (f_X5_hoursUntilAfloat_77 K31 a0 a2 a4 a5 s0 h) := by
  unfold f_X5_hoursUntilAfloat_77
  refine s_ist_n (pc := 77) (L2 := [(0, va_rf a0), (2, .int a2), (4, .int a4), (5, .int a5)]) [0, 1, 2, 3] dX5_hoursUntilAfloat_77 rfl (by decide) rfl rfl (zcB (j := 1) rfl rfl rfl) ?_
  refine s_inc (pc := 78) (v := 1) (L2 := [(3, .int s0), (0, va_rf a0), (2, .int a2), (4, .int a4)]) 4 [0, 1, 2, 3] dX5_hoursUntilAfloat_78 rfl (by decide) (by decide) rfl rfl (zcB (j := 3) rfl rfl rfl) (fun x13 => ?_)
  refine s_goto (pc := 81) (tgt := 31) dX5_hoursUntilAfloat_81 (by decide) ?_
  exact s_sub (pc := 31) [2, 3, 1, 4, 0] rfl (hK31 a0 a2 s0 a4 x13 h)
theorem w_X5_hoursUntilAfloat_105 (a3 : Int32) (s0 : Int32) (s1 : Int32) (s2 : Option Nat) (h : zH) : zS D z yX5_hoursUntilAfloat cX5_hoursUntilAfloat 6 (some .int) [] 6 h 105 [(3, .int a3)] [.int s0, .int s1, va_rf s2] (f_X5_hoursUntilAfloat_105 a3 s0 s1 s2 h) := by
  unfold f_X5_hoursUntilAfloat_105
  refine s_iconst (pc := 105) (v := 1) dX5_hoursUntilAfloat_105 (by decide) ?_
  refine s_iconst (pc := 106) (v := 1) dX5_hoursUntilAfloat_106 (by decide) ?_
  refine zS_ite (fun ht => ?_) (fun _ => zS_none)
  refine s_callV (pc := 107) (np := 4) (as := [.int s1, .int s0, .int 1, .int 1]) (rest := []) dX5_hoursUntilAfloat_107 ht (q := (RX5, TX5, 20)) rfl (c_X5_holds (by decide) s2 s1 s0 1 1 h) rfl rfl q3315 q3317 qs45 rfl (by decide) (zkI (fun x14 h15 => ?_)) zxo
  refine s_if_eq (pc := 110) (tgt := 117) dX5_hoursUntilAfloat_110 (by decide) (fun _ => ?_) (fun _ => ?_)
  · refine s_iconst (pc := 117) (v := 0) dX5_hoursUntilAfloat_117 (by decide) ?_
    exact s_iret (pc := 118) dX5_hoursUntilAfloat_118 rfl
  · refine s_iload_n (pc := 113) 0 dX5_hoursUntilAfloat_113 rfl rfl ?_
    refine s_goto (pc := 114) (tgt := 118) dX5_hoursUntilAfloat_114 (by decide) ?_
    exact s_iret (pc := 118) dX5_hoursUntilAfloat_118 rfl
theorem w_X5_hoursUntilAfloat_95 (a3 : Int32) (s0 : Int32) (s1 : Option Nat) (h : zH) : zS D z yX5_hoursUntilAfloat cX5_hoursUntilAfloat 6 (some .int) [] 6 h 95 [(3, .int a3)] [.int s0, va_rf s1] (f_X5_hoursUntilAfloat_95 a3 s0 s1 h) := by
  unfold f_X5_hoursUntilAfloat_95
  refine s_iload_n (pc := 95) 0 dX5_hoursUntilAfloat_95 rfl rfl ?_
  refine s_iconst (pc := 96) (v := -1) dX5_hoursUntilAfloat_96 (by decide) ?_
  refine s_icmp_eq (pc := 97) (tgt := 104) dX5_hoursUntilAfloat_97 (by decide) (fun _ => ?_) (fun _ => ?_)
  · refine s_iconst (pc := 104) (v := 0) dX5_hoursUntilAfloat_104 (by decide) ?_
    exact s_sub (pc := 105) [0] rfl (w_X5_hoursUntilAfloat_105 a3 0 s0 s1 h)
  · refine s_iconst (pc := 100) (v := 1) dX5_hoursUntilAfloat_100 (by decide) ?_
    refine s_goto (pc := 101) (tgt := 105) dX5_hoursUntilAfloat_101 (by decide) ?_
    exact s_sub (pc := 105) [0] rfl (w_X5_hoursUntilAfloat_105 a3 1 s0 s1 h)
theorem w_X5_hoursUntilAfloat_84 (a0 : Option Nat) (a2 : Int32) (a3 : Int32) (h : zH) : zS D z yX5_hoursUntilAfloat cX5_hoursUntilAfloat 6 (some .int) [] 6 h 84 [(0, va_rf a0), (2, .int a2), (3, .int a3)] [] (f_X5_hoursUntilAfloat_84 a0 a2 a3 h) := by
  unfold f_X5_hoursUntilAfloat_84
  refine s_aload_n (pc := 84) 0 dX5_hoursUntilAfloat_84 rfl rfl ?_
  refine s_iload_n (pc := 85) 1 dX5_hoursUntilAfloat_85 rfl rfl ?_
  refine s_iconst (pc := 86) (v := -1) dX5_hoursUntilAfloat_86 (by decide) ?_
  refine s_icmp_eq (pc := 87) (tgt := 94) dX5_hoursUntilAfloat_87 (by decide) (fun _ => ?_) (fun _ => ?_)
  · refine s_iconst (pc := 94) (v := 0) dX5_hoursUntilAfloat_94 (by decide) ?_
    exact s_sub (pc := 95) [2] rfl (w_X5_hoursUntilAfloat_95 a3 0 a0 h)
  · refine s_iconst (pc := 90) (v := 1) dX5_hoursUntilAfloat_90 (by decide) ?_
    refine s_goto (pc := 91) (tgt := 95) dX5_hoursUntilAfloat_91 (by decide) ?_
    exact s_sub (pc := 95) [2] rfl (w_X5_hoursUntilAfloat_95 a3 1 a0 h)
theorem w_X5_hoursUntilAfloat_31 : ∀ (n : Nat) (a0 : Option Nat) (a2 : Int32) (a3 : Int32) (a4 : Int32) (a5 : Int32) (h : zH), zS D z yX5_hoursUntilAfloat cX5_hoursUntilAfloat 6 (some .int) [] 6 h 31 [(0, va_rf a0), (2, .int a2), (3, .int a3), (4, .int a4), (5, .int a5)] [] (f_X5_hoursUntilAfloat_31 n a0 a2 a3 a4 a5 h) := by
  intro n
  induction n with
  | zero => intros; exact zS_none
  | succ n ih =>
    intro a0 a2 a3 a4 a5 h
    rw [f_X5_hoursUntilAfloat_31.eq_2]
    refine s_iload (pc := 31) 4 dX5_hoursUntilAfloat_31 rfl ?_
    refine s_bipush (pc := 33) (v := 96) dX5_hoursUntilAfloat_33 (by decide) ?_
    refine s_icmp_gt (pc := 35) (tgt := 84) dX5_hoursUntilAfloat_35 (by decide) (fun _ => ?_) (fun _ => ?_)
    · exact s_sub (pc := 84) [0, 1, 2] rfl (w_X5_hoursUntilAfloat_84 a0 a2 a3 h)
    · refine s_iload_n (pc := 38) 2 dX5_hoursUntilAfloat_38 rfl rfl ?_
      refine s_iconst (pc := 39) (v := -1) dX5_hoursUntilAfloat_39 (by decide) ?_
      refine s_icmp_ne (pc := 40) (tgt := 84) dX5_hoursUntilAfloat_40 (by decide) (fun _ => ?_) (fun _ => ?_)
      · exact s_sub (pc := 84) [0, 1, 2] rfl (w_X5_hoursUntilAfloat_84 a0 a2 a3 h)
      · refine s_aload_n (pc := 43) 0 dX5_hoursUntilAfloat_43 rfl rfl ?_
        refine s_iload (pc := 44) 3 dX5_hoursUntilAfloat_44 rfl ?_
        refine s_aload_n (pc := 46) 0 dX5_hoursUntilAfloat_46 rfl rfl ?_
        refine s_gR (pc := 47) dX5_hoursUntilAfloat_47 gf_X5_9 (fun r7 => ?_)
        refine s_iconst (pc := 50) (v := 0) dX5_hoursUntilAfloat_50 (by decide) ?_
        refine s_iald (pc := 51) dX5_hoursUntilAfloat_51 (ztc rfl zt0) (fun x8 => ?_)
        refine s_iload (pc := 52) 4 dX5_hoursUntilAfloat_52 rfl ?_
        refine s_iadd (pc := 54) dX5_hoursUntilAfloat_54 ?_
        refine zS_ite (fun ht => ?_) (fun _ => zS_none)
        refine s_callV (pc := 55) (np := 2) (as := [.int a4, .int (x8 + a5)]) (rest := []) dX5_hoursUntilAfloat_55 ht (q := (RX5, TX5, 20)) rfl (c_X5_levelThen (by decide) a0 a4 (x8 + a5) h) rfl rfl q3484 q3486 qs70 rfl (by decide) (zkI (fun x9 h10 => ?_)) zxo
        refine s_ist (pc := 58) (L2 := [(0, va_rf a0), (2, .int a2), (5, .int a5)]) [0, 1, 4] dX5_hoursUntilAfloat_58 (by decide) rfl rfl (zcA rfl) ?_
        refine s_iload (pc := 60) 0 dX5_hoursUntilAfloat_60 rfl ?_
        refine s_aload_n (pc := 62) 1 dX5_hoursUntilAfloat_62 rfl rfl ?_
        refine s_iload_n (pc := 63) 2 dX5_hoursUntilAfloat_63 rfl rfl ?_
        refine s_iconst (pc := 64) (v := 2) dX5_hoursUntilAfloat_64 (by decide) ?_
        refine zS_ite (fun ht => ?_) (fun _ => zS_none)
        refine s_callV (pc := 65) (np := 2) (as := [.int a2, .int 2]) (rest := [.int x9]) dX5_hoursUntilAfloat_65 ht (q := (RX5, TX5, 20)) rfl (c_X5_of (by decide) a0 a2 2 h10) rfl rfl q3369 q3371 qs52 rfl (by simp [zcat_rf, zcat_i, zcat_l, zcat_f, zcat_d]) (zkI (fun x11 h12 => ?_)) zxo
        refine s_icmp_lt (pc := 68) (tgt := 76) dX5_hoursUntilAfloat_68 (by decide) (fun _ => ?_) (fun _ => ?_)
        · refine s_iconst (pc := 76) (v := -1) dX5_hoursUntilAfloat_76 (by decide) ?_
          exact s_sub (pc := 77) [1, 2, 0, 3] rfl (w_X5_hoursUntilAfloat_77 (f_X5_hoursUntilAfloat_31 n) ih a0 a2 x9 a5 (-1) h12)
        · refine s_iload (pc := 71) 3 dX5_hoursUntilAfloat_71 rfl ?_
          refine s_goto (pc := 73) (tgt := 77) dX5_hoursUntilAfloat_73 (by decide) ?_
          exact s_sub (pc := 77) [1, 2, 0, 3] rfl (w_X5_hoursUntilAfloat_77 (f_X5_hoursUntilAfloat_31 n) ih a0 a2 x9 a5 a5 h12)
theorem w_X5_hoursUntilAfloat_19 (a0 : Option Nat) (a2 : Int32) (s0 : Int32) (h : zH) : zS D z yX5_hoursUntilAfloat cX5_hoursUntilAfloat 6 (some .int) [] 6 h 19 [(0, va_rf a0), (2, .int a2)] [.int s0] (f_X5_hoursUntilAfloat_19 a0 a2 s0 h) := by
  unfold f_X5_hoursUntilAfloat_19
  refine s_ist_n (pc := 19) (L2 := [(0, va_rf a0), (2, .int a2)]) [0, 1] dX5_hoursUntilAfloat_19 rfl (by decide) rfl rfl (zcB (j := 1) rfl rfl rfl) ?_
  refine s_aload_n (pc := 20) 1 dX5_hoursUntilAfloat_20 rfl rfl ?_
  refine s_gR (pc := 21) dX5_hoursUntilAfloat_21 gf_X5_9 (fun r5 => ?_)
  refine s_iconst (pc := 24) (v := 1) dX5_hoursUntilAfloat_24 (by decide) ?_
  refine s_iald (pc := 25) dX5_hoursUntilAfloat_25 (ztc rfl zt0) (fun x6 => ?_)
  refine s_ist (pc := 26) (L2 := [(3, .int s0), (0, va_rf a0), (2, .int a2)]) [0, 1, 2] dX5_hoursUntilAfloat_26 (by decide) rfl rfl (zcB (j := 0) rfl rfl rfl) ?_
  refine s_iconst (pc := 28) (v := 1) dX5_hoursUntilAfloat_28 (by decide) ?_
  refine s_ist (pc := 29) (L2 := [(4, .int x6), (3, .int s0), (0, va_rf a0), (2, .int a2)]) [0, 1, 2, 3] dX5_hoursUntilAfloat_29 (by decide) rfl rfl (zcB (j := 0) rfl rfl rfl) ?_
  exact s_sub (pc := 31) [3, 4, 2, 1, 0] rfl (w_X5_hoursUntilAfloat_31 zfuel a0 a2 s0 x6 1 h)
theorem w_X5_hoursUntilAfloat (v0 : Option Nat) (v1 : Int32) (h : zH) : zS D z yX5_hoursUntilAfloat cX5_hoursUntilAfloat 6 (some .int) [] 6 h 0 [(0, va_rf v0), (1, .int v1)] [] (f_X5_hoursUntilAfloat v0 v1 h) := by
  unfold f_X5_hoursUntilAfloat
  refine s_aload_n (pc := 0) 0 dX5_hoursUntilAfloat_0 rfl rfl ?_
  refine s_iload_n (pc := 1) 1 dX5_hoursUntilAfloat_1 rfl rfl ?_
  refine zS_ite (fun ht => ?_) (fun _ => zS_none)
  refine s_callV (pc := 2) (np := 1) (as := [.int v1]) (rest := []) dX5_hoursUntilAfloat_2 ht (q := (RX5, TX5, 20)) rfl (c_X5_find (by decide) v0 v1 h) rfl rfl q3365 q3367 qs51 rfl (by decide) (zkI (fun x1 h2 => ?_)) zxo
  refine s_ist_n (pc := 5) (L2 := [(0, va_rf v0)]) [0] dX5_hoursUntilAfloat_5 rfl (by decide) rfl rfl (zcA rfl) ?_
  refine s_aload_n (pc := 6) 1 dX5_hoursUntilAfloat_6 rfl rfl ?_
  refine s_iload_n (pc := 7) 0 dX5_hoursUntilAfloat_7 rfl rfl ?_
  refine zS_ite (fun ht => ?_) (fun _ => zS_none)
  refine s_callV (pc := 8) (np := 1) (as := [.int x1]) (rest := []) dX5_hoursUntilAfloat_8 ht (q := (RX5, TX5, 20)) rfl (c_X5_floats (by decide) v0 x1 h2) rfl rfl q3412 q3414 qs60 rfl (by decide) (zkI (fun x3 h4 => ?_)) zxo
  refine s_if_eq (pc := 11) (tgt := 18) dX5_hoursUntilAfloat_11 (by decide) (fun _ => ?_) (fun _ => ?_)
  · refine s_iconst (pc := 18) (v := -1) dX5_hoursUntilAfloat_18 (by decide) ?_
    exact s_sub (pc := 19) [1, 0] rfl (w_X5_hoursUntilAfloat_19 v0 x1 (-1) h4)
  · refine s_iconst (pc := 14) (v := 0) dX5_hoursUntilAfloat_14 (by decide) ?_
    refine s_goto (pc := 15) (tgt := 19) dX5_hoursUntilAfloat_15 (by decide) ?_
    exact s_sub (pc := 19) [1, 0] rfl (w_X5_hoursUntilAfloat_19 v0 x1 0 h4)
theorem c_X5_hoursUntilAfloat {d0 : Nat} (hd0 : 6 < d0) (v0 : Option Nat) (v1 : Int32) (h : zH) : zCal D z d0 h yX5_hoursUntilAfloat [va_rf v0, .int v1] (f_X5_hoursUntilAfloat v0 v1 h) :=
  ⟨cX5_hoursUntilAfloat, 6, (some .int), [], 6, (show lv_args 0 [va_rf v0, .int v1] = [(0, va_rf v0), (1, .int v1)] by simp [lv_args, zcat_rf, zcat_i, zcat_l, zcat_f, zcat_d]) ▸ w_X5_hoursUntilAfloat v0 v1 h, (plainFor_of_name (by decide)), by simp [lg_sl, zcat_rf, zcat_i, zcat_l, zcat_f, zcat_d], q3576, q140, hd0, by decide, by decide⟩
theorem w_X5_hasBlock (v0 : Option Nat) (v1 : Int32) (h : zH) : zS D z yX5_hasBlock cX5_hasBlock 2 (some .boolean) [] 4 h 0 [(0, va_rf v0), (1, .int v1)] [] (f_X5_hasBlock v0 v1 h) := by
  unfold f_X5_hasBlock
  refine s_aload_n (pc := 0) 0 dX5_hasBlock_0 rfl rfl ?_
  refine s_iload_n (pc := 1) 1 dX5_hasBlock_1 rfl rfl ?_
  refine s_callSS (pc := 2) (np := 1) (as := [.int v1]) (rest := [va_rf v0]) dX5_hasBlock_2 (c_X5_isMetre (by decide) v1 h) rfl rfl q3385 q3386 rfl (by simp [zcat_rf, zcat_i, zcat_l, zcat_f, zcat_d]) (zkI (fun x1 h2 => ?_)) zxo
  refine zS_ite (fun ht => ?_) (fun _ => zS_none)
  refine s_callV (pc := 5) (np := 1) (as := [.int x1]) (rest := []) dX5_hasBlock_5 ht (q := (RX5, TX5, 20)) rfl (c_X5_goes (by decide) v0 x1 h2) rfl rfl q3311 q3313 qs44 rfl (by decide) (zkI (fun x3 h4 => ?_)) zxo
  refine s_if_eq (pc := 8) (tgt := 23) dX5_hasBlock_8 (by decide) (fun _ => ?_) (fun _ => ?_)
  · refine s_iconst (pc := 23) (v := 0) dX5_hasBlock_23 (by decide) ?_
    exact s_nret (pc := 24) dX5_hasBlock_24 rfl
  · refine s_aload_n (pc := 11) 0 dX5_hasBlock_11 rfl rfl ?_
    refine s_iload_n (pc := 12) 1 dX5_hasBlock_12 rfl rfl ?_
    refine zS_ite (fun ht => ?_) (fun _ => zS_none)
    refine s_callV (pc := 13) (np := 1) (as := [.int v1]) (rest := []) dX5_hasBlock_13 ht (q := (RX5, TX5, 20)) rfl (c_X5_isBlock (by decide) v0 v1 h4) rfl rfl q3464 q3466 qs67 rfl (by decide) (zkI (fun x5 h6 => ?_)) zxo
    refine s_if_eq (pc := 16) (tgt := 23) dX5_hasBlock_16 (by decide) (fun _ => ?_) (fun _ => ?_)
    · refine s_iconst (pc := 23) (v := 0) dX5_hasBlock_23 (by decide) ?_
      exact s_nret (pc := 24) dX5_hasBlock_24 rfl
    · refine s_iconst (pc := 19) (v := 1) dX5_hasBlock_19 (by decide) ?_
      refine s_goto (pc := 20) (tgt := 24) dX5_hasBlock_20 (by decide) ?_
      exact s_nret (pc := 24) dX5_hasBlock_24 rfl
theorem c_X5_hasBlock {d0 : Nat} (hd0 : 4 < d0) (v0 : Option Nat) (v1 : Int32) (h : zH) : zCal D z d0 h yX5_hasBlock [va_rf v0, .int v1] (f_X5_hasBlock v0 v1 h) :=
  ⟨cX5_hasBlock, 2, (some .boolean), [], 4, (show lv_args 0 [va_rf v0, .int v1] = [(0, va_rf v0), (1, .int v1)] by simp [lv_args, zcat_rf, zcat_i, zcat_l, zcat_f, zcat_d]) ▸ w_X5_hasBlock v0 v1 h, (plainFor_of_name (by decide)), by simp [lg_sl, zcat_rf, zcat_i, zcat_l, zcat_f, zcat_d], q3580, q140, hd0, by decide, by decide⟩
theorem w_X5_asksBeneath_17 (a0 : Option Nat) (a2 : Int32) (s0 : Int32) (s1 : Option Nat) (h : zH) : zS D z yX5_asksBeneath cX5_asksBeneath 3 (some .int) [] 7 h 17 [(0, va_rf a0), (2, .int a2)] [.int s0, va_rf s1] (f_X5_asksBeneath_17 a0 a2 s0 s1 h) := by
  unfold f_X5_asksBeneath_17
  refine zS_ite (fun ht => ?_) (fun _ => zS_none)
  refine s_callV (pc := 17) (np := 1) (as := [.int s0]) (rest := []) dX5_asksBeneath_17 ht (q := (RX5, TX5, 20)) rfl (c_X5_goes (by decide) s1 s0 h) rfl rfl q3311 q3313 qs44 rfl (by decide) (zkI (fun x3 h4 => ?_)) zxo
  refine s_if_eq (pc := 20) (tgt := 31) dX5_asksBeneath_20 (by decide) (fun _ => ?_) (fun _ => ?_)
  · refine s_iconst (pc := 31) (v := 0) dX5_asksBeneath_31 (by decide) ?_
    exact s_iret (pc := 32) dX5_asksBeneath_32 rfl
  · refine s_aload_n (pc := 23) 0 dX5_asksBeneath_23 rfl rfl ?_
    refine s_iload_n (pc := 24) 1 dX5_asksBeneath_24 rfl rfl ?_
    refine zS_ite (fun ht => ?_) (fun _ => zS_none)
    refine s_callV (pc := 25) (np := 1) (as := [.int a2]) (rest := []) dX5_asksBeneath_25 ht (q := (RX5, TX5, 20)) rfl (c_X5_beneath (by decide) a0 a2 h4) rfl rfl q3493 q3495 qs72 rfl (by decide) (zkI (fun x5 h6 => ?_)) zxo
    refine s_goto (pc := 28) (tgt := 32) dX5_asksBeneath_28 (by decide) ?_
    exact s_iret (pc := 32) dX5_asksBeneath_32 rfl
theorem w_X5_asksBeneath (v0 : Option Nat) (v1 : Int32) (h : zH) : zS D z yX5_asksBeneath cX5_asksBeneath 3 (some .int) [] 7 h 0 [(0, va_rf v0), (1, .int v1)] [] (f_X5_asksBeneath v0 v1 h) := by
  unfold f_X5_asksBeneath
  refine s_aload_n (pc := 0) 0 dX5_asksBeneath_0 rfl rfl ?_
  refine s_iload_n (pc := 1) 1 dX5_asksBeneath_1 rfl rfl ?_
  refine zS_ite (fun ht => ?_) (fun _ => zS_none)
  refine s_callV (pc := 2) (np := 1) (as := [.int v1]) (rest := []) dX5_asksBeneath_2 ht (q := (RX5, TX5, 20)) rfl (c_X5_find (by decide) v0 v1 h) rfl rfl q3365 q3367 qs51 rfl (by decide) (zkI (fun x1 h2 => ?_)) zxo
  refine s_ist_n (pc := 5) (L2 := [(0, va_rf v0)]) [0] dX5_asksBeneath_5 rfl (by decide) rfl rfl (zcA rfl) ?_
  refine s_aload_n (pc := 6) 1 dX5_asksBeneath_6 rfl rfl ?_
  refine s_iload_n (pc := 7) 0 dX5_asksBeneath_7 rfl rfl ?_
  refine s_iconst (pc := 8) (v := -1) dX5_asksBeneath_8 (by decide) ?_
  refine s_icmp_eq (pc := 9) (tgt := 16) dX5_asksBeneath_9 (by decide) (fun _ => ?_) (fun _ => ?_)
  · refine s_iconst (pc := 16) (v := 0) dX5_asksBeneath_16 (by decide) ?_
    exact s_sub (pc := 17) [1, 0] rfl (w_X5_asksBeneath_17 v0 x1 0 v0 h2)
  · refine s_iconst (pc := 12) (v := 1) dX5_asksBeneath_12 (by decide) ?_
    refine s_goto (pc := 13) (tgt := 17) dX5_asksBeneath_13 (by decide) ?_
    exact s_sub (pc := 17) [1, 0] rfl (w_X5_asksBeneath_17 v0 x1 1 v0 h2)
theorem c_X5_asksBeneath {d0 : Nat} (hd0 : 7 < d0) (v0 : Option Nat) (v1 : Int32) (h : zH) : zCal D z d0 h yX5_asksBeneath [va_rf v0, .int v1] (f_X5_asksBeneath v0 v1 h) :=
  ⟨cX5_asksBeneath, 3, (some .int), [], 7, (show lv_args 0 [va_rf v0, .int v1] = [(0, va_rf v0), (1, .int v1)] by simp [lv_args, zcat_rf, zcat_i, zcat_l, zcat_f, zcat_d]) ▸ w_X5_asksBeneath v0 v1 h, (plainFor_of_name (by decide)), by simp [lg_sl, zcat_rf, zcat_i, zcat_l, zcat_f, zcat_d], q3588, q140, hd0, by decide, by decide⟩
theorem w_X5_blocksBeneath (v0 : Option Nat) (v1 : Int32) (h : zH) : zS D z yX5_blocksBeneath cX5_blocksBeneath 2 (some .int) [] 8 h 0 [(0, va_rf v0), (1, .int v1)] [] (f_X5_blocksBeneath v0 v1 h) := by
  unfold f_X5_blocksBeneath
  refine s_aload_n (pc := 0) 0 dX5_blocksBeneath_0 rfl rfl ?_
  refine s_iload_n (pc := 1) 1 dX5_blocksBeneath_1 rfl rfl ?_
  refine zS_ite (fun ht => ?_) (fun _ => zS_none)
  refine s_callV (pc := 2) (np := 1) (as := [.int v1]) (rest := []) dX5_blocksBeneath_2 ht (q := (RX5, TX5, 20)) rfl (c_X5_asksBeneath (by decide) v0 v1 h) rfl rfl q3585 q3587 qs76 rfl (by decide) (zkI (fun x1 h2 => ?_)) zxo
  exact s_iret (pc := 5) dX5_blocksBeneath_5 rfl
theorem c_X5_blocksBeneath {d0 : Nat} (hd0 : 8 < d0) (v0 : Option Nat) (v1 : Int32) (h : zH) : zCal D z d0 h yX5_blocksBeneath [va_rf v0, .int v1] (f_X5_blocksBeneath v0 v1 h) :=
  ⟨cX5_blocksBeneath, 2, (some .int), [], 8, (show lv_args 0 [va_rf v0, .int v1] = [(0, va_rf v0), (1, .int v1)] by simp [lv_args, zcat_rf, zcat_i, zcat_l, zcat_f, zcat_d]) ▸ w_X5_blocksBeneath v0 v1 h, (plainFor_of_name (by decide)), by simp [lg_sl, zcat_rf, zcat_i, zcat_l, zcat_f, zcat_d], q3584, q140, hd0, by decide, by decide⟩
theorem w_X5_blocksBeneathByBlocks (v0 : Option Nat) (v1 : Int32) (h : zH) : zS D z yX5_blocksBeneathByBlocks cX5_blocksBeneathByBlocks 2 (some .int) [] 8 h 0 [(0, va_rf v0), (1, .int v1)] [] (f_X5_blocksBeneathByBlocks v0 v1 h) := by
  unfold f_X5_blocksBeneathByBlocks
  refine s_aload_n (pc := 0) 0 dX5_blocksBeneathByBlocks_0 rfl rfl ?_
  refine s_iload_n (pc := 1) 1 dX5_blocksBeneathByBlocks_1 rfl rfl ?_
  refine zS_ite (fun ht => ?_) (fun _ => zS_none)
  refine s_callV (pc := 2) (np := 1) (as := [.int v1]) (rest := []) dX5_blocksBeneathByBlocks_2 ht (q := (RX5, TX5, 20)) rfl (c_X5_asksBeneath (by decide) v0 v1 h) rfl rfl q3585 q3587 qs76 rfl (by decide) (zkI (fun x1 h2 => ?_)) zxo
  exact s_iret (pc := 5) dX5_blocksBeneathByBlocks_5 rfl
theorem c_X5_blocksBeneathByBlocks {d0 : Nat} (hd0 : 8 < d0) (v0 : Option Nat) (v1 : Int32) (h : zH) : zCal D z d0 h yX5_blocksBeneathByBlocks [va_rf v0, .int v1] (f_X5_blocksBeneathByBlocks v0 v1 h) :=
  ⟨cX5_blocksBeneathByBlocks, 2, (some .int), [], 8, (show lv_args 0 [va_rf v0, .int v1] = [(0, va_rf v0), (1, .int v1)] by simp [lv_args, zcat_rf, zcat_i, zcat_l, zcat_f, zcat_d]) ▸ w_X5_blocksBeneathByBlocks v0 v1 h, (plainFor_of_name (by decide)), by simp [lg_sl, zcat_rf, zcat_i, zcat_l, zcat_f, zcat_d], q3592, q140, hd0, by decide, by decide⟩
theorem w_X5_shipAtPosition_21 (a0 : Option Nat) (a2 : Int32) (s0 : Int32) (s1 : Int32) (s2 : Option Nat) (h : zH) : zS D z yX5_shipAtPosition cX5_shipAtPosition 3 (some .int) [] 6 h 21 [(0, va_rf a0), (2, .int a2)] [.int s0, .int s1, va_rf s2] (f_X5_shipAtPosition_21 a0 a2 s0 s1 s2 h) := by
  unfold f_X5_shipAtPosition_21
  refine s_iconst (pc := 21) (v := 1) dX5_shipAtPosition_21 (by decide) ?_
  refine s_iconst (pc := 22) (v := 1) dX5_shipAtPosition_22 (by decide) ?_
  refine zS_ite (fun ht => ?_) (fun _ => zS_none)
  refine s_callV (pc := 23) (np := 4) (as := [.int s1, .int s0, .int 1, .int 1]) (rest := []) dX5_shipAtPosition_23 ht (q := (RX5, TX5, 20)) rfl (c_X5_holds (by decide) s2 s1 s0 1 1 h) rfl rfl q3315 q3317 qs45 rfl (by decide) (zkI (fun x5 h6 => ?_)) zxo
  refine s_if_eq (pc := 26) (tgt := 38) dX5_shipAtPosition_26 (by decide) (fun _ => ?_) (fun _ => ?_)
  · refine s_iconst (pc := 38) (v := 0) dX5_shipAtPosition_38 (by decide) ?_
    exact s_iret (pc := 39) dX5_shipAtPosition_39 rfl
  · refine s_aload_n (pc := 29) 0 dX5_shipAtPosition_29 rfl rfl ?_
    refine s_iload_n (pc := 30) 1 dX5_shipAtPosition_30 rfl rfl ?_
    refine s_iconst (pc := 31) (v := 0) dX5_shipAtPosition_31 (by decide) ?_
    refine zS_ite (fun ht => ?_) (fun _ => zS_none)
    refine s_callV (pc := 32) (np := 2) (as := [.int a2, .int 0]) (rest := []) dX5_shipAtPosition_32 ht (q := (RX5, TX5, 20)) rfl (c_X5_of (by decide) a0 a2 0 h6) rfl rfl q3369 q3371 qs52 rfl (by decide) (zkI (fun x7 h8 => ?_)) zxo
    refine s_goto (pc := 35) (tgt := 39) dX5_shipAtPosition_35 (by decide) ?_
    exact s_iret (pc := 39) dX5_shipAtPosition_39 rfl
theorem w_X5_shipAtPosition (v0 : Option Nat) (v1 : Int32) (h : zH) : zS D z yX5_shipAtPosition cX5_shipAtPosition 3 (some .int) [] 6 h 0 [(0, va_rf v0), (1, .int v1)] [] (f_X5_shipAtPosition v0 v1 h) := by
  unfold f_X5_shipAtPosition
  refine s_aload_n (pc := 0) 0 dX5_shipAtPosition_0 rfl rfl ?_
  refine s_iload_n (pc := 1) 1 dX5_shipAtPosition_1 rfl rfl ?_
  refine zS_ite (fun ht => ?_) (fun _ => zS_none)
  refine s_callV (pc := 2) (np := 1) (as := [.int v1]) (rest := []) dX5_shipAtPosition_2 ht (q := (RX5, TX5, 20)) rfl (c_X5_at (by decide) v0 v1 h) rfl rfl q3392 q3394 qs56 rfl (by decide) (zkI (fun x1 h2 => ?_)) zxo
  refine s_ist_n (pc := 5) (L2 := [(0, va_rf v0), (1, .int v1)]) [0, 1] dX5_shipAtPosition_5 rfl (by decide) rfl rfl (zcB (j := 1) rfl rfl rfl) ?_
  refine s_aload_n (pc := 6) 1 dX5_shipAtPosition_6 rfl rfl ?_
  refine s_iload_n (pc := 7) 2 dX5_shipAtPosition_7 rfl rfl ?_
  refine s_callSS (pc := 8) (np := 1) (as := [.int v1]) (rest := [va_rf v0]) dX5_shipAtPosition_8 (c_X5_isMetre (by decide) v1 h2) rfl rfl q3385 q3386 rfl (by simp [zcat_rf, zcat_i, zcat_l, zcat_f, zcat_d]) (zkI (fun x3 h4 => ?_)) zxo
  refine s_iload_n (pc := 11) 0 dX5_shipAtPosition_11 rfl rfl ?_
  refine s_iconst (pc := 12) (v := -1) dX5_shipAtPosition_12 (by decide) ?_
  refine s_icmp_eq (pc := 13) (tgt := 20) dX5_shipAtPosition_13 (by decide) (fun _ => ?_) (fun _ => ?_)
  · refine s_iconst (pc := 20) (v := 0) dX5_shipAtPosition_20 (by decide) ?_
    exact s_sub (pc := 21) [1, 0] rfl (w_X5_shipAtPosition_21 v0 x1 0 x3 v0 h4)
  · refine s_iconst (pc := 16) (v := 1) dX5_shipAtPosition_16 (by decide) ?_
    refine s_goto (pc := 17) (tgt := 21) dX5_shipAtPosition_17 (by decide) ?_
    exact s_sub (pc := 21) [1, 0] rfl (w_X5_shipAtPosition_21 v0 x1 1 x3 v0 h4)
theorem c_X5_shipAtPosition {d0 : Nat} (hd0 : 6 < d0) (v0 : Option Nat) (v1 : Int32) (h : zH) : zCal D z d0 h yX5_shipAtPosition [va_rf v0, .int v1] (f_X5_shipAtPosition v0 v1 h) :=
  ⟨cX5_shipAtPosition, 3, (some .int), [], 6, (show lv_args 0 [va_rf v0, .int v1] = [(0, va_rf v0), (1, .int v1)] by simp [lv_args, zcat_rf, zcat_i, zcat_l, zcat_f, zcat_d]) ▸ w_X5_shipAtPosition v0 v1 h, (plainFor_of_name (by decide)), by simp [lg_sl, zcat_rf, zcat_i, zcat_l, zcat_f, zcat_d], q3596, q140, hd0, by decide, by decide⟩
theorem w_X5_gap_47 (K13 : Option Nat → Int32 → Int32 → Int32 → Int32 → zH → zO) (hK13 : ∀ (a0 : Option Nat) (a1 : Int32) (a2 : Int32) (a3 : Int32) (a4 : Int32) (h : zH), zS D z yX5_gap cX5_gap 5 (some .int) [] 7 h 13 [(0, va_rf a0), (1, .int a1), (2, .int a2), (3, .int a3), (4, .int a4)] [] (K13 a0 a1 a2 a3 a4 h)) (a0 : Option Nat) (a1 : Int32) (a2 : Int32) (a4 : Int32) (s0 : Int32) (h : zH) : zS D z yX5_gap cX5_gap 5 (some .int) [] 7 h 47 [(0, va_rf a0), (1, .int a1), (2, .int a2), (4, .int a4)] [.int s0] (f_X5_gap_47 K13 a0 a1 a2 a4 s0 h) := by
  unfold f_X5_gap_47
  refine s_ist_n (pc := 47) (L2 := [(0, va_rf a0), (1, .int a1), (2, .int a2), (4, .int a4)]) [0, 1, 2, 3] dX5_gap_47 rfl (by decide) rfl rfl (zcB (j := 2) rfl rfl rfl) ?_
  refine s_inc (pc := 48) (v := 1) (L2 := [(3, .int s0), (0, va_rf a0), (1, .int a1), (2, .int a2)]) 4 [0, 1, 2, 3] dX5_gap_48 rfl (by decide) (by decide) rfl rfl (zcB (j := 0) rfl rfl rfl) (fun x5 => ?_)
  refine s_goto (pc := 51) (tgt := 13) dX5_gap_51 (by decide) ?_
  exact s_sub (pc := 13) [2, 3, 4, 1, 0] rfl (hK13 a0 a1 a2 s0 x5 h)
theorem w_X5_gap_66 (a3 : Int32) (s0 : Int32) (s1 : Int32) (s2 : Option Nat) (h : zH) : zS D z yX5_gap cX5_gap 5 (some .int) [] 7 h 66 [(3, .int a3)] [.int s0, .int s1, va_rf s2] (f_X5_gap_66 a3 s0 s1 s2 h) := by
  unfold f_X5_gap_66
  refine s_iconst (pc := 66) (v := 1) dX5_gap_66 (by decide) ?_
  refine s_iconst (pc := 67) (v := 1) dX5_gap_67 (by decide) ?_
  refine zS_ite (fun ht => ?_) (fun _ => zS_none)
  refine s_callV (pc := 68) (np := 4) (as := [.int s1, .int s0, .int 1, .int 1]) (rest := []) dX5_gap_68 ht (q := (RX5, TX5, 20)) rfl (c_X5_holds (by decide) s2 s1 s0 1 1 h) rfl rfl q3315 q3317 qs45 rfl (by decide) (zkI (fun x6 h7 => ?_)) zxo
  refine s_if_eq (pc := 71) (tgt := 78) dX5_gap_71 (by decide) (fun _ => ?_) (fun _ => ?_)
  · refine s_iconst (pc := 78) (v := 0) dX5_gap_78 (by decide) ?_
    exact s_iret (pc := 79) dX5_gap_79 rfl
  · refine s_iload_n (pc := 74) 0 dX5_gap_74 rfl rfl ?_
    refine s_goto (pc := 75) (tgt := 79) dX5_gap_75 (by decide) ?_
    exact s_iret (pc := 79) dX5_gap_79 rfl
theorem w_X5_gap_54 (a0 : Option Nat) (a2 : Int32) (a3 : Int32) (h : zH) : zS D z yX5_gap cX5_gap 5 (some .int) [] 7 h 54 [(0, va_rf a0), (2, .int a2), (3, .int a3)] [] (f_X5_gap_54 a0 a2 a3 h) := by
  unfold f_X5_gap_54
  refine s_aload_n (pc := 54) 0 dX5_gap_54 rfl rfl ?_
  refine s_iload_n (pc := 55) 1 dX5_gap_55 rfl rfl ?_
  refine s_iload_n (pc := 56) 2 dX5_gap_56 rfl rfl ?_
  refine s_iconst (pc := 57) (v := -1) dX5_gap_57 (by decide) ?_
  refine s_icmp_eq (pc := 58) (tgt := 65) dX5_gap_58 (by decide) (fun _ => ?_) (fun _ => ?_)
  · refine s_iconst (pc := 65) (v := 0) dX5_gap_65 (by decide) ?_
    exact s_sub (pc := 66) [2] rfl (w_X5_gap_66 a3 0 a2 a0 h)
  · refine s_iconst (pc := 61) (v := 1) dX5_gap_61 (by decide) ?_
    refine s_goto (pc := 62) (tgt := 66) dX5_gap_62 (by decide) ?_
    exact s_sub (pc := 66) [2] rfl (w_X5_gap_66 a3 1 a2 a0 h)
theorem w_X5_gap_13 : ∀ (n : Nat) (a0 : Option Nat) (a1 : Int32) (a2 : Int32) (a3 : Int32) (a4 : Int32) (h : zH), zS D z yX5_gap cX5_gap 5 (some .int) [] 7 h 13 [(0, va_rf a0), (1, .int a1), (2, .int a2), (3, .int a3), (4, .int a4)] [] (f_X5_gap_13 n a0 a1 a2 a3 a4 h) := by
  intro n
  induction n with
  | zero => intros; exact zS_none
  | succ n ih =>
    intro a0 a1 a2 a3 a4 h
    rw [f_X5_gap_13.eq_2]
    refine s_iload_n (pc := 13) 2 dX5_gap_13 rfl rfl ?_
    refine s_if_eq (pc := 14) (tgt := 54) dX5_gap_14 (by decide) (fun _ => ?_) (fun _ => ?_)
    · exact s_sub (pc := 54) [0, 2, 3] rfl (w_X5_gap_54 a0 a2 a3 h)
    · refine s_iload (pc := 17) 4 dX5_gap_17 rfl ?_
      refine s_iload_n (pc := 19) 1 dX5_gap_19 rfl rfl ?_
      refine s_iadd (pc := 20) dX5_gap_20 ?_
      refine s_bipush (pc := 21) (v := 60) dX5_gap_21 (by decide) ?_
      refine s_icmp_gt (pc := 23) (tgt := 54) dX5_gap_23 (by decide) (fun _ => ?_) (fun _ => ?_)
      · exact s_sub (pc := 54) [0, 2, 3] rfl (w_X5_gap_54 a0 a2 a3 h)
      · refine s_iload_n (pc := 26) 3 dX5_gap_26 rfl rfl ?_
        refine s_iconst (pc := 27) (v := -1) dX5_gap_27 (by decide) ?_
        refine s_icmp_ne (pc := 28) (tgt := 54) dX5_gap_28 (by decide) (fun _ => ?_) (fun _ => ?_)
        · exact s_sub (pc := 54) [0, 2, 3] rfl (w_X5_gap_54 a0 a2 a3 h)
        · refine s_aload_n (pc := 31) 0 dX5_gap_31 rfl rfl ?_
          refine s_iload (pc := 32) 4 dX5_gap_32 rfl ?_
          refine s_iload_n (pc := 34) 1 dX5_gap_34 rfl rfl ?_
          refine zS_ite (fun ht => ?_) (fun _ => zS_none)
          refine s_callV (pc := 35) (np := 2) (as := [.int a4, .int a1]) (rest := []) dX5_gap_35 ht (q := (RX5, TX5, 20)) rfl (c_X5_isFree (by decide) a0 a4 a1 h) rfl rfl q3388 q3390 qs55 rfl (by decide) (zkI (fun x3 h4 => ?_)) zxo
          refine s_if_eq (pc := 38) (tgt := 46) dX5_gap_38 (by decide) (fun _ => ?_) (fun _ => ?_)
          · refine s_iconst (pc := 46) (v := -1) dX5_gap_46 (by decide) ?_
            exact s_sub (pc := 47) [0, 1, 2, 4] rfl (w_X5_gap_47 (f_X5_gap_13 n) ih a0 a1 a2 a4 (-1) h4)
          · refine s_iload (pc := 41) 4 dX5_gap_41 rfl ?_
            refine s_goto (pc := 43) (tgt := 47) dX5_gap_43 (by decide) ?_
            exact s_sub (pc := 47) [0, 1, 2, 4] rfl (w_X5_gap_47 (f_X5_gap_13 n) ih a0 a1 a2 a4 a4 h4)
theorem w_X5_gap (v0 : Option Nat) (v1 : Int32) (h : zH) : zS D z yX5_gap cX5_gap 5 (some .int) [] 7 h 0 [(0, va_rf v0), (1, .int v1)] [] (f_X5_gap v0 v1 h) := by
  unfold f_X5_gap
  refine s_iload_n (pc := 0) 1 dX5_gap_0 rfl rfl ?_
  refine s_iconst (pc := 1) (v := 1) dX5_gap_1 (by decide) ?_
  refine s_bipush (pc := 2) (v := 60) dX5_gap_2 (by decide) ?_
  refine s_callSS (pc := 4) (np := 3) (as := [.int v1, .int 1, .int 60]) (rest := []) dX5_gap_4 (c_X5_isIn (by decide) v1 1 60 h) rfl rfl q3342 q3343 rfl (by decide) (zkI (fun x1 h2 => ?_)) zxo
  refine s_ist_n (pc := 7) (L2 := [(0, va_rf v0), (1, .int v1)]) [0, 1] dX5_gap_7 rfl (by decide) rfl rfl (zcB (j := 1) rfl rfl rfl) ?_
  refine s_iconst (pc := 8) (v := -1) dX5_gap_8 (by decide) ?_
  refine s_ist_n (pc := 9) (L2 := [(2, .int x1), (0, va_rf v0), (1, .int v1)]) [0, 1, 2] dX5_gap_9 rfl (by decide) rfl rfl (zcB (j := 0) rfl rfl rfl) ?_
  refine s_iconst (pc := 10) (v := 0) dX5_gap_10 (by decide) ?_
  refine s_ist (pc := 11) (L2 := [(3, .int (-1)), (2, .int x1), (0, va_rf v0), (1, .int v1)]) [0, 1, 2, 3] dX5_gap_11 (by decide) rfl rfl (zcB (j := 0) rfl rfl rfl) ?_
  exact s_sub (pc := 13) [3, 4, 2, 1, 0] rfl (w_X5_gap_13 zfuel v0 v1 x1 (-1) 0 h2)
theorem c_X5_gap {d0 : Nat} (hd0 : 7 < d0) (v0 : Option Nat) (v1 : Int32) (h : zH) : zCal D z d0 h yX5_gap [va_rf v0, .int v1] (f_X5_gap v0 v1 h) :=
  ⟨cX5_gap, 5, (some .int), [], 7, (show lv_args 0 [va_rf v0, .int v1] = [(0, va_rf v0), (1, .int v1)] by simp [lv_args, zcat_rf, zcat_i, zcat_l, zcat_f, zcat_d]) ▸ w_X5_gap v0 v1 h, (plainFor_of_name (by decide)), by simp [lg_sl, zcat_rf, zcat_i, zcat_l, zcat_f, zcat_d], q3604, q140, hd0, by decide, by decide⟩
theorem w_X5_firstGap (v0 : Option Nat) (v1 : Int32) (h : zH) : zS D z yX5_firstGap cX5_firstGap 2 (some .int) [] 8 h 0 [(0, va_rf v0), (1, .int v1)] [] (f_X5_firstGap v0 v1 h) := by
  unfold f_X5_firstGap
  refine s_aload_n (pc := 0) 0 dX5_firstGap_0 rfl rfl ?_
  refine s_iload_n (pc := 1) 1 dX5_firstGap_1 rfl rfl ?_
  refine zS_ite (fun ht => ?_) (fun _ => zS_none)
  refine s_callV (pc := 2) (np := 1) (as := [.int v1]) (rest := []) dX5_firstGap_2 ht (q := (RX5, TX5, 20)) rfl (c_X5_gap (by decide) v0 v1 h) rfl rfl q3601 q3603 qs77 rfl (by decide) (zkI (fun x1 h2 => ?_)) zxo
  exact s_iret (pc := 5) dX5_firstGap_5 rfl
theorem c_X5_firstGap {d0 : Nat} (hd0 : 8 < d0) (v0 : Option Nat) (v1 : Int32) (h : zH) : zCal D z d0 h yX5_firstGap [va_rf v0, .int v1] (f_X5_firstGap v0 v1 h) :=
  ⟨cX5_firstGap, 2, (some .int), [], 8, (show lv_args 0 [va_rf v0, .int v1] = [(0, va_rf v0), (1, .int v1)] by simp [lv_args, zcat_rf, zcat_i, zcat_l, zcat_f, zcat_d]) ▸ w_X5_firstGap v0 v1 h, (plainFor_of_name (by decide)), by simp [lg_sl, zcat_rf, zcat_i, zcat_l, zcat_f, zcat_d], q3600, q140, hd0, by decide, by decide⟩
theorem w_X5_firstGapByShips (v0 : Option Nat) (v1 : Int32) (h : zH) : zS D z yX5_firstGapByShips cX5_firstGapByShips 2 (some .int) [] 8 h 0 [(0, va_rf v0), (1, .int v1)] [] (f_X5_firstGapByShips v0 v1 h) := by
  unfold f_X5_firstGapByShips
  refine s_aload_n (pc := 0) 0 dX5_firstGapByShips_0 rfl rfl ?_
  refine s_iload_n (pc := 1) 1 dX5_firstGapByShips_1 rfl rfl ?_
  refine zS_ite (fun ht => ?_) (fun _ => zS_none)
  refine s_callV (pc := 2) (np := 1) (as := [.int v1]) (rest := []) dX5_firstGapByShips_2 ht (q := (RX5, TX5, 20)) rfl (c_X5_gap (by decide) v0 v1 h) rfl rfl q3601 q3603 qs77 rfl (by decide) (zkI (fun x1 h2 => ?_)) zxo
  exact s_iret (pc := 5) dX5_firstGapByShips_5 rfl
theorem c_X5_firstGapByShips {d0 : Nat} (hd0 : 8 < d0) (v0 : Option Nat) (v1 : Int32) (h : zH) : zCal D z d0 h yX5_firstGapByShips [va_rf v0, .int v1] (f_X5_firstGapByShips v0 v1 h) :=
  ⟨cX5_firstGapByShips, 2, (some .int), [], 8, (show lv_args 0 [va_rf v0, .int v1] = [(0, va_rf v0), (1, .int v1)] by simp [lv_args, zcat_rf, zcat_i, zcat_l, zcat_f, zcat_d]) ▸ w_X5_firstGapByShips v0 v1 h, (plainFor_of_name (by decide)), by simp [lg_sl, zcat_rf, zcat_i, zcat_l, zcat_f, zcat_d], q3608, q140, hd0, by decide, by decide⟩
theorem w_X5_freeOnes_25 (K4 : Option Nat → Int32 → Int32 → zH → zO) (hK4 : ∀ (a0 : Option Nat) (a1 : Int32) (a2 : Int32) (h : zH), zS D z yX5_freeOnes cX5_freeOnes 3 (some .int) [] 6 h 4 [(0, va_rf a0), (1, .int a1), (2, .int a2)] [] (K4 a0 a1 a2 h)) (a0 : Option Nat) (a2 : Int32) (s0 : Int32) (s1 : Int32) (h : zH) : zS D z yX5_freeOnes cX5_freeOnes 3 (some .int) [] 6 h 25 [(0, va_rf a0), (2, .int a2)] [.int s0, .int s1] (f_X5_freeOnes_25 K4 a0 a2 s0 s1 h) := by
  unfold f_X5_freeOnes_25
  refine s_iadd (pc := 25) dX5_freeOnes_25 ?_
  refine s_nm (pc := 26) Value.int (fun x3 => ?_)
  refine s_ist_n (pc := 26) (L2 := [(0, va_rf a0), (2, .int a2)]) [0, 1] dX5_freeOnes_26 rfl (by decide) rfl rfl (zcB (j := 0) rfl (zcat_rf a0) rfl) ?_
  refine s_inc (pc := 27) (v := 1) (L2 := [(1, .int x3), (0, va_rf a0)]) 2 [0, 1] dX5_freeOnes_27 rfl (by decide) (by decide) rfl rfl (zcB (j := 0) rfl rfl rfl) (fun x4 => ?_)
  refine s_goto (pc := 30) (tgt := 4) dX5_freeOnes_30 (by decide) ?_
  exact s_sub (pc := 4) [2, 1, 0] rfl (hK4 a0 x3 x4 h)
theorem w_X5_freeOnes_4 : ∀ (n : Nat) (a0 : Option Nat) (a1 : Int32) (a2 : Int32) (h : zH), zS D z yX5_freeOnes cX5_freeOnes 3 (some .int) [] 6 h 4 [(0, va_rf a0), (1, .int a1), (2, .int a2)] [] (f_X5_freeOnes_4 n a0 a1 a2 h) := by
  intro n
  induction n with
  | zero => intros; exact zS_none
  | succ n ih =>
    intro a0 a1 a2 h
    rw [f_X5_freeOnes_4.eq_2]
    refine s_iload_n (pc := 4) 2 dX5_freeOnes_4 rfl rfl ?_
    refine s_bipush (pc := 5) (v := 60) dX5_freeOnes_5 (by decide) ?_
    refine s_icmp_ge (pc := 7) (tgt := 33) dX5_freeOnes_7 (by decide) (fun _ => ?_) (fun _ => ?_)
    · refine s_iload_n (pc := 33) 1 dX5_freeOnes_33 rfl rfl ?_
      exact s_iret (pc := 34) dX5_freeOnes_34 rfl
    · refine s_iload_n (pc := 10) 1 dX5_freeOnes_10 rfl rfl ?_
      refine s_aload_n (pc := 11) 0 dX5_freeOnes_11 rfl rfl ?_
      refine s_iload_n (pc := 12) 2 dX5_freeOnes_12 rfl rfl ?_
      refine zS_ite (fun ht => ?_) (fun _ => zS_none)
      refine s_callV (pc := 13) (np := 1) (as := [.int a2]) (rest := [.int a1]) dX5_freeOnes_13 ht (q := (RX5, TX5, 20)) rfl (c_X5_at (by decide) a0 a2 h) rfl rfl q3392 q3394 qs56 rfl (by simp [zcat_rf, zcat_i, zcat_l, zcat_f, zcat_d]) (zkI (fun x1 h2 => ?_)) zxo
      refine s_iconst (pc := 16) (v := -1) dX5_freeOnes_16 (by decide) ?_
      refine s_icmp_ne (pc := 17) (tgt := 24) dX5_freeOnes_17 (by decide) (fun _ => ?_) (fun _ => ?_)
      · refine s_iconst (pc := 24) (v := 0) dX5_freeOnes_24 (by decide) ?_
        exact s_sub (pc := 25) [0, 2] rfl (w_X5_freeOnes_25 (f_X5_freeOnes_4 n) ih a0 a2 0 a1 h2)
      · refine s_iconst (pc := 20) (v := 1) dX5_freeOnes_20 (by decide) ?_
        refine s_goto (pc := 21) (tgt := 25) dX5_freeOnes_21 (by decide) ?_
        exact s_sub (pc := 25) [0, 2] rfl (w_X5_freeOnes_25 (f_X5_freeOnes_4 n) ih a0 a2 1 a1 h2)
theorem w_X5_freeOnes (v0 : Option Nat) (h : zH) : zS D z yX5_freeOnes cX5_freeOnes 3 (some .int) [] 6 h 0 [(0, va_rf v0)] [] (f_X5_freeOnes v0 h) := by
  unfold f_X5_freeOnes
  refine s_iconst (pc := 0) (v := 0) dX5_freeOnes_0 (by decide) ?_
  refine s_ist_n (pc := 1) (L2 := [(0, va_rf v0)]) [0] dX5_freeOnes_1 rfl (by decide) rfl rfl (zcB (j := 0) rfl (zcat_rf v0) rfl) ?_
  refine s_iconst (pc := 2) (v := 0) dX5_freeOnes_2 (by decide) ?_
  refine s_ist_n (pc := 3) (L2 := [(1, .int 0), (0, va_rf v0)]) [0, 1] dX5_freeOnes_3 rfl (by decide) rfl rfl (zcB (j := 0) rfl rfl rfl) ?_
  exact s_sub (pc := 4) [2, 1, 0] rfl (w_X5_freeOnes_4 zfuel v0 0 0 h)
theorem c_X5_freeOnes {d0 : Nat} (hd0 : 6 < d0) (v0 : Option Nat) (h : zH) : zCal D z d0 h yX5_freeOnes [va_rf v0] (f_X5_freeOnes v0 h) :=
  ⟨cX5_freeOnes, 3, (some .int), [], 6, (show lv_args 0 [va_rf v0] = [(0, va_rf v0)] by simp [lv_args, zcat_rf, zcat_i, zcat_l, zcat_f, zcat_d]) ▸ w_X5_freeOnes v0 h, (plainFor_of_name (by decide)), by simp [lg_sl, zcat_rf, zcat_i, zcat_l, zcat_f, zcat_d], q3616, q140, hd0, by decide, by decide⟩
theorem w_X5_freeMetres (v0 : Option Nat) (h : zH) : zS D z yX5_freeMetres cX5_freeMetres 1 (some .int) [] 7 h 0 [(0, va_rf v0)] [] (f_X5_freeMetres v0 h) := by
  unfold f_X5_freeMetres
  refine s_aload_n (pc := 0) 0 dX5_freeMetres_0 rfl rfl ?_
  refine s_iconst (pc := 1) (v := 0) dX5_freeMetres_1 (by decide) ?_
  refine s_putI (pc := 2) dX5_freeMetres_2 pf_X5_42 (fun h1 => ?_)
  refine s_aload_n (pc := 5) 0 dX5_freeMetres_5 rfl rfl ?_
  refine zS_ite (fun ht => ?_) (fun _ => zS_none)
  refine s_callV (pc := 6) (np := 0) (as := []) (rest := []) dX5_freeMetres_6 ht (q := (RX5, TX5, 20)) rfl (c_X5_freeOnes (by decide) v0 h1) rfl rfl q3613 q3615 qs78 rfl (by decide) (zkI (fun x2 h3 => ?_)) zxo
  exact s_iret (pc := 9) dX5_freeMetres_9 rfl
theorem c_X5_freeMetres {d0 : Nat} (hd0 : 7 < d0) (v0 : Option Nat) (h : zH) : zCal D z d0 h yX5_freeMetres [va_rf v0] (f_X5_freeMetres v0 h) :=
  ⟨cX5_freeMetres, 1, (some .int), [], 7, (show lv_args 0 [va_rf v0] = [(0, va_rf v0)] by simp [lv_args, zcat_rf, zcat_i, zcat_l, zcat_f, zcat_d]) ▸ w_X5_freeMetres v0 h, (plainFor_of_name (by decide)), by simp [lg_sl, zcat_rf, zcat_i, zcat_l, zcat_f, zcat_d], q3612, q140, hd0, by decide, by decide⟩
theorem w_X5_metres_94 (K4 : Option Nat → Int32 → Int32 → Int32 → zH → zO) (hK4 : ∀ (a0 : Option Nat) (a1 : Int32) (a2 : Int32) (a3 : Int32) (h : zH), zS D z yX5_metres cX5_metres 6 (some .int) [] 5 h 4 [(0, va_rf a0), (1, .int a1), (2, .int a2), (3, .int a3)] [] (K4 a0 a1 a2 a3 h)) (a0 : Option Nat) (a1 : Int32) (a3 : Int32) (s0 : Int32) (s1 : Int32) (h : zH) : zS D z yX5_metres cX5_metres 6 (some .int) [] 5 h 94 [(0, va_rf a0), (1, .int a1), (3, .int a3)] [.int s0, .int s1] (f_X5_metres_94 K4 a0 a1 a3 s0 s1 h) := by
  unfold f_X5_metres_94
  refine s_iadd (pc := 94) dX5_metres_94 ?_
  refine s_nm (pc := 95) Value.int (fun x11 => ?_)
  refine s_ist_n (pc := 95) (L2 := [(0, va_rf a0), (1, .int a1), (3, .int a3)]) [0, 1, 2] dX5_metres_95 rfl (by decide) rfl rfl (zcB (j := 1) rfl rfl rfl) ?_
  refine s_inc (pc := 96) (v := 1) (L2 := [(2, .int x11), (0, va_rf a0), (1, .int a1)]) 3 [0, 1, 2] dX5_metres_96 rfl (by decide) (by decide) rfl rfl (zcB (j := 0) rfl rfl rfl) (fun x12 => ?_)
  refine s_goto (pc := 99) (tgt := 4) dX5_metres_99 (by decide) ?_
  exact s_sub (pc := 4) [2, 3, 1, 0] rfl (hK4 a0 a1 x11 x12 h)
theorem w_X5_metres_66 (K4 : Option Nat → Int32 → Int32 → Int32 → zH → zO) (hK4 : ∀ (a0 : Option Nat) (a1 : Int32) (a2 : Int32) (a3 : Int32) (h : zH), zS D z yX5_metres cX5_metres 6 (some .int) [] 5 h 4 [(0, va_rf a0), (1, .int a1), (2, .int a2), (3, .int a3)] [] (K4 a0 a1 a2 a3 h)) (a0 : Option Nat) (a1 : Int32) (a2 : Int32) (a3 : Int32) (a4 : Int32) (s0 : Int32) (h : zH) : zS D z yX5_metres cX5_metres 6 (some .int) [] 5 h 66 [(0, va_rf a0), (1, .int a1), (2, .int a2), (3, .int a3), (4, .int a4)] [.int s0] (f_X5_metres_66 K4 a0 a1 a2 a3 a4 s0 h) := by
  unfold f_X5_metres_66
  refine s_ist (pc := 66) (L2 := [(0, va_rf a0), (1, .int a1), (2, .int a2), (3, .int a3), (4, .int a4)]) [0, 1, 2, 3, 4] dX5_metres_66 (by decide) rfl rfl (zcB (j := 4) rfl rfl rfl) ?_
  refine s_iload_n (pc := 68) 3 dX5_metres_68 rfl rfl ?_
  refine s_iload (pc := 69) 5 dX5_metres_69 rfl ?_
  refine s_if_ne (pc := 71) (tgt := 78) dX5_metres_71 (by decide) (fun _ => ?_) (fun _ => ?_)
  · refine s_iload (pc := 78) 0 dX5_metres_78 rfl ?_
    refine s_if_eq (pc := 80) (tgt := 92) dX5_metres_80 (by decide) (fun _ => ?_) (fun _ => ?_)
    · refine s_bipush (pc := 92) (v := 61) dX5_metres_92 (by decide) ?_
      exact s_sub (pc := 94) [1, 2, 4] rfl (w_X5_metres_94 K4 hK4 a0 a1 a3 61 a2 h)
    · refine s_aload_n (pc := 83) 1 dX5_metres_83 rfl rfl ?_
      refine s_iload_n (pc := 84) 4 dX5_metres_84 rfl rfl ?_
      refine s_iconst (pc := 85) (v := 1) dX5_metres_85 (by decide) ?_
      refine zS_ite (fun ht => ?_) (fun _ => zS_none)
      refine s_callV (pc := 86) (np := 2) (as := [.int a3, .int 1]) (rest := [.int a2]) dX5_metres_86 ht (q := (RX5, TX5, 20)) rfl (c_X5_of (by decide) a0 a3 1 h) rfl rfl q3369 q3371 qs52 rfl (by simp [zcat_rf, zcat_i, zcat_l, zcat_f, zcat_d]) (zkI (fun x9 h10 => ?_)) zxo
      refine s_goto (pc := 89) (tgt := 94) dX5_metres_89 (by decide) ?_
      exact s_sub (pc := 94) [1, 2, 4] rfl (w_X5_metres_94 K4 hK4 a0 a1 a3 x9 a2 h10)
  · refine s_iconst (pc := 74) (v := 0) dX5_metres_74 (by decide) ?_
    refine s_goto (pc := 75) (tgt := 94) dX5_metres_75 (by decide) ?_
    exact s_sub (pc := 94) [1, 2, 4] rfl (w_X5_metres_94 K4 hK4 a0 a1 a3 0 a2 h)
theorem w_X5_metres_65 (K4 : Option Nat → Int32 → Int32 → Int32 → zH → zO) (hK4 : ∀ (a0 : Option Nat) (a1 : Int32) (a2 : Int32) (a3 : Int32) (h : zH), zS D z yX5_metres cX5_metres 6 (some .int) [] 5 h 4 [(0, va_rf a0), (1, .int a1), (2, .int a2), (3, .int a3)] [] (K4 a0 a1 a2 a3 h)) (a0 : Option Nat) (a1 : Int32) (a2 : Int32) (a3 : Int32) (a4 : Int32) (h : zH) : zS D z yX5_metres cX5_metres 6 (some .int) [] 5 h 65 [(0, va_rf a0), (1, .int a1), (2, .int a2), (3, .int a3), (4, .int a4)] [] (f_X5_metres_65 K4 a0 a1 a2 a3 a4 h) := by
  unfold f_X5_metres_65
  refine s_iconst (pc := 65) (v := 0) dX5_metres_65 (by decide) ?_
  exact s_sub (pc := 66) [0, 1, 2, 3, 4] rfl (w_X5_metres_66 K4 hK4 a0 a1 a2 a3 a4 0 h)
theorem w_X5_metres_24 (K4 : Option Nat → Int32 → Int32 → Int32 → zH → zO) (hK4 : ∀ (a0 : Option Nat) (a1 : Int32) (a2 : Int32) (a3 : Int32) (h : zH), zS D z yX5_metres cX5_metres 6 (some .int) [] 5 h 4 [(0, va_rf a0), (1, .int a1), (2, .int a2), (3, .int a3)] [] (K4 a0 a1 a2 a3 h)) (a0 : Option Nat) (a1 : Int32) (a2 : Int32) (a3 : Int32) (s0 : Int32) (h : zH) : zS D z yX5_metres cX5_metres 6 (some .int) [] 5 h 24 [(0, va_rf a0), (1, .int a1), (2, .int a2), (3, .int a3)] [.int s0] (f_X5_metres_24 K4 a0 a1 a2 a3 s0 h) := by
  unfold f_X5_metres_24
  refine s_ist (pc := 24) (L2 := [(0, va_rf a0), (1, .int a1), (2, .int a2), (3, .int a3)]) [0, 1, 2, 3] dX5_metres_24 (by decide) rfl rfl (zcB (j := 3) rfl rfl rfl) ?_
  refine s_iload_n (pc := 26) 4 dX5_metres_26 rfl rfl ?_
  refine s_aload_n (pc := 27) 1 dX5_metres_27 rfl rfl ?_
  refine s_gR (pc := 28) dX5_metres_28 gf_X5_9 (fun r1 => ?_)
  refine s_iconst (pc := 31) (v := 4) dX5_metres_31 (by decide) ?_
  refine s_iald (pc := 32) dX5_metres_32 (ztc rfl zt0) (fun x2 => ?_)
  refine s_icmp_ge (pc := 33) (tgt := 65) dX5_metres_33 (by decide) (fun _ => ?_) (fun _ => ?_)
  · exact s_sub (pc := 65) [1, 2, 3, 4, 0] rfl (w_X5_metres_65 K4 hK4 a0 a1 a2 a3 s0 h)
  · refine s_aload_n (pc := 36) 1 dX5_metres_36 rfl rfl ?_
    refine s_iload_n (pc := 37) 4 dX5_metres_37 rfl rfl ?_
    refine zS_ite (fun ht => ?_) (fun _ => zS_none)
    refine s_callV (pc := 38) (np := 1) (as := [.int a3]) (rest := []) dX5_metres_38 ht (q := (RX5, TX5, 20)) rfl (c_X5_isDocked (by decide) a0 a3 h) rfl rfl q3373 q3375 qs53 rfl (by decide) (zkI (fun x3 h4 => ?_)) zxo
    refine s_if_ne (pc := 41) (tgt := 65) dX5_metres_41 (by decide) (fun _ => ?_) (fun _ => ?_)
    · exact s_sub (pc := 65) [1, 2, 3, 4, 0] rfl (w_X5_metres_65 K4 hK4 a0 a1 a2 a3 s0 h4)
    · refine s_aload_n (pc := 44) 1 dX5_metres_44 rfl rfl ?_
      refine s_iload_n (pc := 45) 4 dX5_metres_45 rfl rfl ?_
      refine s_iconst (pc := 46) (v := 2) dX5_metres_46 (by decide) ?_
      refine zS_ite (fun ht => ?_) (fun _ => zS_none)
      refine s_callV (pc := 47) (np := 2) (as := [.int a3, .int 2]) (rest := []) dX5_metres_47 ht (q := (RX5, TX5, 20)) rfl (c_X5_of (by decide) a0 a3 2 h4) rfl rfl q3369 q3371 qs52 rfl (by decide) (zkI (fun x5 h6 => ?_)) zxo
      refine s_aload_n (pc := 50) 1 dX5_metres_50 rfl rfl ?_
      refine s_gR (pc := 51) dX5_metres_51 gf_X5_9 (fun r7 => ?_)
      refine s_iconst (pc := 54) (v := 1) dX5_metres_54 (by decide) ?_
      refine s_iald (pc := 55) dX5_metres_55 (ztc rfl zt0) (fun x8 => ?_)
      refine s_iconst (pc := 56) (v := 2) dX5_metres_56 (by decide) ?_
      refine s_isub (pc := 57) dX5_metres_57 ?_
      refine s_icmp_gt (pc := 58) (tgt := 65) dX5_metres_58 (by decide) (fun _ => ?_) (fun _ => ?_)
      · exact s_sub (pc := 65) [1, 2, 3, 4, 0] rfl (w_X5_metres_65 K4 hK4 a0 a1 a2 a3 s0 h6)
      · refine s_iconst (pc := 61) (v := 1) dX5_metres_61 (by decide) ?_
        refine s_goto (pc := 62) (tgt := 66) dX5_metres_62 (by decide) ?_
        exact s_sub (pc := 66) [1, 2, 3, 4, 0] rfl (w_X5_metres_66 K4 hK4 a0 a1 a2 a3 s0 1 h6)
theorem w_X5_metres_4 : ∀ (n : Nat) (a0 : Option Nat) (a1 : Int32) (a2 : Int32) (a3 : Int32) (h : zH), zS D z yX5_metres cX5_metres 6 (some .int) [] 5 h 4 [(0, va_rf a0), (1, .int a1), (2, .int a2), (3, .int a3)] [] (f_X5_metres_4 n a0 a1 a2 a3 h) := by
  intro n
  induction n with
  | zero => intros; exact zS_none
  | succ n ih =>
    intro a0 a1 a2 a3 h
    rw [f_X5_metres_4.eq_2]
    refine s_iload_n (pc := 4) 3 dX5_metres_4 rfl rfl ?_
    refine s_bipush (pc := 5) (v := 8) dX5_metres_5 (by decide) ?_
    refine s_icmp_ge (pc := 7) (tgt := 102) dX5_metres_7 (by decide) (fun _ => ?_) (fun _ => ?_)
    · refine s_iload_n (pc := 102) 2 dX5_metres_102 rfl rfl ?_
      exact s_iret (pc := 103) dX5_metres_103 rfl
    · refine s_iload_n (pc := 10) 1 dX5_metres_10 rfl rfl ?_
      refine s_iload_n (pc := 11) 3 dX5_metres_11 rfl rfl ?_
      refine s_ishr (pc := 12) dX5_metres_12 ?_
      refine s_iconst (pc := 13) (v := 1) dX5_metres_13 (by decide) ?_
      refine s_iand (pc := 14) dX5_metres_14 ?_
      refine s_iconst (pc := 15) (v := 1) dX5_metres_15 (by decide) ?_
      refine s_icmp_ne (pc := 16) (tgt := 23) dX5_metres_16 (by decide) (fun _ => ?_) (fun _ => ?_)
      · refine s_iconst (pc := 23) (v := 0) dX5_metres_23 (by decide) ?_
        exact s_sub (pc := 24) [0, 1, 2, 3] rfl (w_X5_metres_24 (f_X5_metres_4 n) ih a0 a1 a2 a3 0 h)
      · refine s_iconst (pc := 19) (v := 1) dX5_metres_19 (by decide) ?_
        refine s_goto (pc := 20) (tgt := 24) dX5_metres_20 (by decide) ?_
        exact s_sub (pc := 24) [0, 1, 2, 3] rfl (w_X5_metres_24 (f_X5_metres_4 n) ih a0 a1 a2 a3 1 h)
theorem w_X5_metres (v0 : Option Nat) (v1 : Int32) (h : zH) : zS D z yX5_metres cX5_metres 6 (some .int) [] 5 h 0 [(0, va_rf v0), (1, .int v1)] [] (f_X5_metres v0 v1 h) := by
  unfold f_X5_metres
  refine s_iconst (pc := 0) (v := 0) dX5_metres_0 (by decide) ?_
  refine s_ist_n (pc := 1) (L2 := [(0, va_rf v0), (1, .int v1)]) [0, 1] dX5_metres_1 rfl (by decide) rfl rfl (zcB (j := 1) rfl rfl rfl) ?_
  refine s_iconst (pc := 2) (v := 0) dX5_metres_2 (by decide) ?_
  refine s_ist_n (pc := 3) (L2 := [(2, .int 0), (0, va_rf v0), (1, .int v1)]) [0, 1, 2] dX5_metres_3 rfl (by decide) rfl rfl (zcB (j := 0) rfl rfl rfl) ?_
  exact s_sub (pc := 4) [2, 3, 1, 0] rfl (w_X5_metres_4 zfuel v0 v1 0 0 h)
theorem c_X5_metres {d0 : Nat} (hd0 : 5 < d0) (v0 : Option Nat) (v1 : Int32) (h : zH) : zCal D z d0 h yX5_metres [va_rf v0, .int v1] (f_X5_metres v0 v1 h) :=
  ⟨cX5_metres, 6, (some .int), [], 5, (show lv_args 0 [va_rf v0, .int v1] = [(0, va_rf v0), (1, .int v1)] by simp [lv_args, zcat_rf, zcat_i, zcat_l, zcat_f, zcat_d]) ▸ w_X5_metres v0 v1 h, (plainFor_of_name (by decide)), by simp [lg_sl, zcat_rf, zcat_i, zcat_l, zcat_f, zcat_d], q3636, q140, hd0, by decide, by decide⟩
theorem w_X5_takesGap_57 (K8 : Option Nat → Int32 → Int32 → zH → zO) (hK8 : ∀ (a0 : Option Nat) (a1 : Int32) (a2 : Int32) (h : zH), zS D z yX5_takesGap cX5_takesGap 4 none [] 6 h 8 [(0, va_rf a0), (1, .int a1), (2, .int a2)] [] (K8 a0 a1 a2 h)) (K14 : Option Nat → Int32 → Int32 → Int32 → zH → zO) (hK14 : ∀ (a0 : Option Nat) (a1 : Int32) (a2 : Int32) (a3 : Int32) (h : zH), zS D z yX5_takesGap cX5_takesGap 4 none [] 6 h 14 [(0, va_rf a0), (1, .int a1), (2, .int a2), (3, .int a3)] [] (K14 a0 a1 a2 a3 h)) (a0 : Option Nat) (a1 : Int32) (a2 : Int32) (a3 : Int32) (s0 : Int32) (s1 : Int32) (s2 : Option Nat) (h : zH) : zS D z yX5_takesGap cX5_takesGap 4 none [] 6 h 57 [(0, va_rf a0), (1, .int a1), (2, .int a2), (3, .int a3)] [.int s0, .int s1, va_rf s2] (f_X5_takesGap_57 K8 K14 a0 a1 a2 a3 s0 s1 s2 h) := by
  unfold f_X5_takesGap_57
  refine s_zast (pc := 57) dX5_takesGap_57 (ztc rfl zt0) (fun h11 => ?_)
  refine s_iload_n (pc := 58) 3 dX5_takesGap_58 rfl rfl ?_
  refine s_iconst (pc := 59) (v := 1) dX5_takesGap_59 (by decide) ?_
  refine s_isub (pc := 60) dX5_takesGap_60 ?_
  refine s_iload_n (pc := 61) 2 dX5_takesGap_61 rfl rfl ?_
  refine s_iand (pc := 62) dX5_takesGap_62 ?_
  refine s_nm (pc := 63) Value.int (fun x12 => ?_)
  refine s_ist_n (pc := 63) (L2 := [(0, va_rf a0), (1, .int a1), (2, .int a2)]) [0, 1, 2] dX5_takesGap_63 rfl (by decide) rfl rfl (zcB (j := 2) rfl rfl rfl) ?_
  refine s_goto (pc := 64) (tgt := 14) dX5_takesGap_64 (by decide) ?_
  exact s_sub (pc := 14) [1, 2, 3, 0] rfl (hK14 a0 a1 a2 x12 h11)
theorem w_X5_takesGap_56 (K8 : Option Nat → Int32 → Int32 → zH → zO) (hK8 : ∀ (a0 : Option Nat) (a1 : Int32) (a2 : Int32) (h : zH), zS D z yX5_takesGap cX5_takesGap 4 none [] 6 h 8 [(0, va_rf a0), (1, .int a1), (2, .int a2)] [] (K8 a0 a1 a2 h)) (K14 : Option Nat → Int32 → Int32 → Int32 → zH → zO) (hK14 : ∀ (a0 : Option Nat) (a1 : Int32) (a2 : Int32) (a3 : Int32) (h : zH), zS D z yX5_takesGap cX5_takesGap 4 none [] 6 h 14 [(0, va_rf a0), (1, .int a1), (2, .int a2), (3, .int a3)] [] (K14 a0 a1 a2 a3 h)) (a0 : Option Nat) (a1 : Int32) (a2 : Int32) (a3 : Int32) (s0 : Int32) (s1 : Option Nat) (h : zH) : zS D z yX5_takesGap cX5_takesGap 4 none [] 6 h 56 [(0, va_rf a0), (1, .int a1), (2, .int a2), (3, .int a3)] [.int s0, va_rf s1] (f_X5_takesGap_56 K8 K14 a0 a1 a2 a3 s0 s1 h) := by
  unfold f_X5_takesGap_56
  refine s_iconst (pc := 56) (v := 0) dX5_takesGap_56 (by decide) ?_
  exact s_sub (pc := 57) [0, 1, 2, 3] rfl (w_X5_takesGap_57 K8 hK8 K14 hK14 a0 a1 a2 a3 0 s0 s1 h)
theorem w_X5_takesGap_67 (K8 : Option Nat → Int32 → Int32 → zH → zO) (hK8 : ∀ (a0 : Option Nat) (a1 : Int32) (a2 : Int32) (h : zH), zS D z yX5_takesGap cX5_takesGap 4 none [] 6 h 8 [(0, va_rf a0), (1, .int a1), (2, .int a2)] [] (K8 a0 a1 a2 h)) (a0 : Option Nat) (a1 : Int32) (a2 : Int32) (h : zH) : zS D z yX5_takesGap cX5_takesGap 4 none [] 6 h 67 [(0, va_rf a0), (1, .int a1), (2, .int a2)] [] (f_X5_takesGap_67 K8 a0 a1 a2 h) := by
  unfold f_X5_takesGap_67
  refine s_inc (pc := 67) (v := -1) (L2 := [(0, va_rf a0), (1, .int a1)]) 2 [0, 1] dX5_takesGap_67 rfl (by decide) (by decide) rfl rfl (zcB (j := 1) rfl rfl rfl) (fun x13 => ?_)
  refine s_goto (pc := 70) (tgt := 8) dX5_takesGap_70 (by decide) ?_
  exact s_sub (pc := 8) [1, 2, 0] rfl (hK8 a0 a1 x13 h)
theorem w_X5_takesGap_14 (K8 : Option Nat → Int32 → Int32 → zH → zO) (hK8 : ∀ (a0 : Option Nat) (a1 : Int32) (a2 : Int32) (h : zH), zS D z yX5_takesGap cX5_takesGap 4 none [] 6 h 8 [(0, va_rf a0), (1, .int a1), (2, .int a2)] [] (K8 a0 a1 a2 h)) : ∀ (n : Nat) (a0 : Option Nat) (a1 : Int32) (a2 : Int32) (a3 : Int32) (h : zH), zS D z yX5_takesGap cX5_takesGap 4 none [] 6 h 14 [(0, va_rf a0), (1, .int a1), (2, .int a2), (3, .int a3)] [] (f_X5_takesGap_14 K8 n a0 a1 a2 a3 h) := by
  intro n
  induction n with
  | zero => intros; exact zS_none
  | succ n ih =>
    intro a0 a1 a2 a3 h
    rw [f_X5_takesGap_14.eq_2]
    refine s_iload_n (pc := 14) 3 dX5_takesGap_14 rfl rfl ?_
    refine s_if_le (pc := 15) (tgt := 67) dX5_takesGap_15 (by decide) (fun _ => ?_) (fun _ => ?_)
    · exact s_sub (pc := 67) [0, 1, 2] rfl (w_X5_takesGap_67 K8 hK8 a0 a1 a2 h)
    · refine s_aload_n (pc := 18) 0 dX5_takesGap_18 rfl rfl ?_
      refine s_gR (pc := 19) dX5_takesGap_19 gf_X5_35 (fun r4 => ?_)
      refine s_iload_n (pc := 22) 2 dX5_takesGap_22 rfl rfl ?_
      refine s_zald (pc := 23) dX5_takesGap_23 (ztc rfl zt0) (fun x5 => ?_)
      refine s_if_ne (pc := 24) (tgt := 67) dX5_takesGap_24 (by decide) (fun _ => ?_) (fun _ => ?_)
      · exact s_sub (pc := 67) [0, 1, 2] rfl (w_X5_takesGap_67 K8 hK8 a0 a1 a2 h)
      · refine s_aload_n (pc := 27) 0 dX5_takesGap_27 rfl rfl ?_
        refine s_gR (pc := 28) dX5_takesGap_28 gf_X5_35 (fun r6 => ?_)
        refine s_iload_n (pc := 31) 2 dX5_takesGap_31 rfl rfl ?_
        refine s_aload_n (pc := 32) 0 dX5_takesGap_32 rfl rfl ?_
        refine s_gR (pc := 33) dX5_takesGap_33 gf_X5_35 (fun r7 => ?_)
        refine s_iload_n (pc := 36) 2 dX5_takesGap_36 rfl rfl ?_
        refine s_iload_n (pc := 37) 3 dX5_takesGap_37 rfl rfl ?_
        refine s_ixor (pc := 38) dX5_takesGap_38 ?_
        refine s_zald (pc := 39) dX5_takesGap_39 (ztc rfl zt0) (fun x8 => ?_)
        refine s_if_eq (pc := 40) (tgt := 56) dX5_takesGap_40 (by decide) (fun _ => ?_) (fun _ => ?_)
        · exact s_sub (pc := 56) [0, 1, 2, 3] rfl (w_X5_takesGap_56 K8 hK8 (f_X5_takesGap_14 K8 n) ih a0 a1 a2 a3 a2 r6 h)
        · refine s_aload_n (pc := 43) 0 dX5_takesGap_43 rfl rfl ?_
          refine s_iload_n (pc := 44) 3 dX5_takesGap_44 rfl rfl ?_
          refine zS_ite (fun ht => ?_) (fun _ => zS_none)
          refine s_callV (pc := 45) (np := 1) (as := [.int a3]) (rest := [.int a2, va_rf r6]) dX5_takesGap_45 ht (q := (RX5, TX5, 20)) rfl (c_X5_metres (by decide) a0 a3 h) rfl rfl q3633 q3635 qs82 rfl (by simp [zcat_rf, zcat_i, zcat_l, zcat_f, zcat_d]) (zkI (fun x9 h10 => ?_)) zxo
          refine s_iload_n (pc := 48) 1 dX5_takesGap_48 rfl rfl ?_
          refine s_icmp_gt (pc := 49) (tgt := 56) dX5_takesGap_49 (by decide) (fun _ => ?_) (fun _ => ?_)
          · exact s_sub (pc := 56) [0, 1, 2, 3] rfl (w_X5_takesGap_56 K8 hK8 (f_X5_takesGap_14 K8 n) ih a0 a1 a2 a3 a2 r6 h10)
          · refine s_iconst (pc := 52) (v := 1) dX5_takesGap_52 (by decide) ?_
            refine s_goto (pc := 53) (tgt := 57) dX5_takesGap_53 (by decide) ?_
            exact s_sub (pc := 57) [0, 1, 2, 3] rfl (w_X5_takesGap_57 K8 hK8 (f_X5_takesGap_14 K8 n) ih a0 a1 a2 a3 1 a2 r6 h10)
theorem w_X5_takesGap_8 : ∀ (n : Nat) (a0 : Option Nat) (a1 : Int32) (a2 : Int32) (h : zH), zS D z yX5_takesGap cX5_takesGap 4 none [] 6 h 8 [(0, va_rf a0), (1, .int a1), (2, .int a2)] [] (f_X5_takesGap_8 n a0 a1 a2 h) := by
  intro n
  induction n with
  | zero => intros; exact zS_none
  | succ n ih =>
    intro a0 a1 a2 h
    rw [f_X5_takesGap_8.eq_2]
    refine s_iload_n (pc := 8) 2 dX5_takesGap_8 rfl rfl ?_
    refine s_if_le (pc := 9) (tgt := 73) dX5_takesGap_9 (by decide) (fun _ => ?_) (fun _ => ?_)
    · exact s_vret (pc := 73) dX5_takesGap_73 rfl
    · refine s_iload_n (pc := 12) 2 dX5_takesGap_12 rfl rfl ?_
      refine s_ist_n (pc := 13) (L2 := [(0, va_rf a0), (1, .int a1), (2, .int a2)]) [0, 1, 2] dX5_takesGap_13 rfl (by decide) rfl rfl (zcB (j := 2) rfl rfl rfl) ?_
      exact s_sub (pc := 14) [1, 2, 3, 0] rfl (w_X5_takesGap_14 (f_X5_takesGap_8 n) ih zfuel a0 a1 a2 a2 h)
theorem w_X5_takesGap (v0 : Option Nat) (v1 : Int32) (h : zH) : zS D z yX5_takesGap cX5_takesGap 4 none [] 6 h 0 [(0, va_rf v0), (1, .int v1)] [] (f_X5_takesGap v0 v1 h) := by
  unfold f_X5_takesGap
  refine s_aload_n (pc := 0) 0 dX5_takesGap_0 rfl rfl ?_
  refine s_gR (pc := 1) dX5_takesGap_1 gf_X5_35 (fun r1 => ?_)
  refine s_alen (pc := 4) dX5_takesGap_4 zarrs_ok (fun x2 => ?_)
  refine s_iconst (pc := 5) (v := 1) dX5_takesGap_5 (by decide) ?_
  refine s_isub (pc := 6) dX5_takesGap_6 ?_
  refine s_nm (pc := 7) Value.int (fun x3 => ?_)
  refine s_ist_n (pc := 7) (L2 := [(0, va_rf v0), (1, .int v1)]) [0, 1] dX5_takesGap_7 rfl (by decide) rfl rfl (zcB (j := 1) rfl rfl rfl) ?_
  exact s_sub (pc := 8) [1, 2, 0] rfl (w_X5_takesGap_8 zfuel v0 v1 x3 h)
theorem c_X5_takesGap {d0 : Nat} (hd0 : 6 < d0) (v0 : Option Nat) (v1 : Int32) (h : zH) : zCal D z d0 h yX5_takesGap [va_rf v0, .int v1] (f_X5_takesGap v0 v1 h) :=
  ⟨cX5_takesGap, 4, none, [], 6, (show lv_args 0 [va_rf v0, .int v1] = [(0, va_rf v0), (1, .int v1)] by simp [lv_args, zcat_rf, zcat_i, zcat_l, zcat_f, zcat_d]) ▸ w_X5_takesGap v0 v1 h, (plainFor_of_name (by decide)), by simp [lg_sl, zcat_rf, zcat_i, zcat_l, zcat_f, zcat_d], q3632, q140, hd0, by decide, by decide⟩
theorem w_X5_packs_25 (K2 : Option Nat → Int32 → zH → zO) (hK2 : ∀ (a0 : Option Nat) (a1 : Int32) (h : zH), zS D z yX5_packs cX5_packs 3 none [] 7 h 2 [(0, va_rf a0), (1, .int a1)] [] (K2 a0 a1 h)) (a0 : Option Nat) (a1 : Int32) (s0 : Int32) (s1 : Int32) (s2 : Option Nat) (h : zH) : zS D z yX5_packs cX5_packs 3 none [] 7 h 25 [(0, va_rf a0), (1, .int a1)] [.int s0, .int s1, va_rf s2] (f_X5_packs_25 K2 a0 a1 s0 s1 s2 h) := by
  unfold f_X5_packs_25
  refine s_zast (pc := 25) dX5_packs_25 (ztc rfl zt0) (fun h4 => ?_)
  refine s_inc (pc := 26) (v := 1) (L2 := [(0, va_rf a0)]) 1 [0] dX5_packs_26 rfl (by decide) (by decide) rfl rfl (zcB (j := 0) rfl (zcat_rf a0) rfl) (fun x5 => ?_)
  refine s_goto (pc := 29) (tgt := 2) dX5_packs_29 (by decide) ?_
  exact s_sub (pc := 2) [1, 0] rfl (hK2 a0 x5 h4)
theorem w_X5_packs_74 (K36 : Option Nat → Int32 → Int32 → zH → zO) (hK36 : ∀ (a0 : Option Nat) (a1 : Int32) (a2 : Int32) (h : zH), zS D z yX5_packs cX5_packs 3 none [] 7 h 36 [(0, va_rf a0), (1, .int a1), (2, .int a2)] [] (K36 a0 a1 a2 h)) (a0 : Option Nat) (a1 : Int32) (a2 : Int32) (h : zH) : zS D z yX5_packs cX5_packs 3 none [] 7 h 74 [(0, va_rf a0), (1, .int a1), (2, .int a2)] [] (f_X5_packs_74 K36 a0 a1 a2 h) := by
  unfold f_X5_packs_74
  refine s_inc (pc := 74) (v := 1) (L2 := [(0, va_rf a0), (1, .int a1)]) 2 [0, 1] dX5_packs_74 rfl (by decide) (by decide) rfl rfl (zcB (j := 1) rfl rfl rfl) (fun x9 => ?_)
  refine s_goto (pc := 77) (tgt := 36) dX5_packs_77 (by decide) ?_
  exact s_sub (pc := 36) [1, 2, 0] rfl (hK36 a0 a1 x9 h)
theorem w_X5_packs_63 (K36 : Option Nat → Int32 → Int32 → zH → zO) (hK36 : ∀ (a0 : Option Nat) (a1 : Int32) (a2 : Int32) (h : zH), zS D z yX5_packs cX5_packs 3 none [] 7 h 36 [(0, va_rf a0), (1, .int a1), (2, .int a2)] [] (K36 a0 a1 a2 h)) (a0 : Option Nat) (a1 : Int32) (a2 : Int32) (h : zH) : zS D z yX5_packs cX5_packs 3 none [] 7 h 63 [(0, va_rf a0), (1, .int a1), (2, .int a2)] [] (f_X5_packs_63 K36 a0 a1 a2 h) := by
  unfold f_X5_packs_63
  refine s_iload_n (pc := 63) 1 dX5_packs_63 rfl rfl ?_
  refine s_if_le (pc := 64) (tgt := 74) dX5_packs_64 (by decide) (fun _ => ?_) (fun _ => ?_)
  · exact s_sub (pc := 74) [0, 1, 2] rfl (w_X5_packs_74 K36 hK36 a0 a1 a2 h)
  · refine s_aload_n (pc := 67) 0 dX5_packs_67 rfl rfl ?_
    refine s_iload_n (pc := 68) 1 dX5_packs_68 rfl rfl ?_
    refine zS_ite (fun ht => ?_) (fun _ => zS_none)
    refine s_callV (pc := 69) (np := 1) (as := [.int a1]) (rest := []) dX5_packs_69 ht (q := (RX5, TX5, 20)) rfl (c_X5_takesGap (by decide) a0 a1 h) rfl rfl q3629 q3631 qs81 rfl (by decide) (zkV (fun h10 => ?_)) zxo
    refine s_iconst (pc := 72) (v := 0) dX5_packs_72 (by decide) ?_
    refine s_ist_n (pc := 73) (L2 := [(0, va_rf a0), (2, .int a2)]) [0, 2] dX5_packs_73 rfl (by decide) rfl rfl (zcB (j := 0) rfl (zcat_rf a0) rfl) ?_
    exact s_sub (pc := 74) [1, 0, 2] rfl (w_X5_packs_74 K36 hK36 a0 0 a2 h10)
theorem w_X5_packs_36 : ∀ (n : Nat) (a0 : Option Nat) (a1 : Int32) (a2 : Int32) (h : zH), zS D z yX5_packs cX5_packs 3 none [] 7 h 36 [(0, va_rf a0), (1, .int a1), (2, .int a2)] [] (f_X5_packs_36 n a0 a1 a2 h) := by
  intro n
  induction n with
  | zero => intros; exact zS_none
  | succ n ih =>
    intro a0 a1 a2 h
    rw [f_X5_packs_36.eq_2]
    refine s_iload_n (pc := 36) 2 dX5_packs_36 rfl rfl ?_
    refine s_bipush (pc := 37) (v := 60) dX5_packs_37 (by decide) ?_
    refine s_icmp_gt (pc := 39) (tgt := 80) dX5_packs_39 (by decide) (fun _ => ?_) (fun _ => ?_)
    · exact s_vret (pc := 80) dX5_packs_80 rfl
    · refine s_iload_n (pc := 42) 2 dX5_packs_42 rfl rfl ?_
      refine s_bipush (pc := 43) (v := 60) dX5_packs_43 (by decide) ?_
      refine s_icmp_ge (pc := 45) (tgt := 63) dX5_packs_45 (by decide) (fun _ => ?_) (fun _ => ?_)
      · exact s_sub (pc := 63) [0, 1, 2] rfl (w_X5_packs_63 (f_X5_packs_36 n) ih a0 a1 a2 h)
      · refine s_aload_n (pc := 48) 0 dX5_packs_48 rfl rfl ?_
        refine s_iload_n (pc := 49) 2 dX5_packs_49 rfl rfl ?_
        refine zS_ite (fun ht => ?_) (fun _ => zS_none)
        refine s_callV (pc := 50) (np := 1) (as := [.int a2]) (rest := []) dX5_packs_50 ht (q := (RX5, TX5, 20)) rfl (c_X5_at (by decide) a0 a2 h) rfl rfl q3392 q3394 qs56 rfl (by decide) (zkI (fun x6 h7 => ?_)) zxo
        refine s_iconst (pc := 53) (v := -1) dX5_packs_53 (by decide) ?_
        refine s_icmp_ne (pc := 54) (tgt := 63) dX5_packs_54 (by decide) (fun _ => ?_) (fun _ => ?_)
        · exact s_sub (pc := 63) [0, 1, 2] rfl (w_X5_packs_63 (f_X5_packs_36 n) ih a0 a1 a2 h7)
        · refine s_inc (pc := 57) (v := 1) (L2 := [(0, va_rf a0), (2, .int a2)]) 1 [0, 2] dX5_packs_57 rfl (by decide) (by decide) rfl rfl (zcB (j := 0) rfl (zcat_rf a0) rfl) (fun x8 => ?_)
          refine s_goto (pc := 60) (tgt := 74) dX5_packs_60 (by decide) ?_
          exact s_sub (pc := 74) [1, 0, 2] rfl (w_X5_packs_74 (f_X5_packs_36 n) ih a0 x8 a2 h7)
theorem w_X5_packs_32 (a0 : Option Nat) (h : zH) : zS D z yX5_packs cX5_packs 3 none [] 7 h 32 [(0, va_rf a0)] [] (f_X5_packs_32 a0 h) := by
  unfold f_X5_packs_32
  refine s_iconst (pc := 32) (v := 0) dX5_packs_32 (by decide) ?_
  refine s_ist_n (pc := 33) (L2 := [(0, va_rf a0)]) [0] dX5_packs_33 rfl (by decide) rfl rfl (zcB (j := 0) rfl (zcat_rf a0) rfl) ?_
  refine s_iconst (pc := 34) (v := 0) dX5_packs_34 (by decide) ?_
  refine s_ist_n (pc := 35) (L2 := [(1, .int 0), (0, va_rf a0)]) [0, 1] dX5_packs_35 rfl (by decide) rfl rfl (zcB (j := 0) rfl rfl rfl) ?_
  exact s_sub (pc := 36) [2, 1, 0] rfl (w_X5_packs_36 zfuel a0 0 0 h)
theorem w_X5_packs_2 : ∀ (n : Nat) (a0 : Option Nat) (a1 : Int32) (h : zH), zS D z yX5_packs cX5_packs 3 none [] 7 h 2 [(0, va_rf a0), (1, .int a1)] [] (f_X5_packs_2 n a0 a1 h) := by
  intro n
  induction n with
  | zero => intros; exact zS_none
  | succ n ih =>
    intro a0 a1 h
    rw [f_X5_packs_2.eq_2]
    refine s_iload_n (pc := 2) 1 dX5_packs_2 rfl rfl ?_
    refine s_aload_n (pc := 3) 0 dX5_packs_3 rfl rfl ?_
    refine s_gR (pc := 4) dX5_packs_4 gf_X5_35 (fun r1 => ?_)
    refine s_alen (pc := 7) dX5_packs_7 zarrs_ok (fun x2 => ?_)
    refine s_icmp_ge (pc := 8) (tgt := 32) dX5_packs_8 (by decide) (fun _ => ?_) (fun _ => ?_)
    · exact s_sub (pc := 32) [0] rfl (w_X5_packs_32 a0 h)
    · refine s_aload_n (pc := 11) 0 dX5_packs_11 rfl rfl ?_
      refine s_gR (pc := 12) dX5_packs_12 gf_X5_35 (fun r3 => ?_)
      refine s_iload_n (pc := 15) 1 dX5_packs_15 rfl rfl ?_
      refine s_iload_n (pc := 16) 1 dX5_packs_16 rfl rfl ?_
      refine s_if_ne (pc := 17) (tgt := 24) dX5_packs_17 (by decide) (fun _ => ?_) (fun _ => ?_)
      · refine s_iconst (pc := 24) (v := 0) dX5_packs_24 (by decide) ?_
        exact s_sub (pc := 25) [0, 1] rfl (w_X5_packs_25 (f_X5_packs_2 n) ih a0 a1 0 a1 r3 h)
      · refine s_iconst (pc := 20) (v := 1) dX5_packs_20 (by decide) ?_
        refine s_goto (pc := 21) (tgt := 25) dX5_packs_21 (by decide) ?_
        exact s_sub (pc := 25) [0, 1] rfl (w_X5_packs_25 (f_X5_packs_2 n) ih a0 a1 1 a1 r3 h)
theorem w_X5_packs (v0 : Option Nat) (h : zH) : zS D z yX5_packs cX5_packs 3 none [] 7 h 0 [(0, va_rf v0)] [] (f_X5_packs v0 h) := by
  unfold f_X5_packs
  refine s_iconst (pc := 0) (v := 0) dX5_packs_0 (by decide) ?_
  refine s_ist_n (pc := 1) (L2 := [(0, va_rf v0)]) [0] dX5_packs_1 rfl (by decide) rfl rfl (zcB (j := 0) rfl (zcat_rf v0) rfl) ?_
  exact s_sub (pc := 2) [1, 0] rfl (w_X5_packs_2 zfuel v0 0 h)
theorem c_X5_packs {d0 : Nat} (hd0 : 7 < d0) (v0 : Option Nat) (h : zH) : zCal D z d0 h yX5_packs [va_rf v0] (f_X5_packs v0 h) :=
  ⟨cX5_packs, 3, none, [], 7, (show lv_args 0 [va_rf v0] = [(0, va_rf v0)] by simp [lv_args, zcat_rf, zcat_i, zcat_l, zcat_f, zcat_d]) ▸ w_X5_packs v0 h, (plainFor_of_name (by decide)), by simp [lg_sl, zcat_rf, zcat_i, zcat_l, zcat_f, zcat_d], q3628, q140, hd0, by decide, by decide⟩
theorem w_X5_mostOf_55 (K13 : Option Nat → Int32 → Int32 → Int32 → zH → zO) (hK13 : ∀ (a0 : Option Nat) (a1 : Int32) (a2 : Int32) (a3 : Int32) (h : zH), zS D z yX5_mostOf cX5_mostOf 4 (some .int) [] 8 h 13 [(0, va_rf a0), (1, .int a1), (2, .int a2), (3, .int a3)] [] (K13 a0 a1 a2 a3 h)) (a0 : Option Nat) (a1 : Int32) (a3 : Int32) (s0 : Int32) (h : zH) : zS D z yX5_mostOf cX5_mostOf 4 (some .int) [] 8 h 55 [(0, va_rf a0), (1, .int a1), (3, .int a3)] [.int s0] (f_X5_mostOf_55 K13 a0 a1 a3 s0 h) := by
  unfold f_X5_mostOf_55
  refine s_ist_n (pc := 55) (L2 := [(0, va_rf a0), (1, .int a1), (3, .int a3)]) [0, 1, 2] dX5_mostOf_55 rfl (by decide) rfl rfl (zcB (j := 1) rfl rfl rfl) ?_
  refine s_inc (pc := 56) (v := 1) (L2 := [(2, .int s0), (0, va_rf a0), (1, .int a1)]) 3 [0, 1, 2] dX5_mostOf_56 rfl (by decide) (by decide) rfl rfl (zcB (j := 0) rfl rfl rfl) (fun x13 => ?_)
  refine s_goto (pc := 59) (tgt := 13) dX5_mostOf_59 (by decide) ?_
  exact s_sub (pc := 13) [2, 3, 1, 0] rfl (hK13 a0 a1 s0 x13 h)
theorem w_X5_mostOf_48 (K13 : Option Nat → Int32 → Int32 → Int32 → zH → zO) (hK13 : ∀ (a0 : Option Nat) (a1 : Int32) (a2 : Int32) (a3 : Int32) (h : zH), zS D z yX5_mostOf cX5_mostOf 4 (some .int) [] 8 h 13 [(0, va_rf a0), (1, .int a1), (2, .int a2), (3, .int a3)] [] (K13 a0 a1 a2 a3 h)) (a0 : Option Nat) (a1 : Int32) (a3 : Int32) (s0 : Int32) (s1 : Int32) (h : zH) : zS D z yX5_mostOf cX5_mostOf 4 (some .int) [] 8 h 48 [(0, va_rf a0), (1, .int a1), (3, .int a3)] [.int s0, .int s1] (f_X5_mostOf_48 K13 a0 a1 a3 s0 s1 h) := by
  unfold f_X5_mostOf_48
  refine s_callSS (pc := 48) (np := 2) (as := [.int s1, .int s0]) (rest := []) dX5_mostOf_48 (c_J11_max (by decide) s1 s0 h) rfl rfl q3348 q881 rfl (by decide) (zkI (fun x11 h12 => ?_)) zxo
  refine s_goto (pc := 51) (tgt := 55) dX5_mostOf_51 (by decide) ?_
  exact s_sub (pc := 55) [0, 1, 2] rfl (w_X5_mostOf_55 K13 hK13 a0 a1 a3 x11 h12)
theorem w_X5_mostOf_13 : ∀ (n : Nat) (a0 : Option Nat) (a1 : Int32) (a2 : Int32) (a3 : Int32) (h : zH), zS D z yX5_mostOf cX5_mostOf 4 (some .int) [] 8 h 13 [(0, va_rf a0), (1, .int a1), (2, .int a2), (3, .int a3)] [] (f_X5_mostOf_13 n a0 a1 a2 a3 h) := by
  intro n
  induction n with
  | zero => intros; exact zS_none
  | succ n ih =>
    intro a0 a1 a2 a3 h
    rw [f_X5_mostOf_13.eq_2]
    refine s_iload_n (pc := 13) 3 dX5_mostOf_13 rfl rfl ?_
    refine s_aload_n (pc := 14) 0 dX5_mostOf_14 rfl rfl ?_
    refine s_gR (pc := 15) dX5_mostOf_15 gf_X5_35 (fun r3 => ?_)
    refine s_alen (pc := 18) dX5_mostOf_18 zarrs_ok (fun x4 => ?_)
    refine s_icmp_ge (pc := 19) (tgt := 62) dX5_mostOf_19 (by decide) (fun _ => ?_) (fun _ => ?_)
    · refine s_iload_n (pc := 62) 2 dX5_mostOf_62 rfl rfl ?_
      exact s_iret (pc := 63) dX5_mostOf_63 rfl
    · refine s_aload_n (pc := 22) 0 dX5_mostOf_22 rfl rfl ?_
      refine s_gR (pc := 23) dX5_mostOf_23 gf_X5_35 (fun r5 => ?_)
      refine s_iload_n (pc := 26) 3 dX5_mostOf_26 rfl rfl ?_
      refine s_zald (pc := 27) dX5_mostOf_27 (ztc rfl zt0) (fun x6 => ?_)
      refine s_if_eq (pc := 28) (tgt := 54) dX5_mostOf_28 (by decide) (fun _ => ?_) (fun _ => ?_)
      · refine s_iload_n (pc := 54) 2 dX5_mostOf_54 rfl rfl ?_
        exact s_sub (pc := 55) [0, 1, 3] rfl (w_X5_mostOf_55 (f_X5_mostOf_13 n) ih a0 a1 a3 a2 h)
      · refine s_iload_n (pc := 31) 2 dX5_mostOf_31 rfl rfl ?_
        refine s_iload_n (pc := 32) 1 dX5_mostOf_32 rfl rfl ?_
        refine s_if_eq (pc := 33) (tgt := 44) dX5_mostOf_33 (by decide) (fun _ => ?_) (fun _ => ?_)
        · refine s_iload_n (pc := 44) 3 dX5_mostOf_44 rfl rfl ?_
          refine s_callSS (pc := 45) (np := 1) (as := [.int a3]) (rest := [.int a2]) dX5_mostOf_45 (c_J24_bitCount (by decide) a3 h) rfl rfl q3637 q1375 rfl (by simp [zcat_rf, zcat_i, zcat_l, zcat_f, zcat_d]) (zkI (fun x7 h8 => ?_)) zxo
          exact s_sub (pc := 48) [0, 1, 3] rfl (w_X5_mostOf_48 (f_X5_mostOf_13 n) ih a0 a1 a3 x7 a2 h8)
        · refine s_aload_n (pc := 36) 0 dX5_mostOf_36 rfl rfl ?_
          refine s_iload_n (pc := 37) 3 dX5_mostOf_37 rfl rfl ?_
          refine zS_ite (fun ht => ?_) (fun _ => zS_none)
          refine s_callV (pc := 38) (np := 1) (as := [.int a3]) (rest := [.int a2]) dX5_mostOf_38 ht (q := (RX5, TX5, 20)) rfl (c_X5_metres (by decide) a0 a3 h) rfl rfl q3633 q3635 qs82 rfl (by simp [zcat_rf, zcat_i, zcat_l, zcat_f, zcat_d]) (zkI (fun x9 h10 => ?_)) zxo
          refine s_goto (pc := 41) (tgt := 48) dX5_mostOf_41 (by decide) ?_
          exact s_sub (pc := 48) [0, 1, 3] rfl (w_X5_mostOf_48 (f_X5_mostOf_13 n) ih a0 a1 a3 x9 a2 h10)
theorem w_X5_mostOf (v0 : Option Nat) (v1 : Int32) (h : zH) : zS D z yX5_mostOf cX5_mostOf 4 (some .int) [] 8 h 0 [(0, va_rf v0), (1, .int v1)] [] (f_X5_mostOf v0 v1 h) := by
  unfold f_X5_mostOf
  refine s_aload_n (pc := 0) 0 dX5_mostOf_0 rfl rfl ?_
  refine s_iconst (pc := 1) (v := 0) dX5_mostOf_1 (by decide) ?_
  refine s_putI (pc := 2) dX5_mostOf_2 pf_X5_42 (fun h1 => ?_)
  refine s_aload_n (pc := 5) 0 dX5_mostOf_5 rfl rfl ?_
  refine zS_ite (fun ht => ?_) (fun _ => zS_none)
  refine s_callV (pc := 6) (np := 0) (as := []) (rest := []) dX5_mostOf_6 ht (q := (RX5, TX5, 20)) rfl (c_X5_packs (by decide) v0 h1) rfl rfl q3625 q3627 qs80 rfl (by decide) (zkV (fun h2 => ?_)) zxo
  refine s_iconst (pc := 9) (v := 0) dX5_mostOf_9 (by decide) ?_
  refine s_ist_n (pc := 10) (L2 := [(0, va_rf v0), (1, .int v1)]) [0, 1] dX5_mostOf_10 rfl (by decide) rfl rfl (zcB (j := 1) rfl rfl rfl) ?_
  refine s_iconst (pc := 11) (v := 0) dX5_mostOf_11 (by decide) ?_
  refine s_ist_n (pc := 12) (L2 := [(2, .int 0), (0, va_rf v0), (1, .int v1)]) [0, 1, 2] dX5_mostOf_12 rfl (by decide) rfl rfl (zcB (j := 0) rfl rfl rfl) ?_
  exact s_sub (pc := 13) [2, 3, 1, 0] rfl (w_X5_mostOf_13 zfuel v0 v1 0 0 h2)
theorem c_X5_mostOf {d0 : Nat} (hd0 : 8 < d0) (v0 : Option Nat) (v1 : Int32) (h : zH) : zCal D z d0 h yX5_mostOf [va_rf v0, .int v1] (f_X5_mostOf v0 v1 h) :=
  ⟨cX5_mostOf, 4, (some .int), [], 8, (show lv_args 0 [va_rf v0, .int v1] = [(0, va_rf v0), (1, .int v1)] by simp [lv_args, zcat_rf, zcat_i, zcat_l, zcat_f, zcat_d]) ▸ w_X5_mostOf v0 v1 h, (plainFor_of_name (by decide)), by simp [lg_sl, zcat_rf, zcat_i, zcat_l, zcat_f, zcat_d], q3624, q140, hd0, by decide, by decide⟩
theorem w_X5_mostFitting (v0 : Option Nat) (h : zH) : zS D z yX5_mostFitting cX5_mostFitting 1 (some .int) [] 9 h 0 [(0, va_rf v0)] [] (f_X5_mostFitting v0 h) := by
  unfold f_X5_mostFitting
  refine s_aload_n (pc := 0) 0 dX5_mostFitting_0 rfl rfl ?_
  refine s_iconst (pc := 1) (v := 0) dX5_mostFitting_1 (by decide) ?_
  refine zS_ite (fun ht => ?_) (fun _ => zS_none)
  refine s_callV (pc := 2) (np := 1) (as := [.int 0]) (rest := []) dX5_mostFitting_2 ht (q := (RX5, TX5, 20)) rfl (c_X5_mostOf (by decide) v0 0 h) rfl rfl q3621 q3623 qs79 rfl (by decide) (zkI (fun x1 h2 => ?_)) zxo
  exact s_iret (pc := 5) dX5_mostFitting_5 rfl
theorem c_X5_mostFitting {d0 : Nat} (hd0 : 9 < d0) (v0 : Option Nat) (h : zH) : zCal D z d0 h yX5_mostFitting [va_rf v0] (f_X5_mostFitting v0 h) :=
  ⟨cX5_mostFitting, 1, (some .int), [], 9, (show lv_args 0 [va_rf v0] = [(0, va_rf v0)] by simp [lv_args, zcat_rf, zcat_i, zcat_l, zcat_f, zcat_d]) ▸ w_X5_mostFitting v0 h, (plainFor_of_name (by decide)), by simp [lg_sl, zcat_rf, zcat_i, zcat_l, zcat_f, zcat_d], q3620, q140, hd0, by decide, by decide⟩
theorem w_X5_mostFittingByTable (v0 : Option Nat) (h : zH) : zS D z yX5_mostFittingByTable cX5_mostFittingByTable 1 (some .int) [] 9 h 0 [(0, va_rf v0)] [] (f_X5_mostFittingByTable v0 h) := by
  unfold f_X5_mostFittingByTable
  refine s_aload_n (pc := 0) 0 dX5_mostFittingByTable_0 rfl rfl ?_
  refine s_iconst (pc := 1) (v := 0) dX5_mostFittingByTable_1 (by decide) ?_
  refine zS_ite (fun ht => ?_) (fun _ => zS_none)
  refine s_callV (pc := 2) (np := 1) (as := [.int 0]) (rest := []) dX5_mostFittingByTable_2 ht (q := (RX5, TX5, 20)) rfl (c_X5_mostOf (by decide) v0 0 h) rfl rfl q3621 q3623 qs79 rfl (by decide) (zkI (fun x1 h2 => ?_)) zxo
  exact s_iret (pc := 5) dX5_mostFittingByTable_5 rfl
theorem c_X5_mostFittingByTable {d0 : Nat} (hd0 : 9 < d0) (v0 : Option Nat) (h : zH) : zCal D z d0 h yX5_mostFittingByTable [va_rf v0] (f_X5_mostFittingByTable v0 h) :=
  ⟨cX5_mostFittingByTable, 1, (some .int), [], 9, (show lv_args 0 [va_rf v0] = [(0, va_rf v0)] by simp [lv_args, zcat_rf, zcat_i, zcat_l, zcat_f, zcat_d]) ▸ w_X5_mostFittingByTable v0 h, (plainFor_of_name (by decide)), by simp [lg_sl, zcat_rf, zcat_i, zcat_l, zcat_f, zcat_d], q3641, q140, hd0, by decide, by decide⟩
theorem w_X5_mostFittingMetres (v0 : Option Nat) (h : zH) : zS D z yX5_mostFittingMetres cX5_mostFittingMetres 1 (some .int) [] 9 h 0 [(0, va_rf v0)] [] (f_X5_mostFittingMetres v0 h) := by
  unfold f_X5_mostFittingMetres
  refine s_aload_n (pc := 0) 0 dX5_mostFittingMetres_0 rfl rfl ?_
  refine s_iconst (pc := 1) (v := 1) dX5_mostFittingMetres_1 (by decide) ?_
  refine zS_ite (fun ht => ?_) (fun _ => zS_none)
  refine s_callV (pc := 2) (np := 1) (as := [.int 1]) (rest := []) dX5_mostFittingMetres_2 ht (q := (RX5, TX5, 20)) rfl (c_X5_mostOf (by decide) v0 1 h) rfl rfl q3621 q3623 qs79 rfl (by decide) (zkI (fun x1 h2 => ?_)) zxo
  exact s_iret (pc := 5) dX5_mostFittingMetres_5 rfl
theorem c_X5_mostFittingMetres {d0 : Nat} (hd0 : 9 < d0) (v0 : Option Nat) (h : zH) : zCal D z d0 h yX5_mostFittingMetres [va_rf v0] (f_X5_mostFittingMetres v0 h) :=
  ⟨cX5_mostFittingMetres, 1, (some .int), [], 9, (show lv_args 0 [va_rf v0] = [(0, va_rf v0)] by simp [lv_args, zcat_rf, zcat_i, zcat_l, zcat_f, zcat_d]) ▸ w_X5_mostFittingMetres v0 h, (plainFor_of_name (by decide)), by simp [lg_sl, zcat_rf, zcat_i, zcat_l, zcat_f, zcat_d], q3645, q140, hd0, by decide, by decide⟩
theorem w_X5_sum_4 : ∀ (n : Nat) (a0 : Option Nat) (a1 : Int32) (a2 : Int32) (a3 : Int32) (h : zH), zS D z yX5_sum cX5_sum 4 (some .int) [] 4 h 4 [(0, va_rf a0), (1, .int a1), (2, .int a2), (3, .int a3)] [] (f_X5_sum_4 n a0 a1 a2 a3 h) := by
  intro n
  induction n with
  | zero => intros; exact zS_none
  | succ n ih =>
    intro a0 a1 a2 a3 h
    rw [f_X5_sum_4.eq_2]
    refine s_iload_n (pc := 4) 3 dX5_sum_4 rfl rfl ?_
    refine s_aload_n (pc := 5) 0 dX5_sum_5 rfl rfl ?_
    refine s_gR (pc := 6) dX5_sum_6 gf_X5_9 (fun r1 => ?_)
    refine s_iconst (pc := 9) (v := 4) dX5_sum_9 (by decide) ?_
    refine s_iald (pc := 10) dX5_sum_10 (ztc rfl zt0) (fun x2 => ?_)
    refine s_icmp_ge (pc := 11) (tgt := 29) dX5_sum_11 (by decide) (fun _ => ?_) (fun _ => ?_)
    · refine s_iload_n (pc := 29) 2 dX5_sum_29 rfl rfl ?_
      exact s_iret (pc := 30) dX5_sum_30 rfl
    · refine s_iload_n (pc := 14) 2 dX5_sum_14 rfl rfl ?_
      refine s_aload_n (pc := 15) 0 dX5_sum_15 rfl rfl ?_
      refine s_iload_n (pc := 16) 3 dX5_sum_16 rfl rfl ?_
      refine s_iload_n (pc := 17) 1 dX5_sum_17 rfl rfl ?_
      refine zS_ite (fun ht => ?_) (fun _ => zS_none)
      refine s_callV (pc := 18) (np := 2) (as := [.int a3, .int a1]) (rest := [.int a2]) dX5_sum_18 ht (q := (RX5, TX5, 20)) rfl (c_X5_of (by decide) a0 a3 a1 h) rfl rfl q3369 q3371 qs52 rfl (by simp [zcat_rf, zcat_i, zcat_l, zcat_f, zcat_d]) (zkI (fun x3 h4 => ?_)) zxo
      refine s_iadd (pc := 21) dX5_sum_21 ?_
      refine s_nm (pc := 22) Value.int (fun x5 => ?_)
      refine s_ist_n (pc := 22) (L2 := [(0, va_rf a0), (1, .int a1), (3, .int a3)]) [0, 1, 3] dX5_sum_22 rfl (by decide) rfl rfl (zcB (j := 1) rfl rfl rfl) ?_
      refine s_inc (pc := 23) (v := 1) (L2 := [(2, .int x5), (0, va_rf a0), (1, .int a1)]) 3 [0, 1, 2] dX5_sum_23 rfl (by decide) (by decide) rfl rfl (zcB (j := 0) rfl rfl rfl) (fun x6 => ?_)
      refine s_goto (pc := 26) (tgt := 4) dX5_sum_26 (by decide) ?_
      exact s_sub (pc := 4) [2, 3, 1, 0] rfl (ih a0 a1 x5 x6 h4)
theorem w_X5_sum (v0 : Option Nat) (v1 : Int32) (h : zH) : zS D z yX5_sum cX5_sum 4 (some .int) [] 4 h 0 [(0, va_rf v0), (1, .int v1)] [] (f_X5_sum v0 v1 h) := by
  unfold f_X5_sum
  refine s_iconst (pc := 0) (v := 0) dX5_sum_0 (by decide) ?_
  refine s_ist_n (pc := 1) (L2 := [(0, va_rf v0), (1, .int v1)]) [0, 1] dX5_sum_1 rfl (by decide) rfl rfl (zcB (j := 1) rfl rfl rfl) ?_
  refine s_iconst (pc := 2) (v := 0) dX5_sum_2 (by decide) ?_
  refine s_ist_n (pc := 3) (L2 := [(2, .int 0), (0, va_rf v0), (1, .int v1)]) [0, 1, 2] dX5_sum_3 rfl (by decide) rfl rfl (zcB (j := 0) rfl rfl rfl) ?_
  exact s_sub (pc := 4) [2, 3, 1, 0] rfl (w_X5_sum_4 zfuel v0 v1 0 0 h)
theorem c_X5_sum {d0 : Nat} (hd0 : 4 < d0) (v0 : Option Nat) (v1 : Int32) (h : zH) : zCal D z d0 h yX5_sum [va_rf v0, .int v1] (f_X5_sum v0 v1 h) :=
  ⟨cX5_sum, 4, (some .int), [], 4, (show lv_args 0 [va_rf v0, .int v1] = [(0, va_rf v0), (1, .int v1)] by simp [lv_args, zcat_rf, zcat_i, zcat_l, zcat_f, zcat_d]) ▸ w_X5_sum v0 v1 h, (plainFor_of_name (by decide)), by simp [lg_sl, zcat_rf, zcat_i, zcat_l, zcat_f, zcat_d], q3653, q140, hd0, by decide, by decide⟩
theorem w_X5_billTotal (v0 : Option Nat) (h : zH) : zS D z yX5_billTotal cX5_billTotal 1 (some .int) [] 5 h 0 [(0, va_rf v0)] [] (f_X5_billTotal v0 h) := by
  unfold f_X5_billTotal
  refine s_aload_n (pc := 0) 0 dX5_billTotal_0 rfl rfl ?_
  refine s_iconst (pc := 1) (v := 0) dX5_billTotal_1 (by decide) ?_
  refine s_putI (pc := 2) dX5_billTotal_2 pf_X5_42 (fun h1 => ?_)
  refine s_aload_n (pc := 5) 0 dX5_billTotal_5 rfl rfl ?_
  refine s_bipush (pc := 6) (v := 8) dX5_billTotal_6 (by decide) ?_
  refine zS_ite (fun ht => ?_) (fun _ => zS_none)
  refine s_callV (pc := 8) (np := 1) (as := [.int 8]) (rest := []) dX5_billTotal_8 ht (q := (RX5, TX5, 20)) rfl (c_X5_sum (by decide) v0 8 h1) rfl rfl q3650 q3652 qs83 rfl (by decide) (zkI (fun x2 h3 => ?_)) zxo
  exact s_iret (pc := 11) dX5_billTotal_11 rfl
theorem c_X5_billTotal {d0 : Nat} (hd0 : 5 < d0) (v0 : Option Nat) (h : zH) : zCal D z d0 h yX5_billTotal [va_rf v0] (f_X5_billTotal v0 h) :=
  ⟨cX5_billTotal, 1, (some .int), [], 5, (show lv_args 0 [va_rf v0] = [(0, va_rf v0)] by simp [lv_args, zcat_rf, zcat_i, zcat_l, zcat_f, zcat_d]) ▸ w_X5_billTotal v0 h, (plainFor_of_name (by decide)), by simp [lg_sl, zcat_rf, zcat_i, zcat_l, zcat_f, zcat_d], q3649, q140, hd0, by decide, by decide⟩
theorem w_X5_billTotalByAccount (v0 : Option Nat) (h : zH) : zS D z yX5_billTotalByAccount cX5_billTotalByAccount 1 (some .int) [] 1 h 0 [(0, va_rf v0)] [] (f_X5_billTotalByAccount v0 h) := by
  unfold f_X5_billTotalByAccount
  refine s_aload_n (pc := 0) 0 dX5_billTotalByAccount_0 rfl rfl ?_
  refine s_iconst (pc := 1) (v := 0) dX5_billTotalByAccount_1 (by decide) ?_
  refine s_putI (pc := 2) dX5_billTotalByAccount_2 pf_X5_42 (fun h1 => ?_)
  refine s_aload_n (pc := 5) 0 dX5_billTotalByAccount_5 rfl rfl ?_
  refine s_gR (pc := 6) dX5_billTotalByAccount_6 gf_X5_9 (fun r2 => ?_)
  refine s_bipush (pc := 9) (v := 6) dX5_billTotalByAccount_9 (by decide) ?_
  refine s_iald (pc := 11) dX5_billTotalByAccount_11 (ztc rfl zt0) (fun x3 => ?_)
  refine s_aload_n (pc := 12) 0 dX5_billTotalByAccount_12 rfl rfl ?_
  refine s_gR (pc := 13) dX5_billTotalByAccount_13 gf_X5_9 (fun r4 => ?_)
  refine s_bipush (pc := 16) (v := 7) dX5_billTotalByAccount_16 (by decide) ?_
  refine s_iald (pc := 18) dX5_billTotalByAccount_18 (ztc rfl zt0) (fun x5 => ?_)
  refine s_isub (pc := 19) dX5_billTotalByAccount_19 ?_
  exact s_iret (pc := 20) dX5_billTotalByAccount_20 rfl
theorem c_X5_billTotalByAccount {d0 : Nat} (hd0 : 1 < d0) (v0 : Option Nat) (h : zH) : zCal D z d0 h yX5_billTotalByAccount [va_rf v0] (f_X5_billTotalByAccount v0 h) :=
  ⟨cX5_billTotalByAccount, 1, (some .int), [], 1, (show lv_args 0 [va_rf v0] = [(0, va_rf v0)] by simp [lv_args, zcat_rf, zcat_i, zcat_l, zcat_f, zcat_d]) ▸ w_X5_billTotalByAccount v0 h, (plainFor_of_name (by decide)), by simp [lg_sl, zcat_rf, zcat_i, zcat_l, zcat_f, zcat_d], q3657, q140, hd0, by decide, by decide⟩
theorem w_X5_paidTotal (v0 : Option Nat) (h : zH) : zS D z yX5_paidTotal cX5_paidTotal 1 (some .int) [] 1 h 0 [(0, va_rf v0)] [] (f_X5_paidTotal v0 h) := by
  unfold f_X5_paidTotal
  refine s_aload_n (pc := 0) 0 dX5_paidTotal_0 rfl rfl ?_
  refine s_iconst (pc := 1) (v := 0) dX5_paidTotal_1 (by decide) ?_
  refine s_putI (pc := 2) dX5_paidTotal_2 pf_X5_42 (fun h1 => ?_)
  refine s_aload_n (pc := 5) 0 dX5_paidTotal_5 rfl rfl ?_
  refine s_gR (pc := 6) dX5_paidTotal_6 gf_X5_9 (fun r2 => ?_)
  refine s_bipush (pc := 9) (v := 7) dX5_paidTotal_9 (by decide) ?_
  refine s_iald (pc := 11) dX5_paidTotal_11 (ztc rfl zt0) (fun x3 => ?_)
  exact s_iret (pc := 12) dX5_paidTotal_12 rfl
theorem c_X5_paidTotal {d0 : Nat} (hd0 : 1 < d0) (v0 : Option Nat) (h : zH) : zCal D z d0 h yX5_paidTotal [va_rf v0] (f_X5_paidTotal v0 h) :=
  ⟨cX5_paidTotal, 1, (some .int), [], 1, (show lv_args 0 [va_rf v0] = [(0, va_rf v0)] by simp [lv_args, zcat_rf, zcat_i, zcat_l, zcat_f, zcat_d]) ▸ w_X5_paidTotal v0 h, (plainFor_of_name (by decide)), by simp [lg_sl, zcat_rf, zcat_i, zcat_l, zcat_f, zcat_d], q3661, q140, hd0, by decide, by decide⟩
theorem w_X5_shipAtRank_98 (K4 : Option Nat → Int32 → Int32 → Int32 → zH → zO) (hK4 : ∀ (a0 : Option Nat) (a1 : Int32) (a2 : Int32) (a3 : Int32) (h : zH), zS D z yX5_shipAtRank cX5_shipAtRank 8 (some .int) [] 4 h 4 [(0, va_rf a0), (1, .int a1), (2, .int a2), (3, .int a3)] [] (K4 a0 a1 a2 a3 h)) (K20 : Option Nat → Int32 → Int32 → Int32 → Int32 → Int32 → zH → zO) (hK20 : ∀ (a0 : Option Nat) (a1 : Int32) (a2 : Int32) (a3 : Int32) (a4 : Int32) (a5 : Int32) (h : zH), zS D z yX5_shipAtRank cX5_shipAtRank 8 (some .int) [] 4 h 20 [(0, va_rf a0), (1, .int a1), (2, .int a2), (3, .int a3), (4, .int a4), (5, .int a5)] [] (K20 a0 a1 a2 a3 a4 a5 h)) (a0 : Option Nat) (a1 : Int32) (a2 : Int32) (a3 : Int32) (a5 : Int32) (s0 : Int32) (s1 : Int32) (h : zH) : zS D z yX5_shipAtRank cX5_shipAtRank 8 (some .int) [] 4 h 98 [(0, va_rf a0), (1, .int a1), (2, .int a2), (3, .int a3), (5, .int a5)] [.int s0, .int s1] (f_X5_shipAtRank_98 K4 K20 a0 a1 a2 a3 a5 s0 s1 h) := by
  unfold f_X5_shipAtRank_98
  refine s_iadd (pc := 98) dX5_shipAtRank_98 ?_
  refine s_nm (pc := 99) Value.int (fun x15 => ?_)
  refine s_ist (pc := 99) (L2 := [(0, va_rf a0), (1, .int a1), (2, .int a2), (3, .int a3), (5, .int a5)]) [0, 1, 2, 3, 4] dX5_shipAtRank_99 (by decide) rfl rfl (zcB (j := 3) rfl rfl rfl) ?_
  refine s_inc (pc := 101) (v := 1) (L2 := [(4, .int x15), (0, va_rf a0), (1, .int a1), (2, .int a2), (3, .int a3)]) 5 [0, 1, 2, 3, 4] dX5_shipAtRank_101 rfl (by decide) (by decide) rfl rfl (zcB (j := 0) rfl rfl rfl) (fun x16 => ?_)
  refine s_goto (pc := 104) (tgt := 20) dX5_shipAtRank_104 (by decide) ?_
  exact s_sub (pc := 20) [2, 3, 4, 5, 1, 0] rfl (hK20 a0 a1 a2 a3 x15 x16 h)
theorem w_X5_shipAtRank_93 (K4 : Option Nat → Int32 → Int32 → Int32 → zH → zO) (hK4 : ∀ (a0 : Option Nat) (a1 : Int32) (a2 : Int32) (a3 : Int32) (h : zH), zS D z yX5_shipAtRank cX5_shipAtRank 8 (some .int) [] 4 h 4 [(0, va_rf a0), (1, .int a1), (2, .int a2), (3, .int a3)] [] (K4 a0 a1 a2 a3 h)) (K20 : Option Nat → Int32 → Int32 → Int32 → Int32 → Int32 → zH → zO) (hK20 : ∀ (a0 : Option Nat) (a1 : Int32) (a2 : Int32) (a3 : Int32) (a4 : Int32) (a5 : Int32) (h : zH), zS D z yX5_shipAtRank cX5_shipAtRank 8 (some .int) [] 4 h 20 [(0, va_rf a0), (1, .int a1), (2, .int a2), (3, .int a3), (4, .int a4), (5, .int a5)] [] (K20 a0 a1 a2 a3 a4 a5 h)) (a0 : Option Nat) (a1 : Int32) (a2 : Int32) (a3 : Int32) (a5 : Int32) (s0 : Int32) (h : zH) : zS D z yX5_shipAtRank cX5_shipAtRank 8 (some .int) [] 4 h 93 [(0, va_rf a0), (1, .int a1), (2, .int a2), (3, .int a3), (5, .int a5)] [.int s0] (f_X5_shipAtRank_93 K4 K20 a0 a1 a2 a3 a5 s0 h) := by
  unfold f_X5_shipAtRank_93
  refine s_iconst (pc := 93) (v := 1) dX5_shipAtRank_93 (by decide) ?_
  refine s_goto (pc := 94) (tgt := 98) dX5_shipAtRank_94 (by decide) ?_
  exact s_sub (pc := 98) [0, 1, 2, 3, 4] rfl (w_X5_shipAtRank_98 K4 hK4 K20 hK20 a0 a1 a2 a3 a5 1 s0 h)
theorem w_X5_shipAtRank_97 (K4 : Option Nat → Int32 → Int32 → Int32 → zH → zO) (hK4 : ∀ (a0 : Option Nat) (a1 : Int32) (a2 : Int32) (a3 : Int32) (h : zH), zS D z yX5_shipAtRank cX5_shipAtRank 8 (some .int) [] 4 h 4 [(0, va_rf a0), (1, .int a1), (2, .int a2), (3, .int a3)] [] (K4 a0 a1 a2 a3 h)) (K20 : Option Nat → Int32 → Int32 → Int32 → Int32 → Int32 → zH → zO) (hK20 : ∀ (a0 : Option Nat) (a1 : Int32) (a2 : Int32) (a3 : Int32) (a4 : Int32) (a5 : Int32) (h : zH), zS D z yX5_shipAtRank cX5_shipAtRank 8 (some .int) [] 4 h 20 [(0, va_rf a0), (1, .int a1), (2, .int a2), (3, .int a3), (4, .int a4), (5, .int a5)] [] (K20 a0 a1 a2 a3 a4 a5 h)) (a0 : Option Nat) (a1 : Int32) (a2 : Int32) (a3 : Int32) (a5 : Int32) (s0 : Int32) (h : zH) : zS D z yX5_shipAtRank cX5_shipAtRank 8 (some .int) [] 4 h 97 [(0, va_rf a0), (1, .int a1), (2, .int a2), (3, .int a3), (5, .int a5)] [.int s0] (f_X5_shipAtRank_97 K4 K20 a0 a1 a2 a3 a5 s0 h) := by
  unfold f_X5_shipAtRank_97
  refine s_iconst (pc := 97) (v := 0) dX5_shipAtRank_97 (by decide) ?_
  exact s_sub (pc := 98) [0, 1, 2, 3, 4] rfl (w_X5_shipAtRank_98 K4 hK4 K20 hK20 a0 a1 a2 a3 a5 0 s0 h)
theorem w_X5_shipAtRank_123 (K4 : Option Nat → Int32 → Int32 → Int32 → zH → zO) (hK4 : ∀ (a0 : Option Nat) (a1 : Int32) (a2 : Int32) (a3 : Int32) (h : zH), zS D z yX5_shipAtRank cX5_shipAtRank 8 (some .int) [] 4 h 4 [(0, va_rf a0), (1, .int a1), (2, .int a2), (3, .int a3)] [] (K4 a0 a1 a2 a3 h)) (a0 : Option Nat) (a1 : Int32) (a3 : Int32) (s0 : Int32) (h : zH) : zS D z yX5_shipAtRank cX5_shipAtRank 8 (some .int) [] 4 h 123 [(0, va_rf a0), (1, .int a1), (3, .int a3)] [.int s0] (f_X5_shipAtRank_123 K4 a0 a1 a3 s0 h) := by
  unfold f_X5_shipAtRank_123
  refine s_ist_n (pc := 123) (L2 := [(0, va_rf a0), (1, .int a1), (3, .int a3)]) [0, 1, 2] dX5_shipAtRank_123 rfl (by decide) rfl rfl (zcB (j := 1) rfl rfl rfl) ?_
  refine s_inc (pc := 124) (v := 1) (L2 := [(2, .int s0), (0, va_rf a0), (1, .int a1)]) 3 [0, 1, 2] dX5_shipAtRank_124 rfl (by decide) (by decide) rfl rfl (zcB (j := 0) rfl rfl rfl) (fun x19 => ?_)
  refine s_goto (pc := 127) (tgt := 4) dX5_shipAtRank_127 (by decide) ?_
  exact s_sub (pc := 4) [2, 3, 1, 0] rfl (hK4 a0 a1 s0 x19 h)
theorem w_X5_shipAtRank_107 (K4 : Option Nat → Int32 → Int32 → Int32 → zH → zO) (hK4 : ∀ (a0 : Option Nat) (a1 : Int32) (a2 : Int32) (a3 : Int32) (h : zH), zS D z yX5_shipAtRank cX5_shipAtRank 8 (some .int) [] 4 h 4 [(0, va_rf a0), (1, .int a1), (2, .int a2), (3, .int a3)] [] (K4 a0 a1 a2 a3 h)) (a0 : Option Nat) (a1 : Int32) (a2 : Int32) (a3 : Int32) (a4 : Int32) (h : zH) : zS D z yX5_shipAtRank cX5_shipAtRank 8 (some .int) [] 4 h 107 [(0, va_rf a0), (1, .int a1), (2, .int a2), (3, .int a3), (4, .int a4)] [] (f_X5_shipAtRank_107 K4 a0 a1 a2 a3 a4 h) := by
  unfold f_X5_shipAtRank_107
  refine s_iload (pc := 107) 4 dX5_shipAtRank_107 rfl ?_
  refine s_iload_n (pc := 109) 1 dX5_shipAtRank_109 rfl rfl ?_
  refine s_icmp_ne (pc := 110) (tgt := 122) dX5_shipAtRank_110 (by decide) (fun _ => ?_) (fun _ => ?_)
  · refine s_iload_n (pc := 122) 2 dX5_shipAtRank_122 rfl rfl ?_
    exact s_sub (pc := 123) [0, 1, 3] rfl (w_X5_shipAtRank_123 K4 hK4 a0 a1 a3 a2 h)
  · refine s_aload_n (pc := 113) 0 dX5_shipAtRank_113 rfl rfl ?_
    refine s_iload_n (pc := 114) 3 dX5_shipAtRank_114 rfl rfl ?_
    refine s_iconst (pc := 115) (v := 0) dX5_shipAtRank_115 (by decide) ?_
    refine zS_ite (fun ht => ?_) (fun _ => zS_none)
    refine s_callV (pc := 116) (np := 2) (as := [.int a3, .int 0]) (rest := []) dX5_shipAtRank_116 ht (q := (RX5, TX5, 20)) rfl (c_X5_of (by decide) a0 a3 0 h) rfl rfl q3369 q3371 qs52 rfl (by decide) (zkI (fun x17 h18 => ?_)) zxo
    refine s_goto (pc := 119) (tgt := 123) dX5_shipAtRank_119 (by decide) ?_
    exact s_sub (pc := 123) [0, 1, 3] rfl (w_X5_shipAtRank_123 K4 hK4 a0 a1 a3 x17 h18)
theorem w_X5_shipAtRank_20 (K4 : Option Nat → Int32 → Int32 → Int32 → zH → zO) (hK4 : ∀ (a0 : Option Nat) (a1 : Int32) (a2 : Int32) (a3 : Int32) (h : zH), zS D z yX5_shipAtRank cX5_shipAtRank 8 (some .int) [] 4 h 4 [(0, va_rf a0), (1, .int a1), (2, .int a2), (3, .int a3)] [] (K4 a0 a1 a2 a3 h)) : ∀ (n : Nat) (a0 : Option Nat) (a1 : Int32) (a2 : Int32) (a3 : Int32) (a4 : Int32) (a5 : Int32) (h : zH), zS D z yX5_shipAtRank cX5_shipAtRank 8 (some .int) [] 4 h 20 [(0, va_rf a0), (1, .int a1), (2, .int a2), (3, .int a3), (4, .int a4), (5, .int a5)] [] (f_X5_shipAtRank_20 K4 n a0 a1 a2 a3 a4 a5 h) := by
  intro n
  induction n with
  | zero => intros; exact zS_none
  | succ n ih =>
    intro a0 a1 a2 a3 a4 a5 h
    rw [f_X5_shipAtRank_20.eq_2]
    refine s_iload (pc := 20) 5 dX5_shipAtRank_20 rfl ?_
    refine s_aload_n (pc := 22) 0 dX5_shipAtRank_22 rfl rfl ?_
    refine s_gR (pc := 23) dX5_shipAtRank_23 gf_X5_9 (fun r3 => ?_)
    refine s_iconst (pc := 26) (v := 4) dX5_shipAtRank_26 (by decide) ?_
    refine s_iald (pc := 27) dX5_shipAtRank_27 (ztc rfl zt0) (fun x4 => ?_)
    refine s_icmp_ge (pc := 28) (tgt := 107) dX5_shipAtRank_28 (by decide) (fun _ => ?_) (fun _ => ?_)
    · exact s_sub (pc := 107) [0, 1, 2, 3, 4] rfl (w_X5_shipAtRank_107 K4 hK4 a0 a1 a2 a3 a4 h)
    · refine s_aload_n (pc := 31) 0 dX5_shipAtRank_31 rfl rfl ?_
      refine s_iload (pc := 32) 5 dX5_shipAtRank_32 rfl ?_
      refine s_bipush (pc := 34) (v := 8) dX5_shipAtRank_34 (by decide) ?_
      refine zS_ite (fun ht => ?_) (fun _ => zS_none)
      refine s_callV (pc := 36) (np := 2) (as := [.int a5, .int 8]) (rest := []) dX5_shipAtRank_36 ht (q := (RX5, TX5, 20)) rfl (c_X5_of (by decide) a0 a5 8 h) rfl rfl q3369 q3371 qs52 rfl (by decide) (zkI (fun x5 h6 => ?_)) zxo
      refine s_aload_n (pc := 39) 0 dX5_shipAtRank_39 rfl rfl ?_
      refine s_iload_n (pc := 40) 3 dX5_shipAtRank_40 rfl rfl ?_
      refine s_bipush (pc := 41) (v := 8) dX5_shipAtRank_41 (by decide) ?_
      refine zS_ite (fun ht => ?_) (fun _ => zS_none)
      refine s_callV (pc := 43) (np := 2) (as := [.int a3, .int 8]) (rest := [.int x5]) dX5_shipAtRank_43 ht (q := (RX5, TX5, 20)) rfl (c_X5_of (by decide) a0 a3 8 h6) rfl rfl q3369 q3371 qs52 rfl (by simp [zcat_rf, zcat_i, zcat_l, zcat_f, zcat_d]) (zkI (fun x7 h8 => ?_)) zxo
      refine s_isub (pc := 46) dX5_shipAtRank_46 ?_
      refine s_nm (pc := 47) Value.int (fun x9 => ?_)
      refine s_ist (pc := 47) (L2 := [(0, va_rf a0), (1, .int a1), (2, .int a2), (3, .int a3), (4, .int a4), (5, .int a5)]) [0, 1, 2, 3, 4, 5] dX5_shipAtRank_47 (by decide) rfl rfl (zcB (j := 5) rfl rfl rfl) ?_
      refine s_aload_n (pc := 49) 1 dX5_shipAtRank_49 rfl rfl ?_
      refine s_iload (pc := 50) 6 dX5_shipAtRank_50 rfl ?_
      refine s_iconst (pc := 52) (v := 3) dX5_shipAtRank_52 (by decide) ?_
      refine zS_ite (fun ht => ?_) (fun _ => zS_none)
      refine s_callV (pc := 53) (np := 2) (as := [.int a5, .int 3]) (rest := []) dX5_shipAtRank_53 ht (q := (RX5, TX5, 20)) rfl (c_X5_of (by decide) a0 a5 3 h8) rfl rfl q3369 q3371 qs52 rfl (by decide) (zkI (fun x10 h11 => ?_)) zxo
      refine s_aload_n (pc := 56) 1 dX5_shipAtRank_56 rfl rfl ?_
      refine s_iload_n (pc := 57) 4 dX5_shipAtRank_57 rfl rfl ?_
      refine s_iconst (pc := 58) (v := 3) dX5_shipAtRank_58 (by decide) ?_
      refine zS_ite (fun ht => ?_) (fun _ => zS_none)
      refine s_callV (pc := 59) (np := 2) (as := [.int a3, .int 3]) (rest := [.int x10]) dX5_shipAtRank_59 ht (q := (RX5, TX5, 20)) rfl (c_X5_of (by decide) a0 a3 3 h11) rfl rfl q3369 q3371 qs52 rfl (by simp [zcat_rf, zcat_i, zcat_l, zcat_f, zcat_d]) (zkI (fun x12 h13 => ?_)) zxo
      refine s_isub (pc := 62) dX5_shipAtRank_62 ?_
      refine s_nm (pc := 63) Value.int (fun x14 => ?_)
      refine s_ist (pc := 63) (L2 := [(6, .int x9), (0, va_rf a0), (1, .int a1), (2, .int a2), (3, .int a3), (4, .int a4), (5, .int a5)]) [0, 1, 2, 3, 4, 5, 6] dX5_shipAtRank_63 (by decide) rfl rfl (zcB (j := 0) rfl rfl rfl) ?_
      refine s_iload (pc := 65) 6 dX5_shipAtRank_65 rfl ?_
      refine s_iload (pc := 67) 1 dX5_shipAtRank_67 rfl ?_
      refine s_if_gt (pc := 69) (tgt := 93) dX5_shipAtRank_69 (by decide) (fun _ => ?_) (fun _ => ?_)
      · exact s_sub (pc := 93) [2, 3, 4, 5, 7] rfl (w_X5_shipAtRank_93 K4 hK4 (f_X5_shipAtRank_20 K4 n) ih a0 a1 a2 a3 a5 a4 h13)
      · refine s_iload (pc := 72) 1 dX5_shipAtRank_72 rfl ?_
        refine s_if_ne (pc := 74) (tgt := 97) dX5_shipAtRank_74 (by decide) (fun _ => ?_) (fun _ => ?_)
        · exact s_sub (pc := 97) [2, 3, 4, 5, 7] rfl (w_X5_shipAtRank_97 K4 hK4 (f_X5_shipAtRank_20 K4 n) ih a0 a1 a2 a3 a5 a4 h13)
        · refine s_iload (pc := 77) 0 dX5_shipAtRank_77 rfl ?_
          refine s_if_gt (pc := 79) (tgt := 93) dX5_shipAtRank_79 (by decide) (fun _ => ?_) (fun _ => ?_)
          · exact s_sub (pc := 93) [2, 3, 4, 5, 7] rfl (w_X5_shipAtRank_93 K4 hK4 (f_X5_shipAtRank_20 K4 n) ih a0 a1 a2 a3 a5 a4 h13)
          · refine s_iload (pc := 82) 0 dX5_shipAtRank_82 rfl ?_
            refine s_if_ne (pc := 84) (tgt := 97) dX5_shipAtRank_84 (by decide) (fun _ => ?_) (fun _ => ?_)
            · exact s_sub (pc := 97) [2, 3, 4, 5, 7] rfl (w_X5_shipAtRank_97 K4 hK4 (f_X5_shipAtRank_20 K4 n) ih a0 a1 a2 a3 a5 a4 h13)
            · refine s_iload (pc := 87) 7 dX5_shipAtRank_87 rfl ?_
              refine s_iload_n (pc := 89) 5 dX5_shipAtRank_89 rfl rfl ?_
              refine s_icmp_ge (pc := 90) (tgt := 97) dX5_shipAtRank_90 (by decide) (fun _ => ?_) (fun _ => ?_)
              · exact s_sub (pc := 97) [2, 3, 4, 5, 7] rfl (w_X5_shipAtRank_97 K4 hK4 (f_X5_shipAtRank_20 K4 n) ih a0 a1 a2 a3 a5 a4 h13)
              · exact s_sub (pc := 93) [2, 3, 4, 5, 7] rfl (w_X5_shipAtRank_93 K4 hK4 (f_X5_shipAtRank_20 K4 n) ih a0 a1 a2 a3 a5 a4 h13)
theorem w_X5_shipAtRank_141 (a2 : Int32) (s0 : Int32) (s1 : Option Nat) (h : zH) : zS D z yX5_shipAtRank cX5_shipAtRank 8 (some .int) [] 4 h 141 [(2, .int a2)] [.int s0, va_rf s1] (f_X5_shipAtRank_141 a2 s0 s1 h) := by
  unfold f_X5_shipAtRank_141
  refine zS_ite (fun ht => ?_) (fun _ => zS_none)
  refine s_callV (pc := 141) (np := 1) (as := [.int s0]) (rest := []) dX5_shipAtRank_141 ht (q := (RX5, TX5, 20)) rfl (c_X5_goes (by decide) s1 s0 h) rfl rfl q3311 q3313 qs44 rfl (by decide) (zkI (fun x20 h21 => ?_)) zxo
  refine s_if_eq (pc := 144) (tgt := 151) dX5_shipAtRank_144 (by decide) (fun _ => ?_) (fun _ => ?_)
  · refine s_iconst (pc := 151) (v := 0) dX5_shipAtRank_151 (by decide) ?_
    exact s_iret (pc := 152) dX5_shipAtRank_152 rfl
  · refine s_iload_n (pc := 147) 0 dX5_shipAtRank_147 rfl rfl ?_
    refine s_goto (pc := 148) (tgt := 152) dX5_shipAtRank_148 (by decide) ?_
    exact s_iret (pc := 152) dX5_shipAtRank_152 rfl
theorem w_X5_shipAtRank_130 (a0 : Option Nat) (a2 : Int32) (h : zH) : zS D z yX5_shipAtRank cX5_shipAtRank 8 (some .int) [] 4 h 130 [(0, va_rf a0), (2, .int a2)] [] (f_X5_shipAtRank_130 a0 a2 h) := by
  unfold f_X5_shipAtRank_130
  refine s_aload_n (pc := 130) 0 dX5_shipAtRank_130 rfl rfl ?_
  refine s_iload_n (pc := 131) 1 dX5_shipAtRank_131 rfl rfl ?_
  refine s_iconst (pc := 132) (v := -1) dX5_shipAtRank_132 (by decide) ?_
  refine s_icmp_eq (pc := 133) (tgt := 140) dX5_shipAtRank_133 (by decide) (fun _ => ?_) (fun _ => ?_)
  · refine s_iconst (pc := 140) (v := 0) dX5_shipAtRank_140 (by decide) ?_
    exact s_sub (pc := 141) [1] rfl (w_X5_shipAtRank_141 a2 0 a0 h)
  · refine s_iconst (pc := 136) (v := 1) dX5_shipAtRank_136 (by decide) ?_
    refine s_goto (pc := 137) (tgt := 141) dX5_shipAtRank_137 (by decide) ?_
    exact s_sub (pc := 141) [1] rfl (w_X5_shipAtRank_141 a2 1 a0 h)
theorem w_X5_shipAtRank_4 : ∀ (n : Nat) (a0 : Option Nat) (a1 : Int32) (a2 : Int32) (a3 : Int32) (h : zH), zS D z yX5_shipAtRank cX5_shipAtRank 8 (some .int) [] 4 h 4 [(0, va_rf a0), (1, .int a1), (2, .int a2), (3, .int a3)] [] (f_X5_shipAtRank_4 n a0 a1 a2 a3 h) := by
  intro n
  induction n with
  | zero => intros; exact zS_none
  | succ n ih =>
    intro a0 a1 a2 a3 h
    rw [f_X5_shipAtRank_4.eq_2]
    refine s_iload_n (pc := 4) 3 dX5_shipAtRank_4 rfl rfl ?_
    refine s_aload_n (pc := 5) 0 dX5_shipAtRank_5 rfl rfl ?_
    refine s_gR (pc := 6) dX5_shipAtRank_6 gf_X5_9 (fun r1 => ?_)
    refine s_iconst (pc := 9) (v := 4) dX5_shipAtRank_9 (by decide) ?_
    refine s_iald (pc := 10) dX5_shipAtRank_10 (ztc rfl zt0) (fun x2 => ?_)
    refine s_icmp_ge (pc := 11) (tgt := 130) dX5_shipAtRank_11 (by decide) (fun _ => ?_) (fun _ => ?_)
    · exact s_sub (pc := 130) [0, 2] rfl (w_X5_shipAtRank_130 a0 a2 h)
    · refine s_iconst (pc := 14) (v := 0) dX5_shipAtRank_14 (by decide) ?_
      refine s_ist (pc := 15) (L2 := [(0, va_rf a0), (1, .int a1), (2, .int a2), (3, .int a3)]) [0, 1, 2, 3] dX5_shipAtRank_15 (by decide) rfl rfl (zcB (j := 3) rfl rfl rfl) ?_
      refine s_iconst (pc := 17) (v := 0) dX5_shipAtRank_17 (by decide) ?_
      refine s_ist (pc := 18) (L2 := [(4, .int 0), (0, va_rf a0), (1, .int a1), (2, .int a2), (3, .int a3)]) [0, 1, 2, 3, 4] dX5_shipAtRank_18 (by decide) rfl rfl (zcB (j := 0) rfl rfl rfl) ?_
      exact s_sub (pc := 20) [2, 3, 4, 5, 1, 0] rfl (w_X5_shipAtRank_20 (f_X5_shipAtRank_4 n) ih zfuel a0 a1 a2 a3 0 0 h)
theorem w_X5_shipAtRank (v0 : Option Nat) (v1 : Int32) (h : zH) : zS D z yX5_shipAtRank cX5_shipAtRank 8 (some .int) [] 4 h 0 [(0, va_rf v0), (1, .int v1)] [] (f_X5_shipAtRank v0 v1 h) := by
  unfold f_X5_shipAtRank
  refine s_iconst (pc := 0) (v := -1) dX5_shipAtRank_0 (by decide) ?_
  refine s_ist_n (pc := 1) (L2 := [(0, va_rf v0), (1, .int v1)]) [0, 1] dX5_shipAtRank_1 rfl (by decide) rfl rfl (zcB (j := 1) rfl rfl rfl) ?_
  refine s_iconst (pc := 2) (v := 0) dX5_shipAtRank_2 (by decide) ?_
  refine s_ist_n (pc := 3) (L2 := [(2, .int (-1)), (0, va_rf v0), (1, .int v1)]) [0, 1, 2] dX5_shipAtRank_3 rfl (by decide) rfl rfl (zcB (j := 0) rfl rfl rfl) ?_
  exact s_sub (pc := 4) [2, 3, 1, 0] rfl (w_X5_shipAtRank_4 zfuel v0 v1 (-1) 0 h)
theorem c_X5_shipAtRank {d0 : Nat} (hd0 : 4 < d0) (v0 : Option Nat) (v1 : Int32) (h : zH) : zCal D z d0 h yX5_shipAtRank [va_rf v0, .int v1] (f_X5_shipAtRank v0 v1 h) :=
  ⟨cX5_shipAtRank, 8, (some .int), [], 4, (show lv_args 0 [va_rf v0, .int v1] = [(0, va_rf v0), (1, .int v1)] by simp [lv_args, zcat_rf, zcat_i, zcat_l, zcat_f, zcat_d]) ▸ w_X5_shipAtRank v0 v1 h, (plainFor_of_name (by decide)), by simp [lg_sl, zcat_rf, zcat_i, zcat_l, zcat_f, zcat_d], q3665, q140, hd0, by decide, by decide⟩
theorem w_X5_meanDirt_15 (a0 : Option Nat) (s0 : Int32) (s1 : Option Nat) (h : zH) : zS D z yX5_meanDirt cX5_meanDirt 1 (some .double) [] 5 h 15 [(0, va_rf a0)] [.int s0, va_rf s1] (f_X5_meanDirt_15 a0 s0 s1 h) := by
  unfold f_X5_meanDirt_15
  refine zS_ite (fun ht => ?_) (fun _ => zS_none)
  refine s_callV (pc := 15) (np := 1) (as := [.int s0]) (rest := []) dX5_meanDirt_15 ht (q := (RX5, TX5, 20)) rfl (c_X5_goes (by decide) s1 s0 h) rfl rfl q3311 q3313 qs44 rfl (by decide) (zkI (fun x3 h4 => ?_)) zxo
  refine s_if_eq (pc := 18) (tgt := 38) dX5_meanDirt_18 (by decide) (fun _ => ?_) (fun _ => ?_)
  · refine s_dconst0 (pc := 38) dX5_meanDirt_38 ?_
    exact s_dret (pc := 39) dX5_meanDirt_39 rfl
  · refine s_aload_n (pc := 21) 0 dX5_meanDirt_21 rfl rfl ?_
    refine s_iconst (pc := 22) (v := 3) dX5_meanDirt_22 (by decide) ?_
    refine zS_ite (fun ht => ?_) (fun _ => zS_none)
    refine s_callV (pc := 23) (np := 1) (as := [.int 3]) (rest := []) dX5_meanDirt_23 ht (q := (RX5, TX5, 20)) rfl (c_X5_sum (by decide) a0 3 h4) rfl rfl q3650 q3652 qs83 rfl (by decide) (zkI (fun x5 h6 => ?_)) zxo
    refine s_i2d (pc := 26) dX5_meanDirt_26 ?_
    refine s_aload_n (pc := 27) 0 dX5_meanDirt_27 rfl rfl ?_
    refine s_gR (pc := 28) dX5_meanDirt_28 gf_X5_9 (fun r7 => ?_)
    refine s_iconst (pc := 31) (v := 4) dX5_meanDirt_31 (by decide) ?_
    refine s_iald (pc := 32) dX5_meanDirt_32 (ztc rfl zt0) (fun x8 => ?_)
    refine s_i2d (pc := 33) dX5_meanDirt_33 ?_
    refine s_ddiv (pc := 34) dX5_meanDirt_34 (fun _ => ?_)
    refine s_goto (pc := 35) (tgt := 39) dX5_meanDirt_35 (by decide) ?_
    exact s_dret (pc := 39) dX5_meanDirt_39 rfl
theorem w_X5_meanDirt (v0 : Option Nat) (h : zH) : zS D z yX5_meanDirt cX5_meanDirt 1 (some .double) [] 5 h 0 [(0, va_rf v0)] [] (f_X5_meanDirt v0 h) := by
  unfold f_X5_meanDirt
  refine s_aload_n (pc := 0) 0 dX5_meanDirt_0 rfl rfl ?_
  refine s_aload_n (pc := 1) 0 dX5_meanDirt_1 rfl rfl ?_
  refine s_gR (pc := 2) dX5_meanDirt_2 gf_X5_9 (fun r1 => ?_)
  refine s_iconst (pc := 5) (v := 4) dX5_meanDirt_5 (by decide) ?_
  refine s_iald (pc := 6) dX5_meanDirt_6 (ztc rfl zt0) (fun x2 => ?_)
  refine s_if_le (pc := 7) (tgt := 14) dX5_meanDirt_7 (by decide) (fun _ => ?_) (fun _ => ?_)
  · refine s_iconst (pc := 14) (v := 0) dX5_meanDirt_14 (by decide) ?_
    exact s_sub (pc := 15) [0] rfl (w_X5_meanDirt_15 v0 0 v0 h)
  · refine s_iconst (pc := 10) (v := 1) dX5_meanDirt_10 (by decide) ?_
    refine s_goto (pc := 11) (tgt := 15) dX5_meanDirt_11 (by decide) ?_
    exact s_sub (pc := 15) [0] rfl (w_X5_meanDirt_15 v0 1 v0 h)
theorem c_X5_meanDirt {d0 : Nat} (hd0 : 5 < d0) (v0 : Option Nat) (h : zH) : zCal D z d0 h yX5_meanDirt [va_rf v0] (f_X5_meanDirt v0 h) :=
  ⟨cX5_meanDirt, 1, (some .double), [], 5, (show lv_args 0 [va_rf v0] = [(0, va_rf v0)] by simp [lv_args, zcat_rf, zcat_i, zcat_l, zcat_f, zcat_d]) ▸ w_X5_meanDirt v0 h, (plainFor_of_name (by decide)), by simp [lg_sl, zcat_rf, zcat_i, zcat_l, zcat_f, zcat_d], q3669, q140, hd0, by decide, by decide⟩
theorem w_X5_takenShare (v0 : Option Nat) (h : zH) : zS D z yX5_takenShare cX5_takenShare 1 (some .float) [] 7 h 0 [(0, va_rf v0)] [] (f_X5_takenShare v0 h) := by
  unfold f_X5_takenShare
  refine s_aload_n (pc := 0) 0 dX5_takenShare_0 rfl rfl ?_
  refine s_iconst (pc := 1) (v := 0) dX5_takenShare_1 (by decide) ?_
  refine s_putI (pc := 2) dX5_takenShare_2 pf_X5_42 (fun h1 => ?_)
  refine s_bipush (pc := 5) (v := 60) dX5_takenShare_5 (by decide) ?_
  refine s_aload_n (pc := 7) 0 dX5_takenShare_7 rfl rfl ?_
  refine zS_ite (fun ht => ?_) (fun _ => zS_none)
  refine s_callV (pc := 8) (np := 0) (as := []) (rest := [.int 60]) dX5_takenShare_8 ht (q := (RX5, TX5, 20)) rfl (c_X5_freeOnes (by decide) v0 h1) rfl rfl q3613 q3615 qs78 rfl (by simp [zcat_rf, zcat_i, zcat_l, zcat_f, zcat_d]) (zkI (fun x2 h3 => ?_)) zxo
  refine s_isub (pc := 11) dX5_takenShare_11 ?_
  refine s_i2f (pc := 12) dX5_takenShare_12 ?_
  refine s_ldcf (pc := 13) (v := 1114636288) dX5_takenShare_13 q3674 ?_
  refine s_fdiv (pc := 15) dX5_takenShare_15 (fun _ => ?_)
  exact s_fret (pc := 16) dX5_takenShare_16 rfl
theorem c_X5_takenShare {d0 : Nat} (hd0 : 7 < d0) (v0 : Option Nat) (h : zH) : zCal D z d0 h yX5_takenShare [va_rf v0] (f_X5_takenShare v0 h) :=
  ⟨cX5_takenShare, 1, (some .float), [], 7, (show lv_args 0 [va_rf v0] = [(0, va_rf v0)] by simp [lv_args, zcat_rf, zcat_i, zcat_l, zcat_f, zcat_d]) ▸ w_X5_takenShare v0 h, (plainFor_of_name (by decide)), by simp [lg_sl, zcat_rf, zcat_i, zcat_l, zcat_f, zcat_d], q3673, q140, hd0, by decide, by decide⟩
theorem w_X5_isConsistent (v0 : Option Nat) (h : zH) : zS D z yX5_isConsistent cX5_isConsistent 1 (some .boolean) [] 1 h 0 [(0, va_rf v0)] [] (f_X5_isConsistent v0 h) := by
  unfold f_X5_isConsistent
  refine s_aload_n (pc := 0) 0 dX5_isConsistent_0 rfl rfl ?_
  refine s_iconst (pc := 1) (v := 0) dX5_isConsistent_1 (by decide) ?_
  refine s_putI (pc := 2) dX5_isConsistent_2 pf_X5_42 (fun h1 => ?_)
  refine s_iconst (pc := 5) (v := 1) dX5_isConsistent_5 (by decide) ?_
  exact s_nret (pc := 6) dX5_isConsistent_6 rfl
theorem c_X5_isConsistent {d0 : Nat} (hd0 : 1 < d0) (v0 : Option Nat) (h : zH) : zCal D z d0 h yX5_isConsistent [va_rf v0] (f_X5_isConsistent v0 h) :=
  ⟨cX5_isConsistent, 1, (some .boolean), [], 1, (show lv_args 0 [va_rf v0] = [(0, va_rf v0)] by simp [lv_args, zcat_rf, zcat_i, zcat_l, zcat_f, zcat_d]) ▸ w_X5_isConsistent v0 h, (plainFor_of_name (by decide)), by simp [lg_sl, zcat_rf, zcat_i, zcat_l, zcat_f, zcat_d], q3678, q140, hd0, by decide, by decide⟩
theorem w_X5_describeDock_59 (K7 : Option Nat → Int32 → zH → zO) (hK7 : ∀ (a0 : Option Nat) (a1 : Int32) (h : zH), zS D z yX5_describeDock cX5_describeDock 3 (some .int) [] 6 h 7 [(0, va_rf a0), (1, .int a1)] [] (K7 a0 a1 h)) (a0 : Option Nat) (a1 : Int32) (s0 : Int32) (s1 : Int32) (s2 : Option Nat) (h : zH) : zS D z yX5_describeDock cX5_describeDock 3 (some .int) [] 6 h 59 [(0, va_rf a0), (1, .int a1)] [.int s0, .int s1, va_rf s2] (f_X5_describeDock_59 K7 a0 a1 s0 s1 s2 h) := by
  unfold f_X5_describeDock_59
  refine s_iast (pc := 59) dX5_describeDock_59 (ztc rfl zt0) (fun h10 => ?_)
  refine s_inc (pc := 60) (v := 1) (L2 := [(0, va_rf a0)]) 1 [0] dX5_describeDock_60 rfl (by decide) (by decide) rfl rfl (zcB (j := 0) rfl (zcat_rf a0) rfl) (fun x11 => ?_)
  refine s_goto (pc := 63) (tgt := 7) dX5_describeDock_63 (by decide) ?_
  exact s_sub (pc := 7) [1, 0] rfl (hK7 a0 x11 h10)
theorem w_X5_describeDock_7 : ∀ (n : Nat) (a0 : Option Nat) (a1 : Int32) (h : zH), zS D z yX5_describeDock cX5_describeDock 3 (some .int) [] 6 h 7 [(0, va_rf a0), (1, .int a1)] [] (f_X5_describeDock_7 n a0 a1 h) := by
  intro n
  induction n with
  | zero => intros; exact zS_none
  | succ n ih =>
    intro a0 a1 h
    rw [f_X5_describeDock_7.eq_2]
    refine s_iload_n (pc := 7) 1 dX5_describeDock_7 rfl rfl ?_
    refine s_bipush (pc := 8) (v := 60) dX5_describeDock_8 (by decide) ?_
    refine s_icmp_ge (pc := 10) (tgt := 66) dX5_describeDock_10 (by decide) (fun _ => ?_) (fun _ => ?_)
    · refine s_aload_n (pc := 66) 0 dX5_describeDock_66 rfl rfl ?_
      refine s_bipush (pc := 67) (v := 60) dX5_describeDock_67 (by decide) ?_
      refine s_putI (pc := 69) dX5_describeDock_69 pf_X5_223 (fun h2 => ?_)
      refine s_bipush (pc := 72) (v := 60) dX5_describeDock_72 (by decide) ?_
      exact s_iret (pc := 74) dX5_describeDock_74 rfl
    · refine s_aload_n (pc := 13) 0 dX5_describeDock_13 rfl rfl ?_
      refine s_iload_n (pc := 14) 1 dX5_describeDock_14 rfl rfl ?_
      refine zS_ite (fun ht => ?_) (fun _ => zS_none)
      refine s_callV (pc := 15) (np := 1) (as := [.int a1]) (rest := []) dX5_describeDock_15 ht (q := (RX5, TX5, 20)) rfl (c_X5_at (by decide) a0 a1 h) rfl rfl q3392 q3394 qs56 rfl (by decide) (zkI (fun x3 h4 => ?_)) zxo
      refine s_ist_n (pc := 18) (L2 := [(0, va_rf a0), (1, .int a1)]) [0, 1] dX5_describeDock_18 rfl (by decide) rfl rfl (zcB (j := 1) rfl rfl rfl) ?_
      refine s_aload_n (pc := 19) 1 dX5_describeDock_19 rfl rfl ?_
      refine s_gR (pc := 20) dX5_describeDock_20 gf_X5_32 (fun r5 => ?_)
      refine s_iload_n (pc := 23) 2 dX5_describeDock_23 rfl rfl ?_
      refine s_iload_n (pc := 24) 0 dX5_describeDock_24 rfl rfl ?_
      refine s_iconst (pc := 25) (v := -1) dX5_describeDock_25 (by decide) ?_
      refine s_icmp_eq (pc := 26) (tgt := 44) dX5_describeDock_26 (by decide) (fun _ => ?_) (fun _ => ?_)
      · refine s_aload_n (pc := 44) 1 dX5_describeDock_44 rfl rfl ?_
        refine s_iload_n (pc := 45) 2 dX5_describeDock_45 rfl rfl ?_
        refine zS_ite (fun ht => ?_) (fun _ => zS_none)
        refine s_callV (pc := 46) (np := 1) (as := [.int a1]) (rest := [.int a1, va_rf r5]) dX5_describeDock_46 ht (q := (RX5, TX5, 20)) rfl (c_X5_isBlock (by decide) a0 a1 h4) rfl rfl q3464 q3466 qs67 rfl (by simp [zcat_rf, zcat_i, zcat_l, zcat_f, zcat_d]) (zkI (fun x6 h7 => ?_)) zxo
        refine s_if_eq (pc := 49) (tgt := 57) dX5_describeDock_49 (by decide) (fun _ => ?_) (fun _ => ?_)
        · refine s_bipush (pc := 57) (v := 46) dX5_describeDock_57 (by decide) ?_
          exact s_sub (pc := 59) [1, 2] rfl (w_X5_describeDock_59 (f_X5_describeDock_7 n) ih a0 a1 46 a1 r5 h7)
        · refine s_bipush (pc := 52) (v := 94) dX5_describeDock_52 (by decide) ?_
          refine s_goto (pc := 54) (tgt := 59) dX5_describeDock_54 (by decide) ?_
          exact s_sub (pc := 59) [1, 2] rfl (w_X5_describeDock_59 (f_X5_describeDock_7 n) ih a0 a1 94 a1 r5 h7)
      · refine s_bipush (pc := 29) (v := 48) dX5_describeDock_29 (by decide) ?_
        refine s_aload_n (pc := 31) 1 dX5_describeDock_31 rfl rfl ?_
        refine s_iload_n (pc := 32) 0 dX5_describeDock_32 rfl rfl ?_
        refine s_iconst (pc := 33) (v := 0) dX5_describeDock_33 (by decide) ?_
        refine zS_ite (fun ht => ?_) (fun _ => zS_none)
        refine s_callV (pc := 34) (np := 2) (as := [.int x3, .int 0]) (rest := [.int 48, .int a1, va_rf r5]) dX5_describeDock_34 ht (q := (RX5, TX5, 20)) rfl (c_X5_of (by decide) a0 x3 0 h4) rfl rfl q3369 q3371 qs52 rfl (by simp [zcat_rf, zcat_i, zcat_l, zcat_f, zcat_d]) (zkI (fun x8 h9 => ?_)) zxo
        refine s_bipush (pc := 37) (v := 10) dX5_describeDock_37 (by decide) ?_
        refine s_irem (pc := 39) dX5_describeDock_39 (fun _ => ?_)
        refine s_iadd (pc := 40) dX5_describeDock_40 ?_
        refine s_goto (pc := 41) (tgt := 59) dX5_describeDock_41 (by decide) ?_
        exact s_sub (pc := 59) [1, 2] rfl (w_X5_describeDock_59 (f_X5_describeDock_7 n) ih a0 a1 ((48 : Int32) + (x8 - x8 / 10 * 10)) a1 r5 h9)
theorem w_X5_describeDock (v0 : Option Nat) (h : zH) : zS D z yX5_describeDock cX5_describeDock 3 (some .int) [] 6 h 0 [(0, va_rf v0)] [] (f_X5_describeDock v0 h) := by
  unfold f_X5_describeDock
  refine s_aload_n (pc := 0) 0 dX5_describeDock_0 rfl rfl ?_
  refine s_iconst (pc := 1) (v := 0) dX5_describeDock_1 (by decide) ?_
  refine s_putI (pc := 2) dX5_describeDock_2 pf_X5_42 (fun h1 => ?_)
  refine s_iconst (pc := 5) (v := 0) dX5_describeDock_5 (by decide) ?_
  refine s_ist_n (pc := 6) (L2 := [(0, va_rf v0)]) [0] dX5_describeDock_6 rfl (by decide) rfl rfl (zcB (j := 0) rfl (zcat_rf v0) rfl) ?_
  exact s_sub (pc := 7) [1, 0] rfl (w_X5_describeDock_7 zfuel v0 0 h1)
theorem c_X5_describeDock {d0 : Nat} (hd0 : 6 < d0) (v0 : Option Nat) (h : zH) : zCal D z d0 h yX5_describeDock [va_rf v0] (f_X5_describeDock v0 h) :=
  ⟨cX5_describeDock, 3, (some .int), [], 6, (show lv_args 0 [va_rf v0] = [(0, va_rf v0)] by simp [lv_args, zcat_rf, zcat_i, zcat_l, zcat_f, zcat_d]) ▸ w_X5_describeDock v0 h, (plainFor_of_name (by decide)), by simp [lg_sl, zcat_rf, zcat_i, zcat_l, zcat_f, zcat_d], q3682, q140, hd0, by decide, by decide⟩
theorem w_X5_put (v0 : Option Nat) (v1 : Int32) (v2 : Int32) (h : zH) : zS D z yX5_put cX5_put 3 (some .int) [] 1 h 0 [(0, va_rf v0), (1, .int v1), (2, .int v2)] [] (f_X5_put v0 v1 v2 h) := by
  unfold f_X5_put
  refine s_aload_n (pc := 0) 0 dX5_put_0 rfl rfl ?_
  refine s_gR (pc := 1) dX5_put_1 gf_X5_32 (fun r1 => ?_)
  refine s_iload_n (pc := 4) 1 dX5_put_4 rfl rfl ?_
  refine s_iload_n (pc := 5) 2 dX5_put_5 rfl rfl ?_
  refine s_iast (pc := 6) dX5_put_6 (ztc rfl zt0) (fun h2 => ?_)
  refine s_iload_n (pc := 7) 1 dX5_put_7 rfl rfl ?_
  refine s_iconst (pc := 8) (v := 1) dX5_put_8 (by decide) ?_
  refine s_iadd (pc := 9) dX5_put_9 ?_
  exact s_iret (pc := 10) dX5_put_10 rfl
theorem c_X5_put {d0 : Nat} (hd0 : 1 < d0) (v0 : Option Nat) (v1 : Int32) (v2 : Int32) (h : zH) : zCal D z d0 h yX5_put [va_rf v0, .int v1, .int v2] (f_X5_put v0 v1 v2 h) :=
  ⟨cX5_put, 3, (some .int), [], 1, (show lv_args 0 [va_rf v0, .int v1, .int v2] = [(0, va_rf v0), (1, .int v1), (2, .int v2)] by simp [lv_args, zcat_rf, zcat_i, zcat_l, zcat_f, zcat_d]) ▸ w_X5_put v0 v1 v2 h, (plainFor_of_name (by decide)), by simp [lg_sl, zcat_rf, zcat_i, zcat_l, zcat_f, zcat_d], q3690, q140, hd0, by decide, by decide⟩
theorem w_X5_writesNumber_28 : ∀ (n : Nat) (a0 : Option Nat) (a2 : Int32) (a3 : Int32) (a5 : Int32) (h : zH), zS D z yX5_writesNumber cX5_writesNumber 6 (some .int) [] 2 h 28 [(0, va_rf a0), (2, .int a2), (3, .int a3), (5, .int a5)] [] (f_X5_writesNumber_28 n a0 a2 a3 a5 h) := by
  intro n
  induction n with
  | zero => intros; exact zS_none
  | succ n ih =>
    intro a0 a2 a3 a5 h
    rw [f_X5_writesNumber_28.eq_2]
    refine s_iload (pc := 28) 3 dX5_writesNumber_28 rfl ?_
    refine s_if_le (pc := 30) (tgt := 59) dX5_writesNumber_30 (by decide) (fun _ => ?_) (fun _ => ?_)
    · refine s_iload_n (pc := 59) 2 dX5_writesNumber_59 rfl rfl ?_
      exact s_iret (pc := 60) dX5_writesNumber_60 rfl
    · refine s_aload_n (pc := 33) 0 dX5_writesNumber_33 rfl rfl ?_
      refine s_iload_n (pc := 34) 2 dX5_writesNumber_34 rfl rfl ?_
      refine s_bipush (pc := 35) (v := 48) dX5_writesNumber_35 (by decide) ?_
      refine s_iload_n (pc := 37) 1 dX5_writesNumber_37 rfl rfl ?_
      refine s_iload (pc := 38) 3 dX5_writesNumber_38 rfl ?_
      refine s_idiv (pc := 40) dX5_writesNumber_40 (fun _ => ?_)
      refine s_bipush (pc := 41) (v := 10) dX5_writesNumber_41 (by decide) ?_
      refine s_irem (pc := 43) dX5_writesNumber_43 (fun _ => ?_)
      refine s_iadd (pc := 44) dX5_writesNumber_44 ?_
      refine zS_ite (fun ht => ?_) (fun _ => zS_none)
      refine s_callV (pc := 45) (np := 2) (as := [.int a3, .int ((48 : Int32) + ((a2 / a5) - (a2 / a5) / 10 * 10))]) (rest := []) dX5_writesNumber_45 ht (q := (RX5, TX5, 20)) rfl (c_X5_put (by decide) a0 a3 ((48 : Int32) + ((a2 / a5) - (a2 / a5) / 10 * 10)) h) rfl rfl q3687 q3689 qs84 rfl (by decide) (zkI (fun x2 h3 => ?_)) zxo
      refine s_ist_n (pc := 48) (L2 := [(0, va_rf a0), (2, .int a2), (5, .int a5)]) [0, 1, 3] dX5_writesNumber_48 rfl (by decide) rfl rfl (zcB (j := 1) rfl rfl rfl) ?_
      refine s_iload (pc := 49) 3 dX5_writesNumber_49 rfl ?_
      refine s_bipush (pc := 51) (v := 10) dX5_writesNumber_51 (by decide) ?_
      refine s_idiv (pc := 53) dX5_writesNumber_53 (fun _ => ?_)
      refine s_nm (pc := 54) Value.int (fun x4 => ?_)
      refine s_ist (pc := 54) (L2 := [(3, .int x2), (0, va_rf a0), (2, .int a2)]) [0, 1, 2] dX5_writesNumber_54 (by decide) rfl rfl (zcA rfl) ?_
      refine s_goto (pc := 56) (tgt := 28) dX5_writesNumber_56 (by decide) ?_
      exact s_sub (pc := 28) [2, 3, 1, 0] rfl (ih a0 a2 x2 x4 h3)
theorem w_X5_writesNumber_24 (a0 : Option Nat) (a2 : Int32) (a3 : Int32) (a4 : Int32) (h : zH) : zS D z yX5_writesNumber cX5_writesNumber 6 (some .int) [] 2 h 24 [(0, va_rf a0), (2, .int a2), (3, .int a3), (4, .int a4)] [] (f_X5_writesNumber_24 a0 a2 a3 a4 h) := by
  unfold f_X5_writesNumber_24
  refine s_iload (pc := 24) 3 dX5_writesNumber_24 rfl ?_
  refine s_ist (pc := 26) (L2 := [(0, va_rf a0), (2, .int a2), (3, .int a3)]) [0, 1, 2] dX5_writesNumber_26 (by decide) rfl rfl (zcA rfl) ?_
  exact s_sub (pc := 28) [1, 2, 3, 0] rfl (w_X5_writesNumber_28 zfuel a0 a2 a3 a4 h)
theorem w_X5_writesNumber_5 : ∀ (n : Nat) (a0 : Option Nat) (a2 : Int32) (a3 : Int32) (a4 : Int32) (h : zH), zS D z yX5_writesNumber cX5_writesNumber 6 (some .int) [] 2 h 5 [(0, va_rf a0), (2, .int a2), (3, .int a3), (4, .int a4)] [] (f_X5_writesNumber_5 n a0 a2 a3 a4 h) := by
  intro n
  induction n with
  | zero => intros; exact zS_none
  | succ n ih =>
    intro a0 a2 a3 a4 h
    rw [f_X5_writesNumber_5.eq_2]
    refine s_iload_n (pc := 5) 1 dX5_writesNumber_5 rfl rfl ?_
    refine s_iload (pc := 6) 3 dX5_writesNumber_6 rfl ?_
    refine s_idiv (pc := 8) dX5_writesNumber_8 (fun _ => ?_)
    refine s_bipush (pc := 9) (v := 9) dX5_writesNumber_9 (by decide) ?_
    refine s_icmp_le (pc := 11) (tgt := 24) dX5_writesNumber_11 (by decide) (fun _ => ?_) (fun _ => ?_)
    · exact s_sub (pc := 24) [0, 1, 2, 3] rfl (w_X5_writesNumber_24 a0 a2 a3 a4 h)
    · refine s_iload (pc := 14) 3 dX5_writesNumber_14 rfl ?_
      refine s_bipush (pc := 16) (v := 10) dX5_writesNumber_16 (by decide) ?_
      refine s_imul (pc := 18) dX5_writesNumber_18 ?_
      refine s_nm (pc := 19) Value.int (fun x1 => ?_)
      refine s_ist (pc := 19) (L2 := [(0, va_rf a0), (2, .int a2), (3, .int a3)]) [0, 1, 2] dX5_writesNumber_19 (by decide) rfl rfl (zcB (j := 2) rfl rfl rfl) ?_
      refine s_goto (pc := 21) (tgt := 5) dX5_writesNumber_21 (by decide) ?_
      exact s_sub (pc := 5) [1, 2, 3, 0] rfl (ih a0 a2 a3 x1 h)
theorem w_X5_writesNumber (v0 : Option Nat) (v1 : Int32) (v2 : Int32) (h : zH) : zS D z yX5_writesNumber cX5_writesNumber 6 (some .int) [] 2 h 0 [(0, va_rf v0), (1, .int v1), (2, .int v2)] [] (f_X5_writesNumber v0 v1 v2 h) := by
  unfold f_X5_writesNumber
  refine s_iload_n (pc := 0) 1 dX5_writesNumber_0 rfl rfl ?_
  refine s_ist_n (pc := 1) (L2 := [(0, va_rf v0), (2, .int v2)]) [0, 2] dX5_writesNumber_1 rfl (by decide) rfl rfl (zcB (j := 1) rfl rfl rfl) ?_
  refine s_iconst (pc := 2) (v := 1) dX5_writesNumber_2 (by decide) ?_
  refine s_ist (pc := 3) (L2 := [(3, .int v1), (0, va_rf v0), (2, .int v2)]) [0, 1, 2] dX5_writesNumber_3 (by decide) rfl rfl (zcB (j := 0) rfl rfl rfl) ?_
  exact s_sub (pc := 5) [2, 3, 1, 0] rfl (w_X5_writesNumber_5 zfuel v0 v2 v1 1 h)
theorem c_X5_writesNumber {d0 : Nat} (hd0 : 2 < d0) (v0 : Option Nat) (v1 : Int32) (v2 : Int32) (h : zH) : zCal D z d0 h yX5_writesNumber [va_rf v0, .int v1, .int v2] (f_X5_writesNumber v0 v1 v2 h) :=
  ⟨cX5_writesNumber, 6, (some .int), [], 2, (show lv_args 0 [va_rf v0, .int v1, .int v2] = [(0, va_rf v0), (1, .int v1), (2, .int v2)] by simp [lv_args, zcat_rf, zcat_i, zcat_l, zcat_f, zcat_d]) ▸ w_X5_writesNumber v0 v1 v2 h, (plainFor_of_name (by decide)), by simp [lg_sl, zcat_rf, zcat_i, zcat_l, zcat_f, zcat_d], q3694, q140, hd0, by decide, by decide⟩
theorem w_X5_describeBill_132 (a0 : Option Nat) (s0 : Int32) (s1 : Int32) (s2 : Option Nat) (s3 : Option Nat) (h : zH) : zS D z yX5_describeBill cX5_describeBill 4 (some .int) [] 6 h 132 [(0, va_rf a0)] [.int s0, .int s1, va_rf s2, va_rf s3] (f_X5_describeBill_132 a0 s0 s1 s2 s3 h) := by
  unfold f_X5_describeBill_132
  refine zS_ite (fun ht => ?_) (fun _ => zS_none)
  refine s_callV (pc := 132) (np := 2) (as := [.int s1, .int s0]) (rest := [va_rf s3]) dX5_describeBill_132 ht (q := (RX5, TX5, 20)) rfl (c_X5_put (by decide) s2 s1 s0 h) rfl rfl q3687 q3689 qs84 rfl (by simp [zcat_rf, zcat_i, zcat_l, zcat_f, zcat_d]) (zkI (fun x35 h36 => ?_)) zxo
  refine s_goto (pc := 135) (tgt := 139) dX5_describeBill_135 (by decide) ?_
  refine s_putI (pc := 139) dX5_describeBill_139 pf_X5_223 (fun h37 => ?_)
  refine s_aload_n (pc := 142) 0 dX5_describeBill_142 rfl rfl ?_
  refine s_gI (pc := 143) dX5_describeBill_143 gf_X5_223 (fun x38 => ?_)
  exact s_iret (pc := 146) dX5_describeBill_146 rfl
theorem w_X5_describeBill_105 (a0 : Option Nat) (a2 : Int32) (s0 : Int32) (h : zH) : zS D z yX5_describeBill cX5_describeBill 4 (some .int) [] 6 h 105 [(0, va_rf a0), (2, .int a2)] [.int s0] (f_X5_describeBill_105 a0 a2 s0 h) := by
  unfold f_X5_describeBill_105
  refine s_ist_n (pc := 105) (L2 := [(0, va_rf a0), (2, .int a2)]) [0, 1] dX5_describeBill_105 rfl (by decide) rfl rfl (zcB (j := 1) rfl rfl rfl) ?_
  refine s_aload_n (pc := 106) 1 dX5_describeBill_106 rfl rfl ?_
  refine s_aload_n (pc := 107) 1 dX5_describeBill_107 rfl rfl ?_
  refine s_iload_n (pc := 108) 2 dX5_describeBill_108 rfl rfl ?_
  refine zS_ite (fun ht => ?_) (fun _ => zS_none)
  refine s_callV (pc := 109) (np := 1) (as := [.int a2]) (rest := [va_rf a0]) dX5_describeBill_109 ht (q := (RX5, TX5, 20)) rfl (c_X5_isDocked (by decide) a0 a2 h) rfl rfl q3373 q3375 qs53 rfl (by simp [zcat_rf, zcat_i, zcat_l, zcat_f, zcat_d]) (zkI (fun x29 h30 => ?_)) zxo
  refine s_if_eq (pc := 112) (tgt := 138) dX5_describeBill_112 (by decide) (fun _ => ?_) (fun _ => ?_)
  · refine s_iload_n (pc := 138) 0 dX5_describeBill_138 rfl rfl ?_
    refine s_putI (pc := 139) dX5_describeBill_139 pf_X5_223 (fun h31 => ?_)
    refine s_aload_n (pc := 142) 1 dX5_describeBill_142 rfl rfl ?_
    refine s_gI (pc := 143) dX5_describeBill_143 gf_X5_223 (fun x32 => ?_)
    exact s_iret (pc := 146) dX5_describeBill_146 rfl
  · refine s_aload_n (pc := 115) 1 dX5_describeBill_115 rfl rfl ?_
    refine s_iload_n (pc := 116) 0 dX5_describeBill_116 rfl rfl ?_
    refine s_aload_n (pc := 117) 1 dX5_describeBill_117 rfl rfl ?_
    refine s_iload_n (pc := 118) 2 dX5_describeBill_118 rfl rfl ?_
    refine zS_ite (fun ht => ?_) (fun _ => zS_none)
    refine s_callV (pc := 119) (np := 1) (as := [.int a2]) (rest := [.int s0, va_rf a0, va_rf a0]) dX5_describeBill_119 ht (q := (RX5, TX5, 20)) rfl (c_X5_floats (by decide) a0 a2 h30) rfl rfl q3412 q3414 qs60 rfl (by simp [zcat_rf, zcat_i, zcat_l, zcat_f, zcat_d]) (zkI (fun x33 h34 => ?_)) zxo
    refine s_if_eq (pc := 122) (tgt := 130) dX5_describeBill_122 (by decide) (fun _ => ?_) (fun _ => ?_)
    · refine s_bipush (pc := 130) (v := 95) dX5_describeBill_130 (by decide) ?_
      exact s_sub (pc := 132) [1] rfl (w_X5_describeBill_132 a0 95 s0 a0 a0 h34)
    · refine s_bipush (pc := 125) (v := 126) dX5_describeBill_125 (by decide) ?_
      refine s_goto (pc := 127) (tgt := 132) dX5_describeBill_127 (by decide) ?_
      exact s_sub (pc := 132) [1] rfl (w_X5_describeBill_132 a0 126 s0 a0 a0 h34)
theorem w_X5_describeBill_17 (a0 : Option Nat) (a1 : Int32) (a2 : Int32) (s0 : Int32) (s1 : Option Nat) (h : zH) : zS D z yX5_describeBill cX5_describeBill 4 (some .int) [] 6 h 17 [(0, va_rf a0), (1, .int a1), (2, .int a2)] [.int s0, va_rf s1] (f_X5_describeBill_17 a0 a1 a2 s0 s1 h) := by
  unfold f_X5_describeBill_17
  refine zS_ite (fun ht => ?_) (fun _ => zS_none)
  refine s_callV (pc := 17) (np := 1) (as := [.int s0]) (rest := []) dX5_describeBill_17 ht (q := (RX5, TX5, 20)) rfl (c_X5_goes (by decide) s1 s0 h) rfl rfl q3311 q3313 qs44 rfl (by decide) (zkI (fun x3 h4 => ?_)) zxo
  refine s_if_ne (pc := 20) (tgt := 25) dX5_describeBill_20 (by decide) (fun _ => ?_) (fun _ => ?_)
  · refine s_aload_n (pc := 25) 0 dX5_describeBill_25 rfl rfl ?_
    refine s_aload_n (pc := 26) 0 dX5_describeBill_26 rfl rfl ?_
    refine s_aload_n (pc := 27) 0 dX5_describeBill_27 rfl rfl ?_
    refine s_aload_n (pc := 28) 0 dX5_describeBill_28 rfl rfl ?_
    refine s_iconst (pc := 29) (v := 0) dX5_describeBill_29 (by decide) ?_
    refine s_bipush (pc := 30) (v := 35) dX5_describeBill_30 (by decide) ?_
    refine zS_ite (fun ht => ?_) (fun _ => zS_none)
    refine s_callV (pc := 32) (np := 2) (as := [.int 0, .int 35]) (rest := [va_rf a0, va_rf a0, va_rf a0]) dX5_describeBill_32 ht (q := (RX5, TX5, 20)) rfl (c_X5_put (by decide) a0 0 35 h4) rfl rfl q3687 q3689 qs84 rfl (by simp [zcat_rf, zcat_i, zcat_l, zcat_f, zcat_d]) (zkI (fun x5 h6 => ?_)) zxo
    refine s_iload_n (pc := 35) 1 dX5_describeBill_35 rfl rfl ?_
    refine zS_ite (fun ht => ?_) (fun _ => zS_none)
    refine s_callV (pc := 36) (np := 2) (as := [.int x5, .int a1]) (rest := [va_rf a0, va_rf a0]) dX5_describeBill_36 ht (q := (RX5, TX5, 20)) rfl (c_X5_writesNumber (by decide) a0 x5 a1 h6) rfl rfl q3691 q3693 qs85 rfl (by simp [zcat_rf, zcat_i, zcat_l, zcat_f, zcat_d]) (zkI (fun x7 h8 => ?_)) zxo
    refine s_bipush (pc := 39) (v := 58) dX5_describeBill_39 (by decide) ?_
    refine zS_ite (fun ht => ?_) (fun _ => zS_none)
    refine s_callV (pc := 41) (np := 2) (as := [.int x7, .int 58]) (rest := [va_rf a0]) dX5_describeBill_41 ht (q := (RX5, TX5, 20)) rfl (c_X5_put (by decide) a0 x7 58 h8) rfl rfl q3687 q3689 qs84 rfl (by simp [zcat_rf, zcat_i, zcat_l, zcat_f, zcat_d]) (zkI (fun x9 h10 => ?_)) zxo
    refine s_aload_n (pc := 44) 0 dX5_describeBill_44 rfl rfl ?_
    refine s_iload_n (pc := 45) 2 dX5_describeBill_45 rfl rfl ?_
    refine s_bipush (pc := 46) (v := 8) dX5_describeBill_46 (by decide) ?_
    refine zS_ite (fun ht => ?_) (fun _ => zS_none)
    refine s_callV (pc := 48) (np := 2) (as := [.int a2, .int 8]) (rest := [.int x9, va_rf a0]) dX5_describeBill_48 ht (q := (RX5, TX5, 20)) rfl (c_X5_of (by decide) a0 a2 8 h10) rfl rfl q3369 q3371 qs52 rfl (by simp [zcat_rf, zcat_i, zcat_l, zcat_f, zcat_d]) (zkI (fun x11 h12 => ?_)) zxo
    refine zS_ite (fun ht => ?_) (fun _ => zS_none)
    refine s_callV (pc := 51) (np := 2) (as := [.int x9, .int x11]) (rest := []) dX5_describeBill_51 ht (q := (RX5, TX5, 20)) rfl (c_X5_writesNumber (by decide) a0 x9 x11 h12) rfl rfl q3691 q3693 qs85 rfl (by decide) (zkI (fun x13 h14 => ?_)) zxo
    refine s_ist_n (pc := 54) (L2 := [(0, va_rf a0), (2, .int a2)]) [0, 2] dX5_describeBill_54 rfl (by decide) rfl rfl (zcB (j := 1) rfl rfl rfl) ?_
    refine s_aload_n (pc := 55) 1 dX5_describeBill_55 rfl rfl ?_
    refine s_aload_n (pc := 56) 1 dX5_describeBill_56 rfl rfl ?_
    refine s_iload_n (pc := 57) 0 dX5_describeBill_57 rfl rfl ?_
    refine s_bipush (pc := 58) (v := 47) dX5_describeBill_58 (by decide) ?_
    refine zS_ite (fun ht => ?_) (fun _ => zS_none)
    refine s_callV (pc := 60) (np := 2) (as := [.int x13, .int 47]) (rest := [va_rf a0]) dX5_describeBill_60 ht (q := (RX5, TX5, 20)) rfl (c_X5_put (by decide) a0 x13 47 h14) rfl rfl q3687 q3689 qs84 rfl (by simp [zcat_rf, zcat_i, zcat_l, zcat_f, zcat_d]) (zkI (fun x15 h16 => ?_)) zxo
    refine s_aload_n (pc := 63) 1 dX5_describeBill_63 rfl rfl ?_
    refine s_iload_n (pc := 64) 2 dX5_describeBill_64 rfl rfl ?_
    refine s_iconst (pc := 65) (v := 3) dX5_describeBill_65 (by decide) ?_
    refine zS_ite (fun ht => ?_) (fun _ => zS_none)
    refine s_callV (pc := 66) (np := 2) (as := [.int a2, .int 3]) (rest := [.int x15, va_rf a0]) dX5_describeBill_66 ht (q := (RX5, TX5, 20)) rfl (c_X5_of (by decide) a0 a2 3 h16) rfl rfl q3369 q3371 qs52 rfl (by simp [zcat_rf, zcat_i, zcat_l, zcat_f, zcat_d]) (zkI (fun x17 h18 => ?_)) zxo
    refine zS_ite (fun ht => ?_) (fun _ => zS_none)
    refine s_callV (pc := 69) (np := 2) (as := [.int x15, .int x17]) (rest := []) dX5_describeBill_69 ht (q := (RX5, TX5, 20)) rfl (c_X5_writesNumber (by decide) a0 x15 x17 h18) rfl rfl q3691 q3693 qs85 rfl (by decide) (zkI (fun x19 h20 => ?_)) zxo
    refine s_ist_n (pc := 72) (L2 := [(0, va_rf a0), (2, .int a2)]) [1, 2] dX5_describeBill_72 rfl (by decide) rfl rfl (zcB (j := 1) rfl rfl rfl) ?_
    refine s_aload_n (pc := 73) 1 dX5_describeBill_73 rfl rfl ?_
    refine s_iload_n (pc := 74) 2 dX5_describeBill_74 rfl rfl ?_
    refine s_bipush (pc := 75) (v := 6) dX5_describeBill_75 (by decide) ?_
    refine zS_ite (fun ht => ?_) (fun _ => zS_none)
    refine s_callV (pc := 77) (np := 2) (as := [.int a2, .int 6]) (rest := []) dX5_describeBill_77 ht (q := (RX5, TX5, 20)) rfl (c_X5_of (by decide) a0 a2 6 h20) rfl rfl q3369 q3371 qs52 rfl (by decide) (zkI (fun x21 h22 => ?_)) zxo
    refine s_if_ne (pc := 80) (tgt := 87) dX5_describeBill_80 (by decide) (fun _ => ?_) (fun _ => ?_)
    · refine s_aload_n (pc := 87) 1 dX5_describeBill_87 rfl rfl ?_
      refine s_aload_n (pc := 88) 1 dX5_describeBill_88 rfl rfl ?_
      refine s_iload_n (pc := 89) 0 dX5_describeBill_89 rfl rfl ?_
      refine s_bipush (pc := 90) (v := 33) dX5_describeBill_90 (by decide) ?_
      refine zS_ite (fun ht => ?_) (fun _ => zS_none)
      refine s_callV (pc := 92) (np := 2) (as := [.int x19, .int 33]) (rest := [va_rf a0]) dX5_describeBill_92 ht (q := (RX5, TX5, 20)) rfl (c_X5_put (by decide) a0 x19 33 h22) rfl rfl q3687 q3689 qs84 rfl (by simp [zcat_rf, zcat_i, zcat_l, zcat_f, zcat_d]) (zkI (fun x23 h24 => ?_)) zxo
      refine s_aload_n (pc := 95) 1 dX5_describeBill_95 rfl rfl ?_
      refine s_iload_n (pc := 96) 2 dX5_describeBill_96 rfl rfl ?_
      refine s_bipush (pc := 97) (v := 6) dX5_describeBill_97 (by decide) ?_
      refine zS_ite (fun ht => ?_) (fun _ => zS_none)
      refine s_callV (pc := 99) (np := 2) (as := [.int a2, .int 6]) (rest := [.int x23, va_rf a0]) dX5_describeBill_99 ht (q := (RX5, TX5, 20)) rfl (c_X5_of (by decide) a0 a2 6 h24) rfl rfl q3369 q3371 qs52 rfl (by simp [zcat_rf, zcat_i, zcat_l, zcat_f, zcat_d]) (zkI (fun x25 h26 => ?_)) zxo
      refine zS_ite (fun ht => ?_) (fun _ => zS_none)
      refine s_callV (pc := 102) (np := 2) (as := [.int x23, .int x25]) (rest := []) dX5_describeBill_102 ht (q := (RX5, TX5, 20)) rfl (c_X5_writesNumber (by decide) a0 x23 x25 h26) rfl rfl q3691 q3693 qs85 rfl (by decide) (zkI (fun x27 h28 => ?_)) zxo
      exact s_sub (pc := 105) [1, 2] rfl (w_X5_describeBill_105 a0 a2 x27 h28)
    · refine s_iload_n (pc := 83) 0 dX5_describeBill_83 rfl rfl ?_
      refine s_goto (pc := 84) (tgt := 105) dX5_describeBill_84 (by decide) ?_
      exact s_sub (pc := 105) [1, 2] rfl (w_X5_describeBill_105 a0 a2 x19 h22)
  · refine s_iconst (pc := 23) (v := 0) dX5_describeBill_23 (by decide) ?_
    exact s_iret (pc := 24) dX5_describeBill_24 rfl
theorem w_X5_describeBill (v0 : Option Nat) (v1 : Int32) (h : zH) : zS D z yX5_describeBill cX5_describeBill 4 (some .int) [] 6 h 0 [(0, va_rf v0), (1, .int v1)] [] (f_X5_describeBill v0 v1 h) := by
  unfold f_X5_describeBill
  refine s_aload_n (pc := 0) 0 dX5_describeBill_0 rfl rfl ?_
  refine s_iload_n (pc := 1) 1 dX5_describeBill_1 rfl rfl ?_
  refine zS_ite (fun ht => ?_) (fun _ => zS_none)
  refine s_callV (pc := 2) (np := 1) (as := [.int v1]) (rest := []) dX5_describeBill_2 ht (q := (RX5, TX5, 20)) rfl (c_X5_find (by decide) v0 v1 h) rfl rfl q3365 q3367 qs51 rfl (by decide) (zkI (fun x1 h2 => ?_)) zxo
  refine s_ist_n (pc := 5) (L2 := [(0, va_rf v0), (1, .int v1)]) [0, 1] dX5_describeBill_5 rfl (by decide) rfl rfl (zcB (j := 1) rfl rfl rfl) ?_
  refine s_aload_n (pc := 6) 1 dX5_describeBill_6 rfl rfl ?_
  refine s_iload_n (pc := 7) 0 dX5_describeBill_7 rfl rfl ?_
  refine s_iconst (pc := 8) (v := -1) dX5_describeBill_8 (by decide) ?_
  refine s_icmp_eq (pc := 9) (tgt := 16) dX5_describeBill_9 (by decide) (fun _ => ?_) (fun _ => ?_)
  · refine s_iconst (pc := 16) (v := 0) dX5_describeBill_16 (by decide) ?_
    exact s_sub (pc := 17) [1, 2, 0] rfl (w_X5_describeBill_17 v0 v1 x1 0 v0 h2)
  · refine s_iconst (pc := 12) (v := 1) dX5_describeBill_12 (by decide) ?_
    refine s_goto (pc := 13) (tgt := 17) dX5_describeBill_13 (by decide) ?_
    exact s_sub (pc := 17) [1, 2, 0] rfl (w_X5_describeBill_17 v0 v1 x1 1 v0 h2)
theorem c_X5_describeBill {d0 : Nat} (hd0 : 6 < d0) (v0 : Option Nat) (v1 : Int32) (h : zH) : zCal D z d0 h yX5_describeBill [va_rf v0, .int v1] (f_X5_describeBill v0 v1 h) :=
  ⟨cX5_describeBill, 4, (some .int), [], 6, (show lv_args 0 [va_rf v0, .int v1] = [(0, va_rf v0), (1, .int v1)] by simp [lv_args, zcat_rf, zcat_i, zcat_l, zcat_f, zcat_d]) ▸ w_X5_describeBill v0 v1 h, (plainFor_of_name (by decide)), by simp [lg_sl, zcat_rf, zcat_i, zcat_l, zcat_f, zcat_d], q3686, q140, hd0, by decide, by decide⟩
theorem w_X5_lineAt (v0 : Option Nat) (v1 : Int32) (h : zH) : zS D z yX5_lineAt cX5_lineAt 2 (some .char) [] 3 h 0 [(0, va_rf v0), (1, .int v1)] [] (f_X5_lineAt v0 v1 h) := by
  unfold f_X5_lineAt
  refine s_aload_n (pc := 0) 0 dX5_lineAt_0 rfl rfl ?_
  refine s_iload_n (pc := 1) 1 dX5_lineAt_1 rfl rfl ?_
  refine s_iconst (pc := 2) (v := 0) dX5_lineAt_2 (by decide) ?_
  refine s_aload_n (pc := 3) 0 dX5_lineAt_3 rfl rfl ?_
  refine s_gI (pc := 4) dX5_lineAt_4 gf_X5_223 (fun x1 => ?_)
  refine s_iconst (pc := 7) (v := 1) dX5_lineAt_7 (by decide) ?_
  refine s_isub (pc := 8) dX5_lineAt_8 ?_
  refine s_callSS (pc := 9) (np := 3) (as := [.int v1, .int 0, .int (x1 - 1)]) (rest := [va_rf v0]) dX5_lineAt_9 (c_X5_isIn (by decide) v1 0 (x1 - 1) h) rfl rfl q3342 q3343 rfl (by simp [zcat_rf, zcat_i, zcat_l, zcat_f, zcat_d]) (zkI (fun x2 h3 => ?_)) zxo
  refine zS_ite (fun ht => ?_) (fun _ => zS_none)
  refine s_callV (pc := 12) (np := 1) (as := [.int x2]) (rest := []) dX5_lineAt_12 ht (q := (RX5, TX5, 20)) rfl (c_X5_goes (by decide) v0 x2 h3) rfl rfl q3311 q3313 qs44 rfl (by decide) (zkI (fun x4 h5 => ?_)) zxo
  refine s_if_eq (pc := 15) (tgt := 28) dX5_lineAt_15 (by decide) (fun _ => ?_) (fun _ => ?_)
  · refine s_iconst (pc := 28) (v := 0) dX5_lineAt_28 (by decide) ?_
    exact s_nret (pc := 29) dX5_lineAt_29 rfl
  · refine s_aload_n (pc := 18) 0 dX5_lineAt_18 rfl rfl ?_
    refine s_gR (pc := 19) dX5_lineAt_19 gf_X5_32 (fun r6 => ?_)
    refine s_iload_n (pc := 22) 1 dX5_lineAt_22 rfl rfl ?_
    refine s_iald (pc := 23) dX5_lineAt_23 (ztc rfl zt0) (fun x7 => ?_)
    refine s_i2c (pc := 24) dX5_lineAt_24 ?_
    refine s_goto (pc := 25) (tgt := 29) dX5_lineAt_25 (by decide) ?_
    exact s_nret (pc := 29) dX5_lineAt_29 rfl
theorem c_X5_lineAt {d0 : Nat} (hd0 : 3 < d0) (v0 : Option Nat) (v1 : Int32) (h : zH) : zCal D z d0 h yX5_lineAt [va_rf v0, .int v1] (f_X5_lineAt v0 v1 h) :=
  ⟨cX5_lineAt, 2, (some .char), [], 3, (show lv_args 0 [va_rf v0, .int v1] = [(0, va_rf v0), (1, .int v1)] by simp [lv_args, zcat_rf, zcat_i, zcat_l, zcat_f, zcat_d]) ▸ w_X5_lineAt v0 v1 h, (plainFor_of_name (by decide)), by simp [lg_sl, zcat_rf, zcat_i, zcat_l, zcat_f, zcat_d], q3698, q140, hd0, by decide, by decide⟩
theorem w_X5_append_23 (a0 : Option Nat) (a1 : Int32) (s0 : Int32) (s1 : Int32) (s2 : Option Nat) (h : zH) : zS D z yX5_append cX5_append 2 (some .int) [] 2 h 23 [(0, va_rf a0), (1, .int a1)] [.int s0, .int s1, va_rf s2] (f_X5_append_23 a0 a1 s0 s1 s2 h) := by
  unfold f_X5_append_23
  refine s_iconst (pc := 23) (v := 1) dX5_append_23 (by decide) ?_
  refine s_iconst (pc := 24) (v := 1) dX5_append_24 (by decide) ?_
  refine zS_ite (fun ht => ?_) (fun _ => zS_none)
  refine s_callV (pc := 25) (np := 4) (as := [.int s1, .int s0, .int 1, .int 1]) (rest := []) dX5_append_25 ht (q := (RX5, TX5, 20)) rfl (c_X5_holds (by decide) s2 s1 s0 1 1 h) rfl rfl q3315 q3317 qs45 rfl (by decide) (zkI (fun x4 h5 => ?_)) zxo
  refine s_if_ne (pc := 28) (tgt := 33) dX5_append_28 (by decide) (fun _ => ?_) (fun _ => ?_)
  · refine s_aload_n (pc := 33) 0 dX5_append_33 rfl rfl ?_
    refine s_gR (pc := 34) dX5_append_34 gf_X5_29 (fun r6 => ?_)
    refine s_aload_n (pc := 37) 0 dX5_append_37 rfl rfl ?_
    refine s_gI (pc := 38) dX5_append_38 gf_X5_229 (fun x7 => ?_)
    refine s_iload_n (pc := 41) 1 dX5_append_41 rfl rfl ?_
    refine s_iast (pc := 42) dX5_append_42 (ztc rfl zt0) (fun h8 => ?_)
    refine s_aload_n (pc := 43) 0 dX5_append_43 rfl rfl ?_
    refine s_dup (pc := 44) dX5_append_44 (zcat_rf _) ?_
    refine s_gI (pc := 45) dX5_append_45 gf_X5_229 (fun x9 => ?_)
    refine s_iconst (pc := 48) (v := 1) dX5_append_48 (by decide) ?_
    refine s_iadd (pc := 49) dX5_append_49 ?_
    refine s_putI (pc := 50) dX5_append_50 pf_X5_229 (fun h10 => ?_)
    refine s_aload_n (pc := 53) 0 dX5_append_53 rfl rfl ?_
    refine s_gI (pc := 54) dX5_append_54 gf_X5_229 (fun x11 => ?_)
    exact s_iret (pc := 57) dX5_append_57 rfl
  · refine s_iconst (pc := 31) (v := 0) dX5_append_31 (by decide) ?_
    exact s_iret (pc := 32) dX5_append_32 rfl
theorem w_X5_append (v0 : Option Nat) (v1 : Int32) (h : zH) : zS D z yX5_append cX5_append 2 (some .int) [] 2 h 0 [(0, va_rf v0), (1, .int v1)] [] (f_X5_append v0 v1 h) := by
  unfold f_X5_append
  refine s_aload_n (pc := 0) 0 dX5_append_0 rfl rfl ?_
  refine s_iload_n (pc := 1) 1 dX5_append_1 rfl rfl ?_
  refine s_bipush (pc := 2) (v := 32) dX5_append_2 (by decide) ?_
  refine s_bipush (pc := 4) (v := 126) dX5_append_4 (by decide) ?_
  refine s_callSS (pc := 6) (np := 3) (as := [.int v1, .int 32, .int 126]) (rest := [va_rf v0]) dX5_append_6 (c_X5_isIn (by decide) v1 32 126 h) rfl rfl q3342 q3343 rfl (by simp [zcat_rf, zcat_i, zcat_l, zcat_f, zcat_d]) (zkI (fun x1 h2 => ?_)) zxo
  refine s_aload_n (pc := 9) 0 dX5_append_9 rfl rfl ?_
  refine s_gI (pc := 10) dX5_append_10 gf_X5_229 (fun x3 => ?_)
  refine s_bipush (pc := 13) (v := 60) dX5_append_13 (by decide) ?_
  refine s_icmp_ge (pc := 15) (tgt := 22) dX5_append_15 (by decide) (fun _ => ?_) (fun _ => ?_)
  · refine s_iconst (pc := 22) (v := 0) dX5_append_22 (by decide) ?_
    exact s_sub (pc := 23) [0, 1] rfl (w_X5_append_23 v0 v1 0 x1 v0 h2)
  · refine s_iconst (pc := 18) (v := 1) dX5_append_18 (by decide) ?_
    refine s_goto (pc := 19) (tgt := 23) dX5_append_19 (by decide) ?_
    exact s_sub (pc := 23) [0, 1] rfl (w_X5_append_23 v0 v1 1 x1 v0 h2)
theorem c_X5_append {d0 : Nat} (hd0 : 2 < d0) (v0 : Option Nat) (v1 : Int32) (h : zH) : zCal D z d0 h yX5_append [va_rf v0, .int v1] (f_X5_append v0 v1 h) :=
  ⟨cX5_append, 2, (some .int), [], 2, (show lv_args 0 [va_rf v0, .int v1] = [(0, va_rf v0), (1, .int v1)] by simp [lv_args, zcat_rf, zcat_i, zcat_l, zcat_f, zcat_d]) ▸ w_X5_append v0 v1 h, (plainFor_of_name (by decide)), by simp [lg_sl, zcat_rf, zcat_i, zcat_l, zcat_f, zcat_d], q3702, q140, hd0, by decide, by decide⟩
theorem w_X5_startOf (v0 : Int32) (h : zH) : zS D z yX5_startOf cX5_startOf 1 (some .int) [] 1 h 0 [(0, .int v0)] [] (f_X5_startOf v0 h) := by
  unfold f_X5_startOf
  refine s_iload_n (pc := 0) 0 dX5_startOf_0 rfl rfl ?_
  refine zS_ite (fun hx => ?_) (fun hx0 => ?_)
  · refine s_tabIn (pc := 1) (tgt := 64) (v := 0) dX5_startOf_1 hx (by decide) (by decide) rfl (by decide) ?_
    refine s_iconst (pc := 64) (v := 0) dX5_startOf_64 (by decide) ?_
    exact s_iret (pc := 65) dX5_startOf_65 rfl
  refine zS_ite (fun hx => ?_) (fun hx1 => ?_)
  · refine s_tabIn (pc := 1) (tgt := 66) (v := 1) dX5_startOf_1 hx (by decide) (by decide) rfl (by decide) ?_
    refine s_iconst (pc := 66) (v := 5) dX5_startOf_66 (by decide) ?_
    refine s_bipush (pc := 67) (v := 6) dX5_startOf_67 (by decide) ?_
    refine s_iload_n (pc := 69) 0 dX5_startOf_69 rfl rfl ?_
    refine s_iconst (pc := 70) (v := 1) dX5_startOf_70 (by decide) ?_
    refine s_isub (pc := 71) dX5_startOf_71 ?_
    refine s_imul (pc := 72) dX5_startOf_72 ?_
    refine s_iadd (pc := 73) dX5_startOf_73 ?_
    exact s_iret (pc := 74) dX5_startOf_74 rfl
  refine zS_ite (fun hx => ?_) (fun hx2 => ?_)
  · refine s_tabIn (pc := 1) (tgt := 66) (v := 2) dX5_startOf_1 hx (by decide) (by decide) rfl (by decide) ?_
    refine s_iconst (pc := 66) (v := 5) dX5_startOf_66 (by decide) ?_
    refine s_bipush (pc := 67) (v := 6) dX5_startOf_67 (by decide) ?_
    refine s_iload_n (pc := 69) 0 dX5_startOf_69 rfl rfl ?_
    refine s_iconst (pc := 70) (v := 1) dX5_startOf_70 (by decide) ?_
    refine s_isub (pc := 71) dX5_startOf_71 ?_
    refine s_imul (pc := 72) dX5_startOf_72 ?_
    refine s_iadd (pc := 73) dX5_startOf_73 ?_
    exact s_iret (pc := 74) dX5_startOf_74 rfl
  refine zS_ite (fun hx => ?_) (fun hx3 => ?_)
  · refine s_tabIn (pc := 1) (tgt := 66) (v := 3) dX5_startOf_1 hx (by decide) (by decide) rfl (by decide) ?_
    refine s_iconst (pc := 66) (v := 5) dX5_startOf_66 (by decide) ?_
    refine s_bipush (pc := 67) (v := 6) dX5_startOf_67 (by decide) ?_
    refine s_iload_n (pc := 69) 0 dX5_startOf_69 rfl rfl ?_
    refine s_iconst (pc := 70) (v := 1) dX5_startOf_70 (by decide) ?_
    refine s_isub (pc := 71) dX5_startOf_71 ?_
    refine s_imul (pc := 72) dX5_startOf_72 ?_
    refine s_iadd (pc := 73) dX5_startOf_73 ?_
    exact s_iret (pc := 74) dX5_startOf_74 rfl
  refine zS_ite (fun hx => ?_) (fun hx4 => ?_)
  · refine s_tabIn (pc := 1) (tgt := 66) (v := 4) dX5_startOf_1 hx (by decide) (by decide) rfl (by decide) ?_
    refine s_iconst (pc := 66) (v := 5) dX5_startOf_66 (by decide) ?_
    refine s_bipush (pc := 67) (v := 6) dX5_startOf_67 (by decide) ?_
    refine s_iload_n (pc := 69) 0 dX5_startOf_69 rfl rfl ?_
    refine s_iconst (pc := 70) (v := 1) dX5_startOf_70 (by decide) ?_
    refine s_isub (pc := 71) dX5_startOf_71 ?_
    refine s_imul (pc := 72) dX5_startOf_72 ?_
    refine s_iadd (pc := 73) dX5_startOf_73 ?_
    exact s_iret (pc := 74) dX5_startOf_74 rfl
  refine zS_ite (fun hx => ?_) (fun hx5 => ?_)
  · refine s_tabIn (pc := 1) (tgt := 75) (v := 5) dX5_startOf_1 hx (by decide) (by decide) rfl (by decide) ?_
    refine s_bipush (pc := 75) (v := 28) dX5_startOf_75 (by decide) ?_
    exact s_iret (pc := 77) dX5_startOf_77 rfl
  refine zS_ite (fun hx => ?_) (fun hx6 => ?_)
  · refine s_tabIn (pc := 1) (tgt := 78) (v := 6) dX5_startOf_1 hx (by decide) (by decide) rfl (by decide) ?_
    refine s_bipush (pc := 78) (v := 32) dX5_startOf_78 (by decide) ?_
    exact s_iret (pc := 80) dX5_startOf_80 rfl
  refine zS_ite (fun hx => ?_) (fun hx7 => ?_)
  · refine s_tabIn (pc := 1) (tgt := 81) (v := 7) dX5_startOf_1 hx (by decide) (by decide) rfl (by decide) ?_
    refine s_bipush (pc := 81) (v := 37) dX5_startOf_81 (by decide) ?_
    refine s_iconst (pc := 83) (v := 5) dX5_startOf_83 (by decide) ?_
    refine s_iload_n (pc := 84) 0 dX5_startOf_84 rfl rfl ?_
    refine s_bipush (pc := 85) (v := 7) dX5_startOf_85 (by decide) ?_
    refine s_isub (pc := 87) dX5_startOf_87 ?_
    refine s_imul (pc := 88) dX5_startOf_88 ?_
    refine s_iadd (pc := 89) dX5_startOf_89 ?_
    exact s_iret (pc := 90) dX5_startOf_90 rfl
  refine zS_ite (fun hx => ?_) (fun hx8 => ?_)
  · refine s_tabIn (pc := 1) (tgt := 81) (v := 8) dX5_startOf_1 hx (by decide) (by decide) rfl (by decide) ?_
    refine s_bipush (pc := 81) (v := 37) dX5_startOf_81 (by decide) ?_
    refine s_iconst (pc := 83) (v := 5) dX5_startOf_83 (by decide) ?_
    refine s_iload_n (pc := 84) 0 dX5_startOf_84 rfl rfl ?_
    refine s_bipush (pc := 85) (v := 7) dX5_startOf_85 (by decide) ?_
    refine s_isub (pc := 87) dX5_startOf_87 ?_
    refine s_imul (pc := 88) dX5_startOf_88 ?_
    refine s_iadd (pc := 89) dX5_startOf_89 ?_
    exact s_iret (pc := 90) dX5_startOf_90 rfl
  refine zS_ite (fun hx => ?_) (fun hx9 => ?_)
  · refine s_tabIn (pc := 1) (tgt := 81) (v := 9) dX5_startOf_1 hx (by decide) (by decide) rfl (by decide) ?_
    refine s_bipush (pc := 81) (v := 37) dX5_startOf_81 (by decide) ?_
    refine s_iconst (pc := 83) (v := 5) dX5_startOf_83 (by decide) ?_
    refine s_iload_n (pc := 84) 0 dX5_startOf_84 rfl rfl ?_
    refine s_bipush (pc := 85) (v := 7) dX5_startOf_85 (by decide) ?_
    refine s_isub (pc := 87) dX5_startOf_87 ?_
    refine s_imul (pc := 88) dX5_startOf_88 ?_
    refine s_iadd (pc := 89) dX5_startOf_89 ?_
    exact s_iret (pc := 90) dX5_startOf_90 rfl
  refine zS_ite (fun hx => ?_) (fun hx10 => ?_)
  · refine s_tabIn (pc := 1) (tgt := 91) (v := 10) dX5_startOf_1 hx (by decide) (by decide) rfl (by decide) ?_
    refine s_bipush (pc := 91) (v := 53) dX5_startOf_91 (by decide) ?_
    exact s_iret (pc := 93) dX5_startOf_93 rfl
  refine zS_ite (fun hx => ?_) (fun hx11 => ?_)
  · refine s_tabIn (pc := 1) (tgt := 94) (v := 11) dX5_startOf_1 hx (by decide) (by decide) rfl (by decide) ?_
    refine s_bipush (pc := 94) (v := 61) dX5_startOf_94 (by decide) ?_
    exact s_iret (pc := 96) dX5_startOf_96 rfl
  have hout : v0.toInt < 0 ∨ 11 < v0.toInt := by
    have q0 := lv_neT (a := 0) hx0 (by decide)
    have q1 := lv_neT (a := 1) hx1 (by decide)
    have q2 := lv_neT (a := 2) hx2 (by decide)
    have q3 := lv_neT (a := 3) hx3 (by decide)
    have q4 := lv_neT (a := 4) hx4 (by decide)
    have q5 := lv_neT (a := 5) hx5 (by decide)
    have q6 := lv_neT (a := 6) hx6 (by decide)
    have q7 := lv_neT (a := 7) hx7 (by decide)
    have q8 := lv_neT (a := 8) hx8 (by decide)
    have q9 := lv_neT (a := 9) hx9 (by decide)
    have q10 := lv_neT (a := 10) hx10 (by decide)
    have q11 := lv_neT (a := 11) hx11 (by decide)
    omega
  refine s_tabOut (pc := 1) (tgt := 97) dX5_startOf_1 hout (by decide) ?_
  refine s_bipush (pc := 97) (v := 65) dX5_startOf_97 (by decide) ?_
  exact s_iret (pc := 99) dX5_startOf_99 rfl
theorem c_X5_startOf {d0 : Nat} (hd0 : 1 < d0) (v0 : Int32) (h : zH) : zCal D z d0 h yX5_startOf [.int v0] (f_X5_startOf v0 h) :=
  ⟨cX5_startOf, 1, (some .int), [], 1, (show lv_args 0 [.int v0] = [(0, .int v0)] by simp [lv_args, zcat_rf, zcat_i, zcat_l, zcat_f, zcat_d]) ▸ w_X5_startOf v0 h, (plainFor_of_name (by decide)), by simp [lg_sl, zcat_rf, zcat_i, zcat_l, zcat_f, zcat_d], q3721, q140, hd0, by decide, by decide⟩
end WW10
